def f_M_load_b39  : Nat → Int64 → Int32 → Int32 → Int32 → MT → Option (Int32 × MT)
  | 0, _, _, _, _, _ => none
  | n + 1, l1, l3, l4, l5, s => (if l3 ≤ l5 then some ((0 : Int32), sI 4 ((mI 4 s) + l3) s) else (f_M_first l1).bind fun v2 => (f_M_move s (l4 + l5) (((50 : Int32) + v2) + l5)).bind fun s5 => (f_M_load_b39 n) l1 l3 l4 (l5 + Int32.ofInt 1) s5)
theorem w_M_load_b39 {sc : xSc} {d : Nat} {Q : xR → xH → Prop} {R : xH} {sZ : MT} {rZ : Int32}  (hQ : Q (.inl (some (vI rZ))) (mH sZ R)) : ∀ (n : Nat) (l1 : Int64) (l3 : Int32) (l4 : Int32) (l5 : Int32) (s : MT), f_M_load_b39  n l1 l3 l4 l5 s = some (rZ, sZ) → xW sc m_M_load (d + 1) Q (mH s R) 39 [some (vA 373), some (vL l1), none, some (vI l3), some (vI l4), some (vI l5)] [] := by
  intro n
  induction n with
  | zero =>
    intro l1 l3 l4 l5 s h
    cases h
  | succ n hk39 =>
    intro l1 l3 l4 l5 s h
    unfold f_M_load_b39 at h
    refine x_iload (pc := 39) d_M_load_39 rfl ?_
    refine x_iload_n (pc := 41) d_M_load_41 rfl ?_
    refine x_icmp_ge (tgt := 70) (pc := 42) d_M_load_42 (by decide) (fun c1 => ?_) (fun c1 => ?_)
    · rw [if_pos c1] at h
      refine x_aload_n (pc := 70) d_M_load_70 rfl ?_
      refine x_dup (pc := 71) d_M_load_71 rfl ?_
      refine x_getf (c := 1) (k := 4) (v := vI (mI 4 s)) (pc := 72) d_M_load_72 l_M_247 (xm_at s R) rfl ?_
      refine x_iload_n (pc := 75) d_M_load_75 rfl ?_
      refine x_iadd (pc := 76) d_M_load_76 ?_
      refine xm_p4 (pc := 77) d_M_load_77 l_M_247 ?_
      refine x_iconst (v := (0 : Int32)) (pc := 80) d_M_load_80 (by decide) ?_
      cases h
      exact x_iret (ty := .int) (pc := 81) d_M_load_81 rfl (rfl) hQ
    · rw [if_neg c1] at h
      refine x_aload_n (pc := 45) d_M_load_45 rfl ?_
      refine x_iload (pc := 46) d_M_load_46 rfl ?_
      refine x_iload (pc := 48) d_M_load_48 rfl ?_
      refine x_iadd (pc := 50) d_M_load_50 ?_
      refine x_bipush (v := (50 : Int32)) (pc := 51) d_M_load_51 (by decide) ?_
      refine x_lload_n (pc := 53) d_M_load_53 rfl ?_
      obtain ⟨v2, e3, h⟩ := Option.bind_eq_some_iff.mp h
      refine x_invs (av := [vL l1]) (st := [vI (50 : Int32), vI (l4 + l5), vA 373]) (pc := 54) d_M_load_54 cs_M_394 y_M_first rfl (Nat.le_of_ble_eq_true rfl) (Nat.le_of_ble_eq_true rfl) (w_M_first (d := d + 0) (Q := fun r h' => r = .inl (some (vI v2)) ∧ h' = mH s R) (hh := mH s R) ⟨rfl, rfl⟩ l1 e3) (fun v h' z => ?_) (fun a h' z => nomatch z.1)
      obtain ⟨z1, z2⟩ := z
      subst z2
      cases z1
      show xW sc m_M_load (d + 1) Q (mH s R) 57 [some (vA 373), some (vL l1), none, some (vI l3), some (vI l4), some (vI l5)] [vI v2, vI (50 : Int32), vI (l4 + l5), vA 373]
      refine x_iadd (pc := 57) d_M_load_57 ?_
      refine x_iload (pc := 58) d_M_load_58 rfl ?_
      refine x_iadd (pc := 60) d_M_load_60 ?_
      obtain ⟨s5, e4, h⟩ := Option.bind_eq_some_iff.mp h
      refine x_invv (c := 1) (av := [vI (l4 + l5), vI (((50 : Int32) + v2) + l5)]) (st := []) (pc := 61) d_M_load_61 cv_M_254 y_M_move (xm_at s R) rfl (Nat.le_of_ble_eq_true rfl) (Nat.le_of_ble_eq_true rfl) (w_M_move (d := d + 0) (Q := fun r h' => r = .inl none ∧ h' = mH s5 R) (R := R) ⟨rfl, rfl⟩ s (l4 + l5) (((50 : Int32) + v2) + l5) e4) (fun v h' z => ?_) (fun a h' z => nomatch z.1)
      obtain ⟨z1, z2⟩ := z
      subst z2
      cases z1
      show xW sc m_M_load (d + 1) Q (mH s5 R) 64 [some (vA 373), some (vL l1), none, some (vI l3), some (vI l4), some (vI l5)] []
      refine x_iinc (pc := 64) d_M_load_64 rfl (by decide) ?_
      show xW sc m_M_load (d + 1) Q (mH s5 R) 67 [some (vA 373), some (vL l1), none, some (vI l3), some (vI l4), some (vI (l5 + Int32.ofInt 1))] []
      refine x_goto (tgt := 39) (pc := 67) d_M_load_67 (by decide) ?_
      exact hk39 l1 l3 l4 (l5 + Int32.ofInt 1) s5 h
def f_M_load (s : MT) (a1 : Int64) : Option (Int32 × MT) := (f_M_count a1).bind fun v1 => (if ((mI 4 s) + v1) ≤ (40 : Int32) then (f_M_move s (((mI 4 s) - (1 : Int32)) + v1) ((mI 4 s) - (1 : Int32))).bind fun s5 => f_M_load_b39 mF a1 v1 ((mI 4 s) - (1 : Int32)) (0 : Int32) s5 else some ((2 : Int32), s))
theorem w_M_load {sc : xSc} {d : Nat} {Q : xR → xH → Prop} {R : xH} {sZ : MT} {rZ : Int32} (hQ : Q (.inl (some (vI rZ))) (mH sZ R)) (s : MT) (a1 : Int64) (h : f_M_load s a1 = some (rZ, sZ)) : xW sc m_M_load (d + 1) Q (mH s R) 0 (xent [vA 373, vL a1] m_M_load.2.2.1) [] := by
  show xW sc m_M_load (d + 1) Q (mH s R) 0 [some (vA 373), some (vL a1), none, none, none, none] []
  unfold f_M_load at h
  refine x_lload_n (pc := 0) d_M_load_0 rfl ?_
  obtain ⟨v1, e2, h⟩ := Option.bind_eq_some_iff.mp h
  refine x_invs (av := [vL a1]) (st := []) (pc := 1) d_M_load_1 cs_M_391 y_M_count rfl (Nat.le_of_ble_eq_true rfl) (Nat.le_of_ble_eq_true rfl) (w_M_count (d := d + 0) (Q := fun r h' => r = .inl (some (vI v1)) ∧ h' = mH s R) (hh := mH s R) ⟨rfl, rfl⟩ a1 e2) (fun v h' z => ?_) (fun a h' z => nomatch z.1)
  obtain ⟨z1, z2⟩ := z
  subst z2
  cases z1
  show xW sc m_M_load (d + 1) Q (mH s R) 4 [some (vA 373), some (vL a1), none, none, none, none] [vI v1]
  refine x_istore_n (pc := 4) d_M_load_4 (by decide) ?_
  show xW sc m_M_load (d + 1) Q (mH s R) 5 [some (vA 373), some (vL a1), none, some (vI v1), none, none] []
  refine x_aload_n (pc := 5) d_M_load_5 rfl ?_
  refine x_getf (c := 1) (k := 4) (v := vI (mI 4 s)) (pc := 6) d_M_load_6 l_M_247 (xm_at s R) rfl ?_
  refine x_iconst (v := (1 : Int32)) (pc := 9) d_M_load_9 (by decide) ?_
  refine x_isub (pc := 10) d_M_load_10 ?_
  refine x_istore (pc := 11) d_M_load_11 (by decide) ?_
  show xW sc m_M_load (d + 1) Q (mH s R) 13 [some (vA 373), some (vL a1), none, some (vI v1), some (vI ((mI 4 s) - (1 : Int32))), none] []
  refine x_aload_n (pc := 13) d_M_load_13 rfl ?_
  refine x_getf (c := 1) (k := 4) (v := vI (mI 4 s)) (pc := 14) d_M_load_14 l_M_247 (xm_at s R) rfl ?_
  refine x_iload_n (pc := 17) d_M_load_17 rfl ?_
  refine x_iadd (pc := 18) d_M_load_18 ?_
  refine x_bipush (v := (40 : Int32)) (pc := 19) d_M_load_19 (by decide) ?_
  refine x_icmp_le (tgt := 26) (pc := 21) d_M_load_21 (by decide) (fun c3 => ?_) (fun c3 => ?_)
  · rw [if_pos c3] at h
    refine x_aload_n (pc := 26) d_M_load_26 rfl ?_
    refine x_iload (pc := 27) d_M_load_27 rfl ?_
    refine x_iload_n (pc := 29) d_M_load_29 rfl ?_
    refine x_iadd (pc := 30) d_M_load_30 ?_
    refine x_iload (pc := 31) d_M_load_31 rfl ?_
    obtain ⟨s5, e4, h⟩ := Option.bind_eq_some_iff.mp h
    refine x_invv (c := 1) (av := [vI (((mI 4 s) - (1 : Int32)) + v1), vI ((mI 4 s) - (1 : Int32))]) (st := []) (pc := 33) d_M_load_33 cv_M_254 y_M_move (xm_at s R) rfl (Nat.le_of_ble_eq_true rfl) (Nat.le_of_ble_eq_true rfl) (w_M_move (d := d + 0) (Q := fun r h' => r = .inl none ∧ h' = mH s5 R) (R := R) ⟨rfl, rfl⟩ s (((mI 4 s) - (1 : Int32)) + v1) ((mI 4 s) - (1 : Int32)) e4) (fun v h' z => ?_) (fun a h' z => nomatch z.1)
    obtain ⟨z1, z2⟩ := z
    subst z2
    cases z1
    show xW sc m_M_load (d + 1) Q (mH s5 R) 36 [some (vA 373), some (vL a1), none, some (vI v1), some (vI ((mI 4 s) - (1 : Int32))), none] []
    refine x_iconst (v := (0 : Int32)) (pc := 36) d_M_load_36 (by decide) ?_
    refine x_istore (pc := 37) d_M_load_37 (by decide) ?_
    show xW sc m_M_load (d + 1) Q (mH s5 R) 39 [some (vA 373), some (vL a1), none, some (vI v1), some (vI ((mI 4 s) - (1 : Int32))), some (vI (0 : Int32))] []
    exact w_M_load_b39 hQ mF a1 v1 ((mI 4 s) - (1 : Int32)) (0 : Int32) s5 h
  · rw [if_neg c3] at h
    refine x_iconst (v := (2 : Int32)) (pc := 24) d_M_load_24 (by decide) ?_
    cases h
    exact x_iret (ty := .int) (pc := 25) d_M_load_25 rfl (rfl) hQ
def f_M_newArray_b18  : Nat → Int32 → Int32 → Int32 → Int32 → MT → Option (Int32 × MT)
  | 0, _, _, _, _, _ => none
  | n + 1, l1, l2, l3, l4, s => (if l2 ≤ l4 then (f_M_set s (40 : Int32) l3 (((mI 5 s).toInt64) + ((1024 : Int64) * l2.toInt64))).bind fun s3 => some ((0 : Int32), sI 5 ((mI 5 s3) + l2) s3) else (f_M_move s (((50 : Int32) + (mI 5 s)) + l4) (l1 + l4)).bind fun s5 => (f_M_newArray_b18 n) l1 l2 l3 (l4 + Int32.ofInt 1) s5)
theorem w_M_newArray_b18 {sc : xSc} {d : Nat} {Q : xR → xH → Prop} {R : xH} {sZ : MT} {rZ : Int32}  (hQ : Q (.inl (some (vI rZ))) (mH sZ R)) : ∀ (n : Nat) (l1 : Int32) (l2 : Int32) (l3 : Int32) (l4 : Int32) (s : MT), f_M_newArray_b18  n l1 l2 l3 l4 s = some (rZ, sZ) → xW sc m_M_newArray (d + 1) Q (mH s R) 18 [some (vA 373), some (vI l1), some (vI l2), some (vI l3), some (vI l4)] [] := by
  intro n
  induction n with
  | zero =>
    intro l1 l2 l3 l4 s h
    cases h
  | succ n hk18 =>
    intro l1 l2 l3 l4 s h
    unfold f_M_newArray_b18 at h
    refine x_iload (pc := 18) d_M_newArray_18 rfl ?_
    refine x_iload_n (pc := 20) d_M_newArray_20 rfl ?_
    refine x_icmp_ge (tgt := 48) (pc := 21) d_M_newArray_21 (by decide) (fun c1 => ?_) (fun c1 => ?_)
    · rw [if_pos c1] at h
      refine x_aload_n (pc := 48) d_M_newArray_48 rfl ?_
      refine x_bipush (v := (40 : Int32)) (pc := 49) d_M_newArray_49 (by decide) ?_
      refine x_iload_n (pc := 51) d_M_newArray_51 rfl ?_
      refine x_aload_n (pc := 52) d_M_newArray_52 rfl ?_
      refine x_getf (c := 1) (k := 5) (v := vI (mI 5 s)) (pc := 53) d_M_newArray_53 l_M_325 (xm_at s R) rfl ?_
      refine x_i2l (pc := 56) d_M_newArray_56 ?_
      refine x_ldc2 (v := (1024 : Int64)) (pc := 57) d_M_newArray_57 c_M_328 ?_
      refine x_iload_n (pc := 60) d_M_newArray_60 rfl ?_
      refine x_i2l (pc := 61) d_M_newArray_61 ?_
      refine x_lmul (pc := 62) d_M_newArray_62 ?_
      refine x_ladd (pc := 63) d_M_newArray_63 ?_
      obtain ⟨s3, e2, h⟩ := Option.bind_eq_some_iff.mp h
      refine x_invv (c := 1) (av := [vI (40 : Int32), vI l3, vL (((mI 5 s).toInt64) + ((1024 : Int64) * l2.toInt64))]) (st := []) (pc := 64) d_M_newArray_64 cv_M_250 y_M_set (xm_at s R) rfl (Nat.le_of_ble_eq_true rfl) (Nat.le_of_ble_eq_true rfl) (w_M_set (d := d + 0) (Q := fun r h' => r = .inl none ∧ h' = mH s3 R) (R := R) ⟨rfl, rfl⟩ s (40 : Int32) l3 (((mI 5 s).toInt64) + ((1024 : Int64) * l2.toInt64)) e2) (fun v h' z => ?_) (fun a h' z => nomatch z.1)
      obtain ⟨z1, z2⟩ := z
      subst z2
      cases z1
      show xW sc m_M_newArray (d + 1) Q (mH s3 R) 67 [some (vA 373), some (vI l1), some (vI l2), some (vI l3), some (vI l4)] []
      refine x_aload_n (pc := 67) d_M_newArray_67 rfl ?_
      refine x_dup (pc := 68) d_M_newArray_68 rfl ?_
      refine x_getf (c := 1) (k := 5) (v := vI (mI 5 s3)) (pc := 69) d_M_newArray_69 l_M_325 (xm_at s3 R) rfl ?_
      refine x_iload_n (pc := 72) d_M_newArray_72 rfl ?_
      refine x_iadd (pc := 73) d_M_newArray_73 ?_
      refine xm_p5 (pc := 74) d_M_newArray_74 l_M_325 ?_
      refine x_iconst (v := (0 : Int32)) (pc := 77) d_M_newArray_77 (by decide) ?_
      cases h
      exact x_iret (ty := .int) (pc := 78) d_M_newArray_78 rfl (rfl) hQ
    · rw [if_neg c1] at h
      refine x_aload_n (pc := 24) d_M_newArray_24 rfl ?_
      refine x_bipush (v := (50 : Int32)) (pc := 25) d_M_newArray_25 (by decide) ?_
      refine x_aload_n (pc := 27) d_M_newArray_27 rfl ?_
      refine x_getf (c := 1) (k := 5) (v := vI (mI 5 s)) (pc := 28) d_M_newArray_28 l_M_325 (xm_at s R) rfl ?_
      refine x_iadd (pc := 31) d_M_newArray_31 ?_
      refine x_iload (pc := 32) d_M_newArray_32 rfl ?_
      refine x_iadd (pc := 34) d_M_newArray_34 ?_
      refine x_iload_n (pc := 35) d_M_newArray_35 rfl ?_
      refine x_iload (pc := 36) d_M_newArray_36 rfl ?_
      refine x_iadd (pc := 38) d_M_newArray_38 ?_
      obtain ⟨s5, e4, h⟩ := Option.bind_eq_some_iff.mp h
      refine x_invv (c := 1) (av := [vI (((50 : Int32) + (mI 5 s)) + l4), vI (l1 + l4)]) (st := []) (pc := 39) d_M_newArray_39 cv_M_254 y_M_move (xm_at s R) rfl (Nat.le_of_ble_eq_true rfl) (Nat.le_of_ble_eq_true rfl) (w_M_move (d := d + 0) (Q := fun r h' => r = .inl none ∧ h' = mH s5 R) (R := R) ⟨rfl, rfl⟩ s (((50 : Int32) + (mI 5 s)) + l4) (l1 + l4) e4) (fun v h' z => ?_) (fun a h' z => nomatch z.1)
      obtain ⟨z1, z2⟩ := z
      subst z2
      cases z1
      show xW sc m_M_newArray (d + 1) Q (mH s5 R) 42 [some (vA 373), some (vI l1), some (vI l2), some (vI l3), some (vI l4)] []
      refine x_iinc (pc := 42) d_M_newArray_42 rfl (by decide) ?_
      show xW sc m_M_newArray (d + 1) Q (mH s5 R) 45 [some (vA 373), some (vI l1), some (vI l2), some (vI l3), some (vI (l4 + Int32.ofInt 1))] []
      refine x_goto (tgt := 18) (pc := 45) d_M_newArray_45 (by decide) ?_
      exact hk18 l1 l2 l3 (l4 + Int32.ofInt 1) s5 h
def f_M_newArray (s : MT) (a1 : Int32) (a2 : Int32) (a3 : Int32) : Option (Int32 × MT) := (if ((mI 5 s) + a2) ≤ (160 : Int32) then f_M_newArray_b18 mF a1 a2 a3 (0 : Int32) s else some ((7 : Int32), s))
theorem w_M_newArray {sc : xSc} {d : Nat} {Q : xR → xH → Prop} {R : xH} {sZ : MT} {rZ : Int32} (hQ : Q (.inl (some (vI rZ))) (mH sZ R)) (s : MT) (a1 : Int32) (a2 : Int32) (a3 : Int32) (h : f_M_newArray s a1 a2 a3 = some (rZ, sZ)) : xW sc m_M_newArray (d + 1) Q (mH s R) 0 (xent [vA 373, vI a1, vI a2, vI a3] m_M_newArray.2.2.1) [] := by
  show xW sc m_M_newArray (d + 1) Q (mH s R) 0 [some (vA 373), some (vI a1), some (vI a2), some (vI a3), none] []
  unfold f_M_newArray at h
  refine x_aload_n (pc := 0) d_M_newArray_0 rfl ?_
  refine x_getf (c := 1) (k := 5) (v := vI (mI 5 s)) (pc := 1) d_M_newArray_1 l_M_325 (xm_at s R) rfl ?_
  refine x_iload_n (pc := 4) d_M_newArray_4 rfl ?_
  refine x_iadd (pc := 5) d_M_newArray_5 ?_
  refine x_sipush (v := (160 : Int32)) (pc := 6) d_M_newArray_6 (by decide) ?_
  refine x_icmp_le (tgt := 15) (pc := 9) d_M_newArray_9 (by decide) (fun c1 => ?_) (fun c1 => ?_)
  · rw [if_pos c1] at h
    refine x_iconst (v := (0 : Int32)) (pc := 15) d_M_newArray_15 (by decide) ?_
    refine x_istore (pc := 16) d_M_newArray_16 (by decide) ?_
    show xW sc m_M_newArray (d + 1) Q (mH s R) 18 [some (vA 373), some (vI a1), some (vI a2), some (vI a3), some (vI (0 : Int32))] []
    exact w_M_newArray_b18 hQ mF a1 a2 a3 (0 : Int32) s h
  · rw [if_neg c1] at h
    refine x_bipush (v := (7 : Int32)) (pc := 12) d_M_newArray_12 (by decide) ?_
    cases h
    exact x_iret (ty := .int) (pc := 14) d_M_newArray_14 rfl (rfl) hQ
def f_M_number_b109  (t0 : Int32) (s : MT) : Option (Int32 × MT) := some (t0, s)
theorem w_M_number_b109 {sc : xSc} {d : Nat} {Q : xR → xH → Prop} {R : xH} {sZ : MT} {rZ : Int32}  (hQ : Q (.inl (some (vI rZ))) (mH sZ R)) (t0 : Int32) (s : MT) (h : f_M_number_b109  t0 s = some (rZ, sZ)) : xW sc m_M_number (d + 1) Q (mH s R) 109 [none, none, none] [vI t0] := by
  unfold f_M_number_b109 at h
  cases h
  exact x_iret (ty := .int) (pc := 109) d_M_number_109 rfl (rfl) hQ
def f_M_number_b39  (l1 : Int32) (t0 : Int32) (s : MT) : Option (Int32 × MT) := (if (mI 0 (sI 0 t0 s)) ≤ 0 then (f_M_kindOf (sI 0 t0 s) (((mI 4 (sI 0 t0 s)) - (1 : Int32)) - l1)).bind fun (v4, s3) => (if v4 = (3 : Int32) then (if xin (((mI 4 (sI 0 t0 s)) - (1 : Int32)) - l1) 1300 = true then (f_M_letters (mL 2 s3 (((mI 4 (sI 0 t0 s)) - (1 : Int32)) - l1).toNatClampNeg)).bind fun v17 => f_M_number_b109 v17 s3 else none) else (f_M_kindOf s3 (((mI 4 (sI 0 t0 s)) - (1 : Int32)) - l1)).bind fun (v9, s8) => (if v9 = (5 : Int32) then (if xin (((mI 4 (sI 0 t0 s)) - (1 : Int32)) - l1) 1300 = true then (f_M_count (mL 2 s8 (((mI 4 (sI 0 t0 s)) - (1 : Int32)) - l1).toNatClampNeg)).bind fun v14 => f_M_number_b109 v14 s8 else none) else (if xin (((mI 4 (sI 0 t0 s)) - (1 : Int32)) - l1) 1300 = true then f_M_number_b109 ((mL 2 s8 (((mI 4 (sI 0 t0 s)) - (1 : Int32)) - l1).toNatClampNeg).toInt32) s8 else none))) else some ((0 : Int32), sI 0 t0 s))
theorem w_M_number_b39 {sc : xSc} {d : Nat} {Q : xR → xH → Prop} {R : xH} {sZ : MT} {rZ : Int32}  (hQ : Q (.inl (some (vI rZ))) (mH sZ R)) (l1 : Int32) (t0 : Int32) (s : MT) (h : f_M_number_b39  l1 t0 s = some (rZ, sZ)) : xW sc m_M_number (d + 1) Q (mH s R) 39 [some (vA 373), some (vI l1), none] [vI t0, vA 373] := by
  unfold f_M_number_b39 at h
  refine xm_p0 (pc := 39) d_M_number_39 l_M_242 ?_
  refine x_aload_n (pc := 42) d_M_number_42 rfl ?_
  refine x_getf (c := 1) (k := 0) (v := vI (mI 0 (sI 0 t0 s))) (pc := 43) d_M_number_43 l_M_242 (xm_at (sI 0 t0 s) R) rfl ?_
  refine x_if_le (tgt := 51) (pc := 46) d_M_number_46 (by decide) (fun c1 => ?_) (fun c1 => ?_)
  · rw [if_pos c1] at h
    refine x_aload_n (pc := 51) d_M_number_51 rfl ?_
    refine x_getf (c := 1) (k := 4) (v := vI (mI 4 (sI 0 t0 s))) (pc := 52) d_M_number_52 l_M_247 (xm_at (sI 0 t0 s) R) rfl ?_
    refine x_iconst (v := (1 : Int32)) (pc := 55) d_M_number_55 (by decide) ?_
    refine x_isub (pc := 56) d_M_number_56 ?_
    refine x_iload_n (pc := 57) d_M_number_57 rfl ?_
    refine x_isub (pc := 58) d_M_number_58 ?_
    refine x_istore_n (pc := 59) d_M_number_59 (by decide) ?_
    show xW sc m_M_number (d + 1) Q (mH (sI 0 t0 s) R) 60 [some (vA 373), some (vI l1), some (vI (((mI 4 (sI 0 t0 s)) - (1 : Int32)) - l1))] []
    refine x_aload_n (pc := 60) d_M_number_60 rfl ?_
    refine x_iload_n (pc := 61) d_M_number_61 rfl ?_
    obtain ⟨⟨v4, s3⟩, e2, h⟩ := Option.bind_eq_some_iff.mp h
    dsimp only at h
    refine x_invv (c := 1) (av := [vI (((mI 4 (sI 0 t0 s)) - (1 : Int32)) - l1)]) (st := []) (pc := 62) d_M_number_62 cv_M_421 y_M_kindOf (xm_at (sI 0 t0 s) R) rfl (Nat.le_of_ble_eq_true rfl) (Nat.le_of_ble_eq_true rfl) (w_M_kindOf (d := d + 0) (Q := fun r h' => r = .inl (some (vI v4)) ∧ h' = mH s3 R) (R := R) ⟨rfl, rfl⟩ (sI 0 t0 s) (((mI 4 (sI 0 t0 s)) - (1 : Int32)) - l1) e2) (fun v h' z => ?_) (fun a h' z => nomatch z.1)
    obtain ⟨z1, z2⟩ := z
    subst z2
    cases z1
    show xW sc m_M_number (d + 1) Q (mH s3 R) 65 [some (vA 373), some (vI l1), some (vI (((mI 4 (sI 0 t0 s)) - (1 : Int32)) - l1))] [vI v4]
    refine x_iconst (v := (3 : Int32)) (pc := 65) d_M_number_65 (by decide) ?_
    refine x_icmp_ne (tgt := 81) (pc := 66) d_M_number_66 (by decide) (fun c6 => ?_) (fun c6 => ?_)
    · rw [if_neg c6] at h
      refine x_aload_n (pc := 81) d_M_number_81 rfl ?_
      refine x_iload_n (pc := 82) d_M_number_82 rfl ?_
      obtain ⟨⟨v9, s8⟩, e7, h⟩ := Option.bind_eq_some_iff.mp h
      dsimp only at h
      refine x_invv (c := 1) (av := [vI (((mI 4 (sI 0 t0 s)) - (1 : Int32)) - l1)]) (st := []) (pc := 83) d_M_number_83 cv_M_421 y_M_kindOf (xm_at s3 R) rfl (Nat.le_of_ble_eq_true rfl) (Nat.le_of_ble_eq_true rfl) (w_M_kindOf (d := d + 0) (Q := fun r h' => r = .inl (some (vI v9)) ∧ h' = mH s8 R) (R := R) ⟨rfl, rfl⟩ s3 (((mI 4 (sI 0 t0 s)) - (1 : Int32)) - l1) e7) (fun v h' z => ?_) (fun a h' z => nomatch z.1)
      obtain ⟨z1, z2⟩ := z
      subst z2
      cases z1
      show xW sc m_M_number (d + 1) Q (mH s8 R) 86 [some (vA 373), some (vI l1), some (vI (((mI 4 (sI 0 t0 s)) - (1 : Int32)) - l1))] [vI v9]
      refine x_iconst (v := (5 : Int32)) (pc := 86) d_M_number_86 (by decide) ?_
      refine x_icmp_ne (tgt := 102) (pc := 87) d_M_number_87 (by decide) (fun c11 => ?_) (fun c11 => ?_)
      · rw [if_neg c11] at h
        refine x_aload_n (pc := 102) d_M_number_102 rfl ?_
        refine x_getf (c := 1) (k := 2) (v := vA 375) (pc := 103) d_M_number_103 l_M_13 (xm_at s8 R) rfl ?_
        refine x_iload_n (pc := 106) d_M_number_106 rfl ?_
        obtain ⟨c12, h⟩ := ite_some h
        refine x_lald (pc := 107) d_M_number_107 (xm_a2 s8 R) (xin_vp c12) ?_
        refine x_l2i (pc := 108) d_M_number_108 ?_
        exact x_wk (L' := [none, none, none]) ⟨Or.inl rfl, Or.inl rfl, Or.inl rfl, trivial⟩ (w_M_number_b109 hQ ((mL 2 s8 (((mI 4 (sI 0 t0 s)) - (1 : Int32)) - l1).toNatClampNeg).toInt32) s8 h)
      · rw [if_pos c11] at h
        refine x_aload_n (pc := 90) d_M_number_90 rfl ?_
        refine x_getf (c := 1) (k := 2) (v := vA 375) (pc := 91) d_M_number_91 l_M_13 (xm_at s8 R) rfl ?_
        refine x_iload_n (pc := 94) d_M_number_94 rfl ?_
        obtain ⟨c13, h⟩ := ite_some h
        refine x_lald (pc := 95) d_M_number_95 (xm_a2 s8 R) (xin_vp c13) ?_
        obtain ⟨v14, e15, h⟩ := Option.bind_eq_some_iff.mp h
        refine x_invs (av := [vL (mL 2 s8 (((mI 4 (sI 0 t0 s)) - (1 : Int32)) - l1).toNatClampNeg)]) (st := []) (pc := 96) d_M_number_96 cs_M_391 y_M_count rfl (Nat.le_of_ble_eq_true rfl) (Nat.le_of_ble_eq_true rfl) (w_M_count (d := d + 0) (Q := fun r h' => r = .inl (some (vI v14)) ∧ h' = mH s8 R) (hh := mH s8 R) ⟨rfl, rfl⟩ (mL 2 s8 (((mI 4 (sI 0 t0 s)) - (1 : Int32)) - l1).toNatClampNeg) e15) (fun v h' z => ?_) (fun a h' z => nomatch z.1)
        obtain ⟨z1, z2⟩ := z
        subst z2
        cases z1
        show xW sc m_M_number (d + 1) Q (mH s8 R) 99 [some (vA 373), some (vI l1), some (vI (((mI 4 (sI 0 t0 s)) - (1 : Int32)) - l1))] [vI v14]
        refine x_goto (tgt := 109) (pc := 99) d_M_number_99 (by decide) ?_
        exact x_wk (L' := [none, none, none]) ⟨Or.inl rfl, Or.inl rfl, Or.inl rfl, trivial⟩ (w_M_number_b109 hQ v14 s8 h)
    · rw [if_pos c6] at h
      refine x_aload_n (pc := 69) d_M_number_69 rfl ?_
      refine x_getf (c := 1) (k := 2) (v := vA 375) (pc := 70) d_M_number_70 l_M_13 (xm_at s3 R) rfl ?_
      refine x_iload_n (pc := 73) d_M_number_73 rfl ?_
      obtain ⟨c16, h⟩ := ite_some h
      refine x_lald (pc := 74) d_M_number_74 (xm_a2 s3 R) (xin_vp c16) ?_
      obtain ⟨v17, e18, h⟩ := Option.bind_eq_some_iff.mp h
      refine x_invs (av := [vL (mL 2 s3 (((mI 4 (sI 0 t0 s)) - (1 : Int32)) - l1).toNatClampNeg)]) (st := []) (pc := 75) d_M_number_75 cs_M_566 y_M_letters rfl (Nat.le_of_ble_eq_true rfl) (Nat.le_of_ble_eq_true rfl) (w_M_letters (d := d + 0) (Q := fun r h' => r = .inl (some (vI v17)) ∧ h' = mH s3 R) (hh := mH s3 R) ⟨rfl, rfl⟩ (mL 2 s3 (((mI 4 (sI 0 t0 s)) - (1 : Int32)) - l1).toNatClampNeg) e18) (fun v h' z => ?_) (fun a h' z => nomatch z.1)
      obtain ⟨z1, z2⟩ := z
      subst z2
      cases z1
      show xW sc m_M_number (d + 1) Q (mH s3 R) 78 [some (vA 373), some (vI l1), some (vI (((mI 4 (sI 0 t0 s)) - (1 : Int32)) - l1))] [vI v17]
      refine x_goto (tgt := 109) (pc := 78) d_M_number_78 (by decide) ?_
      exact x_wk (L' := [none, none, none]) ⟨Or.inl rfl, Or.inl rfl, Or.inl rfl, trivial⟩ (w_M_number_b109 hQ v17 s3 h)
  · rw [if_neg c1] at h
    refine x_iconst (v := (0 : Int32)) (pc := 49) d_M_number_49 (by decide) ?_
    cases h
    exact x_iret (ty := .int) (pc := 50) d_M_number_50 rfl (rfl) hQ
def f_M_number_b13  (l1 : Int32) (s : MT) : Option (Int32 × MT) := f_M_number_b39 l1 (1 : Int32) s
theorem w_M_number_b13 {sc : xSc} {d : Nat} {Q : xR → xH → Prop} {R : xH} {sZ : MT} {rZ : Int32}  (hQ : Q (.inl (some (vI rZ))) (mH sZ R)) (l1 : Int32) (s : MT) (h : f_M_number_b13  l1 s = some (rZ, sZ)) : xW sc m_M_number (d + 1) Q (mH s R) 13 [some (vA 373), some (vI l1), none] [vA 373] := by
  unfold f_M_number_b13 at h
  refine x_iconst (v := (1 : Int32)) (pc := 13) d_M_number_13 (by decide) ?_
  refine x_goto (tgt := 39) (pc := 14) d_M_number_14 (by decide) ?_
  exact w_M_number_b39 hQ l1 (1 : Int32) s h
def f_M_number (s : MT) (a1 : Int32) : Option (Int32 × MT) := (if a1 < 0 then f_M_number_b13 a1 s else (if a1 < (mI 4 s) then (if xin (((mI 4 s) - (1 : Int32)) - a1) 1300 = true then (if (mA 1 s (((mI 4 s) - (1 : Int32)) - a1).toNatClampNeg) = (1 : Int32) then f_M_number_b39 a1 (2 : Int32) s else f_M_number_b39 a1 (0 : Int32) s) else none) else f_M_number_b13 a1 s))
theorem w_M_number {sc : xSc} {d : Nat} {Q : xR → xH → Prop} {R : xH} {sZ : MT} {rZ : Int32} (hQ : Q (.inl (some (vI rZ))) (mH sZ R)) (s : MT) (a1 : Int32) (h : f_M_number s a1 = some (rZ, sZ)) : xW sc m_M_number (d + 1) Q (mH s R) 0 (xent [vA 373, vI a1] m_M_number.2.2.1) [] := by
  show xW sc m_M_number (d + 1) Q (mH s R) 0 [some (vA 373), some (vI a1), none] []
  unfold f_M_number at h
  refine x_aload_n (pc := 0) d_M_number_0 rfl ?_
  refine x_iload_n (pc := 1) d_M_number_1 rfl ?_
  refine x_if_lt (tgt := 13) (pc := 2) d_M_number_2 (by decide) (fun c1 => ?_) (fun c1 => ?_)
  · rw [if_pos c1] at h
    exact w_M_number_b13 hQ a1 s h
  · rw [if_neg c1] at h
    refine x_iload_n (pc := 5) d_M_number_5 rfl ?_
    refine x_aload_n (pc := 6) d_M_number_6 rfl ?_
    refine x_getf (c := 1) (k := 4) (v := vI (mI 4 s)) (pc := 7) d_M_number_7 l_M_247 (xm_at s R) rfl ?_
    refine x_icmp_lt (tgt := 17) (pc := 10) d_M_number_10 (by decide) (fun c2 => ?_) (fun c2 => ?_)
    · rw [if_pos c2] at h
      refine x_aload_n (pc := 17) d_M_number_17 rfl ?_
      refine x_getf (c := 1) (k := 1) (v := vA 374) (pc := 18) d_M_number_18 l_M_7 (xm_at s R) rfl ?_
      refine x_aload_n (pc := 21) d_M_number_21 rfl ?_
      refine x_getf (c := 1) (k := 4) (v := vI (mI 4 s)) (pc := 22) d_M_number_22 l_M_247 (xm_at s R) rfl ?_
      refine x_iconst (v := (1 : Int32)) (pc := 25) d_M_number_25 (by decide) ?_
      refine x_isub (pc := 26) d_M_number_26 ?_
      refine x_iload_n (pc := 27) d_M_number_27 rfl ?_
      refine x_isub (pc := 28) d_M_number_28 ?_
      obtain ⟨c3, h⟩ := ite_some h
      refine x_iald (pc := 29) d_M_number_29 (xm_a1 s R) (xin_vp c3) ?_
      refine x_iconst (v := (1 : Int32)) (pc := 30) d_M_number_30 (by decide) ?_
      refine x_icmp_ne (tgt := 38) (pc := 31) d_M_number_31 (by decide) (fun c4 => ?_) (fun c4 => ?_)
      · rw [if_neg c4] at h
        refine x_iconst (v := (0 : Int32)) (pc := 38) d_M_number_38 (by decide) ?_
        exact w_M_number_b39 hQ a1 (0 : Int32) s h
      · rw [if_pos c4] at h
        refine x_iconst (v := (2 : Int32)) (pc := 34) d_M_number_34 (by decide) ?_
        refine x_goto (tgt := 39) (pc := 35) d_M_number_35 (by decide) ?_
        exact w_M_number_b39 hQ a1 (2 : Int32) s h
    · rw [if_neg c2] at h
      exact w_M_number_b13 hQ a1 s h
def f_M_paint_b345 (k317 : Int32 → Int32 → MT → Option (Int32 × MT)) (l1 : Int32) (l7 : Int32) (t0 : Int32) (t1 : Int32) (s : MT) : Option (Int32 × MT) := (f_M_cover s t1 t0).bind fun s2 => k317 l1 (l7 + Int32.ofInt 1) s2
theorem w_M_paint_b345 {sc : xSc} {d : Nat} {Q : xR → xH → Prop} {R : xH} {sZ : MT} {rZ : Int32} (k317 : Int32 → Int32 → MT → Option (Int32 × MT)) (hk317 : ∀ (l1 : Int32) (l7 : Int32) (s : MT), k317 l1 l7 s = some (rZ, sZ) → xW sc m_M_paint (d + 1) Q (mH s R) 317 [some (vA 373), some (vI l1), none, none, none, none, none, some (vI l7)] []) (hQ : Q (.inl (some (vI rZ))) (mH sZ R)) (l1 : Int32) (l7 : Int32) (t0 : Int32) (t1 : Int32) (s : MT) (h : f_M_paint_b345 k317 l1 l7 t0 t1 s = some (rZ, sZ)) : xW sc m_M_paint (d + 1) Q (mH s R) 345 [some (vA 373), some (vI l1), none, none, none, none, none, some (vI l7)] [vI t0, vI t1, vA 373] := by
  unfold f_M_paint_b345 at h
  obtain ⟨s2, e1, h⟩ := Option.bind_eq_some_iff.mp h
  refine x_invv (c := 1) (av := [vI t1, vI t0]) (st := []) (pc := 345) d_M_paint_345 cv_M_558 y_M_cover (xm_at s R) rfl (Nat.le_of_ble_eq_true rfl) (Nat.le_of_ble_eq_true rfl) (w_M_cover (d := d + 0) (Q := fun r h' => r = .inl none ∧ h' = mH s2 R) (R := R) ⟨rfl, rfl⟩ s t1 t0 e1) (fun v h' z => ?_) (fun a h' z => nomatch z.1)
  obtain ⟨z1, z2⟩ := z
  subst z2
  cases z1
  show xW sc m_M_paint (d + 1) Q (mH s2 R) 348 [some (vA 373), some (vI l1), none, none, none, none, none, some (vI l7)] []
  refine x_iinc (pc := 348) d_M_paint_348 rfl (by decide) ?_
  show xW sc m_M_paint (d + 1) Q (mH s2 R) 351 [some (vA 373), some (vI l1), none, none, none, none, none, some (vI (l7 + Int32.ofInt 1))] []
  refine x_goto (tgt := 317) (pc := 351) d_M_paint_351 (by decide) ?_
  exact hk317 l1 (l7 + Int32.ofInt 1) s2 h
def f_M_paint_b317  : Nat → Int32 → Int32 → MT → Option (Int32 × MT)
  | 0, _, _, _ => none
  | n + 1, l1, l7, s => (if ((mI 34 s) * (mI 35 s)) ≤ l7 then some ((0 : Int32), sI 41 (0 : Int32) s) else (if l1 = (69 : Int32) then f_M_paint_b345 (f_M_paint_b317 n) l1 l7 (1 : Int32) l7 s else f_M_paint_b345 (f_M_paint_b317 n) l1 l7 (0 : Int32) l7 s))
theorem w_M_paint_b317 {sc : xSc} {d : Nat} {Q : xR → xH → Prop} {R : xH} {sZ : MT} {rZ : Int32}  (hQ : Q (.inl (some (vI rZ))) (mH sZ R)) : ∀ (n : Nat) (l1 : Int32) (l7 : Int32) (s : MT), f_M_paint_b317  n l1 l7 s = some (rZ, sZ) → xW sc m_M_paint (d + 1) Q (mH s R) 317 [some (vA 373), some (vI l1), none, none, none, none, none, some (vI l7)] [] := by
  intro n
  induction n with
  | zero =>
    intro l1 l7 s h
    cases h
  | succ n hk317 =>
    intro l1 l7 s h
    unfold f_M_paint_b317 at h
    refine x_iload (pc := 317) d_M_paint_317 rfl ?_
    refine x_aload_n (pc := 319) d_M_paint_319 rfl ?_
    refine x_getf (c := 1) (k := 34) (v := vI (mI 34 s)) (pc := 320) d_M_paint_320 l_M_236 (xm_at s R) rfl ?_
    refine x_aload_n (pc := 323) d_M_paint_323 rfl ?_
    refine x_getf (c := 1) (k := 35) (v := vI (mI 35 s)) (pc := 324) d_M_paint_324 l_M_239 (xm_at s R) rfl ?_
    refine x_imul (pc := 327) d_M_paint_327 ?_
    refine x_icmp_ge (tgt := 354) (pc := 328) d_M_paint_328 (by decide) (fun c1 => ?_) (fun c1 => ?_)
    · rw [if_pos c1] at h
      refine x_aload_n (pc := 354) d_M_paint_354 rfl ?_
      refine x_iconst (v := (0 : Int32)) (pc := 355) d_M_paint_355 (by decide) ?_
      refine xm_p41 (pc := 356) d_M_paint_356 l_M_547 ?_
      refine x_iconst (v := (0 : Int32)) (pc := 359) d_M_paint_359 (by decide) ?_
      cases h
      exact x_iret (ty := .int) (pc := 360) d_M_paint_360 rfl (rfl) hQ
    · rw [if_neg c1] at h
      refine x_aload_n (pc := 331) d_M_paint_331 rfl ?_
      refine x_iload (pc := 332) d_M_paint_332 rfl ?_
      refine x_iload_n (pc := 334) d_M_paint_334 rfl ?_
      refine x_bipush (v := (69 : Int32)) (pc := 335) d_M_paint_335 (by decide) ?_
      refine x_icmp_ne (tgt := 344) (pc := 337) d_M_paint_337 (by decide) (fun c2 => ?_) (fun c2 => ?_)
      · rw [if_neg c2] at h
        refine x_iconst (v := (0 : Int32)) (pc := 344) d_M_paint_344 (by decide) ?_
        exact w_M_paint_b345 (f_M_paint_b317 n) hk317 hQ l1 l7 (0 : Int32) l7 s h
      · rw [if_pos c2] at h
        refine x_iconst (v := (1 : Int32)) (pc := 340) d_M_paint_340 (by decide) ?_
        refine x_goto (tgt := 345) (pc := 341) d_M_paint_341 (by decide) ?_
        exact w_M_paint_b345 (f_M_paint_b317 n) hk317 hQ l1 l7 (1 : Int32) l7 s h
def f_M_paint_b240  (t0 : Int32) (t1 : UInt64) (t2 : UInt64) (s : MT) : Option (Int32 × MT) := (f_M_point s t2 t1 t0).bind fun (v3, s2) => some (v3, s2)
theorem w_M_paint_b240 {sc : xSc} {d : Nat} {Q : xR → xH → Prop} {R : xH} {sZ : MT} {rZ : Int32}  (hQ : Q (.inl (some (vI rZ))) (mH sZ R)) (t0 : Int32) (t1 : UInt64) (t2 : UInt64) (s : MT) (h : f_M_paint_b240  t0 t1 t2 s = some (rZ, sZ)) : xW sc m_M_paint (d + 1) Q (mH s R) 240 [none, none, none, none, none, none, none, none] [vI t0, vD t1, vD t2, vA 373] := by
  unfold f_M_paint_b240 at h
  obtain ⟨⟨v3, s2⟩, e1, h⟩ := Option.bind_eq_some_iff.mp h
  dsimp only at h
  refine x_invv (c := 1) (av := [vD t2, vD t1, vI t0]) (st := []) (pc := 240) d_M_paint_240 cv_M_554 y_M_point (xm_at s R) rfl (Nat.le_of_ble_eq_true rfl) (Nat.le_of_ble_eq_true rfl) (w_M_point (d := d + 0) (Q := fun r h' => r = .inl (some (vI v3)) ∧ h' = mH s2 R) (R := R) ⟨rfl, rfl⟩ s t2 t1 t0 e1) (fun v h' z => ?_) (fun a h' z => nomatch z.1)
  obtain ⟨z1, z2⟩ := z
  subst z2
  cases z1
  show xW sc m_M_paint (d + 1) Q (mH s2 R) 243 [none, none, none, none, none, none, none, none] [vI v3]
  cases h
  exact x_iret (ty := .int) (pc := 243) d_M_paint_243 rfl (rfl) hQ
def f_M_paint_b190  (l1 : Int32) (l3 : UInt64) (l5 : UInt64) (s : MT) : Option (Int32 × MT) := (if (mI 41 s) = (30 : Int32) then some ((7 : Int32), s) else (if l1 = (65 : Int32) then f_M_paint_b240 (mI 41 (sI 4 ((mI 4 s) - (2 : Int32)) s)) l5 l3 (sI 4 ((mI 4 s) - (2 : Int32)) s) else (if xin ((mI 41 (sI 4 ((mI 4 s) - (2 : Int32)) s)) - (1 : Int32)) 30 = true then f_M_paint_b240 (mA 40 (sI 4 ((mI 4 s) - (2 : Int32)) s) ((mI 41 (sI 4 ((mI 4 s) - (2 : Int32)) s)) - (1 : Int32)).toNatClampNeg) l5 l3 (sI 4 ((mI 4 s) - (2 : Int32)) s) else none)))
theorem w_M_paint_b190 {sc : xSc} {d : Nat} {Q : xR → xH → Prop} {R : xH} {sZ : MT} {rZ : Int32}  (hQ : Q (.inl (some (vI rZ))) (mH sZ R)) (l1 : Int32) (l3 : UInt64) (l5 : UInt64) (s : MT) (h : f_M_paint_b190  l1 l3 l5 s = some (rZ, sZ)) : xW sc m_M_paint (d + 1) Q (mH s R) 190 [some (vA 373), some (vI l1), none, some (vD l3), none, some (vD l5), none, none] [] := by
  unfold f_M_paint_b190 at h
  refine x_aload_n (pc := 190) d_M_paint_190 rfl ?_
  refine x_getf (c := 1) (k := 41) (v := vI (mI 41 s)) (pc := 191) d_M_paint_191 l_M_547 (xm_at s R) rfl ?_
  refine x_bipush (v := (30 : Int32)) (pc := 194) d_M_paint_194 (by decide) ?_
  refine x_icmp_ne (tgt := 202) (pc := 196) d_M_paint_196 (by decide) (fun c1 => ?_) (fun c1 => ?_)
  · rw [if_neg c1] at h
    refine x_aload_n (pc := 202) d_M_paint_202 rfl ?_
    refine x_dup (pc := 203) d_M_paint_203 rfl ?_
    refine x_getf (c := 1) (k := 4) (v := vI (mI 4 s)) (pc := 204) d_M_paint_204 l_M_247 (xm_at s R) rfl ?_
    refine x_iconst (v := (2 : Int32)) (pc := 207) d_M_paint_207 (by decide) ?_
    refine x_isub (pc := 208) d_M_paint_208 ?_
    refine xm_p4 (pc := 209) d_M_paint_209 l_M_247 ?_
    refine x_aload_n (pc := 212) d_M_paint_212 rfl ?_
    refine x_dload_n (pc := 213) d_M_paint_213 rfl ?_
    refine x_dload (pc := 214) d_M_paint_214 rfl ?_
    refine x_iload_n (pc := 216) d_M_paint_216 rfl ?_
    refine x_bipush (v := (65 : Int32)) (pc := 217) d_M_paint_217 (by decide) ?_
    refine x_icmp_ne (tgt := 229) (pc := 219) d_M_paint_219 (by decide) (fun c2 => ?_) (fun c2 => ?_)
    · rw [if_neg c2] at h
      refine x_aload_n (pc := 229) d_M_paint_229 rfl ?_
      refine x_getf (c := 1) (k := 40) (v := vA 395) (pc := 230) d_M_paint_230 l_M_84 (xm_at (sI 4 ((mI 4 s) - (2 : Int32)) s) R) rfl ?_
      refine x_aload_n (pc := 233) d_M_paint_233 rfl ?_
      refine x_getf (c := 1) (k := 41) (v := vI (mI 41 (sI 4 ((mI 4 s) - (2 : Int32)) s))) (pc := 234) d_M_paint_234 l_M_547 (xm_at (sI 4 ((mI 4 s) - (2 : Int32)) s) R) rfl ?_
      refine x_iconst (v := (1 : Int32)) (pc := 237) d_M_paint_237 (by decide) ?_
      refine x_isub (pc := 238) d_M_paint_238 ?_
      obtain ⟨c3, h⟩ := ite_some h
      refine x_iald (pc := 239) d_M_paint_239 (xm_a40 (sI 4 ((mI 4 s) - (2 : Int32)) s) R) (xin_vp c3) ?_
      exact x_wk (L' := [none, none, none, none, none, none, none, none]) ⟨Or.inl rfl, Or.inl rfl, Or.inl rfl, Or.inl rfl, Or.inl rfl, Or.inl rfl, Or.inl rfl, Or.inl rfl, trivial⟩ (w_M_paint_b240 hQ (mA 40 (sI 4 ((mI 4 s) - (2 : Int32)) s) ((mI 41 (sI 4 ((mI 4 s) - (2 : Int32)) s)) - (1 : Int32)).toNatClampNeg) l5 l3 (sI 4 ((mI 4 s) - (2 : Int32)) s) h)
    · rw [if_pos c2] at h
      refine x_aload_n (pc := 222) d_M_paint_222 rfl ?_
      refine x_getf (c := 1) (k := 41) (v := vI (mI 41 (sI 4 ((mI 4 s) - (2 : Int32)) s))) (pc := 223) d_M_paint_223 l_M_547 (xm_at (sI 4 ((mI 4 s) - (2 : Int32)) s) R) rfl ?_
      refine x_goto (tgt := 240) (pc := 226) d_M_paint_226 (by decide) ?_
      exact x_wk (L' := [none, none, none, none, none, none, none, none]) ⟨Or.inl rfl, Or.inl rfl, Or.inl rfl, Or.inl rfl, Or.inl rfl, Or.inl rfl, Or.inl rfl, Or.inl rfl, trivial⟩ (w_M_paint_b240 hQ (mI 41 (sI 4 ((mI 4 s) - (2 : Int32)) s)) l5 l3 (sI 4 ((mI 4 s) - (2 : Int32)) s) h)
  · rw [if_pos c1] at h
    refine x_bipush (v := (7 : Int32)) (pc := 199) d_M_paint_199 (by decide) ?_
    cases h
    exact x_iret (ty := .int) (pc := 201) d_M_paint_201 rfl (rfl) hQ
def f_M_paint_b172  (s : MT) : Option (Int32 × MT) := some ((4 : Int32), s)
theorem w_M_paint_b172 {sc : xSc} {d : Nat} {Q : xR → xH → Prop} {R : xH} {sZ : MT} {rZ : Int32}  (hQ : Q (.inl (some (vI rZ))) (mH sZ R)) (s : MT) (h : f_M_paint_b172  s = some (rZ, sZ)) : xW sc m_M_paint (d + 1) Q (mH s R) 172 [none, none, none, none, none, none, none, none] [] := by
  unfold f_M_paint_b172 at h
  refine x_iconst (v := (4 : Int32)) (pc := 172) d_M_paint_172 (by decide) ?_
  cases h
  exact x_iret (ty := .int) (pc := 173) d_M_paint_173 rfl (rfl) hQ
def f_M_paint_b138  (l1 : Int32) (l3 : UInt64) (l5 : UInt64) (s : MT) : Option (Int32 × MT) := (if 0 < (Op.cmpValue (FP.dcmp l3 (4696837146684686336 : UInt64)) .l) then f_M_paint_b172 s else (if (Op.cmpValue (FP.dcmp l3 (13920209183539462144 : UInt64)) .g) < 0 then f_M_paint_b172 s else (if 0 < (Op.cmpValue (FP.dcmp l5 (4696837146684686336 : UInt64)) .l) then f_M_paint_b172 s else (if 0 ≤ (Op.cmpValue (FP.dcmp l5 (13920209183539462144 : UInt64)) .g) then (if l1 = (66 : Int32) then (if (mI 41 s) = 0 then some ((13 : Int32), s) else f_M_paint_b190 l1 l3 l5 s) else f_M_paint_b190 l1 l3 l5 s) else f_M_paint_b172 s))))
theorem w_M_paint_b138 {sc : xSc} {d : Nat} {Q : xR → xH → Prop} {R : xH} {sZ : MT} {rZ : Int32}  (hQ : Q (.inl (some (vI rZ))) (mH sZ R)) (l1 : Int32) (l3 : UInt64) (l5 : UInt64) (s : MT) (h : f_M_paint_b138  l1 l3 l5 s = some (rZ, sZ)) : xW sc m_M_paint (d + 1) Q (mH s R) 138 [some (vA 373), some (vI l1), none, some (vD l3), none, some (vD l5), none, none] [] := by
  unfold f_M_paint_b138 at h
  refine x_dload_n (pc := 138) d_M_paint_138 rfl ?_
  refine x_ldc2d (v := (4696837146684686336 : UInt64)) (pc := 139) d_M_paint_139 c_M_550 ?_
  refine x_dcmp (pc := 142) d_M_paint_142 ?_
  refine x_if_gt (tgt := 172) (pc := 143) d_M_paint_143 (by decide) (fun c1 => ?_) (fun c1 => ?_)
  · rw [if_pos c1] at h
    exact x_wk (L' := [none, none, none, none, none, none, none, none]) ⟨Or.inl rfl, Or.inl rfl, Or.inl rfl, Or.inl rfl, Or.inl rfl, Or.inl rfl, Or.inl rfl, Or.inl rfl, trivial⟩ (w_M_paint_b172 hQ s h)
  · rw [if_neg c1] at h
    refine x_dload_n (pc := 146) d_M_paint_146 rfl ?_
    refine x_ldc2d (v := (13920209183539462144 : UInt64)) (pc := 147) d_M_paint_147 c_M_552 ?_
    refine x_dcmp (pc := 150) d_M_paint_150 ?_
    refine x_if_lt (tgt := 172) (pc := 151) d_M_paint_151 (by decide) (fun c2 => ?_) (fun c2 => ?_)
    · rw [if_pos c2] at h
      exact x_wk (L' := [none, none, none, none, none, none, none, none]) ⟨Or.inl rfl, Or.inl rfl, Or.inl rfl, Or.inl rfl, Or.inl rfl, Or.inl rfl, Or.inl rfl, Or.inl rfl, trivial⟩ (w_M_paint_b172 hQ s h)
    · rw [if_neg c2] at h
      refine x_dload (pc := 154) d_M_paint_154 rfl ?_
      refine x_ldc2d (v := (4696837146684686336 : UInt64)) (pc := 156) d_M_paint_156 c_M_550 ?_
      refine x_dcmp (pc := 159) d_M_paint_159 ?_
      refine x_if_gt (tgt := 172) (pc := 160) d_M_paint_160 (by decide) (fun c3 => ?_) (fun c3 => ?_)
      · rw [if_pos c3] at h
        exact x_wk (L' := [none, none, none, none, none, none, none, none]) ⟨Or.inl rfl, Or.inl rfl, Or.inl rfl, Or.inl rfl, Or.inl rfl, Or.inl rfl, Or.inl rfl, Or.inl rfl, trivial⟩ (w_M_paint_b172 hQ s h)
      · rw [if_neg c3] at h
        refine x_dload (pc := 163) d_M_paint_163 rfl ?_
        refine x_ldc2d (v := (13920209183539462144 : UInt64)) (pc := 165) d_M_paint_165 c_M_552 ?_
        refine x_dcmp (pc := 168) d_M_paint_168 ?_
        refine x_if_ge (tgt := 174) (pc := 169) d_M_paint_169 (by decide) (fun c4 => ?_) (fun c4 => ?_)
        · rw [if_pos c4] at h
          refine x_iload_n (pc := 174) d_M_paint_174 rfl ?_
          refine x_bipush (v := (66 : Int32)) (pc := 175) d_M_paint_175 (by decide) ?_
          refine x_icmp_ne (tgt := 190) (pc := 177) d_M_paint_177 (by decide) (fun c5 => ?_) (fun c5 => ?_)
          · rw [if_neg c5] at h
            exact w_M_paint_b190 hQ l1 l3 l5 s h
          · rw [if_pos c5] at h
            refine x_aload_n (pc := 180) d_M_paint_180 rfl ?_
            refine x_getf (c := 1) (k := 41) (v := vI (mI 41 s)) (pc := 181) d_M_paint_181 l_M_547 (xm_at s R) rfl ?_
            refine x_if_ne (tgt := 190) (pc := 184) d_M_paint_184 (by decide) (fun c6 => ?_) (fun c6 => ?_)
            · rw [if_neg c6] at h
              exact w_M_paint_b190 hQ l1 l3 l5 s h
            · rw [if_pos c6] at h
              refine x_bipush (v := (13 : Int32)) (pc := 187) d_M_paint_187 (by decide) ?_
              cases h
              exact x_iret (ty := .int) (pc := 189) d_M_paint_189 rfl (rfl) hQ
        · rw [if_neg c4] at h
          exact x_wk (L' := [none, none, none, none, none, none, none, none]) ⟨Or.inl rfl, Or.inl rfl, Or.inl rfl, Or.inl rfl, Or.inl rfl, Or.inl rfl, Or.inl rfl, Or.inl rfl, trivial⟩ (w_M_paint_b172 hQ s h)
def f_M_paint_b110  (s : MT) : Option (Int32 × MT) := some ((4 : Int32), s)
theorem w_M_paint_b110 {sc : xSc} {d : Nat} {Q : xR → xH → Prop} {R : xH} {sZ : MT} {rZ : Int32}  (hQ : Q (.inl (some (vI rZ))) (mH sZ R)) (s : MT) (h : f_M_paint_b110  s = some (rZ, sZ)) : xW sc m_M_paint (d + 1) Q (mH s R) 110 [none, none, none, none, none, none, none, none] [] := by
  unfold f_M_paint_b110 at h
  refine x_iconst (v := (4 : Int32)) (pc := 110) d_M_paint_110 (by decide) ?_
  cases h
  exact x_iret (ty := .int) (pc := 111) d_M_paint_111 rfl (rfl) hQ
def f_M_paint_b58  (l1 : Int32) (l3 : UInt64) (t0 : UInt64) (s : MT) : Option (Int32 × MT) := (if l1 = (63 : Int32) then (if (Op.cmpValue (FP.dcmp t0 FP.dconst0) .l) < 0 then f_M_paint_b110 s else (if (Op.cmpValue (FP.dcmp t0 FP.dconst1) .g) ≤ 0 then (if xn32 (FP.d2f t0) = true then some ((0 : Int32), sI 4 ((mI 4 (sG (FP.d2f t0) s)) - (1 : Int32)) (sG (FP.d2f t0) s)) else none) else f_M_paint_b110 s)) else (if l1 = (64 : Int32) then some ((0 : Int32), sI 41 (0 : Int32) s) else (if l1 = (65 : Int32) then f_M_paint_b138 l1 l3 t0 s else (if l1 = (66 : Int32) then f_M_paint_b138 l1 l3 t0 s else (if l1 = (67 : Int32) then (if (mI 41 s) = 0 then some ((13 : Int32), s) else (if (mI 41 s) = (30 : Int32) then some ((7 : Int32), s) else (if xin ((mI 41 s) - (1 : Int32)) 30 = true then (if xin (mA 40 s ((mI 41 s) - (1 : Int32)).toNatClampNeg) 30 = true then (if xin ((mI 41 s) - (1 : Int32)) 30 = true then (if xin (mA 40 s ((mI 41 s) - (1 : Int32)).toNatClampNeg) 30 = true then (if xin ((mI 41 s) - (1 : Int32)) 30 = true then (f_M_point s (mD 38 s (mA 40 s ((mI 41 s) - (1 : Int32)).toNatClampNeg).toNatClampNeg) (mD 39 s (mA 40 s ((mI 41 s) - (1 : Int32)).toNatClampNeg).toNatClampNeg) (mA 40 s ((mI 41 s) - (1 : Int32)).toNatClampNeg)).bind fun (v18, s17) => some (v18, s17) else none) else none) else none) else none) else none))) else f_M_paint_b317 mF l1 (0 : Int32) s)))))
theorem w_M_paint_b58 {sc : xSc} {d : Nat} {Q : xR → xH → Prop} {R : xH} {sZ : MT} {rZ : Int32}  (hQ : Q (.inl (some (vI rZ))) (mH sZ R)) (l1 : Int32) (l3 : UInt64) (t0 : UInt64) (s : MT) (h : f_M_paint_b58  l1 l3 t0 s = some (rZ, sZ)) : xW sc m_M_paint (d + 1) Q (mH s R) 58 [some (vA 373), some (vI l1), none, some (vD l3), none, none, none, none] [vD t0] := by
  unfold f_M_paint_b58 at h
  refine x_dstore (pc := 58) d_M_paint_58 (by decide) ?_
  show xW sc m_M_paint (d + 1) Q (mH s R) 60 [some (vA 373), some (vI l1), none, some (vD l3), none, some (vD t0), none, none] []
  refine x_iload_n (pc := 60) d_M_paint_60 rfl ?_
  by_cases c1 : l1 = (63 : Int32)
  · rw [if_pos c1] at h
    refine x_tableIn (off := 35) (tgt := 96) (pc := 61) d_M_paint_61 (by rw [c1]; decide) (by rw [c1]; decide) (by rw [c1]; decide) (by decide) ?_
    refine x_dload (pc := 96) d_M_paint_96 rfl ?_
    refine x_dconst0 (pc := 98) d_M_paint_98 ?_
    refine x_dcmp (pc := 99) d_M_paint_99 ?_
    refine x_if_lt (tgt := 110) (pc := 100) d_M_paint_100 (by decide) (fun c2 => ?_) (fun c2 => ?_)
    · rw [if_pos c2] at h
      exact x_wk (L' := [none, none, none, none, none, none, none, none]) ⟨Or.inl rfl, Or.inl rfl, Or.inl rfl, Or.inl rfl, Or.inl rfl, Or.inl rfl, Or.inl rfl, Or.inl rfl, trivial⟩ (w_M_paint_b110 hQ s h)
    · rw [if_neg c2] at h
      refine x_dload (pc := 103) d_M_paint_103 rfl ?_
      refine x_dconst1 (pc := 105) d_M_paint_105 ?_
      refine x_dcmp (pc := 106) d_M_paint_106 ?_
      refine x_if_le (tgt := 112) (pc := 107) d_M_paint_107 (by decide) (fun c3 => ?_) (fun c3 => ?_)
      · rw [if_pos c3] at h
        refine x_aload_n (pc := 112) d_M_paint_112 rfl ?_
        refine x_dload (pc := 113) d_M_paint_113 rfl ?_
        obtain ⟨c4, h⟩ := ite_some h
        refine x_d2f (pc := 115) d_M_paint_115 (xn32_v c4) ?_
        refine xm_p37 (pc := 116) d_M_paint_116 l_M_74 ?_
        refine x_aload_n (pc := 119) d_M_paint_119 rfl ?_
        refine x_dup (pc := 120) d_M_paint_120 rfl ?_
        refine x_getf (c := 1) (k := 4) (v := vI (mI 4 (sG (FP.d2f t0) s))) (pc := 121) d_M_paint_121 l_M_247 (xm_at (sG (FP.d2f t0) s) R) rfl ?_
        refine x_iconst (v := (1 : Int32)) (pc := 124) d_M_paint_124 (by decide) ?_
        refine x_isub (pc := 125) d_M_paint_125 ?_
        refine xm_p4 (pc := 126) d_M_paint_126 l_M_247 ?_
        refine x_iconst (v := (0 : Int32)) (pc := 129) d_M_paint_129 (by decide) ?_
        cases h
        exact x_iret (ty := .int) (pc := 130) d_M_paint_130 rfl (rfl) hQ
      · rw [if_neg c3] at h
        exact x_wk (L' := [none, none, none, none, none, none, none, none]) ⟨Or.inl rfl, Or.inl rfl, Or.inl rfl, Or.inl rfl, Or.inl rfl, Or.inl rfl, Or.inl rfl, Or.inl rfl, trivial⟩ (w_M_paint_b110 hQ s h)
  rw [if_neg c1] at h
  by_cases c5 : l1 = (64 : Int32)
  · rw [if_pos c5] at h
    refine x_tableIn (off := 70) (tgt := 131) (pc := 61) d_M_paint_61 (by rw [c5]; decide) (by rw [c5]; decide) (by rw [c5]; decide) (by decide) ?_
    refine x_aload_n (pc := 131) d_M_paint_131 rfl ?_
    refine x_iconst (v := (0 : Int32)) (pc := 132) d_M_paint_132 (by decide) ?_
    refine xm_p41 (pc := 133) d_M_paint_133 l_M_547 ?_
    refine x_iconst (v := (0 : Int32)) (pc := 136) d_M_paint_136 (by decide) ?_
    cases h
    exact x_iret (ty := .int) (pc := 137) d_M_paint_137 rfl (rfl) hQ
  rw [if_neg c5] at h
  by_cases c6 : l1 = (65 : Int32)
  · rw [if_pos c6] at h
    refine x_tableIn (off := 77) (tgt := 138) (pc := 61) d_M_paint_61 (by rw [c6]; decide) (by rw [c6]; decide) (by rw [c6]; decide) (by decide) ?_
    exact w_M_paint_b138 hQ l1 l3 t0 s h
  rw [if_neg c6] at h
  by_cases c7 : l1 = (66 : Int32)
  · rw [if_pos c7] at h
    refine x_tableIn (off := 77) (tgt := 138) (pc := 61) d_M_paint_61 (by rw [c7]; decide) (by rw [c7]; decide) (by rw [c7]; decide) (by decide) ?_
    exact w_M_paint_b138 hQ l1 l3 t0 s h
  rw [if_neg c7] at h
  by_cases c8 : l1 = (67 : Int32)
  · rw [if_pos c8] at h
    refine x_tableIn (off := 183) (tgt := 244) (pc := 61) d_M_paint_61 (by rw [c8]; decide) (by rw [c8]; decide) (by rw [c8]; decide) (by decide) ?_
    refine x_aload_n (pc := 244) d_M_paint_244 rfl ?_
    refine x_getf (c := 1) (k := 41) (v := vI (mI 41 s)) (pc := 245) d_M_paint_245 l_M_547 (xm_at s R) rfl ?_
    refine x_if_ne (tgt := 254) (pc := 248) d_M_paint_248 (by decide) (fun c9 => ?_) (fun c9 => ?_)
    · rw [if_neg c9] at h
      refine x_aload_n (pc := 254) d_M_paint_254 rfl ?_
      refine x_getf (c := 1) (k := 41) (v := vI (mI 41 s)) (pc := 255) d_M_paint_255 l_M_547 (xm_at s R) rfl ?_
      refine x_bipush (v := (30 : Int32)) (pc := 258) d_M_paint_258 (by decide) ?_
      refine x_icmp_ne (tgt := 266) (pc := 260) d_M_paint_260 (by decide) (fun c10 => ?_) (fun c10 => ?_)
      · rw [if_neg c10] at h
        refine x_aload_n (pc := 266) d_M_paint_266 rfl ?_
        refine x_aload_n (pc := 267) d_M_paint_267 rfl ?_
        refine x_getf (c := 1) (k := 38) (v := vA 393) (pc := 268) d_M_paint_268 l_M_78 (xm_at s R) rfl ?_
        refine x_aload_n (pc := 271) d_M_paint_271 rfl ?_
        refine x_getf (c := 1) (k := 40) (v := vA 395) (pc := 272) d_M_paint_272 l_M_84 (xm_at s R) rfl ?_
        refine x_aload_n (pc := 275) d_M_paint_275 rfl ?_
        refine x_getf (c := 1) (k := 41) (v := vI (mI 41 s)) (pc := 276) d_M_paint_276 l_M_547 (xm_at s R) rfl ?_
        refine x_iconst (v := (1 : Int32)) (pc := 279) d_M_paint_279 (by decide) ?_
        refine x_isub (pc := 280) d_M_paint_280 ?_
        obtain ⟨c11, h⟩ := ite_some h
        refine x_iald (pc := 281) d_M_paint_281 (xm_a40 s R) (xin_vp c11) ?_
        obtain ⟨c12, h⟩ := ite_some h
        refine x_dald (pc := 282) d_M_paint_282 (xm_a38 s R) (xin_vp c12) ?_
        refine x_aload_n (pc := 283) d_M_paint_283 rfl ?_
        refine x_getf (c := 1) (k := 39) (v := vA 394) (pc := 284) d_M_paint_284 l_M_81 (xm_at s R) rfl ?_
        refine x_aload_n (pc := 287) d_M_paint_287 rfl ?_
        refine x_getf (c := 1) (k := 40) (v := vA 395) (pc := 288) d_M_paint_288 l_M_84 (xm_at s R) rfl ?_
        refine x_aload_n (pc := 291) d_M_paint_291 rfl ?_
        refine x_getf (c := 1) (k := 41) (v := vI (mI 41 s)) (pc := 292) d_M_paint_292 l_M_547 (xm_at s R) rfl ?_
        refine x_iconst (v := (1 : Int32)) (pc := 295) d_M_paint_295 (by decide) ?_
        refine x_isub (pc := 296) d_M_paint_296 ?_
        obtain ⟨c13, h⟩ := ite_some h
        refine x_iald (pc := 297) d_M_paint_297 (xm_a40 s R) (xin_vp c13) ?_
        obtain ⟨c14, h⟩ := ite_some h
        refine x_dald (pc := 298) d_M_paint_298 (xm_a39 s R) (xin_vp c14) ?_
        refine x_aload_n (pc := 299) d_M_paint_299 rfl ?_
        refine x_getf (c := 1) (k := 40) (v := vA 395) (pc := 300) d_M_paint_300 l_M_84 (xm_at s R) rfl ?_
        refine x_aload_n (pc := 303) d_M_paint_303 rfl ?_
        refine x_getf (c := 1) (k := 41) (v := vI (mI 41 s)) (pc := 304) d_M_paint_304 l_M_547 (xm_at s R) rfl ?_
        refine x_iconst (v := (1 : Int32)) (pc := 307) d_M_paint_307 (by decide) ?_
        refine x_isub (pc := 308) d_M_paint_308 ?_
        obtain ⟨c15, h⟩ := ite_some h
        refine x_iald (pc := 309) d_M_paint_309 (xm_a40 s R) (xin_vp c15) ?_
        obtain ⟨⟨v18, s17⟩, e16, h⟩ := Option.bind_eq_some_iff.mp h
        dsimp only at h
        refine x_invv (c := 1) (av := [vD (mD 38 s (mA 40 s ((mI 41 s) - (1 : Int32)).toNatClampNeg).toNatClampNeg), vD (mD 39 s (mA 40 s ((mI 41 s) - (1 : Int32)).toNatClampNeg).toNatClampNeg), vI (mA 40 s ((mI 41 s) - (1 : Int32)).toNatClampNeg)]) (st := []) (pc := 310) d_M_paint_310 cv_M_554 y_M_point (xm_at s R) rfl (Nat.le_of_ble_eq_true rfl) (Nat.le_of_ble_eq_true rfl) (w_M_point (d := d + 0) (Q := fun r h' => r = .inl (some (vI v18)) ∧ h' = mH s17 R) (R := R) ⟨rfl, rfl⟩ s (mD 38 s (mA 40 s ((mI 41 s) - (1 : Int32)).toNatClampNeg).toNatClampNeg) (mD 39 s (mA 40 s ((mI 41 s) - (1 : Int32)).toNatClampNeg).toNatClampNeg) (mA 40 s ((mI 41 s) - (1 : Int32)).toNatClampNeg) e16) (fun v h' z => ?_) (fun a h' z => nomatch z.1)
        obtain ⟨z1, z2⟩ := z
        subst z2
        cases z1
        show xW sc m_M_paint (d + 1) Q (mH s17 R) 313 [some (vA 373), some (vI l1), none, some (vD l3), none, some (vD t0), none, none] [vI v18]
        cases h
        exact x_iret (ty := .int) (pc := 313) d_M_paint_313 rfl (rfl) hQ
      · rw [if_pos c10] at h
        refine x_bipush (v := (7 : Int32)) (pc := 263) d_M_paint_263 (by decide) ?_
        cases h
        exact x_iret (ty := .int) (pc := 265) d_M_paint_265 rfl (rfl) hQ
    · rw [if_pos c9] at h
      refine x_bipush (v := (13 : Int32)) (pc := 251) d_M_paint_251 (by decide) ?_
      cases h
      exact x_iret (ty := .int) (pc := 253) d_M_paint_253 rfl (rfl) hQ
  rw [if_neg c8] at h
  refine x_tableOut (tgt := 314) (pc := 61) d_M_paint_61 (by have q0 := lv_neT c1 (a := 63) (by decide); have q1 := lv_neT c5 (a := 64) (by decide); have q2 := lv_neT c6 (a := 65) (by decide); have q3 := lv_neT c7 (a := 66) (by decide); have q4 := lv_neT c8 (a := 67) (by decide); omega) (by decide) ?_
  refine x_iconst (v := (0 : Int32)) (pc := 314) d_M_paint_314 (by decide) ?_
  refine x_istore (pc := 315) d_M_paint_315 (by decide) ?_
  show xW sc m_M_paint (d + 1) Q (mH s R) 317 [some (vA 373), some (vI l1), none, some (vD l3), none, some (vD t0), none, some (vI (0 : Int32))] []
  exact x_wk (L' := [some (vA 373), some (vI l1), none, none, none, none, none, some (vI (0 : Int32))]) ⟨Or.inr rfl, Or.inr rfl, Or.inl rfl, Or.inl rfl, Or.inl rfl, Or.inl rfl, Or.inl rfl, Or.inr rfl, trivial⟩ (w_M_paint_b317 hQ mF l1 (0 : Int32) s h)
def f_M_paint_b57  (l1 : Int32) (l3 : UInt64) (s : MT) : Option (Int32 × MT) := f_M_paint_b58 l1 l3 FP.dconst0 s
theorem w_M_paint_b57 {sc : xSc} {d : Nat} {Q : xR → xH → Prop} {R : xH} {sZ : MT} {rZ : Int32}  (hQ : Q (.inl (some (vI rZ))) (mH sZ R)) (l1 : Int32) (l3 : UInt64) (s : MT) (h : f_M_paint_b57  l1 l3 s = some (rZ, sZ)) : xW sc m_M_paint (d + 1) Q (mH s R) 57 [some (vA 373), some (vI l1), none, some (vD l3), none, none, none, none] [] := by
  unfold f_M_paint_b57 at h
  refine x_dconst0 (pc := 57) d_M_paint_57 ?_
  exact w_M_paint_b58 hQ l1 l3 FP.dconst0 s h
def f_M_paint_b30  (l1 : Int32) (l2 : Int32) (t0 : UInt64) (s : MT) : Option (Int32 × MT) := (if l1 ≤ (62 : Int32) then f_M_paint_b57 l1 t0 s else (if (67 : Int32) ≤ l1 then f_M_paint_b57 l1 t0 s else (if l1 = (64 : Int32) then f_M_paint_b57 l1 t0 s else (f_M_numberAt s l2).bind fun (v6, s5) => f_M_paint_b58 l1 t0 v6 s5)))
theorem w_M_paint_b30 {sc : xSc} {d : Nat} {Q : xR → xH → Prop} {R : xH} {sZ : MT} {rZ : Int32}  (hQ : Q (.inl (some (vI rZ))) (mH sZ R)) (l1 : Int32) (l2 : Int32) (t0 : UInt64) (s : MT) (h : f_M_paint_b30  l1 l2 t0 s = some (rZ, sZ)) : xW sc m_M_paint (d + 1) Q (mH s R) 30 [some (vA 373), some (vI l1), some (vI l2), none, none, none, none, none] [vD t0] := by
  unfold f_M_paint_b30 at h
  refine x_dstore_n (pc := 30) d_M_paint_30 (by decide) ?_
  show xW sc m_M_paint (d + 1) Q (mH s R) 31 [some (vA 373), some (vI l1), some (vI l2), some (vD t0), none, none, none, none] []
  refine x_iload_n (pc := 31) d_M_paint_31 rfl ?_
  refine x_bipush (v := (62 : Int32)) (pc := 32) d_M_paint_32 (by decide) ?_
  refine x_icmp_le (tgt := 57) (pc := 34) d_M_paint_34 (by decide) (fun c1 => ?_) (fun c1 => ?_)
  · rw [if_pos c1] at h
    exact x_wk (L' := [some (vA 373), some (vI l1), none, some (vD t0), none, none, none, none]) ⟨Or.inr rfl, Or.inr rfl, Or.inl rfl, Or.inr rfl, Or.inl rfl, Or.inl rfl, Or.inl rfl, Or.inl rfl, trivial⟩ (w_M_paint_b57 hQ l1 t0 s h)
  · rw [if_neg c1] at h
    refine x_iload_n (pc := 37) d_M_paint_37 rfl ?_
    refine x_bipush (v := (67 : Int32)) (pc := 38) d_M_paint_38 (by decide) ?_
    refine x_icmp_ge (tgt := 57) (pc := 40) d_M_paint_40 (by decide) (fun c2 => ?_) (fun c2 => ?_)
    · rw [if_pos c2] at h
      exact x_wk (L' := [some (vA 373), some (vI l1), none, some (vD t0), none, none, none, none]) ⟨Or.inr rfl, Or.inr rfl, Or.inl rfl, Or.inr rfl, Or.inl rfl, Or.inl rfl, Or.inl rfl, Or.inl rfl, trivial⟩ (w_M_paint_b57 hQ l1 t0 s h)
    · rw [if_neg c2] at h
      refine x_iload_n (pc := 43) d_M_paint_43 rfl ?_
      refine x_bipush (v := (64 : Int32)) (pc := 44) d_M_paint_44 (by decide) ?_
      refine x_icmp_eq (tgt := 57) (pc := 46) d_M_paint_46 (by decide) (fun c3 => ?_) (fun c3 => ?_)
      · rw [if_pos c3] at h
        exact x_wk (L' := [some (vA 373), some (vI l1), none, some (vD t0), none, none, none, none]) ⟨Or.inr rfl, Or.inr rfl, Or.inl rfl, Or.inr rfl, Or.inl rfl, Or.inl rfl, Or.inl rfl, Or.inl rfl, trivial⟩ (w_M_paint_b57 hQ l1 t0 s h)
      · rw [if_neg c3] at h
        refine x_aload_n (pc := 49) d_M_paint_49 rfl ?_
        refine x_iload_n (pc := 50) d_M_paint_50 rfl ?_
        obtain ⟨⟨v6, s5⟩, e4, h⟩ := Option.bind_eq_some_iff.mp h
        dsimp only at h
        refine x_invv (c := 1) (av := [vI l2]) (st := []) (pc := 51) d_M_paint_51 cv_M_473 y_M_numberAt (xm_at s R) rfl (Nat.le_of_ble_eq_true rfl) (Nat.le_of_ble_eq_true rfl) (w_M_numberAt (d := d + 0) (Q := fun r h' => r = .inl (some (vD v6)) ∧ h' = mH s5 R) (R := R) ⟨rfl, rfl⟩ s l2 e4) (fun v h' z => ?_) (fun a h' z => nomatch z.1)
        obtain ⟨z1, z2⟩ := z
        subst z2
        cases z1
        show xW sc m_M_paint (d + 1) Q (mH s5 R) 54 [some (vA 373), some (vI l1), some (vI l2), some (vD t0), none, none, none, none] [vD v6]
        refine x_goto (tgt := 58) (pc := 54) d_M_paint_54 (by decide) ?_
        exact x_wk (L' := [some (vA 373), some (vI l1), none, some (vD t0), none, none, none, none]) ⟨Or.inr rfl, Or.inr rfl, Or.inl rfl, Or.inr rfl, Or.inl rfl, Or.inl rfl, Or.inl rfl, Or.inl rfl, trivial⟩ (w_M_paint_b58 hQ l1 t0 v6 s5 h)
def f_M_paint_b19  (l1 : Int32) (l2 : Int32) (s : MT) : Option (Int32 × MT) := (f_M_numberAt s (l2 - (1 : Int32))).bind fun (v3, s2) => f_M_paint_b30 l1 l2 v3 s2
theorem w_M_paint_b19 {sc : xSc} {d : Nat} {Q : xR → xH → Prop} {R : xH} {sZ : MT} {rZ : Int32}  (hQ : Q (.inl (some (vI rZ))) (mH sZ R)) (l1 : Int32) (l2 : Int32) (s : MT) (h : f_M_paint_b19  l1 l2 s = some (rZ, sZ)) : xW sc m_M_paint (d + 1) Q (mH s R) 19 [some (vA 373), some (vI l1), some (vI l2), none, none, none, none, none] [] := by
  unfold f_M_paint_b19 at h
  refine x_aload_n (pc := 19) d_M_paint_19 rfl ?_
  refine x_iload_n (pc := 20) d_M_paint_20 rfl ?_
  refine x_iconst (v := (1 : Int32)) (pc := 21) d_M_paint_21 (by decide) ?_
  refine x_isub (pc := 22) d_M_paint_22 ?_
  obtain ⟨⟨v3, s2⟩, e1, h⟩ := Option.bind_eq_some_iff.mp h
  dsimp only at h
  refine x_invv (c := 1) (av := [vI (l2 - (1 : Int32))]) (st := []) (pc := 23) d_M_paint_23 cv_M_473 y_M_numberAt (xm_at s R) rfl (Nat.le_of_ble_eq_true rfl) (Nat.le_of_ble_eq_true rfl) (w_M_numberAt (d := d + 0) (Q := fun r h' => r = .inl (some (vD v3)) ∧ h' = mH s2 R) (R := R) ⟨rfl, rfl⟩ s (l2 - (1 : Int32)) e1) (fun v h' z => ?_) (fun a h' z => nomatch z.1)
  obtain ⟨z1, z2⟩ := z
  subst z2
  cases z1
  show xW sc m_M_paint (d + 1) Q (mH s2 R) 26 [some (vA 373), some (vI l1), some (vI l2), none, none, none, none, none] [vD v3]
  refine x_goto (tgt := 30) (pc := 26) d_M_paint_26 (by decide) ?_
  exact w_M_paint_b30 hQ l1 l2 v3 s2 h
def f_M_paint (s : MT) (a1 : Int32) : Option (Int32 × MT) := (if a1 = (65 : Int32) then f_M_paint_b19 a1 ((mI 4 s) - (1 : Int32)) s else (if a1 = (66 : Int32) then f_M_paint_b19 a1 ((mI 4 s) - (1 : Int32)) s else f_M_paint_b30 a1 ((mI 4 s) - (1 : Int32)) FP.dconst0 s))
theorem w_M_paint {sc : xSc} {d : Nat} {Q : xR → xH → Prop} {R : xH} {sZ : MT} {rZ : Int32} (hQ : Q (.inl (some (vI rZ))) (mH sZ R)) (s : MT) (a1 : Int32) (h : f_M_paint s a1 = some (rZ, sZ)) : xW sc m_M_paint (d + 1) Q (mH s R) 0 (xent [vA 373, vI a1] m_M_paint.2.2.1) [] := by
  show xW sc m_M_paint (d + 1) Q (mH s R) 0 [some (vA 373), some (vI a1), none, none, none, none, none, none] []
  unfold f_M_paint at h
  refine x_aload_n (pc := 0) d_M_paint_0 rfl ?_
  refine x_getf (c := 1) (k := 4) (v := vI (mI 4 s)) (pc := 1) d_M_paint_1 l_M_247 (xm_at s R) rfl ?_
  refine x_iconst (v := (1 : Int32)) (pc := 4) d_M_paint_4 (by decide) ?_
  refine x_isub (pc := 5) d_M_paint_5 ?_
  refine x_istore_n (pc := 6) d_M_paint_6 (by decide) ?_
  show xW sc m_M_paint (d + 1) Q (mH s R) 7 [some (vA 373), some (vI a1), some (vI ((mI 4 s) - (1 : Int32))), none, none, none, none, none] []
  refine x_iload_n (pc := 7) d_M_paint_7 rfl ?_
  refine x_bipush (v := (65 : Int32)) (pc := 8) d_M_paint_8 (by decide) ?_
  refine x_icmp_eq (tgt := 19) (pc := 10) d_M_paint_10 (by decide) (fun c1 => ?_) (fun c1 => ?_)
  · rw [if_pos c1] at h
    exact w_M_paint_b19 hQ a1 ((mI 4 s) - (1 : Int32)) s h
  · rw [if_neg c1] at h
    refine x_iload_n (pc := 13) d_M_paint_13 rfl ?_
    refine x_bipush (v := (66 : Int32)) (pc := 14) d_M_paint_14 (by decide) ?_
    refine x_icmp_ne (tgt := 29) (pc := 16) d_M_paint_16 (by decide) (fun c2 => ?_) (fun c2 => ?_)
    · rw [if_neg c2] at h
      refine x_dconst0 (pc := 29) d_M_paint_29 ?_
      exact w_M_paint_b30 hQ a1 ((mI 4 s) - (1 : Int32)) FP.dconst0 s h
    · rw [if_pos c2] at h
      exact w_M_paint_b19 hQ a1 ((mI 4 s) - (1 : Int32)) s h
def f_M_push (s : MT) (a1 : Int32) (a2 : Int64) : Option (Int32 × MT) := (if (mI 4 s) = (40 : Int32) then some ((2 : Int32), s) else (f_M_set s (mI 4 s) a1 a2).bind fun s3 => some ((0 : Int32), sI 4 ((mI 4 s3) + (1 : Int32)) s3))
theorem w_M_push {sc : xSc} {d : Nat} {Q : xR → xH → Prop} {R : xH} {sZ : MT} {rZ : Int32} (hQ : Q (.inl (some (vI rZ))) (mH sZ R)) (s : MT) (a1 : Int32) (a2 : Int64) (h : f_M_push s a1 a2 = some (rZ, sZ)) : xW sc m_M_push (d + 1) Q (mH s R) 0 (xent [vA 373, vI a1, vL a2] m_M_push.2.2.1) [] := by
  show xW sc m_M_push (d + 1) Q (mH s R) 0 [some (vA 373), some (vI a1), some (vL a2), none] []
  unfold f_M_push at h
  refine x_aload_n (pc := 0) d_M_push_0 rfl ?_
  refine x_getf (c := 1) (k := 4) (v := vI (mI 4 s)) (pc := 1) d_M_push_1 l_M_247 (xm_at s R) rfl ?_
  refine x_bipush (v := (40 : Int32)) (pc := 4) d_M_push_4 (by decide) ?_
  refine x_icmp_ne (tgt := 11) (pc := 6) d_M_push_6 (by decide) (fun c1 => ?_) (fun c1 => ?_)
  · rw [if_neg c1] at h
    refine x_aload_n (pc := 11) d_M_push_11 rfl ?_
    refine x_aload_n (pc := 12) d_M_push_12 rfl ?_
    refine x_getf (c := 1) (k := 4) (v := vI (mI 4 s)) (pc := 13) d_M_push_13 l_M_247 (xm_at s R) rfl ?_
    refine x_iload_n (pc := 16) d_M_push_16 rfl ?_
    refine x_lload_n (pc := 17) d_M_push_17 rfl ?_
    obtain ⟨s3, e2, h⟩ := Option.bind_eq_some_iff.mp h
    refine x_invv (c := 1) (av := [vI (mI 4 s), vI a1, vL a2]) (st := []) (pc := 18) d_M_push_18 cv_M_250 y_M_set (xm_at s R) rfl (Nat.le_of_ble_eq_true rfl) (Nat.le_of_ble_eq_true rfl) (w_M_set (d := d + 0) (Q := fun r h' => r = .inl none ∧ h' = mH s3 R) (R := R) ⟨rfl, rfl⟩ s (mI 4 s) a1 a2 e2) (fun v h' z => ?_) (fun a h' z => nomatch z.1)
    obtain ⟨z1, z2⟩ := z
    subst z2
    cases z1
    show xW sc m_M_push (d + 1) Q (mH s3 R) 21 [some (vA 373), some (vI a1), some (vL a2), none] []
    refine x_aload_n (pc := 21) d_M_push_21 rfl ?_
    refine x_dup (pc := 22) d_M_push_22 rfl ?_
    refine x_getf (c := 1) (k := 4) (v := vI (mI 4 s3)) (pc := 23) d_M_push_23 l_M_247 (xm_at s3 R) rfl ?_
    refine x_iconst (v := (1 : Int32)) (pc := 26) d_M_push_26 (by decide) ?_
    refine x_iadd (pc := 27) d_M_push_27 ?_
    refine xm_p4 (pc := 28) d_M_push_28 l_M_247 ?_
    refine x_iconst (v := (0 : Int32)) (pc := 31) d_M_push_31 (by decide) ?_
    cases h
    exact x_iret (ty := .int) (pc := 32) d_M_push_32 rfl (rfl) hQ
  · rw [if_pos c1] at h
    refine x_iconst (v := (2 : Int32)) (pc := 9) d_M_push_9 (by decide) ?_
    cases h
    exact x_iret (ty := .int) (pc := 10) d_M_push_10 rfl (rfl) hQ
def f_M_pushValue (s : MT) (a1 : Int32) : Option (Int32 × MT) := (if (mI 4 s) = (40 : Int32) then some ((2 : Int32), s) else (f_M_move s (mI 4 s) a1).bind fun s3 => some ((0 : Int32), sI 4 ((mI 4 s3) + (1 : Int32)) s3))
theorem w_M_pushValue {sc : xSc} {d : Nat} {Q : xR → xH → Prop} {R : xH} {sZ : MT} {rZ : Int32} (hQ : Q (.inl (some (vI rZ))) (mH sZ R)) (s : MT) (a1 : Int32) (h : f_M_pushValue s a1 = some (rZ, sZ)) : xW sc m_M_pushValue (d + 1) Q (mH s R) 0 (xent [vA 373, vI a1] m_M_pushValue.2.2.1) [] := by
  show xW sc m_M_pushValue (d + 1) Q (mH s R) 0 [some (vA 373), some (vI a1)] []
  unfold f_M_pushValue at h
  refine x_aload_n (pc := 0) d_M_pushValue_0 rfl ?_
  refine x_getf (c := 1) (k := 4) (v := vI (mI 4 s)) (pc := 1) d_M_pushValue_1 l_M_247 (xm_at s R) rfl ?_
  refine x_bipush (v := (40 : Int32)) (pc := 4) d_M_pushValue_4 (by decide) ?_
  refine x_icmp_ne (tgt := 11) (pc := 6) d_M_pushValue_6 (by decide) (fun c1 => ?_) (fun c1 => ?_)
  · rw [if_neg c1] at h
    refine x_aload_n (pc := 11) d_M_pushValue_11 rfl ?_
    refine x_aload_n (pc := 12) d_M_pushValue_12 rfl ?_
    refine x_getf (c := 1) (k := 4) (v := vI (mI 4 s)) (pc := 13) d_M_pushValue_13 l_M_247 (xm_at s R) rfl ?_
    refine x_iload_n (pc := 16) d_M_pushValue_16 rfl ?_
    obtain ⟨s3, e2, h⟩ := Option.bind_eq_some_iff.mp h
    refine x_invv (c := 1) (av := [vI (mI 4 s), vI a1]) (st := []) (pc := 17) d_M_pushValue_17 cv_M_254 y_M_move (xm_at s R) rfl (Nat.le_of_ble_eq_true rfl) (Nat.le_of_ble_eq_true rfl) (w_M_move (d := d + 0) (Q := fun r h' => r = .inl none ∧ h' = mH s3 R) (R := R) ⟨rfl, rfl⟩ s (mI 4 s) a1 e2) (fun v h' z => ?_) (fun a h' z => nomatch z.1)
    obtain ⟨z1, z2⟩ := z
    subst z2
    cases z1
    show xW sc m_M_pushValue (d + 1) Q (mH s3 R) 20 [some (vA 373), some (vI a1)] []
    refine x_aload_n (pc := 20) d_M_pushValue_20 rfl ?_
    refine x_dup (pc := 21) d_M_pushValue_21 rfl ?_
    refine x_getf (c := 1) (k := 4) (v := vI (mI 4 s3)) (pc := 22) d_M_pushValue_22 l_M_247 (xm_at s3 R) rfl ?_
    refine x_iconst (v := (1 : Int32)) (pc := 25) d_M_pushValue_25 (by decide) ?_
    refine x_iadd (pc := 26) d_M_pushValue_26 ?_
    refine xm_p4 (pc := 27) d_M_pushValue_27 l_M_247 ?_
    refine x_iconst (v := (0 : Int32)) (pc := 30) d_M_pushValue_30 (by decide) ?_
    cases h
    exact x_iret (ty := .int) (pc := 31) d_M_pushValue_31 rfl (rfl) hQ
  · rw [if_pos c1] at h
    refine x_iconst (v := (2 : Int32)) (pc := 9) d_M_pushValue_9 (by decide) ?_
    cases h
    exact x_iret (ty := .int) (pc := 10) d_M_pushValue_10 rfl (rfl) hQ
def f_M_putCell_b32  (s : MT) : Option (Int32 × MT) := some ((4 : Int32), s)
theorem w_M_putCell_b32 {sc : xSc} {d : Nat} {Q : xR → xH → Prop} {R : xH} {sZ : MT} {rZ : Int32}  (hQ : Q (.inl (some (vI rZ))) (mH sZ R)) (s : MT) (h : f_M_putCell_b32  s = some (rZ, sZ)) : xW sc m_M_putCell (d + 1) Q (mH s R) 32 [none, none, none, none] [] := by
  unfold f_M_putCell_b32 at h
  refine x_iconst (v := (4 : Int32)) (pc := 32) d_M_putCell_32 (by decide) ?_
  cases h
  exact x_iret (ty := .int) (pc := 33) d_M_putCell_33 rfl (rfl) hQ
def f_M_putCell (s : MT) (a1 : Int32) : Option (Int32 × MT) := (if xin (a1 - (1 : Int32)) 1300 = true then (if (lg_cmp (mL 2 s (a1 - (1 : Int32)).toNatClampNeg) (0 : Int64)) < 0 then f_M_putCell_b32 s else (if xin (a1 - (2 : Int32)) 1300 = true then (f_M_count (mL 2 s (a1 - (2 : Int32)).toNatClampNeg)).bind fun v4 => (if (lg_cmp (mL 2 s (a1 - (1 : Int32)).toNatClampNeg) v4.toInt64) < 0 then (if xin (a1 - (2 : Int32)) 1300 = true then (f_M_first (mL 2 s (a1 - (2 : Int32)).toNatClampNeg)).bind fun v8 => (f_M_move s (((50 : Int32) + v8) + ((mL 2 s (a1 - (1 : Int32)).toNatClampNeg).toInt32)) a1).bind fun s11 => some ((0 : Int32), sI 4 ((mI 4 s11) - (3 : Int32)) s11) else none) else f_M_putCell_b32 s) else none)) else none)
theorem w_M_putCell {sc : xSc} {d : Nat} {Q : xR → xH → Prop} {R : xH} {sZ : MT} {rZ : Int32} (hQ : Q (.inl (some (vI rZ))) (mH sZ R)) (s : MT) (a1 : Int32) (h : f_M_putCell s a1 = some (rZ, sZ)) : xW sc m_M_putCell (d + 1) Q (mH s R) 0 (xent [vA 373, vI a1] m_M_putCell.2.2.1) [] := by
  show xW sc m_M_putCell (d + 1) Q (mH s R) 0 [some (vA 373), some (vI a1), none, none] []
  unfold f_M_putCell at h
  refine x_aload_n (pc := 0) d_M_putCell_0 rfl ?_
  refine x_getf (c := 1) (k := 2) (v := vA 375) (pc := 1) d_M_putCell_1 l_M_13 (xm_at s R) rfl ?_
  refine x_iload_n (pc := 4) d_M_putCell_4 rfl ?_
  refine x_iconst (v := (1 : Int32)) (pc := 5) d_M_putCell_5 (by decide) ?_
  refine x_isub (pc := 6) d_M_putCell_6 ?_
  obtain ⟨c1, h⟩ := ite_some h
  refine x_lald (pc := 7) d_M_putCell_7 (xm_a2 s R) (xin_vp c1) ?_
  refine x_lstore_n (pc := 8) d_M_putCell_8 (by decide) ?_
  show xW sc m_M_putCell (d + 1) Q (mH s R) 9 [some (vA 373), some (vI a1), some (vL (mL 2 s (a1 - (1 : Int32)).toNatClampNeg)), none] []
  refine x_lload_n (pc := 9) d_M_putCell_9 rfl ?_
  refine x_lconst (v := (0 : Int64)) (pc := 10) d_M_putCell_10 (by decide) ?_
  refine x_lcmp (pc := 11) d_M_putCell_11 ?_
  refine x_if_lt (tgt := 32) (pc := 12) d_M_putCell_12 (by decide) (fun c2 => ?_) (fun c2 => ?_)
  · rw [if_pos c2] at h
    exact x_wk (L' := [none, none, none, none]) ⟨Or.inl rfl, Or.inl rfl, Or.inl rfl, Or.inl rfl, trivial⟩ (w_M_putCell_b32 hQ s h)
  · rw [if_neg c2] at h
    refine x_lload_n (pc := 15) d_M_putCell_15 rfl ?_
    refine x_aload_n (pc := 16) d_M_putCell_16 rfl ?_
    refine x_getf (c := 1) (k := 2) (v := vA 375) (pc := 17) d_M_putCell_17 l_M_13 (xm_at s R) rfl ?_
    refine x_iload_n (pc := 20) d_M_putCell_20 rfl ?_
    refine x_iconst (v := (2 : Int32)) (pc := 21) d_M_putCell_21 (by decide) ?_
    refine x_isub (pc := 22) d_M_putCell_22 ?_
    obtain ⟨c3, h⟩ := ite_some h
    refine x_lald (pc := 23) d_M_putCell_23 (xm_a2 s R) (xin_vp c3) ?_
    obtain ⟨v4, e5, h⟩ := Option.bind_eq_some_iff.mp h
    refine x_invs (av := [vL (mL 2 s (a1 - (2 : Int32)).toNatClampNeg)]) (st := [vL (mL 2 s (a1 - (1 : Int32)).toNatClampNeg)]) (pc := 24) d_M_putCell_24 cs_M_391 y_M_count rfl (Nat.le_of_ble_eq_true rfl) (Nat.le_of_ble_eq_true rfl) (w_M_count (d := d + 0) (Q := fun r h' => r = .inl (some (vI v4)) ∧ h' = mH s R) (hh := mH s R) ⟨rfl, rfl⟩ (mL 2 s (a1 - (2 : Int32)).toNatClampNeg) e5) (fun v h' z => ?_) (fun a h' z => nomatch z.1)
    obtain ⟨z1, z2⟩ := z
    subst z2
    cases z1
    show xW sc m_M_putCell (d + 1) Q (mH s R) 27 [some (vA 373), some (vI a1), some (vL (mL 2 s (a1 - (1 : Int32)).toNatClampNeg)), none] [vI v4, vL (mL 2 s (a1 - (1 : Int32)).toNatClampNeg)]
    refine x_i2l (pc := 27) d_M_putCell_27 ?_
    refine x_lcmp (pc := 28) d_M_putCell_28 ?_
    refine x_if_lt (tgt := 34) (pc := 29) d_M_putCell_29 (by decide) (fun c6 => ?_) (fun c6 => ?_)
    · rw [if_pos c6] at h
      refine x_aload_n (pc := 34) d_M_putCell_34 rfl ?_
      refine x_bipush (v := (50 : Int32)) (pc := 35) d_M_putCell_35 (by decide) ?_
      refine x_aload_n (pc := 37) d_M_putCell_37 rfl ?_
      refine x_getf (c := 1) (k := 2) (v := vA 375) (pc := 38) d_M_putCell_38 l_M_13 (xm_at s R) rfl ?_
      refine x_iload_n (pc := 41) d_M_putCell_41 rfl ?_
      refine x_iconst (v := (2 : Int32)) (pc := 42) d_M_putCell_42 (by decide) ?_
      refine x_isub (pc := 43) d_M_putCell_43 ?_
      obtain ⟨c7, h⟩ := ite_some h
      refine x_lald (pc := 44) d_M_putCell_44 (xm_a2 s R) (xin_vp c7) ?_
      obtain ⟨v8, e9, h⟩ := Option.bind_eq_some_iff.mp h
      refine x_invs (av := [vL (mL 2 s (a1 - (2 : Int32)).toNatClampNeg)]) (st := [vI (50 : Int32), vA 373]) (pc := 45) d_M_putCell_45 cs_M_394 y_M_first rfl (Nat.le_of_ble_eq_true rfl) (Nat.le_of_ble_eq_true rfl) (w_M_first (d := d + 0) (Q := fun r h' => r = .inl (some (vI v8)) ∧ h' = mH s R) (hh := mH s R) ⟨rfl, rfl⟩ (mL 2 s (a1 - (2 : Int32)).toNatClampNeg) e9) (fun v h' z => ?_) (fun a h' z => nomatch z.1)
      obtain ⟨z1, z2⟩ := z
      subst z2
      cases z1
      show xW sc m_M_putCell (d + 1) Q (mH s R) 48 [some (vA 373), some (vI a1), some (vL (mL 2 s (a1 - (1 : Int32)).toNatClampNeg)), none] [vI v8, vI (50 : Int32), vA 373]
      refine x_iadd (pc := 48) d_M_putCell_48 ?_
      refine x_lload_n (pc := 49) d_M_putCell_49 rfl ?_
      refine x_l2i (pc := 50) d_M_putCell_50 ?_
      refine x_iadd (pc := 51) d_M_putCell_51 ?_
      refine x_iload_n (pc := 52) d_M_putCell_52 rfl ?_
      obtain ⟨s11, e10, h⟩ := Option.bind_eq_some_iff.mp h
      refine x_invv (c := 1) (av := [vI (((50 : Int32) + v8) + ((mL 2 s (a1 - (1 : Int32)).toNatClampNeg).toInt32)), vI a1]) (st := []) (pc := 53) d_M_putCell_53 cv_M_254 y_M_move (xm_at s R) rfl (Nat.le_of_ble_eq_true rfl) (Nat.le_of_ble_eq_true rfl) (w_M_move (d := d + 0) (Q := fun r h' => r = .inl none ∧ h' = mH s11 R) (R := R) ⟨rfl, rfl⟩ s (((50 : Int32) + v8) + ((mL 2 s (a1 - (1 : Int32)).toNatClampNeg).toInt32)) a1 e10) (fun v h' z => ?_) (fun a h' z => nomatch z.1)
      obtain ⟨z1, z2⟩ := z
      subst z2
      cases z1
      show xW sc m_M_putCell (d + 1) Q (mH s11 R) 56 [some (vA 373), some (vI a1), some (vL (mL 2 s (a1 - (1 : Int32)).toNatClampNeg)), none] []
      refine x_aload_n (pc := 56) d_M_putCell_56 rfl ?_
      refine x_dup (pc := 57) d_M_putCell_57 rfl ?_
      refine x_getf (c := 1) (k := 4) (v := vI (mI 4 s11)) (pc := 58) d_M_putCell_58 l_M_247 (xm_at s11 R) rfl ?_
      refine x_iconst (v := (3 : Int32)) (pc := 61) d_M_putCell_61 (by decide) ?_
      refine x_isub (pc := 62) d_M_putCell_62 ?_
      refine xm_p4 (pc := 63) d_M_putCell_63 l_M_247 ?_
      refine x_iconst (v := (0 : Int32)) (pc := 66) d_M_putCell_66 (by decide) ?_
      cases h
      exact x_iret (ty := .int) (pc := 67) d_M_putCell_67 rfl (rfl) hQ
    · rw [if_neg c6] at h
      exact x_wk (L' := [none, none, none, none]) ⟨Or.inl rfl, Or.inl rfl, Or.inl rfl, Or.inl rfl, trivial⟩ (w_M_putCell_b32 hQ s h)
def f_M_readWord_b113  : Nat → Int64 → Int32 → MT → Option (Int32 × MT)
  | 0, _, _, _ => none
  | n + 1, l3, l5, s => (if (mI 30 s) ≤ l5 then (if (mI 30 s) = (40 : Int32) then some ((7 : Int32), s) else (if xin (mI 30 s) 40 = true then some ((0 : Int32), sI 30 ((mI 30 (sL 29 (va_up (mL 29 s) (mI 30 s).toNatClampNeg l3) s)) + (1 : Int32)) (sL 29 (va_up (mL 29 s) (mI 30 s).toNatClampNeg l3) s)) else none)) else (if xin l5 40 = true then (if (lg_cmp (mL 29 s l5.toNatClampNeg) l3) = 0 then some ((0 : Int32), s) else (f_M_readWord_b113 n) l3 (l5 + Int32.ofInt 1) s) else none))
theorem w_M_readWord_b113 {sc : xSc} {d : Nat} {Q : xR → xH → Prop} {R : xH} {sZ : MT} {rZ : Int32}  (hQ : Q (.inl (some (vI rZ))) (mH sZ R)) : ∀ (n : Nat) (l3 : Int64) (l5 : Int32) (s : MT), f_M_readWord_b113  n l3 l5 s = some (rZ, sZ) → xW sc m_M_readWord (d + 1) Q (mH s R) 113 [some (vA 373), none, none, some (vL l3), none, some (vI l5)] [] := by
  intro n
  induction n with
  | zero =>
    intro l3 l5 s h
    cases h
  | succ n hk113 =>
    intro l3 l5 s h
    unfold f_M_readWord_b113 at h
    refine x_iload (pc := 113) d_M_readWord_113 rfl ?_
    refine x_aload_n (pc := 115) d_M_readWord_115 rfl ?_
    refine x_getf (c := 1) (k := 30) (v := vI (mI 30 s)) (pc := 116) d_M_readWord_116 l_M_311 (xm_at s R) rfl ?_
    refine x_icmp_ge (tgt := 142) (pc := 119) d_M_readWord_119 (by decide) (fun c1 => ?_) (fun c1 => ?_)
    · rw [if_pos c1] at h
      refine x_aload_n (pc := 142) d_M_readWord_142 rfl ?_
      refine x_getf (c := 1) (k := 30) (v := vI (mI 30 s)) (pc := 143) d_M_readWord_143 l_M_311 (xm_at s R) rfl ?_
      refine x_bipush (v := (40 : Int32)) (pc := 146) d_M_readWord_146 (by decide) ?_
      refine x_icmp_ne (tgt := 154) (pc := 148) d_M_readWord_148 (by decide) (fun c2 => ?_) (fun c2 => ?_)
      · rw [if_neg c2] at h
        refine x_aload_n (pc := 154) d_M_readWord_154 rfl ?_
        refine x_getf (c := 1) (k := 29) (v := vA 391) (pc := 155) d_M_readWord_155 l_M_68 (xm_at s R) rfl ?_
        refine x_aload_n (pc := 158) d_M_readWord_158 rfl ?_
        refine x_getf (c := 1) (k := 30) (v := vI (mI 30 s)) (pc := 159) d_M_readWord_159 l_M_311 (xm_at s R) rfl ?_
        refine x_lload_n (pc := 162) d_M_readWord_162 rfl ?_
        obtain ⟨c3, h⟩ := ite_some h
        refine xm_s29 (pc := 163) d_M_readWord_163 c3 ?_
        refine x_aload_n (pc := 164) d_M_readWord_164 rfl ?_
        refine x_dup (pc := 165) d_M_readWord_165 rfl ?_
        refine x_getf (c := 1) (k := 30) (v := vI (mI 30 (sL 29 (va_up (mL 29 s) (mI 30 s).toNatClampNeg l3) s))) (pc := 166) d_M_readWord_166 l_M_311 (xm_at (sL 29 (va_up (mL 29 s) (mI 30 s).toNatClampNeg l3) s) R) rfl ?_
        refine x_iconst (v := (1 : Int32)) (pc := 169) d_M_readWord_169 (by decide) ?_
        refine x_iadd (pc := 170) d_M_readWord_170 ?_
        refine xm_p30 (pc := 171) d_M_readWord_171 l_M_311 ?_
        refine x_iconst (v := (0 : Int32)) (pc := 174) d_M_readWord_174 (by decide) ?_
        cases h
        exact x_iret (ty := .int) (pc := 175) d_M_readWord_175 rfl (rfl) hQ
      · rw [if_pos c2] at h
        refine x_bipush (v := (7 : Int32)) (pc := 151) d_M_readWord_151 (by decide) ?_
        cases h
        exact x_iret (ty := .int) (pc := 153) d_M_readWord_153 rfl (rfl) hQ
    · rw [if_neg c1] at h
      refine x_aload_n (pc := 122) d_M_readWord_122 rfl ?_
      refine x_getf (c := 1) (k := 29) (v := vA 391) (pc := 123) d_M_readWord_123 l_M_68 (xm_at s R) rfl ?_
      refine x_iload (pc := 126) d_M_readWord_126 rfl ?_
      obtain ⟨c4, h⟩ := ite_some h
      refine x_lald (pc := 128) d_M_readWord_128 (xm_a29 s R) (xin_vp c4) ?_
      refine x_lload_n (pc := 129) d_M_readWord_129 rfl ?_
      refine x_lcmp (pc := 130) d_M_readWord_130 ?_
      refine x_if_ne (tgt := 136) (pc := 131) d_M_readWord_131 (by decide) (fun c5 => ?_) (fun c5 => ?_)
      · rw [if_neg c5] at h
        refine x_iinc (pc := 136) d_M_readWord_136 rfl (by decide) ?_
        show xW sc m_M_readWord (d + 1) Q (mH s R) 139 [some (vA 373), none, none, some (vL l3), none, some (vI (l5 + Int32.ofInt 1))] []
        refine x_goto (tgt := 113) (pc := 139) d_M_readWord_139 (by decide) ?_
        exact hk113 l3 (l5 + Int32.ofInt 1) s h
      · rw [if_pos c5] at h
        refine x_iconst (v := (0 : Int32)) (pc := 134) d_M_readWord_134 (by decide) ?_
        cases h
        exact x_iret (ty := .int) (pc := 135) d_M_readWord_135 rfl (rfl) hQ
def f_M_readWord_b101  (l2 : Int32) (l3 : Int64) (s : MT) : Option (Int32 × MT) := (if l2 ≤ (8 : Int32) then f_M_readWord_b113 mF l3 (0 : Int32) s else some ((15 : Int32), s))
theorem w_M_readWord_b101 {sc : xSc} {d : Nat} {Q : xR → xH → Prop} {R : xH} {sZ : MT} {rZ : Int32}  (hQ : Q (.inl (some (vI rZ))) (mH sZ R)) (l2 : Int32) (l3 : Int64) (s : MT) (h : f_M_readWord_b101  l2 l3 s = some (rZ, sZ)) : xW sc m_M_readWord (d + 1) Q (mH s R) 101 [some (vA 373), none, some (vI l2), some (vL l3), none, none] [] := by
  unfold f_M_readWord_b101 at h
  refine x_iload_n (pc := 101) d_M_readWord_101 rfl ?_
  refine x_bipush (v := (8 : Int32)) (pc := 102) d_M_readWord_102 (by decide) ?_
  refine x_icmp_le (tgt := 110) (pc := 104) d_M_readWord_104 (by decide) (fun c1 => ?_) (fun c1 => ?_)
  · rw [if_pos c1] at h
    refine x_iconst (v := (0 : Int32)) (pc := 110) d_M_readWord_110 (by decide) ?_
    refine x_istore (pc := 111) d_M_readWord_111 (by decide) ?_
    show xW sc m_M_readWord (d + 1) Q (mH s R) 113 [some (vA 373), none, some (vI l2), some (vL l3), none, some (vI (0 : Int32))] []
    exact x_wk (L' := [some (vA 373), none, none, some (vL l3), none, some (vI (0 : Int32))]) ⟨Or.inr rfl, Or.inl rfl, Or.inl rfl, Or.inr rfl, Or.inl rfl, Or.inr rfl, trivial⟩ (w_M_readWord_b113 hQ mF l3 (0 : Int32) s h)
  · rw [if_neg c1] at h
    refine x_bipush (v := (15 : Int32)) (pc := 107) d_M_readWord_107 (by decide) ?_
    cases h
    exact x_iret (ty := .int) (pc := 109) d_M_readWord_109 rfl (rfl) hQ
def f_M_readWord_b76  (l1 : Int32) (l2 : Int32) (l3 : Int64) (s : MT) : Option (Int32 × MT) := (f_M_set s (40 : Int32) l1 l3).bind fun s2 => (if (12 : Int32) ≤ l2 then f_M_readWord_b101 l2 l3 s2 else (f_M_operatorOf s2 l3).bind fun (v6, s5) => (if v6 = (-1 : Int32) then f_M_readWord_b101 l2 l3 s5 else some ((0 : Int32), s5)))
theorem w_M_readWord_b76 {sc : xSc} {d : Nat} {Q : xR → xH → Prop} {R : xH} {sZ : MT} {rZ : Int32}  (hQ : Q (.inl (some (vI rZ))) (mH sZ R)) (l1 : Int32) (l2 : Int32) (l3 : Int64) (s : MT) (h : f_M_readWord_b76  l1 l2 l3 s = some (rZ, sZ)) : xW sc m_M_readWord (d + 1) Q (mH s R) 76 [some (vA 373), some (vI l1), some (vI l2), some (vL l3), none, none] [] := by
  unfold f_M_readWord_b76 at h
  refine x_aload_n (pc := 76) d_M_readWord_76 rfl ?_
  refine x_bipush (v := (40 : Int32)) (pc := 77) d_M_readWord_77 (by decide) ?_
  refine x_iload_n (pc := 79) d_M_readWord_79 rfl ?_
  refine x_lload_n (pc := 80) d_M_readWord_80 rfl ?_
  obtain ⟨s2, e1, h⟩ := Option.bind_eq_some_iff.mp h
  refine x_invv (c := 1) (av := [vI (40 : Int32), vI l1, vL l3]) (st := []) (pc := 81) d_M_readWord_81 cv_M_250 y_M_set (xm_at s R) rfl (Nat.le_of_ble_eq_true rfl) (Nat.le_of_ble_eq_true rfl) (w_M_set (d := d + 0) (Q := fun r h' => r = .inl none ∧ h' = mH s2 R) (R := R) ⟨rfl, rfl⟩ s (40 : Int32) l1 l3 e1) (fun v h' z => ?_) (fun a h' z => nomatch z.1)
  obtain ⟨z1, z2⟩ := z
  subst z2
  cases z1
  show xW sc m_M_readWord (d + 1) Q (mH s2 R) 84 [some (vA 373), some (vI l1), some (vI l2), some (vL l3), none, none] []
  refine x_iload_n (pc := 84) d_M_readWord_84 rfl ?_
  refine x_bipush (v := (12 : Int32)) (pc := 85) d_M_readWord_85 (by decide) ?_
  refine x_icmp_ge (tgt := 101) (pc := 87) d_M_readWord_87 (by decide) (fun c3 => ?_) (fun c3 => ?_)
  · rw [if_pos c3] at h
    exact x_wk (L' := [some (vA 373), none, some (vI l2), some (vL l3), none, none]) ⟨Or.inr rfl, Or.inl rfl, Or.inr rfl, Or.inr rfl, Or.inl rfl, Or.inl rfl, trivial⟩ (w_M_readWord_b101 hQ l2 l3 s2 h)
  · rw [if_neg c3] at h
    refine x_aload_n (pc := 90) d_M_readWord_90 rfl ?_
    refine x_lload_n (pc := 91) d_M_readWord_91 rfl ?_
    obtain ⟨⟨v6, s5⟩, e4, h⟩ := Option.bind_eq_some_iff.mp h
    dsimp only at h
    refine x_invv (c := 1) (av := [vL l3]) (st := []) (pc := 92) d_M_readWord_92 cv_M_307 y_M_operatorOf (xm_at s2 R) rfl (Nat.le_of_ble_eq_true rfl) (Nat.le_of_ble_eq_true rfl) (w_M_operatorOf (d := d + 0) (Q := fun r h' => r = .inl (some (vI v6)) ∧ h' = mH s5 R) (R := R) ⟨rfl, rfl⟩ s2 l3 e4) (fun v h' z => ?_) (fun a h' z => nomatch z.1)
    obtain ⟨z1, z2⟩ := z
    subst z2
    cases z1
    show xW sc m_M_readWord (d + 1) Q (mH s5 R) 95 [some (vA 373), some (vI l1), some (vI l2), some (vL l3), none, none] [vI v6]
    refine x_iconst (v := (-1 : Int32)) (pc := 95) d_M_readWord_95 (by decide) ?_
    refine x_icmp_eq (tgt := 101) (pc := 96) d_M_readWord_96 (by decide) (fun c8 => ?_) (fun c8 => ?_)
    · rw [if_pos c8] at h
      exact x_wk (L' := [some (vA 373), none, some (vI l2), some (vL l3), none, none]) ⟨Or.inr rfl, Or.inl rfl, Or.inr rfl, Or.inr rfl, Or.inl rfl, Or.inl rfl, trivial⟩ (w_M_readWord_b101 hQ l2 l3 s5 h)
    · rw [if_neg c8] at h
      refine x_iconst (v := (0 : Int32)) (pc := 99) d_M_readWord_99 (by decide) ?_
      cases h
      exact x_iret (ty := .int) (pc := 100) d_M_readWord_100 rfl (rfl) hQ
def f_M_readWord_b59 (k4 : Int32 → Int32 → Int64 → MT → Option (Int32 × MT)) (l1 : Int32) (l2 : Int32) (t0 : Int64) (s : MT) : Option (Int32 × MT) := k4 l1 (l2 + Int32.ofInt 1) t0 (sI 25 ((mI 25 s) + (1 : Int32)) s)
theorem w_M_readWord_b59 {sc : xSc} {d : Nat} {Q : xR → xH → Prop} {R : xH} {sZ : MT} {rZ : Int32} (k4 : Int32 → Int32 → Int64 → MT → Option (Int32 × MT)) (hk4 : ∀ (l1 : Int32) (l2 : Int32) (l3 : Int64) (s : MT), k4 l1 l2 l3 s = some (rZ, sZ) → xW sc m_M_readWord (d + 1) Q (mH s R) 4 [some (vA 373), some (vI l1), some (vI l2), some (vL l3), none, none] []) (hQ : Q (.inl (some (vI rZ))) (mH sZ R)) (l1 : Int32) (l2 : Int32) (t0 : Int64) (s : MT) (h : f_M_readWord_b59 k4 l1 l2 t0 s = some (rZ, sZ)) : xW sc m_M_readWord (d + 1) Q (mH s R) 59 [some (vA 373), some (vI l1), some (vI l2), none, none, none] [vL t0] := by
  unfold f_M_readWord_b59 at h
  refine x_lstore_n (pc := 59) d_M_readWord_59 (by decide) ?_
  show xW sc m_M_readWord (d + 1) Q (mH s R) 60 [some (vA 373), some (vI l1), some (vI l2), some (vL t0), none, none] []
  refine x_iinc (pc := 60) d_M_readWord_60 rfl (by decide) ?_
  show xW sc m_M_readWord (d + 1) Q (mH s R) 63 [some (vA 373), some (vI l1), some (vI (l2 + Int32.ofInt 1)), some (vL t0), none, none] []
  refine x_aload_n (pc := 63) d_M_readWord_63 rfl ?_
  refine x_dup (pc := 64) d_M_readWord_64 rfl ?_
  refine x_getf (c := 1) (k := 25) (v := vI (mI 25 s)) (pc := 65) d_M_readWord_65 l_M_281 (xm_at s R) rfl ?_
  refine x_iconst (v := (1 : Int32)) (pc := 68) d_M_readWord_68 (by decide) ?_
  refine x_iadd (pc := 69) d_M_readWord_69 ?_
  refine xm_p25 (pc := 70) d_M_readWord_70 l_M_281 ?_
  refine x_goto (tgt := 4) (pc := 73) d_M_readWord_73 (by decide) ?_
  exact hk4 l1 (l2 + Int32.ofInt 1) t0 (sI 25 ((mI 25 s) + (1 : Int32)) s) h
def f_M_readWord_b4  : Nat → Int32 → Int32 → Int64 → MT → Option (Int32 × MT)
  | 0, _, _, _, _ => none
  | n + 1, l1, l2, l3, s => (if (mI 24 s) ≤ (mI 25 s) then f_M_readWord_b76 l1 l2 l3 s else (if xin (mI 25 s) 120 = true then (f_M_isLetter (mA 23 s (mI 25 s).toNatClampNeg)).bind fun v3 => (if v3 = 0 then f_M_readWord_b76 l1 l2 l3 s else (if (12 : Int32) ≤ l2 then f_M_readWord_b59 (f_M_readWord_b4 n) l1 l2 l3 s else (if xin (mI 25 s) 120 = true then f_M_readWord_b59 (f_M_readWord_b4 n) l1 l2 (l3 ||| ((((mA 23 s (mI 25 s).toNatClampNeg) - (96 : Int32)).toInt64) <<< (((5 : Int32) * l2).toInt64 &&& 63))) s else none))) else none))
theorem w_M_readWord_b4 {sc : xSc} {d : Nat} {Q : xR → xH → Prop} {R : xH} {sZ : MT} {rZ : Int32}  (hQ : Q (.inl (some (vI rZ))) (mH sZ R)) : ∀ (n : Nat) (l1 : Int32) (l2 : Int32) (l3 : Int64) (s : MT), f_M_readWord_b4  n l1 l2 l3 s = some (rZ, sZ) → xW sc m_M_readWord (d + 1) Q (mH s R) 4 [some (vA 373), some (vI l1), some (vI l2), some (vL l3), none, none] [] := by
  intro n
  induction n with
  | zero =>
    intro l1 l2 l3 s h
    cases h
  | succ n hk4 =>
    intro l1 l2 l3 s h
    unfold f_M_readWord_b4 at h
    refine x_aload_n (pc := 4) d_M_readWord_4 rfl ?_
    refine x_getf (c := 1) (k := 25) (v := vI (mI 25 s)) (pc := 5) d_M_readWord_5 l_M_281 (xm_at s R) rfl ?_
    refine x_aload_n (pc := 8) d_M_readWord_8 rfl ?_
    refine x_getf (c := 1) (k := 24) (v := vI (mI 24 s)) (pc := 9) d_M_readWord_9 l_M_270 (xm_at s R) rfl ?_
    refine x_icmp_ge (tgt := 76) (pc := 12) d_M_readWord_12 (by decide) (fun c1 => ?_) (fun c1 => ?_)
    · rw [if_pos c1] at h
      exact w_M_readWord_b76 hQ l1 l2 l3 s h
    · rw [if_neg c1] at h
      refine x_aload_n (pc := 15) d_M_readWord_15 rfl ?_
      refine x_getf (c := 1) (k := 23) (v := vA 389) (pc := 16) d_M_readWord_16 l_M_61 (xm_at s R) rfl ?_
      refine x_aload_n (pc := 19) d_M_readWord_19 rfl ?_
      refine x_getf (c := 1) (k := 25) (v := vI (mI 25 s)) (pc := 20) d_M_readWord_20 l_M_281 (xm_at s R) rfl ?_
      obtain ⟨c2, h⟩ := ite_some h
      refine x_cald (pc := 23) d_M_readWord_23 (xm_a23 s R) (xin_vp c2) ?_
      obtain ⟨v3, e4, h⟩ := Option.bind_eq_some_iff.mp h
      refine x_invs (av := [vI (mA 23 s (mI 25 s).toNatClampNeg)]) (st := []) (pc := 24) d_M_readWord_24 cs_M_304 y_M_isLetter rfl (Nat.le_of_ble_eq_true rfl) (Nat.le_of_ble_eq_true rfl) (w_M_isLetter (d := d + 0) (Q := fun r h' => r = .inl (some (vI v3)) ∧ h' = mH s R) (hh := mH s R) ⟨rfl, rfl⟩ (mA 23 s (mI 25 s).toNatClampNeg) e4) (fun v h' z => ?_) (fun a h' z => nomatch z.1)
      obtain ⟨z1, z2⟩ := z
      subst z2
      cases z1
      show xW sc m_M_readWord (d + 1) Q (mH s R) 27 [some (vA 373), some (vI l1), some (vI l2), some (vL l3), none, none] [vI v3]
      refine x_if_eq (tgt := 76) (pc := 27) d_M_readWord_27 (by decide) (fun c5 => ?_) (fun c5 => ?_)
      · rw [if_pos c5] at h
        exact w_M_readWord_b76 hQ l1 l2 l3 s h
      · rw [if_neg c5] at h
        refine x_iload_n (pc := 30) d_M_readWord_30 rfl ?_
        refine x_bipush (v := (12 : Int32)) (pc := 31) d_M_readWord_31 (by decide) ?_
        refine x_icmp_ge (tgt := 58) (pc := 33) d_M_readWord_33 (by decide) (fun c6 => ?_) (fun c6 => ?_)
        · rw [if_pos c6] at h
          refine x_lload_n (pc := 58) d_M_readWord_58 rfl ?_
          exact x_wk (L' := [some (vA 373), some (vI l1), some (vI l2), none, none, none]) ⟨Or.inr rfl, Or.inr rfl, Or.inr rfl, Or.inl rfl, Or.inl rfl, Or.inl rfl, trivial⟩ (w_M_readWord_b59 (f_M_readWord_b4 n) hk4 hQ l1 l2 l3 s h)
        · rw [if_neg c6] at h
          refine x_lload_n (pc := 36) d_M_readWord_36 rfl ?_
          refine x_aload_n (pc := 37) d_M_readWord_37 rfl ?_
          refine x_getf (c := 1) (k := 23) (v := vA 389) (pc := 38) d_M_readWord_38 l_M_61 (xm_at s R) rfl ?_
          refine x_aload_n (pc := 41) d_M_readWord_41 rfl ?_
          refine x_getf (c := 1) (k := 25) (v := vI (mI 25 s)) (pc := 42) d_M_readWord_42 l_M_281 (xm_at s R) rfl ?_
          obtain ⟨c7, h⟩ := ite_some h
          refine x_cald (pc := 45) d_M_readWord_45 (xm_a23 s R) (xin_vp c7) ?_
          refine x_bipush (v := (96 : Int32)) (pc := 46) d_M_readWord_46 (by decide) ?_
          refine x_isub (pc := 48) d_M_readWord_48 ?_
          refine x_i2l (pc := 49) d_M_readWord_49 ?_
          refine x_iconst (v := (5 : Int32)) (pc := 50) d_M_readWord_50 (by decide) ?_
          refine x_iload_n (pc := 51) d_M_readWord_51 rfl ?_
          refine x_imul (pc := 52) d_M_readWord_52 ?_
          refine x_lshl (pc := 53) d_M_readWord_53 ?_
          refine x_lor (pc := 54) d_M_readWord_54 ?_
          refine x_goto (tgt := 59) (pc := 55) d_M_readWord_55 (by decide) ?_
          exact x_wk (L' := [some (vA 373), some (vI l1), some (vI l2), none, none, none]) ⟨Or.inr rfl, Or.inr rfl, Or.inr rfl, Or.inl rfl, Or.inl rfl, Or.inl rfl, trivial⟩ (w_M_readWord_b59 (f_M_readWord_b4 n) hk4 hQ l1 l2 (l3 ||| ((((mA 23 s (mI 25 s).toNatClampNeg) - (96 : Int32)).toInt64) <<< (((5 : Int32) * l2).toInt64 &&& 63))) s h)
def f_M_readWord (s : MT) (a1 : Int32) : Option (Int32 × MT) := f_M_readWord_b4 mF a1 (0 : Int32) (0 : Int64) s
theorem w_M_readWord {sc : xSc} {d : Nat} {Q : xR → xH → Prop} {R : xH} {sZ : MT} {rZ : Int32} (hQ : Q (.inl (some (vI rZ))) (mH sZ R)) (s : MT) (a1 : Int32) (h : f_M_readWord s a1 = some (rZ, sZ)) : xW sc m_M_readWord (d + 1) Q (mH s R) 0 (xent [vA 373, vI a1] m_M_readWord.2.2.1) [] := by
  show xW sc m_M_readWord (d + 1) Q (mH s R) 0 [some (vA 373), some (vI a1), none, none, none, none] []
  unfold f_M_readWord at h
  refine x_iconst (v := (0 : Int32)) (pc := 0) d_M_readWord_0 (by decide) ?_
  refine x_istore_n (pc := 1) d_M_readWord_1 (by decide) ?_
  show xW sc m_M_readWord (d + 1) Q (mH s R) 2 [some (vA 373), some (vI a1), some (vI (0 : Int32)), none, none, none] []
  refine x_lconst (v := (0 : Int64)) (pc := 2) d_M_readWord_2 (by decide) ?_
  refine x_lstore_n (pc := 3) d_M_readWord_3 (by decide) ?_
  show xW sc m_M_readWord (d + 1) Q (mH s R) 4 [some (vA 373), some (vI a1), some (vI (0 : Int32)), some (vL (0 : Int64)), none, none] []
  exact w_M_readWord_b4 hQ mF a1 (0 : Int32) (0 : Int64) s h
def f_M_real_b63  (t0 : UInt64) (s : MT) : Option (UInt64 × MT) := some (t0, s)
theorem w_M_real_b63 {sc : xSc} {d : Nat} {Q : xR → xH → Prop} {R : xH} {sZ : MT} {rZ : UInt64}  (hQ : Q (.inl (some (vD rZ))) (mH sZ R)) (t0 : UInt64) (s : MT) (h : f_M_real_b63  t0 s = some (rZ, sZ)) : xW sc m_M_real (d + 1) Q (mH s R) 63 [none, none] [vD t0] := by
  unfold f_M_real_b63 at h
  cases h
  exact x_dret (pc := 63) d_M_real_63 rfl hQ
def f_M_real_b37  (l1 : Int32) (t0 : Int32) (s : MT) : Option (UInt64 × MT) := (if (mI 0 (sI 0 t0 s)) ≤ 0 then (f_M_numberAt (sI 0 t0 s) (((mI 4 (sI 0 t0 s)) - (1 : Int32)) - l1)).bind fun (v4, s3) => f_M_real_b63 v4 s3 else f_M_real_b63 FP.dconst0 (sI 0 t0 s))
theorem w_M_real_b37 {sc : xSc} {d : Nat} {Q : xR → xH → Prop} {R : xH} {sZ : MT} {rZ : UInt64}  (hQ : Q (.inl (some (vD rZ))) (mH sZ R)) (l1 : Int32) (t0 : Int32) (s : MT) (h : f_M_real_b37  l1 t0 s = some (rZ, sZ)) : xW sc m_M_real (d + 1) Q (mH s R) 37 [some (vA 373), some (vI l1)] [vI t0, vA 373] := by
  unfold f_M_real_b37 at h
  refine xm_p0 (pc := 37) d_M_real_37 l_M_242 ?_
  refine x_aload_n (pc := 40) d_M_real_40 rfl ?_
  refine x_getf (c := 1) (k := 0) (v := vI (mI 0 (sI 0 t0 s))) (pc := 41) d_M_real_41 l_M_242 (xm_at (sI 0 t0 s) R) rfl ?_
  refine x_if_le (tgt := 51) (pc := 44) d_M_real_44 (by decide) (fun c1 => ?_) (fun c1 => ?_)
  · rw [if_pos c1] at h
    refine x_aload_n (pc := 51) d_M_real_51 rfl ?_
    refine x_aload_n (pc := 52) d_M_real_52 rfl ?_
    refine x_getf (c := 1) (k := 4) (v := vI (mI 4 (sI 0 t0 s))) (pc := 53) d_M_real_53 l_M_247 (xm_at (sI 0 t0 s) R) rfl ?_
    refine x_iconst (v := (1 : Int32)) (pc := 56) d_M_real_56 (by decide) ?_
    refine x_isub (pc := 57) d_M_real_57 ?_
    refine x_iload_n (pc := 58) d_M_real_58 rfl ?_
    refine x_isub (pc := 59) d_M_real_59 ?_
    obtain ⟨⟨v4, s3⟩, e2, h⟩ := Option.bind_eq_some_iff.mp h
    dsimp only at h
    refine x_invv (c := 1) (av := [vI (((mI 4 (sI 0 t0 s)) - (1 : Int32)) - l1)]) (st := []) (pc := 60) d_M_real_60 cv_M_473 y_M_numberAt (xm_at (sI 0 t0 s) R) rfl (Nat.le_of_ble_eq_true rfl) (Nat.le_of_ble_eq_true rfl) (w_M_numberAt (d := d + 0) (Q := fun r h' => r = .inl (some (vD v4)) ∧ h' = mH s3 R) (R := R) ⟨rfl, rfl⟩ (sI 0 t0 s) (((mI 4 (sI 0 t0 s)) - (1 : Int32)) - l1) e2) (fun v h' z => ?_) (fun a h' z => nomatch z.1)
    obtain ⟨z1, z2⟩ := z
    subst z2
    cases z1
    show xW sc m_M_real (d + 1) Q (mH s3 R) 63 [some (vA 373), some (vI l1)] [vD v4]
    exact x_wk (L' := [none, none]) ⟨Or.inl rfl, Or.inl rfl, trivial⟩ (w_M_real_b63 hQ v4 s3 h)
  · rw [if_neg c1] at h
    refine x_dconst0 (pc := 47) d_M_real_47 ?_
    refine x_goto (tgt := 63) (pc := 48) d_M_real_48 (by decide) ?_
    exact x_wk (L' := [none, none]) ⟨Or.inl rfl, Or.inl rfl, trivial⟩ (w_M_real_b63 hQ FP.dconst0 (sI 0 t0 s) h)
def f_M_real_b13  (l1 : Int32) (s : MT) : Option (UInt64 × MT) := f_M_real_b37 l1 (1 : Int32) s
theorem w_M_real_b13 {sc : xSc} {d : Nat} {Q : xR → xH → Prop} {R : xH} {sZ : MT} {rZ : UInt64}  (hQ : Q (.inl (some (vD rZ))) (mH sZ R)) (l1 : Int32) (s : MT) (h : f_M_real_b13  l1 s = some (rZ, sZ)) : xW sc m_M_real (d + 1) Q (mH s R) 13 [some (vA 373), some (vI l1)] [vA 373] := by
  unfold f_M_real_b13 at h
  refine x_iconst (v := (1 : Int32)) (pc := 13) d_M_real_13 (by decide) ?_
  refine x_goto (tgt := 37) (pc := 14) d_M_real_14 (by decide) ?_
  exact w_M_real_b37 hQ l1 (1 : Int32) s h
def f_M_real (s : MT) (a1 : Int32) : Option (UInt64 × MT) := (if a1 < 0 then f_M_real_b13 a1 s else (if a1 < (mI 4 s) then (f_M_isNumber s (((mI 4 s) - (1 : Int32)) - a1)).bind fun (v5, s4) => (if v5 = 0 then f_M_real_b37 a1 (2 : Int32) s4 else f_M_real_b37 a1 (0 : Int32) s4) else f_M_real_b13 a1 s))
theorem w_M_real {sc : xSc} {d : Nat} {Q : xR → xH → Prop} {R : xH} {sZ : MT} {rZ : UInt64} (hQ : Q (.inl (some (vD rZ))) (mH sZ R)) (s : MT) (a1 : Int32) (h : f_M_real s a1 = some (rZ, sZ)) : xW sc m_M_real (d + 1) Q (mH s R) 0 (xent [vA 373, vI a1] m_M_real.2.2.1) [] := by
  show xW sc m_M_real (d + 1) Q (mH s R) 0 [some (vA 373), some (vI a1)] []
  unfold f_M_real at h
  refine x_aload_n (pc := 0) d_M_real_0 rfl ?_
  refine x_iload_n (pc := 1) d_M_real_1 rfl ?_
  refine x_if_lt (tgt := 13) (pc := 2) d_M_real_2 (by decide) (fun c1 => ?_) (fun c1 => ?_)
  · rw [if_pos c1] at h
    exact w_M_real_b13 hQ a1 s h
  · rw [if_neg c1] at h
    refine x_iload_n (pc := 5) d_M_real_5 rfl ?_
    refine x_aload_n (pc := 6) d_M_real_6 rfl ?_
    refine x_getf (c := 1) (k := 4) (v := vI (mI 4 s)) (pc := 7) d_M_real_7 l_M_247 (xm_at s R) rfl ?_
    refine x_icmp_lt (tgt := 17) (pc := 10) d_M_real_10 (by decide) (fun c2 => ?_) (fun c2 => ?_)
    · rw [if_pos c2] at h
      refine x_aload_n (pc := 17) d_M_real_17 rfl ?_
      refine x_aload_n (pc := 18) d_M_real_18 rfl ?_
      refine x_getf (c := 1) (k := 4) (v := vI (mI 4 s)) (pc := 19) d_M_real_19 l_M_247 (xm_at s R) rfl ?_
      refine x_iconst (v := (1 : Int32)) (pc := 22) d_M_real_22 (by decide) ?_
      refine x_isub (pc := 23) d_M_real_23 ?_
      refine x_iload_n (pc := 24) d_M_real_24 rfl ?_
      refine x_isub (pc := 25) d_M_real_25 ?_
      obtain ⟨⟨v5, s4⟩, e3, h⟩ := Option.bind_eq_some_iff.mp h
      dsimp only at h
      refine x_invv (c := 1) (av := [vI (((mI 4 s) - (1 : Int32)) - a1)]) (st := [vA 373]) (pc := 26) d_M_real_26 cv_M_418 y_M_isNumber (xm_at s R) rfl (Nat.le_of_ble_eq_true rfl) (Nat.le_of_ble_eq_true rfl) (w_M_isNumber (d := d + 0) (Q := fun r h' => r = .inl (some (vI v5)) ∧ h' = mH s4 R) (R := R) ⟨rfl, rfl⟩ s (((mI 4 s) - (1 : Int32)) - a1) e3) (fun v h' z => ?_) (fun a h' z => nomatch z.1)
      obtain ⟨z1, z2⟩ := z
      subst z2
      cases z1
      show xW sc m_M_real (d + 1) Q (mH s4 R) 29 [some (vA 373), some (vI a1)] [vI v5, vA 373]
      refine x_if_ne (tgt := 36) (pc := 29) d_M_real_29 (by decide) (fun c7 => ?_) (fun c7 => ?_)
      · rw [if_neg c7] at h
        refine x_iconst (v := (0 : Int32)) (pc := 36) d_M_real_36 (by decide) ?_
        exact w_M_real_b37 hQ a1 (0 : Int32) s4 h
      · rw [if_pos c7] at h
        refine x_iconst (v := (2 : Int32)) (pc := 32) d_M_real_32 (by decide) ?_
        refine x_goto (tgt := 37) (pc := 33) d_M_real_33 (by decide) ?_
        exact w_M_real_b37 hQ a1 (2 : Int32) s4 h
    · rw [if_neg c2] at h
      exact w_M_real_b13 hQ a1 s h
def f_M_roll_b73  : Nat → Int64 → Int64 → Int32 → Int32 → MT → Option (Int32 × MT)
  | 0, _, _, _, _, _ => none
  | n + 1, l1, l3, l5, l6, s => (if l5 ≤ l6 then some ((0 : Int32), s) else (if l1 = 0 then none else (if l1 = 0 then none else (f_M_move s (((mI 4 s) - l5) + ((((l6.toInt64 + (l3 - l3 / l1 * l1)) + l1) - ((l6.toInt64 + (l3 - l3 / l1 * l1)) + l1) / l1 * l1).toInt32)) ((1170 : Int32) + l6)).bind fun s5 => (f_M_roll_b73 n) l1 l3 l5 (l6 + Int32.ofInt 1) s5)))
theorem w_M_roll_b73 {sc : xSc} {d : Nat} {Q : xR → xH → Prop} {R : xH} {sZ : MT} {rZ : Int32}  (hQ : Q (.inl (some (vI rZ))) (mH sZ R)) : ∀ (n : Nat) (l1 : Int64) (l3 : Int64) (l5 : Int32) (l6 : Int32) (s : MT), f_M_roll_b73  n l1 l3 l5 l6 s = some (rZ, sZ) → xW sc m_M_roll (d + 1) Q (mH s R) 73 [some (vA 373), some (vL l1), none, some (vL l3), none, some (vI l5), some (vI l6)] [] := by
  intro n
  induction n with
  | zero =>
    intro l1 l3 l5 l6 s h
    cases h
  | succ n hk73 =>
    intro l1 l3 l5 l6 s h
    unfold f_M_roll_b73 at h
    refine x_iload (pc := 73) d_M_roll_73 rfl ?_
    refine x_iload (pc := 75) d_M_roll_75 rfl ?_
    refine x_icmp_ge (tgt := 116) (pc := 77) d_M_roll_77 (by decide) (fun c1 => ?_) (fun c1 => ?_)
    · rw [if_pos c1] at h
      refine x_iconst (v := (0 : Int32)) (pc := 116) d_M_roll_116 (by decide) ?_
      cases h
      exact x_iret (ty := .int) (pc := 117) d_M_roll_117 rfl (rfl) hQ
    · rw [if_neg c1] at h
      refine x_aload_n (pc := 80) d_M_roll_80 rfl ?_
      refine x_aload_n (pc := 81) d_M_roll_81 rfl ?_
      refine x_getf (c := 1) (k := 4) (v := vI (mI 4 s)) (pc := 82) d_M_roll_82 l_M_247 (xm_at s R) rfl ?_
      refine x_iload (pc := 85) d_M_roll_85 rfl ?_
      refine x_isub (pc := 87) d_M_roll_87 ?_
      refine x_iload (pc := 88) d_M_roll_88 rfl ?_
      refine x_i2l (pc := 90) d_M_roll_90 ?_
      refine x_lload_n (pc := 91) d_M_roll_91 rfl ?_
      refine x_lload_n (pc := 92) d_M_roll_92 rfl ?_
      obtain ⟨c2, h⟩ := itn_some h
      refine x_lrem (pc := 93) d_M_roll_93 (c2) ?_
      refine x_ladd (pc := 94) d_M_roll_94 ?_
      refine x_lload_n (pc := 95) d_M_roll_95 rfl ?_
      refine x_ladd (pc := 96) d_M_roll_96 ?_
      refine x_lload_n (pc := 97) d_M_roll_97 rfl ?_
      obtain ⟨c3, h⟩ := itn_some h
      refine x_lrem (pc := 98) d_M_roll_98 (c3) ?_
      refine x_l2i (pc := 99) d_M_roll_99 ?_
      refine x_iadd (pc := 100) d_M_roll_100 ?_
      refine x_sipush (v := (1170 : Int32)) (pc := 101) d_M_roll_101 (by decide) ?_
      refine x_iload (pc := 104) d_M_roll_104 rfl ?_
      refine x_iadd (pc := 106) d_M_roll_106 ?_
      obtain ⟨s5, e4, h⟩ := Option.bind_eq_some_iff.mp h
      refine x_invv (c := 1) (av := [vI (((mI 4 s) - l5) + ((((l6.toInt64 + (l3 - l3 / l1 * l1)) + l1) - ((l6.toInt64 + (l3 - l3 / l1 * l1)) + l1) / l1 * l1).toInt32)), vI ((1170 : Int32) + l6)]) (st := []) (pc := 107) d_M_roll_107 cv_M_254 y_M_move (xm_at s R) rfl (Nat.le_of_ble_eq_true rfl) (Nat.le_of_ble_eq_true rfl) (w_M_move (d := d + 0) (Q := fun r h' => r = .inl none ∧ h' = mH s5 R) (R := R) ⟨rfl, rfl⟩ s (((mI 4 s) - l5) + ((((l6.toInt64 + (l3 - l3 / l1 * l1)) + l1) - ((l6.toInt64 + (l3 - l3 / l1 * l1)) + l1) / l1 * l1).toInt32)) ((1170 : Int32) + l6) e4) (fun v h' z => ?_) (fun a h' z => nomatch z.1)
      obtain ⟨z1, z2⟩ := z
      subst z2
      cases z1
      show xW sc m_M_roll (d + 1) Q (mH s5 R) 110 [some (vA 373), some (vL l1), none, some (vL l3), none, some (vI l5), some (vI l6)] []
      refine x_iinc (pc := 110) d_M_roll_110 rfl (by decide) ?_
      show xW sc m_M_roll (d + 1) Q (mH s5 R) 113 [some (vA 373), some (vL l1), none, some (vL l3), none, some (vI l5), some (vI (l6 + Int32.ofInt 1))] []
      refine x_goto (tgt := 73) (pc := 113) d_M_roll_113 (by decide) ?_
      exact hk73 l1 l3 l5 (l6 + Int32.ofInt 1) s5 h
def f_M_roll_b37  : Nat → Int64 → Int64 → Int32 → Int32 → MT → Option (Int32 × MT)
  | 0, _, _, _, _, _ => none
  | n + 1, l1, l3, l5, l6, s => (if l5 ≤ l6 then f_M_roll_b73 mF l1 l3 l5 (0 : Int32) s else (f_M_move s ((1170 : Int32) + l6) (((mI 4 s) - l5) + l6)).bind fun s3 => (f_M_roll_b37 n) l1 l3 l5 (l6 + Int32.ofInt 1) s3)
theorem w_M_roll_b37 {sc : xSc} {d : Nat} {Q : xR → xH → Prop} {R : xH} {sZ : MT} {rZ : Int32}  (hQ : Q (.inl (some (vI rZ))) (mH sZ R)) : ∀ (n : Nat) (l1 : Int64) (l3 : Int64) (l5 : Int32) (l6 : Int32) (s : MT), f_M_roll_b37  n l1 l3 l5 l6 s = some (rZ, sZ) → xW sc m_M_roll (d + 1) Q (mH s R) 37 [some (vA 373), some (vL l1), none, some (vL l3), none, some (vI l5), some (vI l6)] [] := by
  intro n
  induction n with
  | zero =>
    intro l1 l3 l5 l6 s h
    cases h
  | succ n hk37 =>
    intro l1 l3 l5 l6 s h
    unfold f_M_roll_b37 at h
    refine x_iload (pc := 37) d_M_roll_37 rfl ?_
    refine x_iload (pc := 39) d_M_roll_39 rfl ?_
    refine x_icmp_ge (tgt := 70) (pc := 41) d_M_roll_41 (by decide) (fun c1 => ?_) (fun c1 => ?_)
    · rw [if_pos c1] at h
      refine x_iconst (v := (0 : Int32)) (pc := 70) d_M_roll_70 (by decide) ?_
      refine x_istore (pc := 71) d_M_roll_71 (by decide) ?_
      show xW sc m_M_roll (d + 1) Q (mH s R) 73 [some (vA 373), some (vL l1), none, some (vL l3), none, some (vI l5), some (vI (0 : Int32))] []
      exact w_M_roll_b73 hQ mF l1 l3 l5 (0 : Int32) s h
    · rw [if_neg c1] at h
      refine x_aload_n (pc := 44) d_M_roll_44 rfl ?_
      refine x_sipush (v := (1170 : Int32)) (pc := 45) d_M_roll_45 (by decide) ?_
      refine x_iload (pc := 48) d_M_roll_48 rfl ?_
      refine x_iadd (pc := 50) d_M_roll_50 ?_
      refine x_aload_n (pc := 51) d_M_roll_51 rfl ?_
      refine x_getf (c := 1) (k := 4) (v := vI (mI 4 s)) (pc := 52) d_M_roll_52 l_M_247 (xm_at s R) rfl ?_
      refine x_iload (pc := 55) d_M_roll_55 rfl ?_
      refine x_isub (pc := 57) d_M_roll_57 ?_
      refine x_iload (pc := 58) d_M_roll_58 rfl ?_
      refine x_iadd (pc := 60) d_M_roll_60 ?_
      obtain ⟨s3, e2, h⟩ := Option.bind_eq_some_iff.mp h
      refine x_invv (c := 1) (av := [vI ((1170 : Int32) + l6), vI (((mI 4 s) - l5) + l6)]) (st := []) (pc := 61) d_M_roll_61 cv_M_254 y_M_move (xm_at s R) rfl (Nat.le_of_ble_eq_true rfl) (Nat.le_of_ble_eq_true rfl) (w_M_move (d := d + 0) (Q := fun r h' => r = .inl none ∧ h' = mH s3 R) (R := R) ⟨rfl, rfl⟩ s ((1170 : Int32) + l6) (((mI 4 s) - l5) + l6) e2) (fun v h' z => ?_) (fun a h' z => nomatch z.1)
      obtain ⟨z1, z2⟩ := z
      subst z2
      cases z1
      show xW sc m_M_roll (d + 1) Q (mH s3 R) 64 [some (vA 373), some (vL l1), none, some (vL l3), none, some (vI l5), some (vI l6)] []
      refine x_iinc (pc := 64) d_M_roll_64 rfl (by decide) ?_
      show xW sc m_M_roll (d + 1) Q (mH s3 R) 67 [some (vA 373), some (vL l1), none, some (vL l3), none, some (vI l5), some (vI (l6 + Int32.ofInt 1))] []
      refine x_goto (tgt := 37) (pc := 67) d_M_roll_67 (by decide) ?_
      exact hk37 l1 l3 l5 (l6 + Int32.ofInt 1) s3 h
def f_M_roll_b18  (s : MT) : Option (Int32 × MT) := some ((4 : Int32), s)
theorem w_M_roll_b18 {sc : xSc} {d : Nat} {Q : xR → xH → Prop} {R : xH} {sZ : MT} {rZ : Int32}  (hQ : Q (.inl (some (vI rZ))) (mH sZ R)) (s : MT) (h : f_M_roll_b18  s = some (rZ, sZ)) : xW sc m_M_roll (d + 1) Q (mH s R) 18 [none, none, none, none, none, none, none] [] := by
  unfold f_M_roll_b18 at h
  refine x_iconst (v := (4 : Int32)) (pc := 18) d_M_roll_18 (by decide) ?_
  cases h
  exact x_iret (ty := .int) (pc := 19) d_M_roll_19 rfl (rfl) hQ
def f_M_roll (s : MT) (a1 : Int64) (a2 : Int64) : Option (Int32 × MT) := (if (lg_cmp a1 (0 : Int64)) < 0 then f_M_roll_b18 s else (if (lg_cmp a1 (((mI 4 s) - (2 : Int32)).toInt64)) ≤ 0 then f_M_roll_b37 mF a1 a2 a1.toInt32 (0 : Int32) (sI 4 ((mI 4 s) - (2 : Int32)) s) else f_M_roll_b18 s))
theorem w_M_roll {sc : xSc} {d : Nat} {Q : xR → xH → Prop} {R : xH} {sZ : MT} {rZ : Int32} (hQ : Q (.inl (some (vI rZ))) (mH sZ R)) (s : MT) (a1 : Int64) (a2 : Int64) (h : f_M_roll s a1 a2 = some (rZ, sZ)) : xW sc m_M_roll (d + 1) Q (mH s R) 0 (xent [vA 373, vL a1, vL a2] m_M_roll.2.2.1) [] := by
  show xW sc m_M_roll (d + 1) Q (mH s R) 0 [some (vA 373), some (vL a1), none, some (vL a2), none, none, none] []
  unfold f_M_roll at h
  refine x_lload_n (pc := 0) d_M_roll_0 rfl ?_
  refine x_lconst (v := (0 : Int64)) (pc := 1) d_M_roll_1 (by decide) ?_
  refine x_lcmp (pc := 2) d_M_roll_2 ?_
  refine x_if_lt (tgt := 18) (pc := 3) d_M_roll_3 (by decide) (fun c1 => ?_) (fun c1 => ?_)
  · rw [if_pos c1] at h
    exact x_wk (L' := [none, none, none, none, none, none, none]) ⟨Or.inl rfl, Or.inl rfl, Or.inl rfl, Or.inl rfl, Or.inl rfl, Or.inl rfl, Or.inl rfl, trivial⟩ (w_M_roll_b18 hQ s h)
  · rw [if_neg c1] at h
    refine x_lload_n (pc := 6) d_M_roll_6 rfl ?_
    refine x_aload_n (pc := 7) d_M_roll_7 rfl ?_
    refine x_getf (c := 1) (k := 4) (v := vI (mI 4 s)) (pc := 8) d_M_roll_8 l_M_247 (xm_at s R) rfl ?_
    refine x_iconst (v := (2 : Int32)) (pc := 11) d_M_roll_11 (by decide) ?_
    refine x_isub (pc := 12) d_M_roll_12 ?_
    refine x_i2l (pc := 13) d_M_roll_13 ?_
    refine x_lcmp (pc := 14) d_M_roll_14 ?_
    refine x_if_le (tgt := 20) (pc := 15) d_M_roll_15 (by decide) (fun c2 => ?_) (fun c2 => ?_)
    · rw [if_pos c2] at h
      refine x_aload_n (pc := 20) d_M_roll_20 rfl ?_
      refine x_dup (pc := 21) d_M_roll_21 rfl ?_
      refine x_getf (c := 1) (k := 4) (v := vI (mI 4 s)) (pc := 22) d_M_roll_22 l_M_247 (xm_at s R) rfl ?_
      refine x_iconst (v := (2 : Int32)) (pc := 25) d_M_roll_25 (by decide) ?_
      refine x_isub (pc := 26) d_M_roll_26 ?_
      refine xm_p4 (pc := 27) d_M_roll_27 l_M_247 ?_
      refine x_lload_n (pc := 30) d_M_roll_30 rfl ?_
      refine x_l2i (pc := 31) d_M_roll_31 ?_
      refine x_istore (pc := 32) d_M_roll_32 (by decide) ?_
      show xW sc m_M_roll (d + 1) Q (mH (sI 4 ((mI 4 s) - (2 : Int32)) s) R) 34 [some (vA 373), some (vL a1), none, some (vL a2), none, some (vI a1.toInt32), none] []
      refine x_iconst (v := (0 : Int32)) (pc := 34) d_M_roll_34 (by decide) ?_
      refine x_istore (pc := 35) d_M_roll_35 (by decide) ?_
      show xW sc m_M_roll (d + 1) Q (mH (sI 4 ((mI 4 s) - (2 : Int32)) s) R) 37 [some (vA 373), some (vL a1), none, some (vL a2), none, some (vI a1.toInt32), some (vI (0 : Int32))] []
      exact w_M_roll_b37 hQ mF a1 a2 a1.toInt32 (0 : Int32) (sI 4 ((mI 4 s) - (2 : Int32)) s) h
    · rw [if_neg c2] at h
      exact x_wk (L' := [none, none, none, none, none, none, none]) ⟨Or.inl rfl, Or.inl rfl, Or.inl rfl, Or.inl rfl, Or.inl rfl, Or.inl rfl, Or.inl rfl, trivial⟩ (w_M_roll_b18 hQ s h)
def f_M_runArray (s : MT) (a1 : Int64) : Option (Int32 × MT) := (if (mI 16 s) = (8 : Int32) then some ((12 : Int32), s) else (f_M_frame s (1 : Int32) a1).bind fun s3 => some ((0 : Int32), s3))
theorem w_M_runArray {sc : xSc} {d : Nat} {Q : xR → xH → Prop} {R : xH} {sZ : MT} {rZ : Int32} (hQ : Q (.inl (some (vI rZ))) (mH sZ R)) (s : MT) (a1 : Int64) (h : f_M_runArray s a1 = some (rZ, sZ)) : xW sc m_M_runArray (d + 1) Q (mH s R) 0 (xent [vA 373, vL a1] m_M_runArray.2.2.1) [] := by
  show xW sc m_M_runArray (d + 1) Q (mH s R) 0 [some (vA 373), some (vL a1), none] []
  unfold f_M_runArray at h
  refine x_aload_n (pc := 0) d_M_runArray_0 rfl ?_
  refine x_getf (c := 1) (k := 16) (v := vI (mI 16 s)) (pc := 1) d_M_runArray_1 l_M_349 (xm_at s R) rfl ?_
  refine x_bipush (v := (8 : Int32)) (pc := 4) d_M_runArray_4 (by decide) ?_
  refine x_icmp_ne (tgt := 12) (pc := 6) d_M_runArray_6 (by decide) (fun c1 => ?_) (fun c1 => ?_)
  · rw [if_neg c1] at h
    refine x_aload_n (pc := 12) d_M_runArray_12 rfl ?_
    refine x_iconst (v := (1 : Int32)) (pc := 13) d_M_runArray_13 (by decide) ?_
    refine x_lload_n (pc := 14) d_M_runArray_14 rfl ?_
    obtain ⟨s3, e2, h⟩ := Option.bind_eq_some_iff.mp h
    refine x_invv (c := 1) (av := [vI (1 : Int32), vL a1]) (st := []) (pc := 15) d_M_runArray_15 cv_M_352 y_M_frame (xm_at s R) rfl (Nat.le_of_ble_eq_true rfl) (Nat.le_of_ble_eq_true rfl) (w_M_frame (d := d + 0) (Q := fun r h' => r = .inl none ∧ h' = mH s3 R) (R := R) ⟨rfl, rfl⟩ s (1 : Int32) a1 e2) (fun v h' z => ?_) (fun a h' z => nomatch z.1)
    obtain ⟨z1, z2⟩ := z
    subst z2
    cases z1
    show xW sc m_M_runArray (d + 1) Q (mH s3 R) 18 [some (vA 373), some (vL a1), none] []
    refine x_iconst (v := (0 : Int32)) (pc := 18) d_M_runArray_18 (by decide) ?_
    cases h
    exact x_iret (ty := .int) (pc := 19) d_M_runArray_19 rfl (rfl) hQ
  · rw [if_pos c1] at h
    refine x_bipush (v := (12 : Int32)) (pc := 9) d_M_runArray_9 (by decide) ?_
    cases h
    exact x_iret (ty := .int) (pc := 11) d_M_runArray_11 rfl (rfl) hQ
def f_M_suits_b54  (t0 : Int32) (s : MT) : Option (Int32 × MT) := (if xbo t0 = true then some (t0, s) else none)
theorem w_M_suits_b54 {sc : xSc} {d : Nat} {Q : xR → xH → Prop} {R : xH} {sZ : MT} {rZ : Int32}  (hQ : Q (.inl (some (vI rZ))) (mH sZ R)) (t0 : Int32) (s : MT) (h : f_M_suits_b54  t0 s = some (rZ, sZ)) : xW sc m_M_suits (d + 1) Q (mH s R) 54 [none, none, none] [vI t0] := by
  unfold f_M_suits_b54 at h
  obtain ⟨c1, h⟩ := ite_some h
  cases h
  exact x_iret (ty := .boolean) (pc := 54) d_M_suits_54 rfl (xbo_n c1) hQ
def f_M_suits_b53  (s : MT) : Option (Int32 × MT) := f_M_suits_b54 (0 : Int32) s
theorem w_M_suits_b53 {sc : xSc} {d : Nat} {Q : xR → xH → Prop} {R : xH} {sZ : MT} {rZ : Int32}  (hQ : Q (.inl (some (vI rZ))) (mH sZ R)) (s : MT) (h : f_M_suits_b53  s = some (rZ, sZ)) : xW sc m_M_suits (d + 1) Q (mH s R) 53 [none, none, none] [] := by
  unfold f_M_suits_b53 at h
  refine x_iconst (v := (0 : Int32)) (pc := 53) d_M_suits_53 (by decide) ?_
  exact w_M_suits_b54 hQ (0 : Int32) s h
def f_M_suits_b49  (s : MT) : Option (Int32 × MT) := f_M_suits_b54 (1 : Int32) s
theorem w_M_suits_b49 {sc : xSc} {d : Nat} {Q : xR → xH → Prop} {R : xH} {sZ : MT} {rZ : Int32}  (hQ : Q (.inl (some (vI rZ))) (mH sZ R)) (s : MT) (h : f_M_suits_b49  s = some (rZ, sZ)) : xW sc m_M_suits (d + 1) Q (mH s R) 49 [none, none, none] [] := by
  unfold f_M_suits_b49 at h
  refine x_iconst (v := (1 : Int32)) (pc := 49) d_M_suits_49 (by decide) ?_
  refine x_goto (tgt := 54) (pc := 50) d_M_suits_50 (by decide) ?_
  exact w_M_suits_b54 hQ (1 : Int32) s h
def f_M_suits (s : MT) (a1 : Int32) (a2 : Int32) : Option (Int32 × MT) := (if a2 = (9 : Int32) then f_M_suits_b49 s else (if a2 = (2 : Int32) then (f_M_isNumber s a1).bind fun (v16, s15) => (if v16 = 0 then f_M_suits_b53 s15 else f_M_suits_b49 s15) else (if a2 = (5 : Int32) then (f_M_isProcedure s a1).bind fun (v11, s10) => (if v11 = 0 then f_M_suits_b53 s10 else f_M_suits_b49 s10) else (f_M_kindOf s a1).bind fun (v6, s5) => (if v6 = (a2 - (1 : Int32)) then f_M_suits_b49 s5 else f_M_suits_b53 s5))))
theorem w_M_suits {sc : xSc} {d : Nat} {Q : xR → xH → Prop} {R : xH} {sZ : MT} {rZ : Int32} (hQ : Q (.inl (some (vI rZ))) (mH sZ R)) (s : MT) (a1 : Int32) (a2 : Int32) (h : f_M_suits s a1 a2 = some (rZ, sZ)) : xW sc m_M_suits (d + 1) Q (mH s R) 0 (xent [vA 373, vI a1, vI a2] m_M_suits.2.2.1) [] := by
  show xW sc m_M_suits (d + 1) Q (mH s R) 0 [some (vA 373), some (vI a1), some (vI a2)] []
  unfold f_M_suits at h
  refine x_iload_n (pc := 0) d_M_suits_0 rfl ?_
  refine x_bipush (v := (9 : Int32)) (pc := 1) d_M_suits_1 (by decide) ?_
  refine x_icmp_eq (tgt := 49) (pc := 3) d_M_suits_3 (by decide) (fun c1 => ?_) (fun c1 => ?_)
  · rw [if_pos c1] at h
    exact x_wk (L' := [none, none, none]) ⟨Or.inl rfl, Or.inl rfl, Or.inl rfl, trivial⟩ (w_M_suits_b49 hQ s h)
  · rw [if_neg c1] at h
    refine x_iload_n (pc := 6) d_M_suits_6 rfl ?_
    refine x_iconst (v := (2 : Int32)) (pc := 7) d_M_suits_7 (by decide) ?_
    refine x_icmp_ne (tgt := 22) (pc := 8) d_M_suits_8 (by decide) (fun c2 => ?_) (fun c2 => ?_)
    · rw [if_neg c2] at h
      refine x_iload_n (pc := 22) d_M_suits_22 rfl ?_
      refine x_iconst (v := (5 : Int32)) (pc := 23) d_M_suits_23 (by decide) ?_
      refine x_icmp_ne (tgt := 38) (pc := 24) d_M_suits_24 (by decide) (fun c3 => ?_) (fun c3 => ?_)
      · rw [if_neg c3] at h
        refine x_aload_n (pc := 38) d_M_suits_38 rfl ?_
        refine x_iload_n (pc := 39) d_M_suits_39 rfl ?_
        obtain ⟨⟨v6, s5⟩, e4, h⟩ := Option.bind_eq_some_iff.mp h
        dsimp only at h
        refine x_invv (c := 1) (av := [vI a1]) (st := []) (pc := 40) d_M_suits_40 cv_M_421 y_M_kindOf (xm_at s R) rfl (Nat.le_of_ble_eq_true rfl) (Nat.le_of_ble_eq_true rfl) (w_M_kindOf (d := d + 0) (Q := fun r h' => r = .inl (some (vI v6)) ∧ h' = mH s5 R) (R := R) ⟨rfl, rfl⟩ s a1 e4) (fun v h' z => ?_) (fun a h' z => nomatch z.1)
        obtain ⟨z1, z2⟩ := z
        subst z2
        cases z1
        show xW sc m_M_suits (d + 1) Q (mH s5 R) 43 [some (vA 373), some (vI a1), some (vI a2)] [vI v6]
        refine x_iload_n (pc := 43) d_M_suits_43 rfl ?_
        refine x_iconst (v := (1 : Int32)) (pc := 44) d_M_suits_44 (by decide) ?_
        refine x_isub (pc := 45) d_M_suits_45 ?_
        refine x_icmp_ne (tgt := 53) (pc := 46) d_M_suits_46 (by decide) (fun c8 => ?_) (fun c8 => ?_)
        · rw [if_neg c8] at h
          exact x_wk (L' := [none, none, none]) ⟨Or.inl rfl, Or.inl rfl, Or.inl rfl, trivial⟩ (w_M_suits_b53 hQ s5 h)
        · rw [if_pos c8] at h
          exact x_wk (L' := [none, none, none]) ⟨Or.inl rfl, Or.inl rfl, Or.inl rfl, trivial⟩ (w_M_suits_b49 hQ s5 h)
      · rw [if_pos c3] at h
        refine x_aload_n (pc := 27) d_M_suits_27 rfl ?_
        refine x_iload_n (pc := 28) d_M_suits_28 rfl ?_
        obtain ⟨⟨v11, s10⟩, e9, h⟩ := Option.bind_eq_some_iff.mp h
        dsimp only at h
        refine x_invv (c := 1) (av := [vI a1]) (st := []) (pc := 29) d_M_suits_29 cv_M_378 y_M_isProcedure (xm_at s R) rfl (Nat.le_of_ble_eq_true rfl) (Nat.le_of_ble_eq_true rfl) (w_M_isProcedure (d := d + 0) (Q := fun r h' => r = .inl (some (vI v11)) ∧ h' = mH s10 R) (R := R) ⟨rfl, rfl⟩ s a1 e9) (fun v h' z => ?_) (fun a h' z => nomatch z.1)
        obtain ⟨z1, z2⟩ := z
        subst z2
        cases z1
        show xW sc m_M_suits (d + 1) Q (mH s10 R) 32 [some (vA 373), some (vI a1), some (vI a2)] [vI v11]
        refine x_if_eq (tgt := 53) (pc := 32) d_M_suits_32 (by decide) (fun c13 => ?_) (fun c13 => ?_)
        · rw [if_pos c13] at h
          exact x_wk (L' := [none, none, none]) ⟨Or.inl rfl, Or.inl rfl, Or.inl rfl, trivial⟩ (w_M_suits_b53 hQ s10 h)
        · rw [if_neg c13] at h
          refine x_goto (tgt := 49) (pc := 35) d_M_suits_35 (by decide) ?_
          exact x_wk (L' := [none, none, none]) ⟨Or.inl rfl, Or.inl rfl, Or.inl rfl, trivial⟩ (w_M_suits_b49 hQ s10 h)
    · rw [if_pos c2] at h
      refine x_aload_n (pc := 11) d_M_suits_11 rfl ?_
      refine x_iload_n (pc := 12) d_M_suits_12 rfl ?_
      obtain ⟨⟨v16, s15⟩, e14, h⟩ := Option.bind_eq_some_iff.mp h
      dsimp only at h
      refine x_invv (c := 1) (av := [vI a1]) (st := []) (pc := 13) d_M_suits_13 cv_M_418 y_M_isNumber (xm_at s R) rfl (Nat.le_of_ble_eq_true rfl) (Nat.le_of_ble_eq_true rfl) (w_M_isNumber (d := d + 0) (Q := fun r h' => r = .inl (some (vI v16)) ∧ h' = mH s15 R) (R := R) ⟨rfl, rfl⟩ s a1 e14) (fun v h' z => ?_) (fun a h' z => nomatch z.1)
      obtain ⟨z1, z2⟩ := z
      subst z2
      cases z1
      show xW sc m_M_suits (d + 1) Q (mH s15 R) 16 [some (vA 373), some (vI a1), some (vI a2)] [vI v16]
      refine x_if_eq (tgt := 53) (pc := 16) d_M_suits_16 (by decide) (fun c18 => ?_) (fun c18 => ?_)
      · rw [if_pos c18] at h
        exact x_wk (L' := [none, none, none]) ⟨Or.inl rfl, Or.inl rfl, Or.inl rfl, trivial⟩ (w_M_suits_b53 hQ s15 h)
      · rw [if_neg c18] at h
        refine x_goto (tgt := 49) (pc := 19) d_M_suits_19 (by decide) ?_
        exact x_wk (L' := [none, none, none]) ⟨Or.inl rfl, Or.inl rfl, Or.inl rfl, trivial⟩ (w_M_suits_b49 hQ s15 h)
def f_M_suitsOther_b195  (t0 : Int32) (s : MT) : Option (Int32 × MT) := (if xbo t0 = true then some (t0, s) else none)
theorem w_M_suitsOther_b195 {sc : xSc} {d : Nat} {Q : xR → xH → Prop} {R : xH} {sZ : MT} {rZ : Int32}  (hQ : Q (.inl (some (vI rZ))) (mH sZ R)) (t0 : Int32) (s : MT) (h : f_M_suitsOther_b195  t0 s = some (rZ, sZ)) : xW sc m_M_suitsOther (d + 1) Q (mH s R) 195 [none, none, none, none, none] [vI t0] := by
  unfold f_M_suitsOther_b195 at h
  obtain ⟨c1, h⟩ := ite_some h
  cases h
  exact x_iret (ty := .boolean) (pc := 195) d_M_suitsOther_195 rfl (xbo_n c1) hQ
def f_M_suitsOther_b194  (s : MT) : Option (Int32 × MT) := f_M_suitsOther_b195 (0 : Int32) s
theorem w_M_suitsOther_b194 {sc : xSc} {d : Nat} {Q : xR → xH → Prop} {R : xH} {sZ : MT} {rZ : Int32}  (hQ : Q (.inl (some (vI rZ))) (mH sZ R)) (s : MT) (h : f_M_suitsOther_b194  s = some (rZ, sZ)) : xW sc m_M_suitsOther (d + 1) Q (mH s R) 194 [none, none, none, none, none] [] := by
  unfold f_M_suitsOther_b194 at h
  refine x_iconst (v := (0 : Int32)) (pc := 194) d_M_suitsOther_194 (by decide) ?_
  exact w_M_suitsOther_b195 hQ (0 : Int32) s h
def f_M_suitsOther_b190  (s : MT) : Option (Int32 × MT) := f_M_suitsOther_b195 (1 : Int32) s
theorem w_M_suitsOther_b190 {sc : xSc} {d : Nat} {Q : xR → xH → Prop} {R : xH} {sZ : MT} {rZ : Int32}  (hQ : Q (.inl (some (vI rZ))) (mH sZ R)) (s : MT) (h : f_M_suitsOther_b190  s = some (rZ, sZ)) : xW sc m_M_suitsOther (d + 1) Q (mH s R) 190 [none, none, none, none, none] [] := by
  unfold f_M_suitsOther_b190 at h
  refine x_iconst (v := (1 : Int32)) (pc := 190) d_M_suitsOther_190 (by decide) ?_
  refine x_goto (tgt := 195) (pc := 191) d_M_suitsOther_191 (by decide) ?_
  exact w_M_suitsOther_b195 hQ (1 : Int32) s h
def f_M_suitsOther_b178  (l3 : Int32) (l4 : Int32) (s : MT) : Option (Int32 × MT) := (if l3 = (6 : Int32) then (if l4 = (3 : Int32) then f_M_suitsOther_b190 s else f_M_suitsOther_b194 s) else f_M_suitsOther_b194 s)
theorem w_M_suitsOther_b178 {sc : xSc} {d : Nat} {Q : xR → xH → Prop} {R : xH} {sZ : MT} {rZ : Int32}  (hQ : Q (.inl (some (vI rZ))) (mH sZ R)) (l3 : Int32) (l4 : Int32) (s : MT) (h : f_M_suitsOther_b178  l3 l4 s = some (rZ, sZ)) : xW sc m_M_suitsOther (d + 1) Q (mH s R) 178 [none, none, none, some (vI l3), some (vI l4)] [] := by
  unfold f_M_suitsOther_b178 at h
  refine x_iload_n (pc := 178) d_M_suitsOther_178 rfl ?_
  refine x_bipush (v := (6 : Int32)) (pc := 179) d_M_suitsOther_179 (by decide) ?_
  refine x_icmp_ne (tgt := 194) (pc := 181) d_M_suitsOther_181 (by decide) (fun c1 => ?_) (fun c1 => ?_)
  · rw [if_neg c1] at h
    exact x_wk (L' := [none, none, none, none, none]) ⟨Or.inl rfl, Or.inl rfl, Or.inl rfl, Or.inl rfl, Or.inl rfl, trivial⟩ (w_M_suitsOther_b194 hQ s h)
  · rw [if_pos c1] at h
    refine x_iload (pc := 184) d_M_suitsOther_184 rfl ?_
    refine x_iconst (v := (3 : Int32)) (pc := 186) d_M_suitsOther_186 (by decide) ?_
    refine x_icmp_ne (tgt := 194) (pc := 187) d_M_suitsOther_187 (by decide) (fun c2 => ?_) (fun c2 => ?_)
    · rw [if_neg c2] at h
      exact x_wk (L' := [none, none, none, none, none]) ⟨Or.inl rfl, Or.inl rfl, Or.inl rfl, Or.inl rfl, Or.inl rfl, trivial⟩ (w_M_suitsOther_b194 hQ s h)
    · rw [if_pos c2] at h
      exact x_wk (L' := [none, none, none, none, none]) ⟨Or.inl rfl, Or.inl rfl, Or.inl rfl, Or.inl rfl, Or.inl rfl, trivial⟩ (w_M_suitsOther_b190 hQ s h)
def f_M_suitsOther_b167  (t0 : Int32) (s : MT) : Option (Int32 × MT) := (if xbo t0 = true then some (t0, s) else none)
theorem w_M_suitsOther_b167 {sc : xSc} {d : Nat} {Q : xR → xH → Prop} {R : xH} {sZ : MT} {rZ : Int32}  (hQ : Q (.inl (some (vI rZ))) (mH sZ R)) (t0 : Int32) (s : MT) (h : f_M_suitsOther_b167  t0 s = some (rZ, sZ)) : xW sc m_M_suitsOther (d + 1) Q (mH s R) 167 [none, none, none, none, none] [vI t0] := by
  unfold f_M_suitsOther_b167 at h
  obtain ⟨c1, h⟩ := ite_some h
  cases h
  exact x_iret (ty := .boolean) (pc := 167) d_M_suitsOther_167 rfl (xbo_n c1) hQ
def f_M_suitsOther_b162  (s : MT) : Option (Int32 × MT) := f_M_suitsOther_b167 (1 : Int32) s
theorem w_M_suitsOther_b162 {sc : xSc} {d : Nat} {Q : xR → xH → Prop} {R : xH} {sZ : MT} {rZ : Int32}  (hQ : Q (.inl (some (vI rZ))) (mH sZ R)) (s : MT) (h : f_M_suitsOther_b162  s = some (rZ, sZ)) : xW sc m_M_suitsOther (d + 1) Q (mH s R) 162 [none, none, none, none, none] [] := by
  unfold f_M_suitsOther_b162 at h
  refine x_iconst (v := (1 : Int32)) (pc := 162) d_M_suitsOther_162 (by decide) ?_
  refine x_goto (tgt := 167) (pc := 163) d_M_suitsOther_163 (by decide) ?_
  exact w_M_suitsOther_b167 hQ (1 : Int32) s h
def f_M_suitsOther_b144  (t0 : Int32) (s : MT) : Option (Int32 × MT) := (if xbo t0 = true then some (t0, s) else none)
theorem w_M_suitsOther_b144 {sc : xSc} {d : Nat} {Q : xR → xH → Prop} {R : xH} {sZ : MT} {rZ : Int32}  (hQ : Q (.inl (some (vI rZ))) (mH sZ R)) (t0 : Int32) (s : MT) (h : f_M_suitsOther_b144  t0 s = some (rZ, sZ)) : xW sc m_M_suitsOther (d + 1) Q (mH s R) 144 [none, none, none, none, none] [vI t0] := by
  unfold f_M_suitsOther_b144 at h
  obtain ⟨c1, h⟩ := ite_some h
  cases h
  exact x_iret (ty := .boolean) (pc := 144) d_M_suitsOther_144 rfl (xbo_n c1) hQ
def f_M_suitsOther_b139  (s : MT) : Option (Int32 × MT) := f_M_suitsOther_b144 (1 : Int32) s
theorem w_M_suitsOther_b139 {sc : xSc} {d : Nat} {Q : xR → xH → Prop} {R : xH} {sZ : MT} {rZ : Int32}  (hQ : Q (.inl (some (vI rZ))) (mH sZ R)) (s : MT) (h : f_M_suitsOther_b139  s = some (rZ, sZ)) : xW sc m_M_suitsOther (d + 1) Q (mH s R) 139 [none, none, none, none, none] [] := by
  unfold f_M_suitsOther_b139 at h
  refine x_iconst (v := (1 : Int32)) (pc := 139) d_M_suitsOther_139 (by decide) ?_
  refine x_goto (tgt := 144) (pc := 140) d_M_suitsOther_140 (by decide) ?_
  exact w_M_suitsOther_b144 hQ (1 : Int32) s h
def f_M_suitsOther_b123  (t0 : Int32) (s : MT) : Option (Int32 × MT) := (if xbo t0 = true then some (t0, s) else none)
theorem w_M_suitsOther_b123 {sc : xSc} {d : Nat} {Q : xR → xH → Prop} {R : xH} {sZ : MT} {rZ : Int32}  (hQ : Q (.inl (some (vI rZ))) (mH sZ R)) (t0 : Int32) (s : MT) (h : f_M_suitsOther_b123  t0 s = some (rZ, sZ)) : xW sc m_M_suitsOther (d + 1) Q (mH s R) 123 [none, none, none, none, none] [vI t0] := by
  unfold f_M_suitsOther_b123 at h
  obtain ⟨c1, h⟩ := ite_some h
  cases h
  exact x_iret (ty := .boolean) (pc := 123) d_M_suitsOther_123 rfl (xbo_n c1) hQ
def f_M_suitsOther_b122  (s : MT) : Option (Int32 × MT) := f_M_suitsOther_b123 (0 : Int32) s
theorem w_M_suitsOther_b122 {sc : xSc} {d : Nat} {Q : xR → xH → Prop} {R : xH} {sZ : MT} {rZ : Int32}  (hQ : Q (.inl (some (vI rZ))) (mH sZ R)) (s : MT) (h : f_M_suitsOther_b122  s = some (rZ, sZ)) : xW sc m_M_suitsOther (d + 1) Q (mH s R) 122 [none, none, none, none, none] [] := by
  unfold f_M_suitsOther_b122 at h
  refine x_iconst (v := (0 : Int32)) (pc := 122) d_M_suitsOther_122 (by decide) ?_
  exact w_M_suitsOther_b123 hQ (0 : Int32) s h
def f_M_suitsOther_b107  (l2 : Int32) (l3 : Int32) (s : MT) : Option (Int32 × MT) := (f_M_kindOf s (l2 - (1 : Int32))).bind fun (v3, s2) => (if v3 = l3 then f_M_suitsOther_b123 (1 : Int32) s2 else f_M_suitsOther_b122 s2)
theorem w_M_suitsOther_b107 {sc : xSc} {d : Nat} {Q : xR → xH → Prop} {R : xH} {sZ : MT} {rZ : Int32}  (hQ : Q (.inl (some (vI rZ))) (mH sZ R)) (l2 : Int32) (l3 : Int32) (s : MT) (h : f_M_suitsOther_b107  l2 l3 s = some (rZ, sZ)) : xW sc m_M_suitsOther (d + 1) Q (mH s R) 107 [some (vA 373), none, some (vI l2), some (vI l3), none] [] := by
  unfold f_M_suitsOther_b107 at h
  refine x_aload_n (pc := 107) d_M_suitsOther_107 rfl ?_
  refine x_iload_n (pc := 108) d_M_suitsOther_108 rfl ?_
  refine x_iconst (v := (1 : Int32)) (pc := 109) d_M_suitsOther_109 (by decide) ?_
  refine x_isub (pc := 110) d_M_suitsOther_110 ?_
  obtain ⟨⟨v3, s2⟩, e1, h⟩ := Option.bind_eq_some_iff.mp h
  dsimp only at h
  refine x_invv (c := 1) (av := [vI (l2 - (1 : Int32))]) (st := []) (pc := 111) d_M_suitsOther_111 cv_M_421 y_M_kindOf (xm_at s R) rfl (Nat.le_of_ble_eq_true rfl) (Nat.le_of_ble_eq_true rfl) (w_M_kindOf (d := d + 0) (Q := fun r h' => r = .inl (some (vI v3)) ∧ h' = mH s2 R) (R := R) ⟨rfl, rfl⟩ s (l2 - (1 : Int32)) e1) (fun v h' z => ?_) (fun a h' z => nomatch z.1)
  obtain ⟨z1, z2⟩ := z
  subst z2
  cases z1
  show xW sc m_M_suitsOther (d + 1) Q (mH s2 R) 114 [some (vA 373), none, some (vI l2), some (vI l3), none] [vI v3]
  refine x_iload_n (pc := 114) d_M_suitsOther_114 rfl ?_
  refine x_icmp_ne (tgt := 122) (pc := 115) d_M_suitsOther_115 (by decide) (fun c5 => ?_) (fun c5 => ?_)
  · rw [if_neg c5] at h
    exact x_wk (L' := [none, none, none, none, none]) ⟨Or.inl rfl, Or.inl rfl, Or.inl rfl, Or.inl rfl, Or.inl rfl, trivial⟩ (w_M_suitsOther_b122 hQ s2 h)
  · rw [if_pos c5] at h
    refine x_iconst (v := (1 : Int32)) (pc := 118) d_M_suitsOther_118 (by decide) ?_
    refine x_goto (tgt := 123) (pc := 119) d_M_suitsOther_119 (by decide) ?_
    exact x_wk (L' := [none, none, none, none, none]) ⟨Or.inl rfl, Or.inl rfl, Or.inl rfl, Or.inl rfl, Or.inl rfl, trivial⟩ (w_M_suitsOther_b123 hQ (1 : Int32) s2 h)
def f_M_suitsOther_b98  (l2 : Int32) (l3 : Int32) (s : MT) : Option (Int32 × MT) := (if l3 = (2 : Int32) then f_M_suitsOther_b107 l2 l3 s else (if l3 = 0 then f_M_suitsOther_b107 l2 l3 s else f_M_suitsOther_b122 s))
theorem w_M_suitsOther_b98 {sc : xSc} {d : Nat} {Q : xR → xH → Prop} {R : xH} {sZ : MT} {rZ : Int32}  (hQ : Q (.inl (some (vI rZ))) (mH sZ R)) (l2 : Int32) (l3 : Int32) (s : MT) (h : f_M_suitsOther_b98  l2 l3 s = some (rZ, sZ)) : xW sc m_M_suitsOther (d + 1) Q (mH s R) 98 [some (vA 373), none, some (vI l2), some (vI l3), none] [] := by
  unfold f_M_suitsOther_b98 at h
  refine x_iload_n (pc := 98) d_M_suitsOther_98 rfl ?_
  refine x_iconst (v := (2 : Int32)) (pc := 99) d_M_suitsOther_99 (by decide) ?_
  refine x_icmp_eq (tgt := 107) (pc := 100) d_M_suitsOther_100 (by decide) (fun c1 => ?_) (fun c1 => ?_)
  · rw [if_pos c1] at h
    exact w_M_suitsOther_b107 hQ l2 l3 s h
  · rw [if_neg c1] at h
    refine x_iload_n (pc := 103) d_M_suitsOther_103 rfl ?_
    refine x_if_ne (tgt := 122) (pc := 104) d_M_suitsOther_104 (by decide) (fun c2 => ?_) (fun c2 => ?_)
    · rw [if_neg c2] at h
      exact x_wk (L' := [none, none, none, none, none]) ⟨Or.inl rfl, Or.inl rfl, Or.inl rfl, Or.inl rfl, Or.inl rfl, trivial⟩ (w_M_suitsOther_b122 hQ s h)
    · rw [if_pos c2] at h
      exact w_M_suitsOther_b107 hQ l2 l3 s h
def f_M_suitsOther_b84  (l1 : Int32) (l2 : Int32) (l3 : Int32) (t0 : Int32) (s : MT) : Option (Int32 × MT) := (if l1 = (29 : Int32) then f_M_suitsOther_b98 l2 l3 s else (if l1 = (30 : Int32) then f_M_suitsOther_b98 l2 l3 s else (if l1 = (31 : Int32) then (if l3 = (2 : Int32) then f_M_suitsOther_b139 s else (if l3 = 0 then f_M_suitsOther_b139 s else f_M_suitsOther_b144 (0 : Int32) s)) else (if l1 = (38 : Int32) then (if l3 = (5 : Int32) then f_M_suitsOther_b162 s else (if l3 = (6 : Int32) then f_M_suitsOther_b162 s else f_M_suitsOther_b167 (0 : Int32) s)) else (if l3 = (5 : Int32) then (if t0 = 0 then f_M_suitsOther_b190 s else f_M_suitsOther_b178 l3 t0 s) else f_M_suitsOther_b178 l3 t0 s)))))
theorem w_M_suitsOther_b84 {sc : xSc} {d : Nat} {Q : xR → xH → Prop} {R : xH} {sZ : MT} {rZ : Int32}  (hQ : Q (.inl (some (vI rZ))) (mH sZ R)) (l1 : Int32) (l2 : Int32) (l3 : Int32) (t0 : Int32) (s : MT) (h : f_M_suitsOther_b84  l1 l2 l3 t0 s = some (rZ, sZ)) : xW sc m_M_suitsOther (d + 1) Q (mH s R) 84 [some (vA 373), some (vI l1), some (vI l2), some (vI l3), none] [vI t0] := by
  unfold f_M_suitsOther_b84 at h
  refine x_istore (pc := 84) d_M_suitsOther_84 (by decide) ?_
  show xW sc m_M_suitsOther (d + 1) Q (mH s R) 86 [some (vA 373), some (vI l1), some (vI l2), some (vI l3), some (vI t0)] []
  refine x_iload_n (pc := 86) d_M_suitsOther_86 rfl ?_
  refine x_bipush (v := (29 : Int32)) (pc := 87) d_M_suitsOther_87 (by decide) ?_
  refine x_icmp_eq (tgt := 98) (pc := 89) d_M_suitsOther_89 (by decide) (fun c1 => ?_) (fun c1 => ?_)
  · rw [if_pos c1] at h
    exact x_wk (L' := [some (vA 373), none, some (vI l2), some (vI l3), none]) ⟨Or.inr rfl, Or.inl rfl, Or.inr rfl, Or.inr rfl, Or.inl rfl, trivial⟩ (w_M_suitsOther_b98 hQ l2 l3 s h)
  · rw [if_neg c1] at h
    refine x_iload_n (pc := 92) d_M_suitsOther_92 rfl ?_
    refine x_bipush (v := (30 : Int32)) (pc := 93) d_M_suitsOther_93 (by decide) ?_
    refine x_icmp_ne (tgt := 124) (pc := 95) d_M_suitsOther_95 (by decide) (fun c2 => ?_) (fun c2 => ?_)
    · rw [if_neg c2] at h
      refine x_iload_n (pc := 124) d_M_suitsOther_124 rfl ?_
      refine x_bipush (v := (31 : Int32)) (pc := 125) d_M_suitsOther_125 (by decide) ?_
      refine x_icmp_ne (tgt := 145) (pc := 127) d_M_suitsOther_127 (by decide) (fun c3 => ?_) (fun c3 => ?_)
      · rw [if_neg c3] at h
        refine x_iload_n (pc := 145) d_M_suitsOther_145 rfl ?_
        refine x_bipush (v := (38 : Int32)) (pc := 146) d_M_suitsOther_146 (by decide) ?_
        refine x_icmp_ne (tgt := 168) (pc := 148) d_M_suitsOther_148 (by decide) (fun c4 => ?_) (fun c4 => ?_)
        · rw [if_neg c4] at h
          refine x_iload_n (pc := 168) d_M_suitsOther_168 rfl ?_
          refine x_iconst (v := (5 : Int32)) (pc := 169) d_M_suitsOther_169 (by decide) ?_
          refine x_icmp_ne (tgt := 178) (pc := 170) d_M_suitsOther_170 (by decide) (fun c5 => ?_) (fun c5 => ?_)
          · rw [if_neg c5] at h
            exact x_wk (L' := [none, none, none, some (vI l3), some (vI t0)]) ⟨Or.inl rfl, Or.inl rfl, Or.inl rfl, Or.inr rfl, Or.inr rfl, trivial⟩ (w_M_suitsOther_b178 hQ l3 t0 s h)
          · rw [if_pos c5] at h
            refine x_iload (pc := 173) d_M_suitsOther_173 rfl ?_
            refine x_if_eq (tgt := 190) (pc := 175) d_M_suitsOther_175 (by decide) (fun c6 => ?_) (fun c6 => ?_)
            · rw [if_pos c6] at h
              exact x_wk (L' := [none, none, none, none, none]) ⟨Or.inl rfl, Or.inl rfl, Or.inl rfl, Or.inl rfl, Or.inl rfl, trivial⟩ (w_M_suitsOther_b190 hQ s h)
            · rw [if_neg c6] at h
              exact x_wk (L' := [none, none, none, some (vI l3), some (vI t0)]) ⟨Or.inl rfl, Or.inl rfl, Or.inl rfl, Or.inr rfl, Or.inr rfl, trivial⟩ (w_M_suitsOther_b178 hQ l3 t0 s h)
        · rw [if_pos c4] at h
          refine x_iload_n (pc := 151) d_M_suitsOther_151 rfl ?_
          refine x_iconst (v := (5 : Int32)) (pc := 152) d_M_suitsOther_152 (by decide) ?_
          refine x_icmp_eq (tgt := 162) (pc := 153) d_M_suitsOther_153 (by decide) (fun c7 => ?_) (fun c7 => ?_)
          · rw [if_pos c7] at h
            exact x_wk (L' := [none, none, none, none, none]) ⟨Or.inl rfl, Or.inl rfl, Or.inl rfl, Or.inl rfl, Or.inl rfl, trivial⟩ (w_M_suitsOther_b162 hQ s h)
          · rw [if_neg c7] at h
            refine x_iload_n (pc := 156) d_M_suitsOther_156 rfl ?_
            refine x_bipush (v := (6 : Int32)) (pc := 157) d_M_suitsOther_157 (by decide) ?_
            refine x_icmp_ne (tgt := 166) (pc := 159) d_M_suitsOther_159 (by decide) (fun c8 => ?_) (fun c8 => ?_)
            · rw [if_neg c8] at h
              refine x_iconst (v := (0 : Int32)) (pc := 166) d_M_suitsOther_166 (by decide) ?_
              exact x_wk (L' := [none, none, none, none, none]) ⟨Or.inl rfl, Or.inl rfl, Or.inl rfl, Or.inl rfl, Or.inl rfl, trivial⟩ (w_M_suitsOther_b167 hQ (0 : Int32) s h)
            · rw [if_pos c8] at h
              exact x_wk (L' := [none, none, none, none, none]) ⟨Or.inl rfl, Or.inl rfl, Or.inl rfl, Or.inl rfl, Or.inl rfl, trivial⟩ (w_M_suitsOther_b162 hQ s h)
      · rw [if_pos c3] at h
        refine x_iload_n (pc := 130) d_M_suitsOther_130 rfl ?_
        refine x_iconst (v := (2 : Int32)) (pc := 131) d_M_suitsOther_131 (by decide) ?_
        refine x_icmp_eq (tgt := 139) (pc := 132) d_M_suitsOther_132 (by decide) (fun c9 => ?_) (fun c9 => ?_)
        · rw [if_pos c9] at h
          exact x_wk (L' := [none, none, none, none, none]) ⟨Or.inl rfl, Or.inl rfl, Or.inl rfl, Or.inl rfl, Or.inl rfl, trivial⟩ (w_M_suitsOther_b139 hQ s h)
        · rw [if_neg c9] at h
          refine x_iload_n (pc := 135) d_M_suitsOther_135 rfl ?_
          refine x_if_ne (tgt := 143) (pc := 136) d_M_suitsOther_136 (by decide) (fun c10 => ?_) (fun c10 => ?_)
          · rw [if_neg c10] at h
            refine x_iconst (v := (0 : Int32)) (pc := 143) d_M_suitsOther_143 (by decide) ?_
            exact x_wk (L' := [none, none, none, none, none]) ⟨Or.inl rfl, Or.inl rfl, Or.inl rfl, Or.inl rfl, Or.inl rfl, trivial⟩ (w_M_suitsOther_b144 hQ (0 : Int32) s h)
          · rw [if_pos c10] at h
            exact x_wk (L' := [none, none, none, none, none]) ⟨Or.inl rfl, Or.inl rfl, Or.inl rfl, Or.inl rfl, Or.inl rfl, trivial⟩ (w_M_suitsOther_b139 hQ s h)
    · rw [if_pos c2] at h
      exact x_wk (L' := [some (vA 373), none, some (vI l2), some (vI l3), none]) ⟨Or.inr rfl, Or.inl rfl, Or.inr rfl, Or.inr rfl, Or.inl rfl, trivial⟩ (w_M_suitsOther_b98 hQ l2 l3 s h)
def f_M_suitsOther_b59  (l1 : Int32) (l2 : Int32) (t0 : Int32) (s : MT) : Option (Int32 × MT) := (f_M_kindOf s t0).bind fun (v3, s2) => (if l1 = (40 : Int32) then (f_M_kindOf s2 (l2 - (1 : Int32))).bind fun (v12, s11) => f_M_suitsOther_b84 l1 l2 v3 v12 s11 else (f_M_kindOf s2 l2).bind fun (v8, s7) => f_M_suitsOther_b84 l1 l2 v3 v8 s7)
theorem w_M_suitsOther_b59 {sc : xSc} {d : Nat} {Q : xR → xH → Prop} {R : xH} {sZ : MT} {rZ : Int32}  (hQ : Q (.inl (some (vI rZ))) (mH sZ R)) (l1 : Int32) (l2 : Int32) (t0 : Int32) (s : MT) (h : f_M_suitsOther_b59  l1 l2 t0 s = some (rZ, sZ)) : xW sc m_M_suitsOther (d + 1) Q (mH s R) 59 [some (vA 373), some (vI l1), some (vI l2), none, none] [vI t0, vA 373] := by
  unfold f_M_suitsOther_b59 at h
  obtain ⟨⟨v3, s2⟩, e1, h⟩ := Option.bind_eq_some_iff.mp h
  dsimp only at h
  refine x_invv (c := 1) (av := [vI t0]) (st := []) (pc := 59) d_M_suitsOther_59 cv_M_421 y_M_kindOf (xm_at s R) rfl (Nat.le_of_ble_eq_true rfl) (Nat.le_of_ble_eq_true rfl) (w_M_kindOf (d := d + 0) (Q := fun r h' => r = .inl (some (vI v3)) ∧ h' = mH s2 R) (R := R) ⟨rfl, rfl⟩ s t0 e1) (fun v h' z => ?_) (fun a h' z => nomatch z.1)
  obtain ⟨z1, z2⟩ := z
  subst z2
  cases z1
  show xW sc m_M_suitsOther (d + 1) Q (mH s2 R) 62 [some (vA 373), some (vI l1), some (vI l2), none, none] [vI v3]
  refine x_istore_n (pc := 62) d_M_suitsOther_62 (by decide) ?_
  show xW sc m_M_suitsOther (d + 1) Q (mH s2 R) 63 [some (vA 373), some (vI l1), some (vI l2), some (vI v3), none] []
  refine x_iload_n (pc := 63) d_M_suitsOther_63 rfl ?_
  refine x_bipush (v := (40 : Int32)) (pc := 64) d_M_suitsOther_64 (by decide) ?_
  refine x_icmp_ne (tgt := 79) (pc := 66) d_M_suitsOther_66 (by decide) (fun c5 => ?_) (fun c5 => ?_)
  · rw [if_neg c5] at h
    refine x_aload_n (pc := 79) d_M_suitsOther_79 rfl ?_
    refine x_iload_n (pc := 80) d_M_suitsOther_80 rfl ?_
    obtain ⟨⟨v8, s7⟩, e6, h⟩ := Option.bind_eq_some_iff.mp h
    dsimp only at h
    refine x_invv (c := 1) (av := [vI l2]) (st := []) (pc := 81) d_M_suitsOther_81 cv_M_421 y_M_kindOf (xm_at s2 R) rfl (Nat.le_of_ble_eq_true rfl) (Nat.le_of_ble_eq_true rfl) (w_M_kindOf (d := d + 0) (Q := fun r h' => r = .inl (some (vI v8)) ∧ h' = mH s7 R) (R := R) ⟨rfl, rfl⟩ s2 l2 e6) (fun v h' z => ?_) (fun a h' z => nomatch z.1)
    obtain ⟨z1, z2⟩ := z
    subst z2
    cases z1
    show xW sc m_M_suitsOther (d + 1) Q (mH s7 R) 84 [some (vA 373), some (vI l1), some (vI l2), some (vI v3), none] [vI v8]
    exact w_M_suitsOther_b84 hQ l1 l2 v3 v8 s7 h
  · rw [if_pos c5] at h
    refine x_aload_n (pc := 69) d_M_suitsOther_69 rfl ?_
    refine x_iload_n (pc := 70) d_M_suitsOther_70 rfl ?_
    refine x_iconst (v := (1 : Int32)) (pc := 71) d_M_suitsOther_71 (by decide) ?_
    refine x_isub (pc := 72) d_M_suitsOther_72 ?_
    obtain ⟨⟨v12, s11⟩, e10, h⟩ := Option.bind_eq_some_iff.mp h
    dsimp only at h
    refine x_invv (c := 1) (av := [vI (l2 - (1 : Int32))]) (st := []) (pc := 73) d_M_suitsOther_73 cv_M_421 y_M_kindOf (xm_at s2 R) rfl (Nat.le_of_ble_eq_true rfl) (Nat.le_of_ble_eq_true rfl) (w_M_kindOf (d := d + 0) (Q := fun r h' => r = .inl (some (vI v12)) ∧ h' = mH s11 R) (R := R) ⟨rfl, rfl⟩ s2 (l2 - (1 : Int32)) e10) (fun v h' z => ?_) (fun a h' z => nomatch z.1)
    obtain ⟨z1, z2⟩ := z
    subst z2
    cases z1
    show xW sc m_M_suitsOther (d + 1) Q (mH s11 R) 76 [some (vA 373), some (vI l1), some (vI l2), some (vI v3), none] [vI v12]
    refine x_goto (tgt := 84) (pc := 76) d_M_suitsOther_76 (by decide) ?_
    exact w_M_suitsOther_b84 hQ l1 l2 v3 v12 s11 h
def f_M_suitsOther_b26  (l1 : Int32) (s : MT) : Option (Int32 × MT) := (if l1 = (40 : Int32) then f_M_suitsOther_b59 l1 ((mI 4 s) - (1 : Int32)) (((mI 4 s) - (1 : Int32)) - (2 : Int32)) s else (if l1 = (39 : Int32) then f_M_suitsOther_b59 l1 ((mI 4 s) - (1 : Int32)) (((mI 4 s) - (1 : Int32)) - (1 : Int32)) s else f_M_suitsOther_b59 l1 ((mI 4 s) - (1 : Int32)) ((mI 4 s) - (1 : Int32)) s))
theorem w_M_suitsOther_b26 {sc : xSc} {d : Nat} {Q : xR → xH → Prop} {R : xH} {sZ : MT} {rZ : Int32}  (hQ : Q (.inl (some (vI rZ))) (mH sZ R)) (l1 : Int32) (s : MT) (h : f_M_suitsOther_b26  l1 s = some (rZ, sZ)) : xW sc m_M_suitsOther (d + 1) Q (mH s R) 26 [some (vA 373), some (vI l1), none, none, none] [] := by
  unfold f_M_suitsOther_b26 at h
  refine x_aload_n (pc := 26) d_M_suitsOther_26 rfl ?_
  refine x_getf (c := 1) (k := 4) (v := vI (mI 4 s)) (pc := 27) d_M_suitsOther_27 l_M_247 (xm_at s R) rfl ?_
  refine x_iconst (v := (1 : Int32)) (pc := 30) d_M_suitsOther_30 (by decide) ?_
  refine x_isub (pc := 31) d_M_suitsOther_31 ?_
  refine x_istore_n (pc := 32) d_M_suitsOther_32 (by decide) ?_
  show xW sc m_M_suitsOther (d + 1) Q (mH s R) 33 [some (vA 373), some (vI l1), some (vI ((mI 4 s) - (1 : Int32))), none, none] []
  refine x_aload_n (pc := 33) d_M_suitsOther_33 rfl ?_
  refine x_iload_n (pc := 34) d_M_suitsOther_34 rfl ?_
  refine x_bipush (v := (40 : Int32)) (pc := 35) d_M_suitsOther_35 (by decide) ?_
  refine x_icmp_ne (tgt := 46) (pc := 37) d_M_suitsOther_37 (by decide) (fun c1 => ?_) (fun c1 => ?_)
  · rw [if_neg c1] at h
    refine x_iload_n (pc := 46) d_M_suitsOther_46 rfl ?_
    refine x_bipush (v := (39 : Int32)) (pc := 47) d_M_suitsOther_47 (by decide) ?_
    refine x_icmp_ne (tgt := 58) (pc := 49) d_M_suitsOther_49 (by decide) (fun c2 => ?_) (fun c2 => ?_)
    · rw [if_neg c2] at h
      refine x_iload_n (pc := 58) d_M_suitsOther_58 rfl ?_
      exact w_M_suitsOther_b59 hQ l1 ((mI 4 s) - (1 : Int32)) ((mI 4 s) - (1 : Int32)) s h
    · rw [if_pos c2] at h
      refine x_iload_n (pc := 52) d_M_suitsOther_52 rfl ?_
      refine x_iconst (v := (1 : Int32)) (pc := 53) d_M_suitsOther_53 (by decide) ?_
      refine x_isub (pc := 54) d_M_suitsOther_54 ?_
      refine x_goto (tgt := 59) (pc := 55) d_M_suitsOther_55 (by decide) ?_
      exact w_M_suitsOther_b59 hQ l1 ((mI 4 s) - (1 : Int32)) (((mI 4 s) - (1 : Int32)) - (1 : Int32)) s h
  · rw [if_pos c1] at h
    refine x_iload_n (pc := 40) d_M_suitsOther_40 rfl ?_
    refine x_iconst (v := (2 : Int32)) (pc := 41) d_M_suitsOther_41 (by decide) ?_
    refine x_isub (pc := 42) d_M_suitsOther_42 ?_
    refine x_goto (tgt := 59) (pc := 43) d_M_suitsOther_43 (by decide) ?_
    exact w_M_suitsOther_b59 hQ l1 ((mI 4 s) - (1 : Int32)) (((mI 4 s) - (1 : Int32)) - (2 : Int32)) s h
def f_M_suitsOther_b24  (s : MT) : Option (Int32 × MT) := some ((1 : Int32), s)
theorem w_M_suitsOther_b24 {sc : xSc} {d : Nat} {Q : xR → xH → Prop} {R : xH} {sZ : MT} {rZ : Int32}  (hQ : Q (.inl (some (vI rZ))) (mH sZ R)) (s : MT) (h : f_M_suitsOther_b24  s = some (rZ, sZ)) : xW sc m_M_suitsOther (d + 1) Q (mH s R) 24 [none, none, none, none, none] [] := by
  unfold f_M_suitsOther_b24 at h
  refine x_iconst (v := (1 : Int32)) (pc := 24) d_M_suitsOther_24 (by decide) ?_
  cases h
  exact x_iret (ty := .boolean) (pc := 25) d_M_suitsOther_25 rfl (rfl) hQ
def f_M_suitsOther (s : MT) (a1 : Int32) : Option (Int32 × MT) := (if a1 < (29 : Int32) then f_M_suitsOther_b24 s else (if (40 : Int32) < a1 then f_M_suitsOther_b24 s else (if a1 ≤ (31 : Int32) then f_M_suitsOther_b26 a1 s else (if (38 : Int32) ≤ a1 then f_M_suitsOther_b26 a1 s else f_M_suitsOther_b24 s))))
theorem w_M_suitsOther {sc : xSc} {d : Nat} {Q : xR → xH → Prop} {R : xH} {sZ : MT} {rZ : Int32} (hQ : Q (.inl (some (vI rZ))) (mH sZ R)) (s : MT) (a1 : Int32) (h : f_M_suitsOther s a1 = some (rZ, sZ)) : xW sc m_M_suitsOther (d + 1) Q (mH s R) 0 (xent [vA 373, vI a1] m_M_suitsOther.2.2.1) [] := by
  show xW sc m_M_suitsOther (d + 1) Q (mH s R) 0 [some (vA 373), some (vI a1), none, none, none] []
  unfold f_M_suitsOther at h
  refine x_iload_n (pc := 0) d_M_suitsOther_0 rfl ?_
  refine x_bipush (v := (29 : Int32)) (pc := 1) d_M_suitsOther_1 (by decide) ?_
  refine x_icmp_lt (tgt := 24) (pc := 3) d_M_suitsOther_3 (by decide) (fun c1 => ?_) (fun c1 => ?_)
  · rw [if_pos c1] at h
    exact x_wk (L' := [none, none, none, none, none]) ⟨Or.inl rfl, Or.inl rfl, Or.inl rfl, Or.inl rfl, Or.inl rfl, trivial⟩ (w_M_suitsOther_b24 hQ s h)
  · rw [if_neg c1] at h
    refine x_iload_n (pc := 6) d_M_suitsOther_6 rfl ?_
    refine x_bipush (v := (40 : Int32)) (pc := 7) d_M_suitsOther_7 (by decide) ?_
    refine x_icmp_gt (tgt := 24) (pc := 9) d_M_suitsOther_9 (by decide) (fun c2 => ?_) (fun c2 => ?_)
    · rw [if_pos c2] at h
      exact x_wk (L' := [none, none, none, none, none]) ⟨Or.inl rfl, Or.inl rfl, Or.inl rfl, Or.inl rfl, Or.inl rfl, trivial⟩ (w_M_suitsOther_b24 hQ s h)
    · rw [if_neg c2] at h
      refine x_iload_n (pc := 12) d_M_suitsOther_12 rfl ?_
      refine x_bipush (v := (31 : Int32)) (pc := 13) d_M_suitsOther_13 (by decide) ?_
      refine x_icmp_le (tgt := 26) (pc := 15) d_M_suitsOther_15 (by decide) (fun c3 => ?_) (fun c3 => ?_)
      · rw [if_pos c3] at h
        exact w_M_suitsOther_b26 hQ a1 s h
      · rw [if_neg c3] at h
        refine x_iload_n (pc := 18) d_M_suitsOther_18 rfl ?_
        refine x_bipush (v := (38 : Int32)) (pc := 19) d_M_suitsOther_19 (by decide) ?_
        refine x_icmp_ge (tgt := 26) (pc := 21) d_M_suitsOther_21 (by decide) (fun c4 => ?_) (fun c4 => ?_)
        · rw [if_pos c4] at h
          exact w_M_suitsOther_b26 hQ a1 s h
        · rw [if_neg c4] at h
          exact x_wk (L' := [none, none, none, none, none]) ⟨Or.inl rfl, Or.inl rfl, Or.inl rfl, Or.inl rfl, Or.inl rfl, trivial⟩ (w_M_suitsOther_b24 hQ s h)
def f_M_begins_b276  (t0 : Int64) (s : MT) : Option (Int32 × MT) := (f_M_runArray s t0).bind fun (v3, s2) => some (v3, s2)
theorem w_M_begins_b276 {sc : xSc} {d : Nat} {Q : xR → xH → Prop} {R : xH} {sZ : MT} {rZ : Int32}  (hQ : Q (.inl (some (vI rZ))) (mH sZ R)) (t0 : Int64) (s : MT) (h : f_M_begins_b276  t0 s = some (rZ, sZ)) : xW sc m_M_begins (d + 2) Q (mH s R) 276 [none, none, none, none, none, none, none, none] [vL t0, vA 373] := by
  unfold f_M_begins_b276 at h
  obtain ⟨⟨v3, s2⟩, e1, h⟩ := Option.bind_eq_some_iff.mp h
  dsimp only at h
  refine x_invv (c := 1) (av := [vL t0]) (st := []) (pc := 276) d_M_begins_276 cv_M_382 y_M_runArray (xm_at s R) rfl (Nat.le_of_ble_eq_true rfl) (Nat.le_of_ble_eq_true rfl) (w_M_runArray (d := d + 0) (Q := fun r h' => r = .inl (some (vI v3)) ∧ h' = mH s2 R) (R := R) ⟨rfl, rfl⟩ s t0 e1) (fun v h' z => ?_) (fun a h' z => nomatch z.1)
  obtain ⟨z1, z2⟩ := z
  subst z2
  cases z1
  show xW sc m_M_begins (d + 2) Q (mH s2 R) 279 [none, none, none, none, none, none, none, none] [vI v3]
  cases h
  exact x_iret (ty := .int) (pc := 279) d_M_begins_279 rfl (rfl) hQ
def f_M_begins_b257  (t0 : Int32) (s : MT) : Option (Int32 × MT) := some (t0, s)
theorem w_M_begins_b257 {sc : xSc} {d : Nat} {Q : xR → xH → Prop} {R : xH} {sZ : MT} {rZ : Int32}  (hQ : Q (.inl (some (vI rZ))) (mH sZ R)) (t0 : Int32) (s : MT) (h : f_M_begins_b257  t0 s = some (rZ, sZ)) : xW sc m_M_begins (d + 2) Q (mH s R) 257 [none, none, none, none, none, none, none, none] [vI t0] := by
  unfold f_M_begins_b257 at h
  cases h
  exact x_iret (ty := .int) (pc := 257) d_M_begins_257 rfl (rfl) hQ
def f_M_begins_b233  (l1 : Int32) (l3 : Int64) (l5 : Int64) (l7 : Int32) (t0 : Int32) (t1 : Int32) (s : MT) : Option (Int32 × MT) := (if l1 = (51 : Int32) then (if l7 = 0 then f_M_begins_b257 (0 : Int32) (sI 4 (t1 - t0) s) else (f_M_runArray (sI 4 (t1 - t0) s) l3).bind fun (v9, s8) => f_M_begins_b257 v9 s8) else (if l1 = (52 : Int32) then (if l7 = 0 then f_M_begins_b276 l3 (sI 4 (t1 - t0) s) else f_M_begins_b276 l5 (sI 4 (t1 - t0) s)) else (f_M_frame (sI 4 (t1 - t0) s) (l1 - (50 : Int32)) l3).bind fun s4 => some ((0 : Int32), s4)))
theorem w_M_begins_b233 {sc : xSc} {d : Nat} {Q : xR → xH → Prop} {R : xH} {sZ : MT} {rZ : Int32}  (hQ : Q (.inl (some (vI rZ))) (mH sZ R)) (l1 : Int32) (l3 : Int64) (l5 : Int64) (l7 : Int32) (t0 : Int32) (t1 : Int32) (s : MT) (h : f_M_begins_b233  l1 l3 l5 l7 t0 t1 s = some (rZ, sZ)) : xW sc m_M_begins (d + 2) Q (mH s R) 233 [some (vA 373), some (vI l1), none, some (vL l3), none, some (vL l5), none, some (vI l7)] [vI t0, vI t1, vA 373] := by
  unfold f_M_begins_b233 at h
  refine x_isub (pc := 233) d_M_begins_233 ?_
  refine xm_p4 (pc := 234) d_M_begins_234 l_M_247 ?_
  refine x_iload_n (pc := 237) d_M_begins_237 rfl ?_
  refine x_bipush (v := (51 : Int32)) (pc := 238) d_M_begins_238 (by decide) ?_
  refine x_icmp_ne (tgt := 258) (pc := 240) d_M_begins_240 (by decide) (fun c1 => ?_) (fun c1 => ?_)
  · rw [if_neg c1] at h
    refine x_iload_n (pc := 258) d_M_begins_258 rfl ?_
    refine x_bipush (v := (52 : Int32)) (pc := 259) d_M_begins_259 (by decide) ?_
    refine x_icmp_ne (tgt := 280) (pc := 261) d_M_begins_261 (by decide) (fun c2 => ?_) (fun c2 => ?_)
    · rw [if_neg c2] at h
      refine x_aload_n (pc := 280) d_M_begins_280 rfl ?_
      refine x_iload_n (pc := 281) d_M_begins_281 rfl ?_
      refine x_bipush (v := (50 : Int32)) (pc := 282) d_M_begins_282 (by decide) ?_
      refine x_isub (pc := 284) d_M_begins_284 ?_
      refine x_lload_n (pc := 285) d_M_begins_285 rfl ?_
      obtain ⟨s4, e3, h⟩ := Option.bind_eq_some_iff.mp h
      refine x_invv (c := 1) (av := [vI (l1 - (50 : Int32)), vL l3]) (st := []) (pc := 286) d_M_begins_286 cv_M_352 y_M_frame (xm_at (sI 4 (t1 - t0) s) R) rfl (Nat.le_of_ble_eq_true rfl) (Nat.le_of_ble_eq_true rfl) (w_M_frame (d := d + 1) (Q := fun r h' => r = .inl none ∧ h' = mH s4 R) (R := R) ⟨rfl, rfl⟩ (sI 4 (t1 - t0) s) (l1 - (50 : Int32)) l3 e3) (fun v h' z => ?_) (fun a h' z => nomatch z.1)
      obtain ⟨z1, z2⟩ := z
      subst z2
      cases z1
      show xW sc m_M_begins (d + 2) Q (mH s4 R) 289 [some (vA 373), some (vI l1), none, some (vL l3), none, some (vL l5), none, some (vI l7)] []
      refine x_iconst (v := (0 : Int32)) (pc := 289) d_M_begins_289 (by decide) ?_
      cases h
      exact x_iret (ty := .int) (pc := 290) d_M_begins_290 rfl (rfl) hQ
    · rw [if_pos c2] at h
      refine x_aload_n (pc := 264) d_M_begins_264 rfl ?_
      refine x_iload (pc := 265) d_M_begins_265 rfl ?_
      refine x_if_eq (tgt := 275) (pc := 267) d_M_begins_267 (by decide) (fun c5 => ?_) (fun c5 => ?_)
      · rw [if_pos c5] at h
        refine x_lload_n (pc := 275) d_M_begins_275 rfl ?_
        exact x_wk (L' := [none, none, none, none, none, none, none, none]) ⟨Or.inl rfl, Or.inl rfl, Or.inl rfl, Or.inl rfl, Or.inl rfl, Or.inl rfl, Or.inl rfl, Or.inl rfl, trivial⟩ (w_M_begins_b276 hQ l3 (sI 4 (t1 - t0) s) h)
      · rw [if_neg c5] at h
        refine x_lload (pc := 270) d_M_begins_270 rfl ?_
        refine x_goto (tgt := 276) (pc := 272) d_M_begins_272 (by decide) ?_
        exact x_wk (L' := [none, none, none, none, none, none, none, none]) ⟨Or.inl rfl, Or.inl rfl, Or.inl rfl, Or.inl rfl, Or.inl rfl, Or.inl rfl, Or.inl rfl, Or.inl rfl, trivial⟩ (w_M_begins_b276 hQ l5 (sI 4 (t1 - t0) s) h)
  · rw [if_pos c1] at h
    refine x_iload (pc := 243) d_M_begins_243 rfl ?_
    refine x_if_eq (tgt := 256) (pc := 245) d_M_begins_245 (by decide) (fun c6 => ?_) (fun c6 => ?_)
    · rw [if_pos c6] at h
      refine x_iconst (v := (0 : Int32)) (pc := 256) d_M_begins_256 (by decide) ?_
      exact x_wk (L' := [none, none, none, none, none, none, none, none]) ⟨Or.inl rfl, Or.inl rfl, Or.inl rfl, Or.inl rfl, Or.inl rfl, Or.inl rfl, Or.inl rfl, Or.inl rfl, trivial⟩ (w_M_begins_b257 hQ (0 : Int32) (sI 4 (t1 - t0) s) h)
    · rw [if_neg c6] at h
      refine x_aload_n (pc := 248) d_M_begins_248 rfl ?_
      refine x_lload_n (pc := 249) d_M_begins_249 rfl ?_
      obtain ⟨⟨v9, s8⟩, e7, h⟩ := Option.bind_eq_some_iff.mp h
      dsimp only at h
      refine x_invv (c := 1) (av := [vL l3]) (st := []) (pc := 250) d_M_begins_250 cv_M_382 y_M_runArray (xm_at (sI 4 (t1 - t0) s) R) rfl (Nat.le_of_ble_eq_true rfl) (Nat.le_of_ble_eq_true rfl) (w_M_runArray (d := d + 0) (Q := fun r h' => r = .inl (some (vI v9)) ∧ h' = mH s8 R) (R := R) ⟨rfl, rfl⟩ (sI 4 (t1 - t0) s) l3 e7) (fun v h' z => ?_) (fun a h' z => nomatch z.1)
      obtain ⟨z1, z2⟩ := z
      subst z2
      cases z1
      show xW sc m_M_begins (d + 2) Q (mH s8 R) 253 [some (vA 373), some (vI l1), none, some (vL l3), none, some (vL l5), none, some (vI l7)] [vI v9]
      refine x_goto (tgt := 257) (pc := 253) d_M_begins_253 (by decide) ?_
      exact x_wk (L' := [none, none, none, none, none, none, none, none]) ⟨Or.inl rfl, Or.inl rfl, Or.inl rfl, Or.inl rfl, Or.inl rfl, Or.inl rfl, Or.inl rfl, Or.inl rfl, trivial⟩ (w_M_begins_b257 hQ v9 s8 h)
def f_M_begins_b185  (l1 : Int32) (l3 : Int64) (l5 : Int64) (l7 : Int32) (t0 : Int64) (t1 : Int32) (s : MT) : Option (Int32 × MT) := (if xin t1 560 = true then (if xin (mI 15 (sL 21 (va_up (mL 21 s) t1.toNatClampNeg t0) s)) 560 = true then (if l1 = (53 : Int32) then f_M_begins_b233 l1 l3 l5 l7 (4 : Int32) (mI 4 (sL 22 (va_up (mL 22 (sL 21 (va_up (mL 21 s) t1.toNatClampNeg t0) s)) (mI 15 (sL 21 (va_up (mL 21 s) t1.toNatClampNeg t0) s)).toNatClampNeg l5) (sL 21 (va_up (mL 21 s) t1.toNatClampNeg t0) s))) (sL 22 (va_up (mL 22 (sL 21 (va_up (mL 21 s) t1.toNatClampNeg t0) s)) (mI 15 (sL 21 (va_up (mL 21 s) t1.toNatClampNeg t0) s)).toNatClampNeg l5) (sL 21 (va_up (mL 21 s) t1.toNatClampNeg t0) s)) else (if l1 = (52 : Int32) then f_M_begins_b233 l1 l3 l5 l7 (3 : Int32) (mI 4 (sL 22 (va_up (mL 22 (sL 21 (va_up (mL 21 s) t1.toNatClampNeg t0) s)) (mI 15 (sL 21 (va_up (mL 21 s) t1.toNatClampNeg t0) s)).toNatClampNeg l5) (sL 21 (va_up (mL 21 s) t1.toNatClampNeg t0) s))) (sL 22 (va_up (mL 22 (sL 21 (va_up (mL 21 s) t1.toNatClampNeg t0) s)) (mI 15 (sL 21 (va_up (mL 21 s) t1.toNatClampNeg t0) s)).toNatClampNeg l5) (sL 21 (va_up (mL 21 s) t1.toNatClampNeg t0) s)) else (if l1 = (55 : Int32) then f_M_begins_b233 l1 l3 l5 l7 (1 : Int32) (mI 4 (sL 22 (va_up (mL 22 (sL 21 (va_up (mL 21 s) t1.toNatClampNeg t0) s)) (mI 15 (sL 21 (va_up (mL 21 s) t1.toNatClampNeg t0) s)).toNatClampNeg l5) (sL 21 (va_up (mL 21 s) t1.toNatClampNeg t0) s))) (sL 22 (va_up (mL 22 (sL 21 (va_up (mL 21 s) t1.toNatClampNeg t0) s)) (mI 15 (sL 21 (va_up (mL 21 s) t1.toNatClampNeg t0) s)).toNatClampNeg l5) (sL 21 (va_up (mL 21 s) t1.toNatClampNeg t0) s)) else f_M_begins_b233 l1 l3 l5 l7 (2 : Int32) (mI 4 (sL 22 (va_up (mL 22 (sL 21 (va_up (mL 21 s) t1.toNatClampNeg t0) s)) (mI 15 (sL 21 (va_up (mL 21 s) t1.toNatClampNeg t0) s)).toNatClampNeg l5) (sL 21 (va_up (mL 21 s) t1.toNatClampNeg t0) s))) (sL 22 (va_up (mL 22 (sL 21 (va_up (mL 21 s) t1.toNatClampNeg t0) s)) (mI 15 (sL 21 (va_up (mL 21 s) t1.toNatClampNeg t0) s)).toNatClampNeg l5) (sL 21 (va_up (mL 21 s) t1.toNatClampNeg t0) s))))) else none) else none)
theorem w_M_begins_b185 {sc : xSc} {d : Nat} {Q : xR → xH → Prop} {R : xH} {sZ : MT} {rZ : Int32}  (hQ : Q (.inl (some (vI rZ))) (mH sZ R)) (l1 : Int32) (l3 : Int64) (l5 : Int64) (l7 : Int32) (t0 : Int64) (t1 : Int32) (s : MT) (h : f_M_begins_b185  l1 l3 l5 l7 t0 t1 s = some (rZ, sZ)) : xW sc m_M_begins (d + 2) Q (mH s R) 185 [some (vA 373), some (vI l1), none, some (vL l3), none, some (vL l5), none, some (vI l7)] [vL t0, vI t1, vA 387] := by
  unfold f_M_begins_b185 at h
  obtain ⟨c1, h⟩ := ite_some h
  refine xm_s21 (pc := 185) d_M_begins_185 c1 ?_
  refine x_aload_n (pc := 186) d_M_begins_186 rfl ?_
  refine x_getf (c := 1) (k := 22) (v := vA 388) (pc := 187) d_M_begins_187 l_M_58 (xm_at (sL 21 (va_up (mL 21 s) t1.toNatClampNeg t0) s) R) rfl ?_
  refine x_aload_n (pc := 190) d_M_begins_190 rfl ?_
  refine x_getf (c := 1) (k := 15) (v := vI (mI 15 (sL 21 (va_up (mL 21 s) t1.toNatClampNeg t0) s))) (pc := 191) d_M_begins_191 l_M_346 (xm_at (sL 21 (va_up (mL 21 s) t1.toNatClampNeg t0) s) R) rfl ?_
  refine x_lload (pc := 194) d_M_begins_194 rfl ?_
  obtain ⟨c2, h⟩ := ite_some h
  refine xm_s22 (pc := 196) d_M_begins_196 c2 ?_
  refine x_aload_n (pc := 197) d_M_begins_197 rfl ?_
  refine x_dup (pc := 198) d_M_begins_198 rfl ?_
  refine x_getf (c := 1) (k := 4) (v := vI (mI 4 (sL 22 (va_up (mL 22 (sL 21 (va_up (mL 21 s) t1.toNatClampNeg t0) s)) (mI 15 (sL 21 (va_up (mL 21 s) t1.toNatClampNeg t0) s)).toNatClampNeg l5) (sL 21 (va_up (mL 21 s) t1.toNatClampNeg t0) s)))) (pc := 199) d_M_begins_199 l_M_247 (xm_at (sL 22 (va_up (mL 22 (sL 21 (va_up (mL 21 s) t1.toNatClampNeg t0) s)) (mI 15 (sL 21 (va_up (mL 21 s) t1.toNatClampNeg t0) s)).toNatClampNeg l5) (sL 21 (va_up (mL 21 s) t1.toNatClampNeg t0) s)) R) rfl ?_
  refine x_iload_n (pc := 202) d_M_begins_202 rfl ?_
  refine x_bipush (v := (53 : Int32)) (pc := 203) d_M_begins_203 (by decide) ?_
  refine x_icmp_ne (tgt := 212) (pc := 205) d_M_begins_205 (by decide) (fun c3 => ?_) (fun c3 => ?_)
  · rw [if_neg c3] at h
    refine x_iload_n (pc := 212) d_M_begins_212 rfl ?_
    refine x_bipush (v := (52 : Int32)) (pc := 213) d_M_begins_213 (by decide) ?_
    refine x_icmp_ne (tgt := 222) (pc := 215) d_M_begins_215 (by decide) (fun c4 => ?_) (fun c4 => ?_)
    · rw [if_neg c4] at h
      refine x_iload_n (pc := 222) d_M_begins_222 rfl ?_
      refine x_bipush (v := (55 : Int32)) (pc := 223) d_M_begins_223 (by decide) ?_
      refine x_icmp_ne (tgt := 232) (pc := 225) d_M_begins_225 (by decide) (fun c5 => ?_) (fun c5 => ?_)
      · rw [if_neg c5] at h
        refine x_iconst (v := (2 : Int32)) (pc := 232) d_M_begins_232 (by decide) ?_
        exact w_M_begins_b233 hQ l1 l3 l5 l7 (2 : Int32) (mI 4 (sL 22 (va_up (mL 22 (sL 21 (va_up (mL 21 s) t1.toNatClampNeg t0) s)) (mI 15 (sL 21 (va_up (mL 21 s) t1.toNatClampNeg t0) s)).toNatClampNeg l5) (sL 21 (va_up (mL 21 s) t1.toNatClampNeg t0) s))) (sL 22 (va_up (mL 22 (sL 21 (va_up (mL 21 s) t1.toNatClampNeg t0) s)) (mI 15 (sL 21 (va_up (mL 21 s) t1.toNatClampNeg t0) s)).toNatClampNeg l5) (sL 21 (va_up (mL 21 s) t1.toNatClampNeg t0) s)) h
      · rw [if_pos c5] at h
        refine x_iconst (v := (1 : Int32)) (pc := 228) d_M_begins_228 (by decide) ?_
        refine x_goto (tgt := 233) (pc := 229) d_M_begins_229 (by decide) ?_
        exact w_M_begins_b233 hQ l1 l3 l5 l7 (1 : Int32) (mI 4 (sL 22 (va_up (mL 22 (sL 21 (va_up (mL 21 s) t1.toNatClampNeg t0) s)) (mI 15 (sL 21 (va_up (mL 21 s) t1.toNatClampNeg t0) s)).toNatClampNeg l5) (sL 21 (va_up (mL 21 s) t1.toNatClampNeg t0) s))) (sL 22 (va_up (mL 22 (sL 21 (va_up (mL 21 s) t1.toNatClampNeg t0) s)) (mI 15 (sL 21 (va_up (mL 21 s) t1.toNatClampNeg t0) s)).toNatClampNeg l5) (sL 21 (va_up (mL 21 s) t1.toNatClampNeg t0) s)) h
    · rw [if_pos c4] at h
      refine x_iconst (v := (3 : Int32)) (pc := 218) d_M_begins_218 (by decide) ?_
      refine x_goto (tgt := 233) (pc := 219) d_M_begins_219 (by decide) ?_
      exact w_M_begins_b233 hQ l1 l3 l5 l7 (3 : Int32) (mI 4 (sL 22 (va_up (mL 22 (sL 21 (va_up (mL 21 s) t1.toNatClampNeg t0) s)) (mI 15 (sL 21 (va_up (mL 21 s) t1.toNatClampNeg t0) s)).toNatClampNeg l5) (sL 21 (va_up (mL 21 s) t1.toNatClampNeg t0) s))) (sL 22 (va_up (mL 22 (sL 21 (va_up (mL 21 s) t1.toNatClampNeg t0) s)) (mI 15 (sL 21 (va_up (mL 21 s) t1.toNatClampNeg t0) s)).toNatClampNeg l5) (sL 21 (va_up (mL 21 s) t1.toNatClampNeg t0) s)) h
  · rw [if_pos c3] at h
    refine x_iconst (v := (4 : Int32)) (pc := 208) d_M_begins_208 (by decide) ?_
    refine x_goto (tgt := 233) (pc := 209) d_M_begins_209 (by decide) ?_
    exact w_M_begins_b233 hQ l1 l3 l5 l7 (4 : Int32) (mI 4 (sL 22 (va_up (mL 22 (sL 21 (va_up (mL 21 s) t1.toNatClampNeg t0) s)) (mI 15 (sL 21 (va_up (mL 21 s) t1.toNatClampNeg t0) s)).toNatClampNeg l5) (sL 21 (va_up (mL 21 s) t1.toNatClampNeg t0) s))) (sL 22 (va_up (mL 22 (sL 21 (va_up (mL 21 s) t1.toNatClampNeg t0) s)) (mI 15 (sL 21 (va_up (mL 21 s) t1.toNatClampNeg t0) s)).toNatClampNeg l5) (sL 21 (va_up (mL 21 s) t1.toNatClampNeg t0) s)) h
def f_M_begins_b158  (l1 : Int32) (l2 : Int32) (l3 : Int64) (l5 : Int64) (l7 : Int32) (t0 : Int64) (t1 : Int32) (s : MT) : Option (Int32 × MT) := (if xin t1 560 = true then (if l1 = (53 : Int32) then (if xin (l2 - (2 : Int32)) 1300 = true then f_M_begins_b185 l1 l3 l5 l7 (mL 2 (sL 20 (va_up (mL 20 s) t1.toNatClampNeg t0) s) (l2 - (2 : Int32)).toNatClampNeg) (mI 15 (sL 20 (va_up (mL 20 s) t1.toNatClampNeg t0) s)) (sL 20 (va_up (mL 20 s) t1.toNatClampNeg t0) s) else none) else f_M_begins_b185 l1 l3 l5 l7 (0 : Int64) (mI 15 (sL 20 (va_up (mL 20 s) t1.toNatClampNeg t0) s)) (sL 20 (va_up (mL 20 s) t1.toNatClampNeg t0) s)) else none)
theorem w_M_begins_b158 {sc : xSc} {d : Nat} {Q : xR → xH → Prop} {R : xH} {sZ : MT} {rZ : Int32}  (hQ : Q (.inl (some (vI rZ))) (mH sZ R)) (l1 : Int32) (l2 : Int32) (l3 : Int64) (l5 : Int64) (l7 : Int32) (t0 : Int64) (t1 : Int32) (s : MT) (h : f_M_begins_b158  l1 l2 l3 l5 l7 t0 t1 s = some (rZ, sZ)) : xW sc m_M_begins (d + 2) Q (mH s R) 158 [some (vA 373), some (vI l1), some (vI l2), some (vL l3), none, some (vL l5), none, some (vI l7)] [vL t0, vI t1, vA 386] := by
  unfold f_M_begins_b158 at h
  obtain ⟨c1, h⟩ := ite_some h
  refine xm_s20 (pc := 158) d_M_begins_158 c1 ?_
  refine x_aload_n (pc := 159) d_M_begins_159 rfl ?_
  refine x_getf (c := 1) (k := 21) (v := vA 387) (pc := 160) d_M_begins_160 l_M_55 (xm_at (sL 20 (va_up (mL 20 s) t1.toNatClampNeg t0) s) R) rfl ?_
  refine x_aload_n (pc := 163) d_M_begins_163 rfl ?_
  refine x_getf (c := 1) (k := 15) (v := vI (mI 15 (sL 20 (va_up (mL 20 s) t1.toNatClampNeg t0) s))) (pc := 164) d_M_begins_164 l_M_346 (xm_at (sL 20 (va_up (mL 20 s) t1.toNatClampNeg t0) s) R) rfl ?_
  refine x_iload_n (pc := 167) d_M_begins_167 rfl ?_
  refine x_bipush (v := (53 : Int32)) (pc := 168) d_M_begins_168 (by decide) ?_
  refine x_icmp_ne (tgt := 184) (pc := 170) d_M_begins_170 (by decide) (fun c2 => ?_) (fun c2 => ?_)
  · rw [if_neg c2] at h
    refine x_lconst (v := (0 : Int64)) (pc := 184) d_M_begins_184 (by decide) ?_
    exact x_wk (L' := [some (vA 373), some (vI l1), none, some (vL l3), none, some (vL l5), none, some (vI l7)]) ⟨Or.inr rfl, Or.inr rfl, Or.inl rfl, Or.inr rfl, Or.inl rfl, Or.inr rfl, Or.inl rfl, Or.inr rfl, trivial⟩ (w_M_begins_b185 hQ l1 l3 l5 l7 (0 : Int64) (mI 15 (sL 20 (va_up (mL 20 s) t1.toNatClampNeg t0) s)) (sL 20 (va_up (mL 20 s) t1.toNatClampNeg t0) s) h)
  · rw [if_pos c2] at h
    refine x_aload_n (pc := 173) d_M_begins_173 rfl ?_
    refine x_getf (c := 1) (k := 2) (v := vA 375) (pc := 174) d_M_begins_174 l_M_13 (xm_at (sL 20 (va_up (mL 20 s) t1.toNatClampNeg t0) s) R) rfl ?_
    refine x_iload_n (pc := 177) d_M_begins_177 rfl ?_
    refine x_iconst (v := (2 : Int32)) (pc := 178) d_M_begins_178 (by decide) ?_
    refine x_isub (pc := 179) d_M_begins_179 ?_
    obtain ⟨c3, h⟩ := ite_some h
    refine x_lald (pc := 180) d_M_begins_180 (xm_a2 (sL 20 (va_up (mL 20 s) t1.toNatClampNeg t0) s) R) (xin_vp c3) ?_
    refine x_goto (tgt := 185) (pc := 181) d_M_begins_181 (by decide) ?_
    exact x_wk (L' := [some (vA 373), some (vI l1), none, some (vL l3), none, some (vL l5), none, some (vI l7)]) ⟨Or.inr rfl, Or.inr rfl, Or.inl rfl, Or.inr rfl, Or.inl rfl, Or.inr rfl, Or.inl rfl, Or.inr rfl, trivial⟩ (w_M_begins_b185 hQ l1 l3 l5 l7 (mL 2 (sL 20 (va_up (mL 20 s) t1.toNatClampNeg t0) s) (l2 - (2 : Int32)).toNatClampNeg) (mI 15 (sL 20 (va_up (mL 20 s) t1.toNatClampNeg t0) s)) (sL 20 (va_up (mL 20 s) t1.toNatClampNeg t0) s) h)
def f_M_begins_b129  (l1 : Int32) (l2 : Int32) (l3 : Int64) (l5 : Int64) (t0 : Int32) (s : MT) : Option (Int32 × MT) := (if l1 = (53 : Int32) then (if xin (l2 - (3 : Int32)) 1300 = true then f_M_begins_b158 l1 l2 l3 l5 t0 (mL 2 s (l2 - (3 : Int32)).toNatClampNeg) (mI 15 s) s else none) else f_M_begins_b158 l1 l2 l3 l5 t0 l5 (mI 15 s) s)
theorem w_M_begins_b129 {sc : xSc} {d : Nat} {Q : xR → xH → Prop} {R : xH} {sZ : MT} {rZ : Int32}  (hQ : Q (.inl (some (vI rZ))) (mH sZ R)) (l1 : Int32) (l2 : Int32) (l3 : Int64) (l5 : Int64) (t0 : Int32) (s : MT) (h : f_M_begins_b129  l1 l2 l3 l5 t0 s = some (rZ, sZ)) : xW sc m_M_begins (d + 2) Q (mH s R) 129 [some (vA 373), some (vI l1), some (vI l2), some (vL l3), none, some (vL l5), none, none] [vI t0] := by
  unfold f_M_begins_b129 at h
  refine x_istore (pc := 129) d_M_begins_129 (by decide) ?_
  show xW sc m_M_begins (d + 2) Q (mH s R) 131 [some (vA 373), some (vI l1), some (vI l2), some (vL l3), none, some (vL l5), none, some (vI t0)] []
  refine x_aload_n (pc := 131) d_M_begins_131 rfl ?_
  refine x_getf (c := 1) (k := 20) (v := vA 386) (pc := 132) d_M_begins_132 l_M_52 (xm_at s R) rfl ?_
  refine x_aload_n (pc := 135) d_M_begins_135 rfl ?_
  refine x_getf (c := 1) (k := 15) (v := vI (mI 15 s)) (pc := 136) d_M_begins_136 l_M_346 (xm_at s R) rfl ?_
  refine x_iload_n (pc := 139) d_M_begins_139 rfl ?_
  refine x_bipush (v := (53 : Int32)) (pc := 140) d_M_begins_140 (by decide) ?_
  refine x_icmp_ne (tgt := 156) (pc := 142) d_M_begins_142 (by decide) (fun c1 => ?_) (fun c1 => ?_)
  · rw [if_neg c1] at h
    refine x_lload (pc := 156) d_M_begins_156 rfl ?_
    exact w_M_begins_b158 hQ l1 l2 l3 l5 t0 l5 (mI 15 s) s h
  · rw [if_pos c1] at h
    refine x_aload_n (pc := 145) d_M_begins_145 rfl ?_
    refine x_getf (c := 1) (k := 2) (v := vA 375) (pc := 146) d_M_begins_146 l_M_13 (xm_at s R) rfl ?_
    refine x_iload_n (pc := 149) d_M_begins_149 rfl ?_
    refine x_iconst (v := (3 : Int32)) (pc := 150) d_M_begins_150 (by decide) ?_
    refine x_isub (pc := 151) d_M_begins_151 ?_
    obtain ⟨c2, h⟩ := ite_some h
    refine x_lald (pc := 152) d_M_begins_152 (xm_a2 s R) (xin_vp c2) ?_
    refine x_goto (tgt := 158) (pc := 153) d_M_begins_153 (by decide) ?_
    exact w_M_begins_b158 hQ l1 l2 l3 l5 t0 (mL 2 s (l2 - (3 : Int32)).toNatClampNeg) (mI 15 s) s h
def f_M_begins_b128  (l1 : Int32) (l2 : Int32) (l3 : Int64) (l5 : Int64) (s : MT) : Option (Int32 × MT) := f_M_begins_b129 l1 l2 l3 l5 (0 : Int32) s
theorem w_M_begins_b128 {sc : xSc} {d : Nat} {Q : xR → xH → Prop} {R : xH} {sZ : MT} {rZ : Int32}  (hQ : Q (.inl (some (vI rZ))) (mH sZ R)) (l1 : Int32) (l2 : Int32) (l3 : Int64) (l5 : Int64) (s : MT) (h : f_M_begins_b128  l1 l2 l3 l5 s = some (rZ, sZ)) : xW sc m_M_begins (d + 2) Q (mH s R) 128 [some (vA 373), some (vI l1), some (vI l2), some (vL l3), none, some (vL l5), none, none] [] := by
  unfold f_M_begins_b128 at h
  refine x_iconst (v := (0 : Int32)) (pc := 128) d_M_begins_128 (by decide) ?_
  exact w_M_begins_b129 hQ l1 l2 l3 l5 (0 : Int32) s h
def f_M_begins_b124  (l1 : Int32) (l2 : Int32) (l3 : Int64) (l5 : Int64) (s : MT) : Option (Int32 × MT) := f_M_begins_b129 l1 l2 l3 l5 (1 : Int32) s
theorem w_M_begins_b124 {sc : xSc} {d : Nat} {Q : xR → xH → Prop} {R : xH} {sZ : MT} {rZ : Int32}  (hQ : Q (.inl (some (vI rZ))) (mH sZ R)) (l1 : Int32) (l2 : Int32) (l3 : Int64) (l5 : Int64) (s : MT) (h : f_M_begins_b124  l1 l2 l3 l5 s = some (rZ, sZ)) : xW sc m_M_begins (d + 2) Q (mH s R) 124 [some (vA 373), some (vI l1), some (vI l2), some (vL l3), none, some (vL l5), none, none] [] := by
  unfold f_M_begins_b124 at h
  refine x_iconst (v := (1 : Int32)) (pc := 124) d_M_begins_124 (by decide) ?_
  refine x_goto (tgt := 129) (pc := 125) d_M_begins_125 (by decide) ?_
  exact w_M_begins_b129 hQ l1 l2 l3 l5 (1 : Int32) s h
def f_M_begins_b105  (l1 : Int32) (l2 : Int32) (l3 : Int64) (l5 : Int64) (s : MT) : Option (Int32 × MT) := (if l1 = (52 : Int32) then (if xin (l2 - (2 : Int32)) 1300 = true then (if (lg_cmp (mL 2 s (l2 - (2 : Int32)).toNatClampNeg) (1 : Int64)) = 0 then f_M_begins_b124 l1 l2 l3 l5 s else f_M_begins_b128 l1 l2 l3 l5 s) else none) else f_M_begins_b128 l1 l2 l3 l5 s)
theorem w_M_begins_b105 {sc : xSc} {d : Nat} {Q : xR → xH → Prop} {R : xH} {sZ : MT} {rZ : Int32}  (hQ : Q (.inl (some (vI rZ))) (mH sZ R)) (l1 : Int32) (l2 : Int32) (l3 : Int64) (l5 : Int64) (s : MT) (h : f_M_begins_b105  l1 l2 l3 l5 s = some (rZ, sZ)) : xW sc m_M_begins (d + 2) Q (mH s R) 105 [some (vA 373), some (vI l1), some (vI l2), some (vL l3), none, some (vL l5), none, none] [] := by
  unfold f_M_begins_b105 at h
  refine x_iload_n (pc := 105) d_M_begins_105 rfl ?_
  refine x_bipush (v := (52 : Int32)) (pc := 106) d_M_begins_106 (by decide) ?_
  refine x_icmp_ne (tgt := 128) (pc := 108) d_M_begins_108 (by decide) (fun c1 => ?_) (fun c1 => ?_)
  · rw [if_neg c1] at h
    exact w_M_begins_b128 hQ l1 l2 l3 l5 s h
  · rw [if_pos c1] at h
    refine x_aload_n (pc := 111) d_M_begins_111 rfl ?_
    refine x_getf (c := 1) (k := 2) (v := vA 375) (pc := 112) d_M_begins_112 l_M_13 (xm_at s R) rfl ?_
    refine x_iload_n (pc := 115) d_M_begins_115 rfl ?_
    refine x_iconst (v := (2 : Int32)) (pc := 116) d_M_begins_116 (by decide) ?_
    refine x_isub (pc := 117) d_M_begins_117 ?_
    obtain ⟨c2, h⟩ := ite_some h
    refine x_lald (pc := 118) d_M_begins_118 (xm_a2 s R) (xin_vp c2) ?_
    refine x_lconst (v := (1 : Int64)) (pc := 119) d_M_begins_119 (by decide) ?_
    refine x_lcmp (pc := 120) d_M_begins_120 ?_
    refine x_if_ne (tgt := 128) (pc := 121) d_M_begins_121 (by decide) (fun c3 => ?_) (fun c3 => ?_)
    · rw [if_neg c3] at h
      exact w_M_begins_b128 hQ l1 l2 l3 l5 s h
    · rw [if_pos c3] at h
      exact w_M_begins_b124 hQ l1 l2 l3 l5 s h
def f_M_begins_b92  (l1 : Int32) (l2 : Int32) (l3 : Int64) (l5 : Int64) (s : MT) : Option (Int32 × MT) := (if l1 = (51 : Int32) then (if (lg_cmp l5 (1 : Int64)) = 0 then f_M_begins_b124 l1 l2 l3 l5 s else f_M_begins_b105 l1 l2 l3 l5 s) else f_M_begins_b105 l1 l2 l3 l5 s)
theorem w_M_begins_b92 {sc : xSc} {d : Nat} {Q : xR → xH → Prop} {R : xH} {sZ : MT} {rZ : Int32}  (hQ : Q (.inl (some (vI rZ))) (mH sZ R)) (l1 : Int32) (l2 : Int32) (l3 : Int64) (l5 : Int64) (s : MT) (h : f_M_begins_b92  l1 l2 l3 l5 s = some (rZ, sZ)) : xW sc m_M_begins (d + 2) Q (mH s R) 92 [some (vA 373), some (vI l1), some (vI l2), some (vL l3), none, some (vL l5), none, none] [] := by
  unfold f_M_begins_b92 at h
  refine x_iload_n (pc := 92) d_M_begins_92 rfl ?_
  refine x_bipush (v := (51 : Int32)) (pc := 93) d_M_begins_93 (by decide) ?_
  refine x_icmp_ne (tgt := 105) (pc := 95) d_M_begins_95 (by decide) (fun c1 => ?_) (fun c1 => ?_)
  · rw [if_neg c1] at h
    exact w_M_begins_b105 hQ l1 l2 l3 l5 s h
  · rw [if_pos c1] at h
    refine x_lload (pc := 98) d_M_begins_98 rfl ?_
    refine x_lconst (v := (1 : Int64)) (pc := 100) d_M_begins_100 (by decide) ?_
    refine x_lcmp (pc := 101) d_M_begins_101 ?_
    refine x_if_eq (tgt := 124) (pc := 102) d_M_begins_102 (by decide) (fun c2 => ?_) (fun c2 => ?_)
    · rw [if_pos c2] at h
      exact w_M_begins_b124 hQ l1 l2 l3 l5 s h
    · rw [if_neg c2] at h
      exact w_M_begins_b105 hQ l1 l2 l3 l5 s h
def f_M_begins_b76  (t0 : Int32) (s : MT) : Option (Int32 × MT) := some (t0, s)
theorem w_M_begins_b76 {sc : xSc} {d : Nat} {Q : xR → xH → Prop} {R : xH} {sZ : MT} {rZ : Int32}  (hQ : Q (.inl (some (vI rZ))) (mH sZ R)) (t0 : Int32) (s : MT) (h : f_M_begins_b76  t0 s = some (rZ, sZ)) : xW sc m_M_begins (d + 2) Q (mH s R) 76 [none, none, none, none, none, none, none, none] [vI t0] := by
  unfold f_M_begins_b76 at h
  cases h
  exact x_iret (ty := .int) (pc := 76) d_M_begins_76 rfl (rfl) hQ
def f_M_begins_b30  (l1 : Int32) (l2 : Int32) (l3 : Int64) (t0 : Int64) (s : MT) : Option (Int32 × MT) := (if l1 = (50 : Int32) then (f_M_move s (40 : Int32) l2).bind fun s5 => (f_M_isProcedure (sI 4 ((mI 4 s5) - (1 : Int32)) s5) (40 : Int32)).bind fun (v8, s7) => (if v8 = 0 then (f_M_again s7).bind fun (v13, s12) => f_M_begins_b76 v13 s12 else (f_M_runArray s7 l3).bind fun (v17, s16) => f_M_begins_b76 v17 s16) else (if l1 = (54 : Int32) then (if 0 ≤ (lg_cmp t0 (0 : Int64)) then f_M_begins_b92 l1 l2 l3 t0 s else some ((4 : Int32), s)) else f_M_begins_b92 l1 l2 l3 t0 s))
theorem w_M_begins_b30 {sc : xSc} {d : Nat} {Q : xR → xH → Prop} {R : xH} {sZ : MT} {rZ : Int32}  (hQ : Q (.inl (some (vI rZ))) (mH sZ R)) (l1 : Int32) (l2 : Int32) (l3 : Int64) (t0 : Int64) (s : MT) (h : f_M_begins_b30  l1 l2 l3 t0 s = some (rZ, sZ)) : xW sc m_M_begins (d + 2) Q (mH s R) 30 [some (vA 373), some (vI l1), some (vI l2), some (vL l3), none, none, none, none] [vL t0] := by
  unfold f_M_begins_b30 at h
  refine x_lstore (pc := 30) d_M_begins_30 (by decide) ?_
  show xW sc m_M_begins (d + 2) Q (mH s R) 32 [some (vA 373), some (vI l1), some (vI l2), some (vL l3), none, some (vL t0), none, none] []
  refine x_iload_n (pc := 32) d_M_begins_32 rfl ?_
  refine x_bipush (v := (50 : Int32)) (pc := 33) d_M_begins_33 (by decide) ?_
  refine x_icmp_ne (tgt := 77) (pc := 35) d_M_begins_35 (by decide) (fun c1 => ?_) (fun c1 => ?_)
  · rw [if_neg c1] at h
    refine x_iload_n (pc := 77) d_M_begins_77 rfl ?_
    refine x_bipush (v := (54 : Int32)) (pc := 78) d_M_begins_78 (by decide) ?_
    refine x_icmp_ne (tgt := 92) (pc := 80) d_M_begins_80 (by decide) (fun c2 => ?_) (fun c2 => ?_)
    · rw [if_neg c2] at h
      exact w_M_begins_b92 hQ l1 l2 l3 t0 s h
    · rw [if_pos c2] at h
      refine x_lload (pc := 83) d_M_begins_83 rfl ?_
      refine x_lconst (v := (0 : Int64)) (pc := 85) d_M_begins_85 (by decide) ?_
      refine x_lcmp (pc := 86) d_M_begins_86 ?_
      refine x_if_ge (tgt := 92) (pc := 87) d_M_begins_87 (by decide) (fun c3 => ?_) (fun c3 => ?_)
      · rw [if_pos c3] at h
        exact w_M_begins_b92 hQ l1 l2 l3 t0 s h
      · rw [if_neg c3] at h
        refine x_iconst (v := (4 : Int32)) (pc := 90) d_M_begins_90 (by decide) ?_
        cases h
        exact x_iret (ty := .int) (pc := 91) d_M_begins_91 rfl (rfl) hQ
  · rw [if_pos c1] at h
    refine x_aload_n (pc := 38) d_M_begins_38 rfl ?_
    refine x_bipush (v := (40 : Int32)) (pc := 39) d_M_begins_39 (by decide) ?_
    refine x_iload_n (pc := 41) d_M_begins_41 rfl ?_
    obtain ⟨s5, e4, h⟩ := Option.bind_eq_some_iff.mp h
    refine x_invv (c := 1) (av := [vI (40 : Int32), vI l2]) (st := []) (pc := 42) d_M_begins_42 cv_M_254 y_M_move (xm_at s R) rfl (Nat.le_of_ble_eq_true rfl) (Nat.le_of_ble_eq_true rfl) (w_M_move (d := d + 1) (Q := fun r h' => r = .inl none ∧ h' = mH s5 R) (R := R) ⟨rfl, rfl⟩ s (40 : Int32) l2 e4) (fun v h' z => ?_) (fun a h' z => nomatch z.1)
    obtain ⟨z1, z2⟩ := z
    subst z2
    cases z1
    show xW sc m_M_begins (d + 2) Q (mH s5 R) 45 [some (vA 373), some (vI l1), some (vI l2), some (vL l3), none, some (vL t0), none, none] []
    refine x_aload_n (pc := 45) d_M_begins_45 rfl ?_
    refine x_dup (pc := 46) d_M_begins_46 rfl ?_
    refine x_getf (c := 1) (k := 4) (v := vI (mI 4 s5)) (pc := 47) d_M_begins_47 l_M_247 (xm_at s5 R) rfl ?_
    refine x_iconst (v := (1 : Int32)) (pc := 50) d_M_begins_50 (by decide) ?_
    refine x_isub (pc := 51) d_M_begins_51 ?_
    refine xm_p4 (pc := 52) d_M_begins_52 l_M_247 ?_
    refine x_aload_n (pc := 55) d_M_begins_55 rfl ?_
    refine x_bipush (v := (40 : Int32)) (pc := 56) d_M_begins_56 (by decide) ?_
    obtain ⟨⟨v8, s7⟩, e6, h⟩ := Option.bind_eq_some_iff.mp h
    dsimp only at h
    refine x_invv (c := 1) (av := [vI (40 : Int32)]) (st := []) (pc := 58) d_M_begins_58 cv_M_378 y_M_isProcedure (xm_at (sI 4 ((mI 4 s5) - (1 : Int32)) s5) R) rfl (Nat.le_of_ble_eq_true rfl) (Nat.le_of_ble_eq_true rfl) (w_M_isProcedure (d := d + 1) (Q := fun r h' => r = .inl (some (vI v8)) ∧ h' = mH s7 R) (R := R) ⟨rfl, rfl⟩ (sI 4 ((mI 4 s5) - (1 : Int32)) s5) (40 : Int32) e6) (fun v h' z => ?_) (fun a h' z => nomatch z.1)
    obtain ⟨z1, z2⟩ := z
    subst z2
    cases z1
    show xW sc m_M_begins (d + 2) Q (mH s7 R) 61 [some (vA 373), some (vI l1), some (vI l2), some (vL l3), none, some (vL t0), none, none] [vI v8]
    refine x_if_eq (tgt := 72) (pc := 61) d_M_begins_61 (by decide) (fun c10 => ?_) (fun c10 => ?_)
    · rw [if_pos c10] at h
      refine x_aload_n (pc := 72) d_M_begins_72 rfl ?_
      obtain ⟨⟨v13, s12⟩, e11, h⟩ := Option.bind_eq_some_iff.mp h
      dsimp only at h
      refine x_invv (c := 1) (av := []) (st := []) (pc := 73) d_M_begins_73 cv_M_522 y_M_again (xm_at s7 R) rfl (Nat.le_of_ble_eq_true rfl) (Nat.le_of_ble_eq_true rfl) (w_M_again (d := d + 0) (Q := fun r h' => r = .inl (some (vI v13)) ∧ h' = mH s12 R) (R := R) ⟨rfl, rfl⟩ s7  e11) (fun v h' z => ?_) (fun a h' z => nomatch z.1)
      obtain ⟨z1, z2⟩ := z
      subst z2
      cases z1
      show xW sc m_M_begins (d + 2) Q (mH s12 R) 76 [some (vA 373), some (vI l1), some (vI l2), some (vL l3), none, some (vL t0), none, none] [vI v13]
      exact x_wk (L' := [none, none, none, none, none, none, none, none]) ⟨Or.inl rfl, Or.inl rfl, Or.inl rfl, Or.inl rfl, Or.inl rfl, Or.inl rfl, Or.inl rfl, Or.inl rfl, trivial⟩ (w_M_begins_b76 hQ v13 s12 h)
    · rw [if_neg c10] at h
      refine x_aload_n (pc := 64) d_M_begins_64 rfl ?_
      refine x_lload_n (pc := 65) d_M_begins_65 rfl ?_
      obtain ⟨⟨v17, s16⟩, e15, h⟩ := Option.bind_eq_some_iff.mp h
      dsimp only at h
      refine x_invv (c := 1) (av := [vL l3]) (st := []) (pc := 66) d_M_begins_66 cv_M_382 y_M_runArray (xm_at s7 R) rfl (Nat.le_of_ble_eq_true rfl) (Nat.le_of_ble_eq_true rfl) (w_M_runArray (d := d + 0) (Q := fun r h' => r = .inl (some (vI v17)) ∧ h' = mH s16 R) (R := R) ⟨rfl, rfl⟩ s7 l3 e15) (fun v h' z => ?_) (fun a h' z => nomatch z.1)
      obtain ⟨z1, z2⟩ := z
      subst z2
      cases z1
      show xW sc m_M_begins (d + 2) Q (mH s16 R) 69 [some (vA 373), some (vI l1), some (vI l2), some (vL l3), none, some (vL t0), none, none] [vI v17]
      refine x_goto (tgt := 76) (pc := 69) d_M_begins_69 (by decide) ?_
      exact x_wk (L' := [none, none, none, none, none, none, none, none]) ⟨Or.inl rfl, Or.inl rfl, Or.inl rfl, Or.inl rfl, Or.inl rfl, Or.inl rfl, Or.inl rfl, Or.inl rfl, trivial⟩ (w_M_begins_b76 hQ v17 s16 h)
def f_M_begins (s : MT) (a1 : Int32) : Option (Int32 × MT) := (if xin ((mI 4 s) - (1 : Int32)) 1300 = true then (if ((mI 4 s) - (1 : Int32)) ≤ 0 then f_M_begins_b30 a1 ((mI 4 s) - (1 : Int32)) (mL 2 s ((mI 4 s) - (1 : Int32)).toNatClampNeg) (0 : Int64) s else (if xin (((mI 4 s) - (1 : Int32)) - (1 : Int32)) 1300 = true then f_M_begins_b30 a1 ((mI 4 s) - (1 : Int32)) (mL 2 s ((mI 4 s) - (1 : Int32)).toNatClampNeg) (mL 2 s (((mI 4 s) - (1 : Int32)) - (1 : Int32)).toNatClampNeg) s else none)) else none)
theorem w_M_begins {sc : xSc} {d : Nat} {Q : xR → xH → Prop} {R : xH} {sZ : MT} {rZ : Int32} (hQ : Q (.inl (some (vI rZ))) (mH sZ R)) (s : MT) (a1 : Int32) (h : f_M_begins s a1 = some (rZ, sZ)) : xW sc m_M_begins (d + 2) Q (mH s R) 0 (xent [vA 373, vI a1] m_M_begins.2.2.1) [] := by
  show xW sc m_M_begins (d + 2) Q (mH s R) 0 [some (vA 373), some (vI a1), none, none, none, none, none, none] []
  unfold f_M_begins at h
  refine x_aload_n (pc := 0) d_M_begins_0 rfl ?_
  refine x_getf (c := 1) (k := 4) (v := vI (mI 4 s)) (pc := 1) d_M_begins_1 l_M_247 (xm_at s R) rfl ?_
  refine x_iconst (v := (1 : Int32)) (pc := 4) d_M_begins_4 (by decide) ?_
  refine x_isub (pc := 5) d_M_begins_5 ?_
  refine x_istore_n (pc := 6) d_M_begins_6 (by decide) ?_
  show xW sc m_M_begins (d + 2) Q (mH s R) 7 [some (vA 373), some (vI a1), some (vI ((mI 4 s) - (1 : Int32))), none, none, none, none, none] []
  refine x_aload_n (pc := 7) d_M_begins_7 rfl ?_
  refine x_getf (c := 1) (k := 2) (v := vA 375) (pc := 8) d_M_begins_8 l_M_13 (xm_at s R) rfl ?_
  refine x_iload_n (pc := 11) d_M_begins_11 rfl ?_
  obtain ⟨c1, h⟩ := ite_some h
  refine x_lald (pc := 12) d_M_begins_12 (xm_a2 s R) (xin_vp c1) ?_
  refine x_lstore_n (pc := 13) d_M_begins_13 (by decide) ?_
  show xW sc m_M_begins (d + 2) Q (mH s R) 14 [some (vA 373), some (vI a1), some (vI ((mI 4 s) - (1 : Int32))), some (vL (mL 2 s ((mI 4 s) - (1 : Int32)).toNatClampNeg)), none, none, none, none] []
  refine x_iload_n (pc := 14) d_M_begins_14 rfl ?_
  refine x_if_le (tgt := 29) (pc := 15) d_M_begins_15 (by decide) (fun c2 => ?_) (fun c2 => ?_)
  · rw [if_pos c2] at h
    refine x_lconst (v := (0 : Int64)) (pc := 29) d_M_begins_29 (by decide) ?_
    exact w_M_begins_b30 hQ a1 ((mI 4 s) - (1 : Int32)) (mL 2 s ((mI 4 s) - (1 : Int32)).toNatClampNeg) (0 : Int64) s h
  · rw [if_neg c2] at h
    refine x_aload_n (pc := 18) d_M_begins_18 rfl ?_
    refine x_getf (c := 1) (k := 2) (v := vA 375) (pc := 19) d_M_begins_19 l_M_13 (xm_at s R) rfl ?_
    refine x_iload_n (pc := 22) d_M_begins_22 rfl ?_
    refine x_iconst (v := (1 : Int32)) (pc := 23) d_M_begins_23 (by decide) ?_
    refine x_isub (pc := 24) d_M_begins_24 ?_
    obtain ⟨c3, h⟩ := ite_some h
    refine x_lald (pc := 25) d_M_begins_25 (xm_a2 s R) (xin_vp c3) ?_
    refine x_goto (tgt := 30) (pc := 26) d_M_begins_26 (by decide) ?_
    exact w_M_begins_b30 hQ a1 ((mI 4 s) - (1 : Int32)) (mL 2 s ((mI 4 s) - (1 : Int32)).toNatClampNeg) (mL 2 s (((mI 4 s) - (1 : Int32)) - (1 : Int32)).toNatClampNeg) s h
def f_M_bits_b272  (t0 : Int64) (t1 : Int32) (t2 : Int32) (s : MT) : Option (Int32 × MT) := (f_M_give s t2 t1 t0).bind fun (v3, s2) => some (v3, s2)
theorem w_M_bits_b272 {sc : xSc} {d : Nat} {Q : xR → xH → Prop} {R : xH} {sZ : MT} {rZ : Int32}  (hQ : Q (.inl (some (vI rZ))) (mH sZ R)) (t0 : Int64) (t1 : Int32) (t2 : Int32) (s : MT) (h : f_M_bits_b272  t0 t1 t2 s = some (rZ, sZ)) : xW sc m_M_bits (d + 2) Q (mH s R) 272 [none, none, none, none, none, none, none] [vL t0, vI t1, vI t2, vA 373] := by
  unfold f_M_bits_b272 at h
  obtain ⟨⟨v3, s2⟩, e1, h⟩ := Option.bind_eq_some_iff.mp h
  dsimp only at h
  refine x_invv (c := 1) (av := [vI t2, vI t1, vL t0]) (st := []) (pc := 272) d_M_bits_272 cv_M_262 y_M_give (xm_at s R) rfl (Nat.le_of_ble_eq_true rfl) (Nat.le_of_ble_eq_true rfl) (w_M_give (d := d + 0) (Q := fun r h' => r = .inl (some (vI v3)) ∧ h' = mH s2 R) (R := R) ⟨rfl, rfl⟩ s t2 t1 t0 e1) (fun v h' z => ?_) (fun a h' z => nomatch z.1)
  obtain ⟨z1, z2⟩ := z
  subst z2
  cases z1
  show xW sc m_M_bits (d + 2) Q (mH s2 R) 275 [none, none, none, none, none, none, none] [vI v3]
  cases h
  exact x_iret (ty := .int) (pc := 275) d_M_bits_275 rfl (rfl) hQ
def f_M_bits_b236  (l3 : Int64) (l5 : Int32) (t0 : Int32) (s : MT) : Option (Int32 × MT) := (if t0 = 0 then (if 0 ≤ (lg_cmp l3 (0 : Int64)) then f_M_bits_b272 ((l5 <<< (l3.toInt32 &&& 31)).toInt64) (0 : Int32) (2 : Int32) s else f_M_bits_b272 (((l5.toUInt32 >>> (((-l3).toInt32).toUInt32 &&& Int32.toUInt32 31)).toInt32).toInt64) (0 : Int32) (2 : Int32) s) else f_M_bits_b272 (0 : Int64) (0 : Int32) (2 : Int32) s)
theorem w_M_bits_b236 {sc : xSc} {d : Nat} {Q : xR → xH → Prop} {R : xH} {sZ : MT} {rZ : Int32}  (hQ : Q (.inl (some (vI rZ))) (mH sZ R)) (l3 : Int64) (l5 : Int32) (t0 : Int32) (s : MT) (h : f_M_bits_b236  l3 l5 t0 s = some (rZ, sZ)) : xW sc m_M_bits (d + 2) Q (mH s R) 236 [some (vA 373), none, none, some (vL l3), none, some (vI l5), none] [vI t0] := by
  unfold f_M_bits_b236 at h
  refine x_istore (pc := 236) d_M_bits_236 (by decide) ?_
  show xW sc m_M_bits (d + 2) Q (mH s R) 238 [some (vA 373), none, none, some (vL l3), none, some (vI l5), some (vI t0)] []
  refine x_aload_n (pc := 238) d_M_bits_238 rfl ?_
  refine x_iconst (v := (2 : Int32)) (pc := 239) d_M_bits_239 (by decide) ?_
  refine x_iconst (v := (0 : Int32)) (pc := 240) d_M_bits_240 (by decide) ?_
  refine x_iload (pc := 241) d_M_bits_241 rfl ?_
  refine x_if_eq (tgt := 250) (pc := 243) d_M_bits_243 (by decide) (fun c1 => ?_) (fun c1 => ?_)
  · rw [if_pos c1] at h
    refine x_lload_n (pc := 250) d_M_bits_250 rfl ?_
    refine x_lconst (v := (0 : Int64)) (pc := 251) d_M_bits_251 (by decide) ?_
    refine x_lcmp (pc := 252) d_M_bits_252 ?_
    refine x_if_ge (tgt := 266) (pc := 253) d_M_bits_253 (by decide) (fun c2 => ?_) (fun c2 => ?_)
    · rw [if_pos c2] at h
      refine x_iload (pc := 266) d_M_bits_266 rfl ?_
      refine x_lload_n (pc := 268) d_M_bits_268 rfl ?_
      refine x_l2i (pc := 269) d_M_bits_269 ?_
      refine x_ishl (pc := 270) d_M_bits_270 ?_
      refine x_i2l (pc := 271) d_M_bits_271 ?_
      exact x_wk (L' := [none, none, none, none, none, none, none]) ⟨Or.inl rfl, Or.inl rfl, Or.inl rfl, Or.inl rfl, Or.inl rfl, Or.inl rfl, Or.inl rfl, trivial⟩ (w_M_bits_b272 hQ ((l5 <<< (l3.toInt32 &&& 31)).toInt64) (0 : Int32) (2 : Int32) s h)
    · rw [if_neg c2] at h
      refine x_iload (pc := 256) d_M_bits_256 rfl ?_
      refine x_lload_n (pc := 258) d_M_bits_258 rfl ?_
      refine x_lneg (pc := 259) d_M_bits_259 ?_
      refine x_l2i (pc := 260) d_M_bits_260 ?_
      refine x_iushr (pc := 261) d_M_bits_261 ?_
      refine x_i2l (pc := 262) d_M_bits_262 ?_
      refine x_goto (tgt := 272) (pc := 263) d_M_bits_263 (by decide) ?_
      exact x_wk (L' := [none, none, none, none, none, none, none]) ⟨Or.inl rfl, Or.inl rfl, Or.inl rfl, Or.inl rfl, Or.inl rfl, Or.inl rfl, Or.inl rfl, trivial⟩ (w_M_bits_b272 hQ (((l5.toUInt32 >>> (((-l3).toInt32).toUInt32 &&& Int32.toUInt32 31)).toInt32).toInt64) (0 : Int32) (2 : Int32) s h)
  · rw [if_neg c1] at h
    refine x_lconst (v := (0 : Int64)) (pc := 246) d_M_bits_246 (by decide) ?_
    refine x_goto (tgt := 272) (pc := 247) d_M_bits_247 (by decide) ?_
    exact x_wk (L' := [none, none, none, none, none, none, none]) ⟨Or.inl rfl, Or.inl rfl, Or.inl rfl, Or.inl rfl, Or.inl rfl, Or.inl rfl, Or.inl rfl, trivial⟩ (w_M_bits_b272 hQ (0 : Int64) (0 : Int32) (2 : Int32) s h)
def f_M_bits_b231  (l3 : Int64) (l5 : Int32) (s : MT) : Option (Int32 × MT) := f_M_bits_b236 l3 l5 (1 : Int32) s
theorem w_M_bits_b231 {sc : xSc} {d : Nat} {Q : xR → xH → Prop} {R : xH} {sZ : MT} {rZ : Int32}  (hQ : Q (.inl (some (vI rZ))) (mH sZ R)) (l3 : Int64) (l5 : Int32) (s : MT) (h : f_M_bits_b231  l3 l5 s = some (rZ, sZ)) : xW sc m_M_bits (d + 2) Q (mH s R) 231 [some (vA 373), none, none, some (vL l3), none, some (vI l5), none] [] := by
  unfold f_M_bits_b231 at h
  refine x_iconst (v := (1 : Int32)) (pc := 231) d_M_bits_231 (by decide) ?_
  refine x_goto (tgt := 236) (pc := 232) d_M_bits_232 (by decide) ?_
  exact w_M_bits_b236 hQ l3 l5 (1 : Int32) s h
def f_M_bits_b146  (s : MT) : Option (Int32 × MT) := some ((0 : Int32), s)
theorem w_M_bits_b146 {sc : xSc} {d : Nat} {Q : xR → xH → Prop} {R : xH} {sZ : MT} {rZ : Int32}  (hQ : Q (.inl (some (vI rZ))) (mH sZ R)) (s : MT) (h : f_M_bits_b146  s = some (rZ, sZ)) : xW sc m_M_bits (d + 2) Q (mH s R) 146 [none, none, none, none, none, none, none] [] := by
  unfold f_M_bits_b146 at h
  refine x_iconst (v := (0 : Int32)) (pc := 146) d_M_bits_146 (by decide) ?_
  cases h
  exact x_iret (ty := .int) (pc := 147) d_M_bits_147 rfl (rfl) hQ
def f_M_bits_b145  (t0 : Int32) (t1 : Int32) (s : MT) : Option (Int32 × MT) := (if xin t1 1300 = true then f_M_bits_b146 (sA 1 (va_up (mA 1 s) t1.toNatClampNeg t0) s) else none)
theorem w_M_bits_b145 {sc : xSc} {d : Nat} {Q : xR → xH → Prop} {R : xH} {sZ : MT} {rZ : Int32}  (hQ : Q (.inl (some (vI rZ))) (mH sZ R)) (t0 : Int32) (t1 : Int32) (s : MT) (h : f_M_bits_b145  t0 t1 s = some (rZ, sZ)) : xW sc m_M_bits (d + 2) Q (mH s R) 145 [none, none, none, none, none, none, none] [vI t0, vI t1, vA 374] := by
  unfold f_M_bits_b145 at h
  obtain ⟨c1, h⟩ := ite_some h
  refine xm_s1 (pc := 145) d_M_bits_145 c1 ?_
  exact w_M_bits_b146 hQ (sA 1 (va_up (mA 1 s) t1.toNatClampNeg t0) s) h
def f_M_bits_b124  (l1 : Int32) (l2 : Int32) (l5 : Int32) (s : MT) : Option (Int32 × MT) := (if l1 = (33 : Int32) then f_M_bits_b145 (l5 + (8 : Int32)) l2 s else f_M_bits_b145 l5 l2 s)
theorem w_M_bits_b124 {sc : xSc} {d : Nat} {Q : xR → xH → Prop} {R : xH} {sZ : MT} {rZ : Int32}  (hQ : Q (.inl (some (vI rZ))) (mH sZ R)) (l1 : Int32) (l2 : Int32) (l5 : Int32) (s : MT) (h : f_M_bits_b124  l1 l2 l5 s = some (rZ, sZ)) : xW sc m_M_bits (d + 2) Q (mH s R) 124 [some (vA 373), some (vI l1), some (vI l2), none, none, some (vI l5), none] [] := by
  unfold f_M_bits_b124 at h
  refine x_aload_n (pc := 124) d_M_bits_124 rfl ?_
  refine x_getf (c := 1) (k := 1) (v := vA 374) (pc := 125) d_M_bits_125 l_M_7 (xm_at s R) rfl ?_
  refine x_iload_n (pc := 128) d_M_bits_128 rfl ?_
  refine x_iload_n (pc := 129) d_M_bits_129 rfl ?_
  refine x_bipush (v := (33 : Int32)) (pc := 130) d_M_bits_130 (by decide) ?_
  refine x_icmp_ne (tgt := 143) (pc := 132) d_M_bits_132 (by decide) (fun c1 => ?_) (fun c1 => ?_)
  · rw [if_neg c1] at h
    refine x_iload (pc := 143) d_M_bits_143 rfl ?_
    exact x_wk (L' := [none, none, none, none, none, none, none]) ⟨Or.inl rfl, Or.inl rfl, Or.inl rfl, Or.inl rfl, Or.inl rfl, Or.inl rfl, Or.inl rfl, trivial⟩ (w_M_bits_b145 hQ l5 l2 s h)
  · rw [if_pos c1] at h
    refine x_iload (pc := 135) d_M_bits_135 rfl ?_
    refine x_bipush (v := (8 : Int32)) (pc := 137) d_M_bits_137 (by decide) ?_
    refine x_iadd (pc := 139) d_M_bits_139 ?_
    refine x_goto (tgt := 145) (pc := 140) d_M_bits_140 (by decide) ?_
    exact x_wk (L' := [none, none, none, none, none, none, none]) ⟨Or.inl rfl, Or.inl rfl, Or.inl rfl, Or.inl rfl, Or.inl rfl, Or.inl rfl, Or.inl rfl, trivial⟩ (w_M_bits_b145 hQ (l5 + (8 : Int32)) l2 s h)
def f_M_bits_b105  (l1 : Int32) (l2 : Int32) (s : MT) : Option (Int32 × MT) := (f_M_kindOf s l2).bind fun (v3, s2) => (if v3 = (3 : Int32) then f_M_bits_b124 l1 l2 v3 s2 else (if v3 = (5 : Int32) then f_M_bits_b124 l1 l2 v3 s2 else f_M_bits_b146 s2))
theorem w_M_bits_b105 {sc : xSc} {d : Nat} {Q : xR → xH → Prop} {R : xH} {sZ : MT} {rZ : Int32}  (hQ : Q (.inl (some (vI rZ))) (mH sZ R)) (l1 : Int32) (l2 : Int32) (s : MT) (h : f_M_bits_b105  l1 l2 s = some (rZ, sZ)) : xW sc m_M_bits (d + 2) Q (mH s R) 105 [some (vA 373), some (vI l1), some (vI l2), none, none, none, none] [] := by
  unfold f_M_bits_b105 at h
  refine x_aload_n (pc := 105) d_M_bits_105 rfl ?_
  refine x_iload_n (pc := 106) d_M_bits_106 rfl ?_
  obtain ⟨⟨v3, s2⟩, e1, h⟩ := Option.bind_eq_some_iff.mp h
  dsimp only at h
  refine x_invv (c := 1) (av := [vI l2]) (st := []) (pc := 107) d_M_bits_107 cv_M_421 y_M_kindOf (xm_at s R) rfl (Nat.le_of_ble_eq_true rfl) (Nat.le_of_ble_eq_true rfl) (w_M_kindOf (d := d + 1) (Q := fun r h' => r = .inl (some (vI v3)) ∧ h' = mH s2 R) (R := R) ⟨rfl, rfl⟩ s l2 e1) (fun v h' z => ?_) (fun a h' z => nomatch z.1)
  obtain ⟨z1, z2⟩ := z
  subst z2
  cases z1
  show xW sc m_M_bits (d + 2) Q (mH s2 R) 110 [some (vA 373), some (vI l1), some (vI l2), none, none, none, none] [vI v3]
  refine x_istore (pc := 110) d_M_bits_110 (by decide) ?_
  show xW sc m_M_bits (d + 2) Q (mH s2 R) 112 [some (vA 373), some (vI l1), some (vI l2), none, none, some (vI v3), none] []
  refine x_iload (pc := 112) d_M_bits_112 rfl ?_
  refine x_iconst (v := (3 : Int32)) (pc := 114) d_M_bits_114 (by decide) ?_
  refine x_icmp_eq (tgt := 124) (pc := 115) d_M_bits_115 (by decide) (fun c5 => ?_) (fun c5 => ?_)
  · rw [if_pos c5] at h
    exact w_M_bits_b124 hQ l1 l2 v3 s2 h
  · rw [if_neg c5] at h
    refine x_iload (pc := 118) d_M_bits_118 rfl ?_
    refine x_iconst (v := (5 : Int32)) (pc := 120) d_M_bits_120 (by decide) ?_
    refine x_icmp_ne (tgt := 146) (pc := 121) d_M_bits_121 (by decide) (fun c6 => ?_) (fun c6 => ?_)
    · rw [if_neg c6] at h
      exact x_wk (L' := [none, none, none, none, none, none, none]) ⟨Or.inl rfl, Or.inl rfl, Or.inl rfl, Or.inl rfl, Or.inl rfl, Or.inl rfl, Or.inl rfl, trivial⟩ (w_M_bits_b146 hQ s2 h)
    · rw [if_pos c6] at h
      exact w_M_bits_b124 hQ l1 l2 v3 s2 h
def f_M_bits_b70  (t0 : Int64) (t1 : Int32) (t2 : Int32) (s : MT) : Option (Int32 × MT) := (f_M_give s t2 t1 t0).bind fun (v3, s2) => some (v3, s2)
theorem w_M_bits_b70 {sc : xSc} {d : Nat} {Q : xR → xH → Prop} {R : xH} {sZ : MT} {rZ : Int32}  (hQ : Q (.inl (some (vI rZ))) (mH sZ R)) (t0 : Int64) (t1 : Int32) (t2 : Int32) (s : MT) (h : f_M_bits_b70  t0 t1 t2 s = some (rZ, sZ)) : xW sc m_M_bits (d + 2) Q (mH s R) 70 [none, none, none, none, none, none, none] [vL t0, vI t1, vI t2, vA 373] := by
  unfold f_M_bits_b70 at h
  obtain ⟨⟨v3, s2⟩, e1, h⟩ := Option.bind_eq_some_iff.mp h
  dsimp only at h
  refine x_invv (c := 1) (av := [vI t2, vI t1, vL t0]) (st := []) (pc := 70) d_M_bits_70 cv_M_262 y_M_give (xm_at s R) rfl (Nat.le_of_ble_eq_true rfl) (Nat.le_of_ble_eq_true rfl) (w_M_give (d := d + 0) (Q := fun r h' => r = .inl (some (vI v3)) ∧ h' = mH s2 R) (R := R) ⟨rfl, rfl⟩ s t2 t1 t0 e1) (fun v h' z => ?_) (fun a h' z => nomatch z.1)
  obtain ⟨z1, z2⟩ := z
  subst z2
  cases z1
  show xW sc m_M_bits (d + 2) Q (mH s2 R) 73 [none, none, none, none, none, none, none] [vI v3]
  cases h
  exact x_iret (ty := .int) (pc := 73) d_M_bits_73 rfl (rfl) hQ
def f_M_bits_b41  (t0 : Int64) (t1 : Int32) (t2 : Int32) (s : MT) : Option (Int32 × MT) := (f_M_give s t2 t1 t0).bind fun (v3, s2) => some (v3, s2)
theorem w_M_bits_b41 {sc : xSc} {d : Nat} {Q : xR → xH → Prop} {R : xH} {sZ : MT} {rZ : Int32}  (hQ : Q (.inl (some (vI rZ))) (mH sZ R)) (t0 : Int64) (t1 : Int32) (t2 : Int32) (s : MT) (h : f_M_bits_b41  t0 t1 t2 s = some (rZ, sZ)) : xW sc m_M_bits (d + 2) Q (mH s R) 41 [none, none, none, none, none, none, none] [vL t0, vI t1, vI t2, vA 373] := by
  unfold f_M_bits_b41 at h
  obtain ⟨⟨v3, s2⟩, e1, h⟩ := Option.bind_eq_some_iff.mp h
  dsimp only at h
  refine x_invv (c := 1) (av := [vI t2, vI t1, vL t0]) (st := []) (pc := 41) d_M_bits_41 cv_M_262 y_M_give (xm_at s R) rfl (Nat.le_of_ble_eq_true rfl) (Nat.le_of_ble_eq_true rfl) (w_M_give (d := d + 0) (Q := fun r h' => r = .inl (some (vI v3)) ∧ h' = mH s2 R) (R := R) ⟨rfl, rfl⟩ s t2 t1 t0 e1) (fun v h' z => ?_) (fun a h' z => nomatch z.1)
  obtain ⟨z1, z2⟩ := z
  subst z2
  cases z1
  show xW sc m_M_bits (d + 2) Q (mH s2 R) 44 [none, none, none, none, none, none, none] [vI v3]
  cases h
  exact x_iret (ty := .int) (pc := 44) d_M_bits_44 rfl (rfl) hQ
def f_M_bits (s : MT) (a1 : Int32) (a2 : Int32) : Option (Int32 × MT) := (if xin a2 1300 = true then (if a1 = (31 : Int32) then (if xin a2 1300 = true then (if xin a2 1300 = true then (if (mA 1 s a2.toNatClampNeg) = 0 then f_M_bits_b41 ((-1 : Int64) - (mL 2 s a2.toNatClampNeg)) (mA 1 s a2.toNatClampNeg) (1 : Int32) s else f_M_bits_b41 ((1 : Int64) - (mL 2 s a2.toNatClampNeg)) (mA 1 s a2.toNatClampNeg) (1 : Int32) s) else none) else none) else (if a1 = (35 : Int32) then (if xin a2 1300 = true then (if (mA 1 s a2.toNatClampNeg) ≤ (7 : Int32) then f_M_bits_b70 (0 : Int64) (2 : Int32) (1 : Int32) s else f_M_bits_b70 (1 : Int64) (2 : Int32) (1 : Int32) s) else none) else (if a1 = (36 : Int32) then (f_M_kindOf s a2).bind fun (v26, s25) => (f_M_give s25 (1 : Int32) (0 : Int32) v26.toInt64).bind fun (v30, s29) => some (v30, s29) else (if a1 = (33 : Int32) then f_M_bits_b105 a1 a2 s else (if a1 = (34 : Int32) then f_M_bits_b105 a1 a2 s else (if xin (a2 - (1 : Int32)) 1300 = true then (if a1 = (29 : Int32) then (if xin a2 1300 = true then (if xin (a2 - (1 : Int32)) 1300 = true then (f_M_give s (2 : Int32) (mA 1 s a2.toNatClampNeg) ((mL 2 s (a2 - (1 : Int32)).toNatClampNeg) &&& (mL 2 s a2.toNatClampNeg))).bind fun (v22, s21) => some (v22, s21) else none) else none) else (if a1 = (30 : Int32) then (if xin a2 1300 = true then (if xin (a2 - (1 : Int32)) 1300 = true then (f_M_give s (2 : Int32) (mA 1 s a2.toNatClampNeg) ((mL 2 s (a2 - (1 : Int32)).toNatClampNeg) ||| (mL 2 s a2.toNatClampNeg))).bind fun (v16, s15) => some (v16, s15) else none) else none) else (if 0 < (lg_cmp (mL 2 s a2.toNatClampNeg) (31 : Int64)) then f_M_bits_b231 (mL 2 s a2.toNatClampNeg) ((mL 2 s (a2 - (1 : Int32)).toNatClampNeg).toInt32) s else (if 0 ≤ (lg_cmp (mL 2 s a2.toNatClampNeg) (-31 : Int64)) then f_M_bits_b236 (mL 2 s a2.toNatClampNeg) ((mL 2 s (a2 - (1 : Int32)).toNatClampNeg).toInt32) (0 : Int32) s else f_M_bits_b231 (mL 2 s a2.toNatClampNeg) ((mL 2 s (a2 - (1 : Int32)).toNatClampNeg).toInt32) s)))) else none)))))) else none)
theorem w_M_bits {sc : xSc} {d : Nat} {Q : xR → xH → Prop} {R : xH} {sZ : MT} {rZ : Int32} (hQ : Q (.inl (some (vI rZ))) (mH sZ R)) (s : MT) (a1 : Int32) (a2 : Int32) (h : f_M_bits s a1 a2 = some (rZ, sZ)) : xW sc m_M_bits (d + 2) Q (mH s R) 0 (xent [vA 373, vI a1, vI a2] m_M_bits.2.2.1) [] := by
  show xW sc m_M_bits (d + 2) Q (mH s R) 0 [some (vA 373), some (vI a1), some (vI a2), none, none, none, none] []
  unfold f_M_bits at h
  refine x_aload_n (pc := 0) d_M_bits_0 rfl ?_
  refine x_getf (c := 1) (k := 2) (v := vA 375) (pc := 1) d_M_bits_1 l_M_13 (xm_at s R) rfl ?_
  refine x_iload_n (pc := 4) d_M_bits_4 rfl ?_
  obtain ⟨c1, h⟩ := ite_some h
  refine x_lald (pc := 5) d_M_bits_5 (xm_a2 s R) (xin_vp c1) ?_
  refine x_lstore_n (pc := 6) d_M_bits_6 (by decide) ?_
  show xW sc m_M_bits (d + 2) Q (mH s R) 7 [some (vA 373), some (vI a1), some (vI a2), some (vL (mL 2 s a2.toNatClampNeg)), none, none, none] []
  refine x_iload_n (pc := 7) d_M_bits_7 rfl ?_
  refine x_bipush (v := (31 : Int32)) (pc := 8) d_M_bits_8 (by decide) ?_
  refine x_icmp_ne (tgt := 45) (pc := 10) d_M_bits_10 (by decide) (fun c2 => ?_) (fun c2 => ?_)
  · rw [if_neg c2] at h
    refine x_iload_n (pc := 45) d_M_bits_45 rfl ?_
    refine x_bipush (v := (35 : Int32)) (pc := 46) d_M_bits_46 (by decide) ?_
    refine x_icmp_ne (tgt := 74) (pc := 48) d_M_bits_48 (by decide) (fun c3 => ?_) (fun c3 => ?_)
    · rw [if_neg c3] at h
      refine x_iload_n (pc := 74) d_M_bits_74 rfl ?_
      refine x_bipush (v := (36 : Int32)) (pc := 75) d_M_bits_75 (by decide) ?_
      refine x_icmp_ne (tgt := 93) (pc := 77) d_M_bits_77 (by decide) (fun c4 => ?_) (fun c4 => ?_)
      · rw [if_neg c4] at h
        refine x_iload_n (pc := 93) d_M_bits_93 rfl ?_
        refine x_bipush (v := (33 : Int32)) (pc := 94) d_M_bits_94 (by decide) ?_
        refine x_icmp_eq (tgt := 105) (pc := 96) d_M_bits_96 (by decide) (fun c5 => ?_) (fun c5 => ?_)
        · rw [if_pos c5] at h
          exact x_wk (L' := [some (vA 373), some (vI a1), some (vI a2), none, none, none, none]) ⟨Or.inr rfl, Or.inr rfl, Or.inr rfl, Or.inl rfl, Or.inl rfl, Or.inl rfl, Or.inl rfl, trivial⟩ (w_M_bits_b105 hQ a1 a2 s h)
        · rw [if_neg c5] at h
          refine x_iload_n (pc := 99) d_M_bits_99 rfl ?_
          refine x_bipush (v := (34 : Int32)) (pc := 100) d_M_bits_100 (by decide) ?_
          refine x_icmp_ne (tgt := 148) (pc := 102) d_M_bits_102 (by decide) (fun c6 => ?_) (fun c6 => ?_)
          · rw [if_neg c6] at h
            refine x_aload_n (pc := 148) d_M_bits_148 rfl ?_
            refine x_getf (c := 1) (k := 2) (v := vA 375) (pc := 149) d_M_bits_149 l_M_13 (xm_at s R) rfl ?_
            refine x_iload_n (pc := 152) d_M_bits_152 rfl ?_
            refine x_iconst (v := (1 : Int32)) (pc := 153) d_M_bits_153 (by decide) ?_
            refine x_isub (pc := 154) d_M_bits_154 ?_
            obtain ⟨c7, h⟩ := ite_some h
            refine x_lald (pc := 155) d_M_bits_155 (xm_a2 s R) (xin_vp c7) ?_
            refine x_l2i (pc := 156) d_M_bits_156 ?_
            refine x_istore (pc := 157) d_M_bits_157 (by decide) ?_
            show xW sc m_M_bits (d + 2) Q (mH s R) 159 [some (vA 373), some (vI a1), some (vI a2), some (vL (mL 2 s a2.toNatClampNeg)), none, some (vI ((mL 2 s (a2 - (1 : Int32)).toNatClampNeg).toInt32)), none] []
            refine x_iload_n (pc := 159) d_M_bits_159 rfl ?_
            refine x_bipush (v := (29 : Int32)) (pc := 160) d_M_bits_160 (by decide) ?_
            refine x_icmp_ne (tgt := 187) (pc := 162) d_M_bits_162 (by decide) (fun c8 => ?_) (fun c8 => ?_)
            · rw [if_neg c8] at h
              refine x_iload_n (pc := 187) d_M_bits_187 rfl ?_
              refine x_bipush (v := (30 : Int32)) (pc := 188) d_M_bits_188 (by decide) ?_
              refine x_icmp_ne (tgt := 215) (pc := 190) d_M_bits_190 (by decide) (fun c9 => ?_) (fun c9 => ?_)
              · rw [if_neg c9] at h
                refine x_lload_n (pc := 215) d_M_bits_215 rfl ?_
                refine x_ldc2 (v := (31 : Int64)) (pc := 216) d_M_bits_216 c_M_493 ?_
                refine x_lcmp (pc := 219) d_M_bits_219 ?_
                refine x_if_gt (tgt := 231) (pc := 220) d_M_bits_220 (by decide) (fun c10 => ?_) (fun c10 => ?_)
                · rw [if_pos c10] at h
                  exact x_wk (L' := [some (vA 373), none, none, some (vL (mL 2 s a2.toNatClampNeg)), none, some (vI ((mL 2 s (a2 - (1 : Int32)).toNatClampNeg).toInt32)), none]) ⟨Or.inr rfl, Or.inl rfl, Or.inl rfl, Or.inr rfl, Or.inl rfl, Or.inr rfl, Or.inl rfl, trivial⟩ (w_M_bits_b231 hQ (mL 2 s a2.toNatClampNeg) ((mL 2 s (a2 - (1 : Int32)).toNatClampNeg).toInt32) s h)
                · rw [if_neg c10] at h
                  refine x_lload_n (pc := 223) d_M_bits_223 rfl ?_
                  refine x_ldc2 (v := (-31 : Int64)) (pc := 224) d_M_bits_224 c_M_495 ?_
                  refine x_lcmp (pc := 227) d_M_bits_227 ?_
                  refine x_if_ge (tgt := 235) (pc := 228) d_M_bits_228 (by decide) (fun c11 => ?_) (fun c11 => ?_)
                  · rw [if_pos c11] at h
                    refine x_iconst (v := (0 : Int32)) (pc := 235) d_M_bits_235 (by decide) ?_
                    exact x_wk (L' := [some (vA 373), none, none, some (vL (mL 2 s a2.toNatClampNeg)), none, some (vI ((mL 2 s (a2 - (1 : Int32)).toNatClampNeg).toInt32)), none]) ⟨Or.inr rfl, Or.inl rfl, Or.inl rfl, Or.inr rfl, Or.inl rfl, Or.inr rfl, Or.inl rfl, trivial⟩ (w_M_bits_b236 hQ (mL 2 s a2.toNatClampNeg) ((mL 2 s (a2 - (1 : Int32)).toNatClampNeg).toInt32) (0 : Int32) s h)
                  · rw [if_neg c11] at h
                    exact x_wk (L' := [some (vA 373), none, none, some (vL (mL 2 s a2.toNatClampNeg)), none, some (vI ((mL 2 s (a2 - (1 : Int32)).toNatClampNeg).toInt32)), none]) ⟨Or.inr rfl, Or.inl rfl, Or.inl rfl, Or.inr rfl, Or.inl rfl, Or.inr rfl, Or.inl rfl, trivial⟩ (w_M_bits_b231 hQ (mL 2 s a2.toNatClampNeg) ((mL 2 s (a2 - (1 : Int32)).toNatClampNeg).toInt32) s h)
              · rw [if_pos c9] at h
                refine x_aload_n (pc := 193) d_M_bits_193 rfl ?_
                refine x_iconst (v := (2 : Int32)) (pc := 194) d_M_bits_194 (by decide) ?_
                refine x_aload_n (pc := 195) d_M_bits_195 rfl ?_
                refine x_getf (c := 1) (k := 1) (v := vA 374) (pc := 196) d_M_bits_196 l_M_7 (xm_at s R) rfl ?_
                refine x_iload_n (pc := 199) d_M_bits_199 rfl ?_
                obtain ⟨c12, h⟩ := ite_some h
                refine x_iald (pc := 200) d_M_bits_200 (xm_a1 s R) (xin_vp c12) ?_
                refine x_aload_n (pc := 201) d_M_bits_201 rfl ?_
                refine x_getf (c := 1) (k := 2) (v := vA 375) (pc := 202) d_M_bits_202 l_M_13 (xm_at s R) rfl ?_
                refine x_iload_n (pc := 205) d_M_bits_205 rfl ?_
                refine x_iconst (v := (1 : Int32)) (pc := 206) d_M_bits_206 (by decide) ?_
                refine x_isub (pc := 207) d_M_bits_207 ?_
                obtain ⟨c13, h⟩ := ite_some h
                refine x_lald (pc := 208) d_M_bits_208 (xm_a2 s R) (xin_vp c13) ?_
                refine x_lload_n (pc := 209) d_M_bits_209 rfl ?_
                refine x_lor (pc := 210) d_M_bits_210 ?_
                obtain ⟨⟨v16, s15⟩, e14, h⟩ := Option.bind_eq_some_iff.mp h
                dsimp only at h
                refine x_invv (c := 1) (av := [vI (2 : Int32), vI (mA 1 s a2.toNatClampNeg), vL ((mL 2 s (a2 - (1 : Int32)).toNatClampNeg) ||| (mL 2 s a2.toNatClampNeg))]) (st := []) (pc := 211) d_M_bits_211 cv_M_262 y_M_give (xm_at s R) rfl (Nat.le_of_ble_eq_true rfl) (Nat.le_of_ble_eq_true rfl) (w_M_give (d := d + 0) (Q := fun r h' => r = .inl (some (vI v16)) ∧ h' = mH s15 R) (R := R) ⟨rfl, rfl⟩ s (2 : Int32) (mA 1 s a2.toNatClampNeg) ((mL 2 s (a2 - (1 : Int32)).toNatClampNeg) ||| (mL 2 s a2.toNatClampNeg)) e14) (fun v h' z => ?_) (fun a h' z => nomatch z.1)
                obtain ⟨z1, z2⟩ := z
                subst z2
                cases z1
                show xW sc m_M_bits (d + 2) Q (mH s15 R) 214 [some (vA 373), some (vI a1), some (vI a2), some (vL (mL 2 s a2.toNatClampNeg)), none, some (vI ((mL 2 s (a2 - (1 : Int32)).toNatClampNeg).toInt32)), none] [vI v16]
                cases h
                exact x_iret (ty := .int) (pc := 214) d_M_bits_214 rfl (rfl) hQ
            · rw [if_pos c8] at h
              refine x_aload_n (pc := 165) d_M_bits_165 rfl ?_
              refine x_iconst (v := (2 : Int32)) (pc := 166) d_M_bits_166 (by decide) ?_
              refine x_aload_n (pc := 167) d_M_bits_167 rfl ?_
              refine x_getf (c := 1) (k := 1) (v := vA 374) (pc := 168) d_M_bits_168 l_M_7 (xm_at s R) rfl ?_
              refine x_iload_n (pc := 171) d_M_bits_171 rfl ?_
              obtain ⟨c18, h⟩ := ite_some h
              refine x_iald (pc := 172) d_M_bits_172 (xm_a1 s R) (xin_vp c18) ?_
              refine x_aload_n (pc := 173) d_M_bits_173 rfl ?_
              refine x_getf (c := 1) (k := 2) (v := vA 375) (pc := 174) d_M_bits_174 l_M_13 (xm_at s R) rfl ?_
              refine x_iload_n (pc := 177) d_M_bits_177 rfl ?_
              refine x_iconst (v := (1 : Int32)) (pc := 178) d_M_bits_178 (by decide) ?_
              refine x_isub (pc := 179) d_M_bits_179 ?_
              obtain ⟨c19, h⟩ := ite_some h
              refine x_lald (pc := 180) d_M_bits_180 (xm_a2 s R) (xin_vp c19) ?_
              refine x_lload_n (pc := 181) d_M_bits_181 rfl ?_
              refine x_land (pc := 182) d_M_bits_182 ?_
              obtain ⟨⟨v22, s21⟩, e20, h⟩ := Option.bind_eq_some_iff.mp h
              dsimp only at h
              refine x_invv (c := 1) (av := [vI (2 : Int32), vI (mA 1 s a2.toNatClampNeg), vL ((mL 2 s (a2 - (1 : Int32)).toNatClampNeg) &&& (mL 2 s a2.toNatClampNeg))]) (st := []) (pc := 183) d_M_bits_183 cv_M_262 y_M_give (xm_at s R) rfl (Nat.le_of_ble_eq_true rfl) (Nat.le_of_ble_eq_true rfl) (w_M_give (d := d + 0) (Q := fun r h' => r = .inl (some (vI v22)) ∧ h' = mH s21 R) (R := R) ⟨rfl, rfl⟩ s (2 : Int32) (mA 1 s a2.toNatClampNeg) ((mL 2 s (a2 - (1 : Int32)).toNatClampNeg) &&& (mL 2 s a2.toNatClampNeg)) e20) (fun v h' z => ?_) (fun a h' z => nomatch z.1)
              obtain ⟨z1, z2⟩ := z
              subst z2
              cases z1
              show xW sc m_M_bits (d + 2) Q (mH s21 R) 186 [some (vA 373), some (vI a1), some (vI a2), some (vL (mL 2 s a2.toNatClampNeg)), none, some (vI ((mL 2 s (a2 - (1 : Int32)).toNatClampNeg).toInt32)), none] [vI v22]
              cases h
              exact x_iret (ty := .int) (pc := 186) d_M_bits_186 rfl (rfl) hQ
          · rw [if_pos c6] at h
            exact x_wk (L' := [some (vA 373), some (vI a1), some (vI a2), none, none, none, none]) ⟨Or.inr rfl, Or.inr rfl, Or.inr rfl, Or.inl rfl, Or.inl rfl, Or.inl rfl, Or.inl rfl, trivial⟩ (w_M_bits_b105 hQ a1 a2 s h)
      · rw [if_pos c4] at h
        refine x_aload_n (pc := 80) d_M_bits_80 rfl ?_
        refine x_iconst (v := (1 : Int32)) (pc := 81) d_M_bits_81 (by decide) ?_
        refine x_iconst (v := (0 : Int32)) (pc := 82) d_M_bits_82 (by decide) ?_
        refine x_aload_n (pc := 83) d_M_bits_83 rfl ?_
        refine x_iload_n (pc := 84) d_M_bits_84 rfl ?_
        obtain ⟨⟨v26, s25⟩, e24, h⟩ := Option.bind_eq_some_iff.mp h
        dsimp only at h
        refine x_invv (c := 1) (av := [vI a2]) (st := [vI (0 : Int32), vI (1 : Int32), vA 373]) (pc := 85) d_M_bits_85 cv_M_421 y_M_kindOf (xm_at s R) rfl (Nat.le_of_ble_eq_true rfl) (Nat.le_of_ble_eq_true rfl) (w_M_kindOf (d := d + 1) (Q := fun r h' => r = .inl (some (vI v26)) ∧ h' = mH s25 R) (R := R) ⟨rfl, rfl⟩ s a2 e24) (fun v h' z => ?_) (fun a h' z => nomatch z.1)
        obtain ⟨z1, z2⟩ := z
        subst z2
        cases z1
        show xW sc m_M_bits (d + 2) Q (mH s25 R) 88 [some (vA 373), some (vI a1), some (vI a2), some (vL (mL 2 s a2.toNatClampNeg)), none, none, none] [vI v26, vI (0 : Int32), vI (1 : Int32), vA 373]
        refine x_i2l (pc := 88) d_M_bits_88 ?_
        obtain ⟨⟨v30, s29⟩, e28, h⟩ := Option.bind_eq_some_iff.mp h
        dsimp only at h
        refine x_invv (c := 1) (av := [vI (1 : Int32), vI (0 : Int32), vL v26.toInt64]) (st := []) (pc := 89) d_M_bits_89 cv_M_262 y_M_give (xm_at s25 R) rfl (Nat.le_of_ble_eq_true rfl) (Nat.le_of_ble_eq_true rfl) (w_M_give (d := d + 0) (Q := fun r h' => r = .inl (some (vI v30)) ∧ h' = mH s29 R) (R := R) ⟨rfl, rfl⟩ s25 (1 : Int32) (0 : Int32) v26.toInt64 e28) (fun v h' z => ?_) (fun a h' z => nomatch z.1)
        obtain ⟨z1, z2⟩ := z
        subst z2
        cases z1
        show xW sc m_M_bits (d + 2) Q (mH s29 R) 92 [some (vA 373), some (vI a1), some (vI a2), some (vL (mL 2 s a2.toNatClampNeg)), none, none, none] [vI v30]
        cases h
        exact x_iret (ty := .int) (pc := 92) d_M_bits_92 rfl (rfl) hQ
    · rw [if_pos c3] at h
      refine x_aload_n (pc := 51) d_M_bits_51 rfl ?_
      refine x_iconst (v := (1 : Int32)) (pc := 52) d_M_bits_52 (by decide) ?_
      refine x_iconst (v := (2 : Int32)) (pc := 53) d_M_bits_53 (by decide) ?_
      refine x_aload_n (pc := 54) d_M_bits_54 rfl ?_
      refine x_getf (c := 1) (k := 1) (v := vA 374) (pc := 55) d_M_bits_55 l_M_7 (xm_at s R) rfl ?_
      refine x_iload_n (pc := 58) d_M_bits_58 rfl ?_
      obtain ⟨c32, h⟩ := ite_some h
      refine x_iald (pc := 59) d_M_bits_59 (xm_a1 s R) (xin_vp c32) ?_
      refine x_bipush (v := (7 : Int32)) (pc := 60) d_M_bits_60 (by decide) ?_
      refine x_icmp_le (tgt := 69) (pc := 62) d_M_bits_62 (by decide) (fun c33 => ?_) (fun c33 => ?_)
      · rw [if_pos c33] at h
        refine x_lconst (v := (0 : Int64)) (pc := 69) d_M_bits_69 (by decide) ?_
        exact x_wk (L' := [none, none, none, none, none, none, none]) ⟨Or.inl rfl, Or.inl rfl, Or.inl rfl, Or.inl rfl, Or.inl rfl, Or.inl rfl, Or.inl rfl, trivial⟩ (w_M_bits_b70 hQ (0 : Int64) (2 : Int32) (1 : Int32) s h)
      · rw [if_neg c33] at h
        refine x_lconst (v := (1 : Int64)) (pc := 65) d_M_bits_65 (by decide) ?_
        refine x_goto (tgt := 70) (pc := 66) d_M_bits_66 (by decide) ?_
        exact x_wk (L' := [none, none, none, none, none, none, none]) ⟨Or.inl rfl, Or.inl rfl, Or.inl rfl, Or.inl rfl, Or.inl rfl, Or.inl rfl, Or.inl rfl, trivial⟩ (w_M_bits_b70 hQ (1 : Int64) (2 : Int32) (1 : Int32) s h)
  · rw [if_pos c2] at h
    refine x_aload_n (pc := 13) d_M_bits_13 rfl ?_
    refine x_iconst (v := (1 : Int32)) (pc := 14) d_M_bits_14 (by decide) ?_
    refine x_aload_n (pc := 15) d_M_bits_15 rfl ?_
    refine x_getf (c := 1) (k := 1) (v := vA 374) (pc := 16) d_M_bits_16 l_M_7 (xm_at s R) rfl ?_
    refine x_iload_n (pc := 19) d_M_bits_19 rfl ?_
    obtain ⟨c34, h⟩ := ite_some h
    refine x_iald (pc := 20) d_M_bits_20 (xm_a1 s R) (xin_vp c34) ?_
    refine x_aload_n (pc := 21) d_M_bits_21 rfl ?_
    refine x_getf (c := 1) (k := 1) (v := vA 374) (pc := 22) d_M_bits_22 l_M_7 (xm_at s R) rfl ?_
    refine x_iload_n (pc := 25) d_M_bits_25 rfl ?_
    obtain ⟨c35, h⟩ := ite_some h
    refine x_iald (pc := 26) d_M_bits_26 (xm_a1 s R) (xin_vp c35) ?_
    refine x_if_ne (tgt := 38) (pc := 27) d_M_bits_27 (by decide) (fun c36 => ?_) (fun c36 => ?_)
    · rw [if_neg c36] at h
      refine x_lconst (v := (1 : Int64)) (pc := 38) d_M_bits_38 (by decide) ?_
      refine x_lload_n (pc := 39) d_M_bits_39 rfl ?_
      refine x_lsub (pc := 40) d_M_bits_40 ?_
      exact x_wk (L' := [none, none, none, none, none, none, none]) ⟨Or.inl rfl, Or.inl rfl, Or.inl rfl, Or.inl rfl, Or.inl rfl, Or.inl rfl, Or.inl rfl, trivial⟩ (w_M_bits_b41 hQ ((1 : Int64) - (mL 2 s a2.toNatClampNeg)) (mA 1 s a2.toNatClampNeg) (1 : Int32) s h)
    · rw [if_pos c36] at h
      refine x_ldc2 (v := (-1 : Int64)) (pc := 30) d_M_bits_30 c_M_400 ?_
      refine x_lload_n (pc := 33) d_M_bits_33 rfl ?_
      refine x_lsub (pc := 34) d_M_bits_34 ?_
      refine x_goto (tgt := 41) (pc := 35) d_M_bits_35 (by decide) ?_
      exact x_wk (L' := [none, none, none, none, none, none, none]) ⟨Or.inl rfl, Or.inl rfl, Or.inl rfl, Or.inl rfl, Or.inl rfl, Or.inl rfl, Or.inl rfl, trivial⟩ (w_M_bits_b41 hQ ((-1 : Int64) - (mL 2 s a2.toNatClampNeg)) (mA 1 s a2.toNatClampNeg) (1 : Int32) s h)
def f_M_caught_b47 (k2 : Int32 → MT → Option (Int32 × MT)) (l2 : Int32) (s : MT) : Option (Int32 × MT) := (if (mI 15 s) = 0 then some (l2, s) else (f_M_leave s).bind fun s3 => (f_M_push s3 (2 : Int32) (1 : Int64)).bind fun (v6, s5) => k2 v6 s5)
theorem w_M_caught_b47 {sc : xSc} {d : Nat} {Q : xR → xH → Prop} {R : xH} {sZ : MT} {rZ : Int32} (k2 : Int32 → MT → Option (Int32 × MT)) (hk2 : ∀ (l2 : Int32) (s : MT), k2 l2 s = some (rZ, sZ) → xW sc m_M_caught (d + 2) Q (mH s R) 2 [some (vA 373), none, some (vI l2)] []) (hQ : Q (.inl (some (vI rZ))) (mH sZ R)) (l2 : Int32) (s : MT) (h : f_M_caught_b47 k2 l2 s = some (rZ, sZ)) : xW sc m_M_caught (d + 2) Q (mH s R) 47 [some (vA 373), none, some (vI l2)] [] := by
  unfold f_M_caught_b47 at h
  refine x_aload_n (pc := 47) d_M_caught_47 rfl ?_
  refine x_getf (c := 1) (k := 15) (v := vI (mI 15 s)) (pc := 48) d_M_caught_48 l_M_346 (xm_at s R) rfl ?_
  refine x_if_ne (tgt := 56) (pc := 51) d_M_caught_51 (by decide) (fun c1 => ?_) (fun c1 => ?_)
  · rw [if_neg c1] at h
    refine x_aload_n (pc := 56) d_M_caught_56 rfl ?_
    obtain ⟨s3, e2, h⟩ := Option.bind_eq_some_iff.mp h
    refine x_invv (c := 1) (av := []) (st := []) (pc := 57) d_M_caught_57 cv_M_385 y_M_leave (xm_at s R) rfl (Nat.le_of_ble_eq_true rfl) (Nat.le_of_ble_eq_true rfl) (w_M_leave (d := d + 1) (Q := fun r h' => r = .inl none ∧ h' = mH s3 R) (R := R) ⟨rfl, rfl⟩ s  e2) (fun v h' z => ?_) (fun a h' z => nomatch z.1)
    obtain ⟨z1, z2⟩ := z
    subst z2
    cases z1
    show xW sc m_M_caught (d + 2) Q (mH s3 R) 60 [some (vA 373), none, some (vI l2)] []
    refine x_aload_n (pc := 60) d_M_caught_60 rfl ?_
    refine x_iconst (v := (2 : Int32)) (pc := 61) d_M_caught_61 (by decide) ?_
    refine x_lconst (v := (1 : Int64)) (pc := 62) d_M_caught_62 (by decide) ?_
    obtain ⟨⟨v6, s5⟩, e4, h⟩ := Option.bind_eq_some_iff.mp h
    dsimp only at h
    refine x_invv (c := 1) (av := [vI (2 : Int32), vL (1 : Int64)]) (st := []) (pc := 63) d_M_caught_63 cv_M_388 y_M_push (xm_at s3 R) rfl (Nat.le_of_ble_eq_true rfl) (Nat.le_of_ble_eq_true rfl) (w_M_push (d := d + 0) (Q := fun r h' => r = .inl (some (vI v6)) ∧ h' = mH s5 R) (R := R) ⟨rfl, rfl⟩ s3 (2 : Int32) (1 : Int64) e4) (fun v h' z => ?_) (fun a h' z => nomatch z.1)
    obtain ⟨z1, z2⟩ := z
    subst z2
    cases z1
    show xW sc m_M_caught (d + 2) Q (mH s5 R) 66 [some (vA 373), none, some (vI l2)] [vI v6]
    refine x_istore_n (pc := 66) d_M_caught_66 (by decide) ?_
    show xW sc m_M_caught (d + 2) Q (mH s5 R) 67 [some (vA 373), none, some (vI v6)] []
    refine x_goto (tgt := 2) (pc := 67) d_M_caught_67 (by decide) ?_
    exact hk2 v6 s5 h
  · rw [if_pos c1] at h
    refine x_iload_n (pc := 54) d_M_caught_54 rfl ?_
    cases h
    exact x_iret (ty := .int) (pc := 55) d_M_caught_55 rfl (rfl) hQ
def f_M_caught_b40 (k2 : Int32 → MT → Option (Int32 × MT)) (k11 : Int32 → MT → Option (Int32 × MT)) (l2 : Int32) (s : MT) : Option (Int32 × MT) := (f_M_leave s).bind fun s2 => k11 l2 s2
theorem w_M_caught_b40 {sc : xSc} {d : Nat} {Q : xR → xH → Prop} {R : xH} {sZ : MT} {rZ : Int32} (k2 : Int32 → MT → Option (Int32 × MT)) (hk2 : ∀ (l2 : Int32) (s : MT), k2 l2 s = some (rZ, sZ) → xW sc m_M_caught (d + 2) Q (mH s R) 2 [some (vA 373), none, some (vI l2)] []) (k11 : Int32 → MT → Option (Int32 × MT)) (hk11 : ∀ (l2 : Int32) (s : MT), k11 l2 s = some (rZ, sZ) → xW sc m_M_caught (d + 2) Q (mH s R) 11 [some (vA 373), none, some (vI l2)] []) (hQ : Q (.inl (some (vI rZ))) (mH sZ R)) (l2 : Int32) (s : MT) (h : f_M_caught_b40 k2 k11 l2 s = some (rZ, sZ)) : xW sc m_M_caught (d + 2) Q (mH s R) 40 [some (vA 373), none, some (vI l2)] [] := by
  unfold f_M_caught_b40 at h
  refine x_aload_n (pc := 40) d_M_caught_40 rfl ?_
  obtain ⟨s2, e1, h⟩ := Option.bind_eq_some_iff.mp h
  refine x_invv (c := 1) (av := []) (st := []) (pc := 41) d_M_caught_41 cv_M_385 y_M_leave (xm_at s R) rfl (Nat.le_of_ble_eq_true rfl) (Nat.le_of_ble_eq_true rfl) (w_M_leave (d := d + 1) (Q := fun r h' => r = .inl none ∧ h' = mH s2 R) (R := R) ⟨rfl, rfl⟩ s  e1) (fun v h' z => ?_) (fun a h' z => nomatch z.1)
  obtain ⟨z1, z2⟩ := z
  subst z2
  cases z1
  show xW sc m_M_caught (d + 2) Q (mH s2 R) 44 [some (vA 373), none, some (vI l2)] []
  refine x_goto (tgt := 11) (pc := 44) d_M_caught_44 (by decide) ?_
  exact hk11 l2 s2 h
def f_M_caught_b11 (k2 : Int32 → MT → Option (Int32 × MT)) : Nat → Int32 → MT → Option (Int32 × MT)
  | 0, _, _ => none
  | n + 1, l2, s => (if (mI 15 s) ≤ 0 then f_M_caught_b47 k2 l2 s else (if l2 = (16 : Int32) then f_M_caught_b40 k2 (f_M_caught_b11 k2 n) l2 s else (if xin ((mI 15 s) - (1 : Int32)) 560 = true then (if (mA 17 s ((mI 15 s) - (1 : Int32)).toNatClampNeg) = (7 : Int32) then f_M_caught_b47 k2 l2 s else f_M_caught_b40 k2 (f_M_caught_b11 k2 n) l2 s) else none)))
theorem w_M_caught_b11 {sc : xSc} {d : Nat} {Q : xR → xH → Prop} {R : xH} {sZ : MT} {rZ : Int32} (k2 : Int32 → MT → Option (Int32 × MT)) (hk2 : ∀ (l2 : Int32) (s : MT), k2 l2 s = some (rZ, sZ) → xW sc m_M_caught (d + 2) Q (mH s R) 2 [some (vA 373), none, some (vI l2)] []) (hQ : Q (.inl (some (vI rZ))) (mH sZ R)) : ∀ (n : Nat) (l2 : Int32) (s : MT), f_M_caught_b11 k2 n l2 s = some (rZ, sZ) → xW sc m_M_caught (d + 2) Q (mH s R) 11 [some (vA 373), none, some (vI l2)] [] := by
  intro n
  induction n with
  | zero =>
    intro l2 s h
    cases h
  | succ n hk11 =>
    intro l2 s h
    unfold f_M_caught_b11 at h
    refine x_aload_n (pc := 11) d_M_caught_11 rfl ?_
    refine x_getf (c := 1) (k := 15) (v := vI (mI 15 s)) (pc := 12) d_M_caught_12 l_M_346 (xm_at s R) rfl ?_
    refine x_if_le (tgt := 47) (pc := 15) d_M_caught_15 (by decide) (fun c1 => ?_) (fun c1 => ?_)
    · rw [if_pos c1] at h
      exact w_M_caught_b47 k2 hk2 hQ l2 s h
    · rw [if_neg c1] at h
      refine x_iload_n (pc := 18) d_M_caught_18 rfl ?_
      refine x_bipush (v := (16 : Int32)) (pc := 19) d_M_caught_19 (by decide) ?_
      refine x_icmp_eq (tgt := 40) (pc := 21) d_M_caught_21 (by decide) (fun c2 => ?_) (fun c2 => ?_)
      · rw [if_pos c2] at h
        exact w_M_caught_b40 k2 hk2 (f_M_caught_b11 k2 n) hk11 hQ l2 s h
      · rw [if_neg c2] at h
        refine x_aload_n (pc := 24) d_M_caught_24 rfl ?_
        refine x_getf (c := 1) (k := 17) (v := vA 383) (pc := 25) d_M_caught_25 l_M_43 (xm_at s R) rfl ?_
        refine x_aload_n (pc := 28) d_M_caught_28 rfl ?_
        refine x_getf (c := 1) (k := 15) (v := vI (mI 15 s)) (pc := 29) d_M_caught_29 l_M_346 (xm_at s R) rfl ?_
        refine x_iconst (v := (1 : Int32)) (pc := 32) d_M_caught_32 (by decide) ?_
        refine x_isub (pc := 33) d_M_caught_33 ?_
        obtain ⟨c3, h⟩ := ite_some h
        refine x_iald (pc := 34) d_M_caught_34 (xm_a17 s R) (xin_vp c3) ?_
        refine x_bipush (v := (7 : Int32)) (pc := 35) d_M_caught_35 (by decide) ?_
        refine x_icmp_eq (tgt := 47) (pc := 37) d_M_caught_37 (by decide) (fun c4 => ?_) (fun c4 => ?_)
        · rw [if_pos c4] at h
          exact w_M_caught_b47 k2 hk2 hQ l2 s h
        · rw [if_neg c4] at h
          exact w_M_caught_b40 k2 hk2 (f_M_caught_b11 k2 n) hk11 hQ l2 s h
def f_M_caught_b2  : Nat → Int32 → MT → Option (Int32 × MT)
  | 0, _, _ => none
  | n + 1, l2, s => (if l2 = 0 then some ((0 : Int32), s) else f_M_caught_b11 (f_M_caught_b2 n) mF l2 (sI 33 l2 s))
theorem w_M_caught_b2 {sc : xSc} {d : Nat} {Q : xR → xH → Prop} {R : xH} {sZ : MT} {rZ : Int32}  (hQ : Q (.inl (some (vI rZ))) (mH sZ R)) : ∀ (n : Nat) (l2 : Int32) (s : MT), f_M_caught_b2  n l2 s = some (rZ, sZ) → xW sc m_M_caught (d + 2) Q (mH s R) 2 [some (vA 373), none, some (vI l2)] [] := by
  intro n
  induction n with
  | zero =>
    intro l2 s h
    cases h
  | succ n hk2 =>
    intro l2 s h
    unfold f_M_caught_b2 at h
    refine x_iload_n (pc := 2) d_M_caught_2 rfl ?_
    refine x_if_eq (tgt := 70) (pc := 3) d_M_caught_3 (by decide) (fun c1 => ?_) (fun c1 => ?_)
    · rw [if_pos c1] at h
      refine x_iconst (v := (0 : Int32)) (pc := 70) d_M_caught_70 (by decide) ?_
      cases h
      exact x_iret (ty := .int) (pc := 71) d_M_caught_71 rfl (rfl) hQ
    · rw [if_neg c1] at h
      refine x_aload_n (pc := 6) d_M_caught_6 rfl ?_
      refine x_iload_n (pc := 7) d_M_caught_7 rfl ?_
      refine xm_p33 (pc := 8) d_M_caught_8 l_M_402 ?_
      exact w_M_caught_b11 (f_M_caught_b2 n) hk2 hQ mF l2 (sI 33 l2 s) h
def f_M_caught (s : MT) (a1 : Int32) : Option (Int32 × MT) := f_M_caught_b2 mF a1 s
theorem w_M_caught {sc : xSc} {d : Nat} {Q : xR → xH → Prop} {R : xH} {sZ : MT} {rZ : Int32} (hQ : Q (.inl (some (vI rZ))) (mH sZ R)) (s : MT) (a1 : Int32) (h : f_M_caught s a1 = some (rZ, sZ)) : xW sc m_M_caught (d + 2) Q (mH s R) 0 (xent [vA 373, vI a1] m_M_caught.2.2.1) [] := by
  show xW sc m_M_caught (d + 2) Q (mH s R) 0 [some (vA 373), some (vI a1), none] []
  unfold f_M_caught at h
  refine x_iload_n (pc := 0) d_M_caught_0 rfl ?_
  refine x_istore_n (pc := 1) d_M_caught_1 (by decide) ?_
  show xW sc m_M_caught (d + 2) Q (mH s R) 2 [some (vA 373), some (vI a1), some (vI a1)] []
  exact x_wk (L' := [some (vA 373), none, some (vI a1)]) ⟨Or.inr rfl, Or.inl rfl, Or.inr rfl, trivial⟩ (w_M_caught_b2 hQ mF a1 s h)
def f_M_close (s : MT) : Option (Int32 × MT) := (if (mI 27 (sI 25 ((mI 25 s) + (1 : Int32)) s)) = 0 then some ((15 : Int32), sI 25 ((mI 25 s) + (1 : Int32)) s) else (if xin (mI 27 (sI 27 ((mI 27 (sI 25 ((mI 25 s) + (1 : Int32)) s)) - (1 : Int32)) (sI 25 ((mI 25 s) + (1 : Int32)) s))) 4 = true then (f_M_newArray (sI 27 ((mI 27 (sI 25 ((mI 25 s) + (1 : Int32)) s)) - (1 : Int32)) (sI 25 ((mI 25 s) + (1 : Int32)) s)) ((1170 : Int32) + (mA 28 (sI 27 ((mI 27 (sI 25 ((mI 25 s) + (1 : Int32)) s)) - (1 : Int32)) (sI 25 ((mI 25 s) + (1 : Int32)) s)) (mI 27 (sI 27 ((mI 27 (sI 25 ((mI 25 s) + (1 : Int32)) s)) - (1 : Int32)) (sI 25 ((mI 25 s) + (1 : Int32)) s))).toNatClampNeg)) ((mI 26 (sI 27 ((mI 27 (sI 25 ((mI 25 s) + (1 : Int32)) s)) - (1 : Int32)) (sI 25 ((mI 25 s) + (1 : Int32)) s))) - (mA 28 (sI 27 ((mI 27 (sI 25 ((mI 25 s) + (1 : Int32)) s)) - (1 : Int32)) (sI 25 ((mI 25 s) + (1 : Int32)) s)) (mI 27 (sI 27 ((mI 27 (sI 25 ((mI 25 s) + (1 : Int32)) s)) - (1 : Int32)) (sI 25 ((mI 25 s) + (1 : Int32)) s))).toNatClampNeg)) (13 : Int32)).bind fun (v5, s4) => some (v5, sI 26 (mA 28 (sI 27 ((mI 27 (sI 25 ((mI 25 s) + (1 : Int32)) s)) - (1 : Int32)) (sI 25 ((mI 25 s) + (1 : Int32)) s)) (mI 27 (sI 27 ((mI 27 (sI 25 ((mI 25 s) + (1 : Int32)) s)) - (1 : Int32)) (sI 25 ((mI 25 s) + (1 : Int32)) s))).toNatClampNeg) s4) else none))
theorem w_M_close {sc : xSc} {d : Nat} {Q : xR → xH → Prop} {R : xH} {sZ : MT} {rZ : Int32} (hQ : Q (.inl (some (vI rZ))) (mH sZ R)) (s : MT) (h : f_M_close s = some (rZ, sZ)) : xW sc m_M_close (d + 2) Q (mH s R) 0 (xent [vA 373] m_M_close.2.2.1) [] := by
  show xW sc m_M_close (d + 2) Q (mH s R) 0 [some (vA 373), none, none] []
  unfold f_M_close at h
  refine x_aload_n (pc := 0) d_M_close_0 rfl ?_
  refine x_dup (pc := 1) d_M_close_1 rfl ?_
  refine x_getf (c := 1) (k := 25) (v := vI (mI 25 s)) (pc := 2) d_M_close_2 l_M_281 (xm_at s R) rfl ?_
  refine x_iconst (v := (1 : Int32)) (pc := 5) d_M_close_5 (by decide) ?_
  refine x_iadd (pc := 6) d_M_close_6 ?_
  refine xm_p25 (pc := 7) d_M_close_7 l_M_281 ?_
  refine x_aload_n (pc := 10) d_M_close_10 rfl ?_
  refine x_getf (c := 1) (k := 27) (v := vI (mI 27 (sI 25 ((mI 25 s) + (1 : Int32)) s))) (pc := 11) d_M_close_11 l_M_330 (xm_at (sI 25 ((mI 25 s) + (1 : Int32)) s) R) rfl ?_
  refine x_if_ne (tgt := 20) (pc := 14) d_M_close_14 (by decide) (fun c1 => ?_) (fun c1 => ?_)
  · rw [if_neg c1] at h
    refine x_aload_n (pc := 20) d_M_close_20 rfl ?_
    refine x_dup (pc := 21) d_M_close_21 rfl ?_
    refine x_getf (c := 1) (k := 27) (v := vI (mI 27 (sI 25 ((mI 25 s) + (1 : Int32)) s))) (pc := 22) d_M_close_22 l_M_330 (xm_at (sI 25 ((mI 25 s) + (1 : Int32)) s) R) rfl ?_
    refine x_iconst (v := (1 : Int32)) (pc := 25) d_M_close_25 (by decide) ?_
    refine x_isub (pc := 26) d_M_close_26 ?_
    refine xm_p27 (pc := 27) d_M_close_27 l_M_330 ?_
    refine x_aload_n (pc := 30) d_M_close_30 rfl ?_
    refine x_getf (c := 1) (k := 28) (v := vA 390) (pc := 31) d_M_close_31 l_M_65 (xm_at (sI 27 ((mI 27 (sI 25 ((mI 25 s) + (1 : Int32)) s)) - (1 : Int32)) (sI 25 ((mI 25 s) + (1 : Int32)) s)) R) rfl ?_
    refine x_aload_n (pc := 34) d_M_close_34 rfl ?_
    refine x_getf (c := 1) (k := 27) (v := vI (mI 27 (sI 27 ((mI 27 (sI 25 ((mI 25 s) + (1 : Int32)) s)) - (1 : Int32)) (sI 25 ((mI 25 s) + (1 : Int32)) s)))) (pc := 35) d_M_close_35 l_M_330 (xm_at (sI 27 ((mI 27 (sI 25 ((mI 25 s) + (1 : Int32)) s)) - (1 : Int32)) (sI 25 ((mI 25 s) + (1 : Int32)) s)) R) rfl ?_
    obtain ⟨c2, h⟩ := ite_some h
    refine x_iald (pc := 38) d_M_close_38 (xm_a28 (sI 27 ((mI 27 (sI 25 ((mI 25 s) + (1 : Int32)) s)) - (1 : Int32)) (sI 25 ((mI 25 s) + (1 : Int32)) s)) R) (xin_vp c2) ?_
    refine x_istore_n (pc := 39) d_M_close_39 (by decide) ?_
    show xW sc m_M_close (d + 2) Q (mH (sI 27 ((mI 27 (sI 25 ((mI 25 s) + (1 : Int32)) s)) - (1 : Int32)) (sI 25 ((mI 25 s) + (1 : Int32)) s)) R) 40 [some (vA 373), some (vI (mA 28 (sI 27 ((mI 27 (sI 25 ((mI 25 s) + (1 : Int32)) s)) - (1 : Int32)) (sI 25 ((mI 25 s) + (1 : Int32)) s)) (mI 27 (sI 27 ((mI 27 (sI 25 ((mI 25 s) + (1 : Int32)) s)) - (1 : Int32)) (sI 25 ((mI 25 s) + (1 : Int32)) s))).toNatClampNeg)), none] []
    refine x_aload_n (pc := 40) d_M_close_40 rfl ?_
    refine x_sipush (v := (1170 : Int32)) (pc := 41) d_M_close_41 (by decide) ?_
    refine x_iload_n (pc := 44) d_M_close_44 rfl ?_
    refine x_iadd (pc := 45) d_M_close_45 ?_
    refine x_aload_n (pc := 46) d_M_close_46 rfl ?_
    refine x_getf (c := 1) (k := 26) (v := vI (mI 26 (sI 27 ((mI 27 (sI 25 ((mI 25 s) + (1 : Int32)) s)) - (1 : Int32)) (sI 25 ((mI 25 s) + (1 : Int32)) s)))) (pc := 47) d_M_close_47 l_M_333 (xm_at (sI 27 ((mI 27 (sI 25 ((mI 25 s) + (1 : Int32)) s)) - (1 : Int32)) (sI 25 ((mI 25 s) + (1 : Int32)) s)) R) rfl ?_
    refine x_iload_n (pc := 50) d_M_close_50 rfl ?_
    refine x_isub (pc := 51) d_M_close_51 ?_
    refine x_bipush (v := (13 : Int32)) (pc := 52) d_M_close_52 (by decide) ?_
    obtain ⟨⟨v5, s4⟩, e3, h⟩ := Option.bind_eq_some_iff.mp h
    dsimp only at h
    refine x_invv (c := 1) (av := [vI ((1170 : Int32) + (mA 28 (sI 27 ((mI 27 (sI 25 ((mI 25 s) + (1 : Int32)) s)) - (1 : Int32)) (sI 25 ((mI 25 s) + (1 : Int32)) s)) (mI 27 (sI 27 ((mI 27 (sI 25 ((mI 25 s) + (1 : Int32)) s)) - (1 : Int32)) (sI 25 ((mI 25 s) + (1 : Int32)) s))).toNatClampNeg)), vI ((mI 26 (sI 27 ((mI 27 (sI 25 ((mI 25 s) + (1 : Int32)) s)) - (1 : Int32)) (sI 25 ((mI 25 s) + (1 : Int32)) s))) - (mA 28 (sI 27 ((mI 27 (sI 25 ((mI 25 s) + (1 : Int32)) s)) - (1 : Int32)) (sI 25 ((mI 25 s) + (1 : Int32)) s)) (mI 27 (sI 27 ((mI 27 (sI 25 ((mI 25 s) + (1 : Int32)) s)) - (1 : Int32)) (sI 25 ((mI 25 s) + (1 : Int32)) s))).toNatClampNeg)), vI (13 : Int32)]) (st := []) (pc := 54) d_M_close_54 cv_M_336 y_M_newArray (xm_at (sI 27 ((mI 27 (sI 25 ((mI 25 s) + (1 : Int32)) s)) - (1 : Int32)) (sI 25 ((mI 25 s) + (1 : Int32)) s)) R) rfl (Nat.le_of_ble_eq_true rfl) (Nat.le_of_ble_eq_true rfl) (w_M_newArray (d := d + 0) (Q := fun r h' => r = .inl (some (vI v5)) ∧ h' = mH s4 R) (R := R) ⟨rfl, rfl⟩ (sI 27 ((mI 27 (sI 25 ((mI 25 s) + (1 : Int32)) s)) - (1 : Int32)) (sI 25 ((mI 25 s) + (1 : Int32)) s)) ((1170 : Int32) + (mA 28 (sI 27 ((mI 27 (sI 25 ((mI 25 s) + (1 : Int32)) s)) - (1 : Int32)) (sI 25 ((mI 25 s) + (1 : Int32)) s)) (mI 27 (sI 27 ((mI 27 (sI 25 ((mI 25 s) + (1 : Int32)) s)) - (1 : Int32)) (sI 25 ((mI 25 s) + (1 : Int32)) s))).toNatClampNeg)) ((mI 26 (sI 27 ((mI 27 (sI 25 ((mI 25 s) + (1 : Int32)) s)) - (1 : Int32)) (sI 25 ((mI 25 s) + (1 : Int32)) s))) - (mA 28 (sI 27 ((mI 27 (sI 25 ((mI 25 s) + (1 : Int32)) s)) - (1 : Int32)) (sI 25 ((mI 25 s) + (1 : Int32)) s)) (mI 27 (sI 27 ((mI 27 (sI 25 ((mI 25 s) + (1 : Int32)) s)) - (1 : Int32)) (sI 25 ((mI 25 s) + (1 : Int32)) s))).toNatClampNeg)) (13 : Int32) e3) (fun v h' z => ?_) (fun a h' z => nomatch z.1)
    obtain ⟨z1, z2⟩ := z
    subst z2
    cases z1
    show xW sc m_M_close (d + 2) Q (mH s4 R) 57 [some (vA 373), some (vI (mA 28 (sI 27 ((mI 27 (sI 25 ((mI 25 s) + (1 : Int32)) s)) - (1 : Int32)) (sI 25 ((mI 25 s) + (1 : Int32)) s)) (mI 27 (sI 27 ((mI 27 (sI 25 ((mI 25 s) + (1 : Int32)) s)) - (1 : Int32)) (sI 25 ((mI 25 s) + (1 : Int32)) s))).toNatClampNeg)), none] [vI v5]
    refine x_istore_n (pc := 57) d_M_close_57 (by decide) ?_
    show xW sc m_M_close (d + 2) Q (mH s4 R) 58 [some (vA 373), some (vI (mA 28 (sI 27 ((mI 27 (sI 25 ((mI 25 s) + (1 : Int32)) s)) - (1 : Int32)) (sI 25 ((mI 25 s) + (1 : Int32)) s)) (mI 27 (sI 27 ((mI 27 (sI 25 ((mI 25 s) + (1 : Int32)) s)) - (1 : Int32)) (sI 25 ((mI 25 s) + (1 : Int32)) s))).toNatClampNeg)), some (vI v5)] []
    refine x_aload_n (pc := 58) d_M_close_58 rfl ?_
    refine x_iload_n (pc := 59) d_M_close_59 rfl ?_
    refine xm_p26 (pc := 60) d_M_close_60 l_M_333 ?_
    refine x_iload_n (pc := 63) d_M_close_63 rfl ?_
    cases h
    exact x_iret (ty := .int) (pc := 64) d_M_close_64 rfl (rfl) hQ
  · rw [if_pos c1] at h
    refine x_bipush (v := (15 : Int32)) (pc := 17) d_M_close_17 (by decide) ?_
    cases h
    exact x_iret (ty := .int) (pc := 19) d_M_close_19 rfl (rfl) hQ
def f_M_found_b7  : Nat → Int64 → Int32 → MT → Option (Int32 × MT)
  | 0, _, _, _ => none
  | n + 1, l1, l3, s => (if l3 < 0 then some ((-1 : Int32), s) else (if xin l3 6 = true then (f_M_entry s (mA 9 s l3.toNatClampNeg) l1).bind fun (v5, s4) => (if v5 = (-1 : Int32) then (f_M_found_b7 n) l1 (l3 + Int32.ofInt (-1)) s4 else some (v5, s4)) else none))
theorem w_M_found_b7 {sc : xSc} {d : Nat} {Q : xR → xH → Prop} {R : xH} {sZ : MT} {rZ : Int32}  (hQ : Q (.inl (some (vI rZ))) (mH sZ R)) : ∀ (n : Nat) (l1 : Int64) (l3 : Int32) (s : MT), f_M_found_b7  n l1 l3 s = some (rZ, sZ) → xW sc m_M_found (d + 2) Q (mH s R) 7 [some (vA 373), some (vL l1), none, some (vI l3), none] [] := by
  intro n
  induction n with
  | zero =>
    intro l1 l3 s h
    cases h
  | succ n hk7 =>
    intro l1 l3 s h
    unfold f_M_found_b7 at h
    refine x_iload_n (pc := 7) d_M_found_7 rfl ?_
    refine x_if_lt (tgt := 39) (pc := 8) d_M_found_8 (by decide) (fun c1 => ?_) (fun c1 => ?_)
    · rw [if_pos c1] at h
      refine x_iconst (v := (-1 : Int32)) (pc := 39) d_M_found_39 (by decide) ?_
      cases h
      exact x_iret (ty := .int) (pc := 40) d_M_found_40 rfl (rfl) hQ
    · rw [if_neg c1] at h
      refine x_aload_n (pc := 11) d_M_found_11 rfl ?_
      refine x_aload_n (pc := 12) d_M_found_12 rfl ?_
      refine x_getf (c := 1) (k := 9) (v := vA 380) (pc := 13) d_M_found_13 l_M_30 (xm_at s R) rfl ?_
      refine x_iload_n (pc := 16) d_M_found_16 rfl ?_
      obtain ⟨c2, h⟩ := ite_some h
      refine x_iald (pc := 17) d_M_found_17 (xm_a9 s R) (xin_vp c2) ?_
      refine x_lload_n (pc := 18) d_M_found_18 rfl ?_
      obtain ⟨⟨v5, s4⟩, e3, h⟩ := Option.bind_eq_some_iff.mp h
      dsimp only at h
      refine x_invv (c := 1) (av := [vI (mA 9 s l3.toNatClampNeg), vL l1]) (st := []) (pc := 19) d_M_found_19 cv_M_362 y_M_entry (xm_at s R) rfl (Nat.le_of_ble_eq_true rfl) (Nat.le_of_ble_eq_true rfl) (w_M_entry (d := d + 0) (Q := fun r h' => r = .inl (some (vI v5)) ∧ h' = mH s4 R) (R := R) ⟨rfl, rfl⟩ s (mA 9 s l3.toNatClampNeg) l1 e3) (fun v h' z => ?_) (fun a h' z => nomatch z.1)
      obtain ⟨z1, z2⟩ := z
      subst z2
      cases z1
      show xW sc m_M_found (d + 2) Q (mH s4 R) 22 [some (vA 373), some (vL l1), none, some (vI l3), none] [vI v5]
      refine x_istore (pc := 22) d_M_found_22 (by decide) ?_
      show xW sc m_M_found (d + 2) Q (mH s4 R) 24 [some (vA 373), some (vL l1), none, some (vI l3), some (vI v5)] []
      refine x_iload (pc := 24) d_M_found_24 rfl ?_
      refine x_iconst (v := (-1 : Int32)) (pc := 26) d_M_found_26 (by decide) ?_
      refine x_icmp_eq (tgt := 33) (pc := 27) d_M_found_27 (by decide) (fun c7 => ?_) (fun c7 => ?_)
      · rw [if_pos c7] at h
        refine x_iinc (pc := 33) d_M_found_33 rfl (by decide) ?_
        show xW sc m_M_found (d + 2) Q (mH s4 R) 36 [some (vA 373), some (vL l1), none, some (vI (l3 + Int32.ofInt (-1))), some (vI v5)] []
        refine x_goto (tgt := 7) (pc := 36) d_M_found_36 (by decide) ?_
        exact x_wk (L' := [some (vA 373), some (vL l1), none, some (vI (l3 + Int32.ofInt (-1))), none]) ⟨Or.inr rfl, Or.inr rfl, Or.inl rfl, Or.inr rfl, Or.inl rfl, trivial⟩ (hk7 l1 (l3 + Int32.ofInt (-1)) s4 h)
      · rw [if_neg c7] at h
        refine x_iload (pc := 30) d_M_found_30 rfl ?_
        cases h
        exact x_iret (ty := .int) (pc := 32) d_M_found_32 rfl (rfl) hQ
def f_M_found (s : MT) (a1 : Int64) : Option (Int32 × MT) := f_M_found_b7 mF a1 ((mI 10 s) - (1 : Int32)) s
theorem w_M_found {sc : xSc} {d : Nat} {Q : xR → xH → Prop} {R : xH} {sZ : MT} {rZ : Int32} (hQ : Q (.inl (some (vI rZ))) (mH sZ R)) (s : MT) (a1 : Int64) (h : f_M_found s a1 = some (rZ, sZ)) : xW sc m_M_found (d + 2) Q (mH s R) 0 (xent [vA 373, vL a1] m_M_found.2.2.1) [] := by
  show xW sc m_M_found (d + 2) Q (mH s R) 0 [some (vA 373), some (vL a1), none, none, none] []
  unfold f_M_found at h
  refine x_aload_n (pc := 0) d_M_found_0 rfl ?_
  refine x_getf (c := 1) (k := 10) (v := vI (mI 10 s)) (pc := 1) d_M_found_1 l_M_33 (xm_at s R) rfl ?_
  refine x_iconst (v := (1 : Int32)) (pc := 4) d_M_found_4 (by decide) ?_
  refine x_isub (pc := 5) d_M_found_5 ?_
  refine x_istore_n (pc := 6) d_M_found_6 (by decide) ?_
  show xW sc m_M_found (d + 2) Q (mH s R) 7 [some (vA 373), some (vL a1), none, some (vI ((mI 10 s) - (1 : Int32))), none] []
  exact w_M_found_b7 hQ mF a1 ((mI 10 s) - (1 : Int32)) s h
def f_M_get_b106  (t0 : Int32) (s : MT) : Option (Int32 × MT) := some (t0, s)
theorem w_M_get_b106 {sc : xSc} {d : Nat} {Q : xR → xH → Prop} {R : xH} {sZ : MT} {rZ : Int32}  (hQ : Q (.inl (some (vI rZ))) (mH sZ R)) (t0 : Int32) (s : MT) (h : f_M_get_b106  t0 s = some (rZ, sZ)) : xW sc m_M_get (d + 2) Q (mH s R) 106 [none, none, none, none, none] [vI t0] := by
  unfold f_M_get_b106 at h
  cases h
  exact x_iret (ty := .int) (pc := 106) d_M_get_106 rfl (rfl) hQ
def f_M_get_b81  (l1 : Int32) (t0 : Int32) (s : MT) : Option (Int32 × MT) := (if t0 = (-1 : Int32) then (f_M_kindOf s (l1 - (1 : Int32))).bind fun (v6, s5) => (if v6 = (6 : Int32) then f_M_get_b106 (5 : Int32) s5 else f_M_get_b106 (4 : Int32) s5) else (f_M_move s (l1 - (1 : Int32)) t0).bind fun s3 => some ((0 : Int32), sI 4 ((mI 4 s3) - (1 : Int32)) s3))
theorem w_M_get_b81 {sc : xSc} {d : Nat} {Q : xR → xH → Prop} {R : xH} {sZ : MT} {rZ : Int32}  (hQ : Q (.inl (some (vI rZ))) (mH sZ R)) (l1 : Int32) (t0 : Int32) (s : MT) (h : f_M_get_b81  l1 t0 s = some (rZ, sZ)) : xW sc m_M_get (d + 2) Q (mH s R) 81 [some (vA 373), some (vI l1), none, none, none] [vI t0] := by
  unfold f_M_get_b81 at h
  refine x_istore (pc := 81) d_M_get_81 (by decide) ?_
  show xW sc m_M_get (d + 2) Q (mH s R) 83 [some (vA 373), some (vI l1), none, none, some (vI t0)] []
  refine x_iload (pc := 83) d_M_get_83 rfl ?_
  refine x_iconst (v := (-1 : Int32)) (pc := 85) d_M_get_85 (by decide) ?_
  refine x_icmp_ne (tgt := 107) (pc := 86) d_M_get_86 (by decide) (fun c1 => ?_) (fun c1 => ?_)
  · rw [if_neg c1] at h
    refine x_aload_n (pc := 107) d_M_get_107 rfl ?_
    refine x_iload_n (pc := 108) d_M_get_108 rfl ?_
    refine x_iconst (v := (1 : Int32)) (pc := 109) d_M_get_109 (by decide) ?_
    refine x_isub (pc := 110) d_M_get_110 ?_
    refine x_iload (pc := 111) d_M_get_111 rfl ?_
    obtain ⟨s3, e2, h⟩ := Option.bind_eq_some_iff.mp h
    refine x_invv (c := 1) (av := [vI (l1 - (1 : Int32)), vI t0]) (st := []) (pc := 113) d_M_get_113 cv_M_254 y_M_move (xm_at s R) rfl (Nat.le_of_ble_eq_true rfl) (Nat.le_of_ble_eq_true rfl) (w_M_move (d := d + 1) (Q := fun r h' => r = .inl none ∧ h' = mH s3 R) (R := R) ⟨rfl, rfl⟩ s (l1 - (1 : Int32)) t0 e2) (fun v h' z => ?_) (fun a h' z => nomatch z.1)
    obtain ⟨z1, z2⟩ := z
    subst z2
    cases z1
    show xW sc m_M_get (d + 2) Q (mH s3 R) 116 [some (vA 373), some (vI l1), none, none, some (vI t0)] []
    refine x_aload_n (pc := 116) d_M_get_116 rfl ?_
    refine x_dup (pc := 117) d_M_get_117 rfl ?_
    refine x_getf (c := 1) (k := 4) (v := vI (mI 4 s3)) (pc := 118) d_M_get_118 l_M_247 (xm_at s3 R) rfl ?_
    refine x_iconst (v := (1 : Int32)) (pc := 121) d_M_get_121 (by decide) ?_
    refine x_isub (pc := 122) d_M_get_122 ?_
    refine xm_p4 (pc := 123) d_M_get_123 l_M_247 ?_
    refine x_iconst (v := (0 : Int32)) (pc := 126) d_M_get_126 (by decide) ?_
    cases h
    exact x_iret (ty := .int) (pc := 127) d_M_get_127 rfl (rfl) hQ
  · rw [if_pos c1] at h
    refine x_aload_n (pc := 89) d_M_get_89 rfl ?_
    refine x_iload_n (pc := 90) d_M_get_90 rfl ?_
    refine x_iconst (v := (1 : Int32)) (pc := 91) d_M_get_91 (by decide) ?_
    refine x_isub (pc := 92) d_M_get_92 ?_
    obtain ⟨⟨v6, s5⟩, e4, h⟩ := Option.bind_eq_some_iff.mp h
    dsimp only at h
    refine x_invv (c := 1) (av := [vI (l1 - (1 : Int32))]) (st := []) (pc := 93) d_M_get_93 cv_M_421 y_M_kindOf (xm_at s R) rfl (Nat.le_of_ble_eq_true rfl) (Nat.le_of_ble_eq_true rfl) (w_M_kindOf (d := d + 1) (Q := fun r h' => r = .inl (some (vI v6)) ∧ h' = mH s5 R) (R := R) ⟨rfl, rfl⟩ s (l1 - (1 : Int32)) e4) (fun v h' z => ?_) (fun a h' z => nomatch z.1)
    obtain ⟨z1, z2⟩ := z
    subst z2
    cases z1
    show xW sc m_M_get (d + 2) Q (mH s5 R) 96 [some (vA 373), some (vI l1), none, none, some (vI t0)] [vI v6]
    refine x_bipush (v := (6 : Int32)) (pc := 96) d_M_get_96 (by decide) ?_
    refine x_icmp_ne (tgt := 105) (pc := 98) d_M_get_98 (by decide) (fun c8 => ?_) (fun c8 => ?_)
    · rw [if_neg c8] at h
      refine x_iconst (v := (4 : Int32)) (pc := 105) d_M_get_105 (by decide) ?_
      exact x_wk (L' := [none, none, none, none, none]) ⟨Or.inl rfl, Or.inl rfl, Or.inl rfl, Or.inl rfl, Or.inl rfl, trivial⟩ (w_M_get_b106 hQ (4 : Int32) s5 h)
    · rw [if_pos c8] at h
      refine x_iconst (v := (5 : Int32)) (pc := 101) d_M_get_101 (by decide) ?_
      refine x_goto (tgt := 106) (pc := 102) d_M_get_102 (by decide) ?_
      exact x_wk (L' := [none, none, none, none, none]) ⟨Or.inl rfl, Or.inl rfl, Or.inl rfl, Or.inl rfl, Or.inl rfl, trivial⟩ (w_M_get_b106 hQ (5 : Int32) s5 h)
def f_M_get_b62  (l1 : Int32) (s : MT) : Option (Int32 × MT) := f_M_get_b81 l1 (-1 : Int32) s
theorem w_M_get_b62 {sc : xSc} {d : Nat} {Q : xR → xH → Prop} {R : xH} {sZ : MT} {rZ : Int32}  (hQ : Q (.inl (some (vI rZ))) (mH sZ R)) (l1 : Int32) (s : MT) (h : f_M_get_b62  l1 s = some (rZ, sZ)) : xW sc m_M_get (d + 2) Q (mH s R) 62 [some (vA 373), some (vI l1), none, none, none] [] := by
  unfold f_M_get_b62 at h
  refine x_iconst (v := (-1 : Int32)) (pc := 62) d_M_get_62 (by decide) ?_
  refine x_goto (tgt := 81) (pc := 63) d_M_get_63 (by decide) ?_
  exact w_M_get_b81 hQ l1 (-1 : Int32) s h
def f_M_get (s : MT) (a1 : Int32) : Option (Int32 × MT) := (if xin (a1 - (1 : Int32)) 1300 = true then (f_M_kindOf s (a1 - (1 : Int32))).bind fun (v4, s3) => (if v4 = (6 : Int32) then (if xin a1 1300 = true then (f_M_entry s3 ((mL 2 s (a1 - (1 : Int32)).toNatClampNeg).toInt32) (mL 2 s3 a1.toNatClampNeg)).bind fun (v19, s18) => f_M_get_b81 a1 v19 s18 else none) else (if xin a1 1300 = true then (if (lg_cmp (mL 2 s3 a1.toNatClampNeg) (0 : Int64)) < 0 then f_M_get_b62 a1 s3 else (if xin a1 1300 = true then (f_M_count (mL 2 s (a1 - (1 : Int32)).toNatClampNeg)).bind fun v10 => (if (lg_cmp (mL 2 s3 a1.toNatClampNeg) v10.toInt64) < 0 then (f_M_first (mL 2 s (a1 - (1 : Int32)).toNatClampNeg)).bind fun v13 => (if xin a1 1300 = true then f_M_get_b81 a1 (((50 : Int32) + v13) + ((mL 2 s3 a1.toNatClampNeg).toInt32)) s3 else none) else f_M_get_b62 a1 s3) else none)) else none)) else none)
theorem w_M_get {sc : xSc} {d : Nat} {Q : xR → xH → Prop} {R : xH} {sZ : MT} {rZ : Int32} (hQ : Q (.inl (some (vI rZ))) (mH sZ R)) (s : MT) (a1 : Int32) (h : f_M_get s a1 = some (rZ, sZ)) : xW sc m_M_get (d + 2) Q (mH s R) 0 (xent [vA 373, vI a1] m_M_get.2.2.1) [] := by
  show xW sc m_M_get (d + 2) Q (mH s R) 0 [some (vA 373), some (vI a1), none, none, none] []
  unfold f_M_get at h
  refine x_aload_n (pc := 0) d_M_get_0 rfl ?_
  refine x_getf (c := 1) (k := 2) (v := vA 375) (pc := 1) d_M_get_1 l_M_13 (xm_at s R) rfl ?_
  refine x_iload_n (pc := 4) d_M_get_4 rfl ?_
  refine x_iconst (v := (1 : Int32)) (pc := 5) d_M_get_5 (by decide) ?_
  refine x_isub (pc := 6) d_M_get_6 ?_
  obtain ⟨c1, h⟩ := ite_some h
  refine x_lald (pc := 7) d_M_get_7 (xm_a2 s R) (xin_vp c1) ?_
  refine x_lstore_n (pc := 8) d_M_get_8 (by decide) ?_
  show xW sc m_M_get (d + 2) Q (mH s R) 9 [some (vA 373), some (vI a1), some (vL (mL 2 s (a1 - (1 : Int32)).toNatClampNeg)), none, none] []
  refine x_aload_n (pc := 9) d_M_get_9 rfl ?_
  refine x_iload_n (pc := 10) d_M_get_10 rfl ?_
  refine x_iconst (v := (1 : Int32)) (pc := 11) d_M_get_11 (by decide) ?_
  refine x_isub (pc := 12) d_M_get_12 ?_
  obtain ⟨⟨v4, s3⟩, e2, h⟩ := Option.bind_eq_some_iff.mp h
  dsimp only at h
  refine x_invv (c := 1) (av := [vI (a1 - (1 : Int32))]) (st := []) (pc := 13) d_M_get_13 cv_M_421 y_M_kindOf (xm_at s R) rfl (Nat.le_of_ble_eq_true rfl) (Nat.le_of_ble_eq_true rfl) (w_M_kindOf (d := d + 1) (Q := fun r h' => r = .inl (some (vI v4)) ∧ h' = mH s3 R) (R := R) ⟨rfl, rfl⟩ s (a1 - (1 : Int32)) e2) (fun v h' z => ?_) (fun a h' z => nomatch z.1)
  obtain ⟨z1, z2⟩ := z
  subst z2
  cases z1
  show xW sc m_M_get (d + 2) Q (mH s3 R) 16 [some (vA 373), some (vI a1), some (vL (mL 2 s (a1 - (1 : Int32)).toNatClampNeg)), none, none] [vI v4]
  refine x_bipush (v := (6 : Int32)) (pc := 16) d_M_get_16 (by decide) ?_
  refine x_icmp_ne (tgt := 36) (pc := 18) d_M_get_18 (by decide) (fun c6 => ?_) (fun c6 => ?_)
  · rw [if_neg c6] at h
    refine x_aload_n (pc := 36) d_M_get_36 rfl ?_
    refine x_getf (c := 1) (k := 2) (v := vA 375) (pc := 37) d_M_get_37 l_M_13 (xm_at s3 R) rfl ?_
    refine x_iload_n (pc := 40) d_M_get_40 rfl ?_
    obtain ⟨c7, h⟩ := ite_some h
    refine x_lald (pc := 41) d_M_get_41 (xm_a2 s3 R) (xin_vp c7) ?_
    refine x_lconst (v := (0 : Int64)) (pc := 42) d_M_get_42 (by decide) ?_
    refine x_lcmp (pc := 43) d_M_get_43 ?_
    refine x_if_lt (tgt := 62) (pc := 44) d_M_get_44 (by decide) (fun c8 => ?_) (fun c8 => ?_)
    · rw [if_pos c8] at h
      exact x_wk (L' := [some (vA 373), some (vI a1), none, none, none]) ⟨Or.inr rfl, Or.inr rfl, Or.inl rfl, Or.inl rfl, Or.inl rfl, trivial⟩ (w_M_get_b62 hQ a1 s3 h)
    · rw [if_neg c8] at h
      refine x_aload_n (pc := 47) d_M_get_47 rfl ?_
      refine x_getf (c := 1) (k := 2) (v := vA 375) (pc := 48) d_M_get_48 l_M_13 (xm_at s3 R) rfl ?_
      refine x_iload_n (pc := 51) d_M_get_51 rfl ?_
      obtain ⟨c9, h⟩ := ite_some h
      refine x_lald (pc := 52) d_M_get_52 (xm_a2 s3 R) (xin_vp c9) ?_
      refine x_lload_n (pc := 53) d_M_get_53 rfl ?_
      obtain ⟨v10, e11, h⟩ := Option.bind_eq_some_iff.mp h
      refine x_invs (av := [vL (mL 2 s (a1 - (1 : Int32)).toNatClampNeg)]) (st := [vL (mL 2 s3 a1.toNatClampNeg)]) (pc := 54) d_M_get_54 cs_M_391 y_M_count rfl (Nat.le_of_ble_eq_true rfl) (Nat.le_of_ble_eq_true rfl) (w_M_count (d := d + 1) (Q := fun r h' => r = .inl (some (vI v10)) ∧ h' = mH s3 R) (hh := mH s3 R) ⟨rfl, rfl⟩ (mL 2 s (a1 - (1 : Int32)).toNatClampNeg) e11) (fun v h' z => ?_) (fun a h' z => nomatch z.1)
      obtain ⟨z1, z2⟩ := z
      subst z2
      cases z1
      show xW sc m_M_get (d + 2) Q (mH s3 R) 57 [some (vA 373), some (vI a1), some (vL (mL 2 s (a1 - (1 : Int32)).toNatClampNeg)), none, none] [vI v10, vL (mL 2 s3 a1.toNatClampNeg)]
      refine x_i2l (pc := 57) d_M_get_57 ?_
      refine x_lcmp (pc := 58) d_M_get_58 ?_
      refine x_if_lt (tgt := 66) (pc := 59) d_M_get_59 (by decide) (fun c12 => ?_) (fun c12 => ?_)
      · rw [if_pos c12] at h
        refine x_bipush (v := (50 : Int32)) (pc := 66) d_M_get_66 (by decide) ?_
        refine x_lload_n (pc := 68) d_M_get_68 rfl ?_
        obtain ⟨v13, e14, h⟩ := Option.bind_eq_some_iff.mp h
        refine x_invs (av := [vL (mL 2 s (a1 - (1 : Int32)).toNatClampNeg)]) (st := [vI (50 : Int32)]) (pc := 69) d_M_get_69 cs_M_394 y_M_first rfl (Nat.le_of_ble_eq_true rfl) (Nat.le_of_ble_eq_true rfl) (w_M_first (d := d + 1) (Q := fun r h' => r = .inl (some (vI v13)) ∧ h' = mH s3 R) (hh := mH s3 R) ⟨rfl, rfl⟩ (mL 2 s (a1 - (1 : Int32)).toNatClampNeg) e14) (fun v h' z => ?_) (fun a h' z => nomatch z.1)
        obtain ⟨z1, z2⟩ := z
        subst z2
        cases z1
        show xW sc m_M_get (d + 2) Q (mH s3 R) 72 [some (vA 373), some (vI a1), some (vL (mL 2 s (a1 - (1 : Int32)).toNatClampNeg)), none, none] [vI v13, vI (50 : Int32)]
        refine x_iadd (pc := 72) d_M_get_72 ?_
        refine x_aload_n (pc := 73) d_M_get_73 rfl ?_
        refine x_getf (c := 1) (k := 2) (v := vA 375) (pc := 74) d_M_get_74 l_M_13 (xm_at s3 R) rfl ?_
        refine x_iload_n (pc := 77) d_M_get_77 rfl ?_
        obtain ⟨c15, h⟩ := ite_some h
        refine x_lald (pc := 78) d_M_get_78 (xm_a2 s3 R) (xin_vp c15) ?_
        refine x_l2i (pc := 79) d_M_get_79 ?_
        refine x_iadd (pc := 80) d_M_get_80 ?_
        exact x_wk (L' := [some (vA 373), some (vI a1), none, none, none]) ⟨Or.inr rfl, Or.inr rfl, Or.inl rfl, Or.inl rfl, Or.inl rfl, trivial⟩ (w_M_get_b81 hQ a1 (((50 : Int32) + v13) + ((mL 2 s3 a1.toNatClampNeg).toInt32)) s3 h)
      · rw [if_neg c12] at h
        exact x_wk (L' := [some (vA 373), some (vI a1), none, none, none]) ⟨Or.inr rfl, Or.inr rfl, Or.inl rfl, Or.inl rfl, Or.inl rfl, trivial⟩ (w_M_get_b62 hQ a1 s3 h)
  · rw [if_pos c6] at h
    refine x_aload_n (pc := 21) d_M_get_21 rfl ?_
    refine x_lload_n (pc := 22) d_M_get_22 rfl ?_
    refine x_l2i (pc := 23) d_M_get_23 ?_
    refine x_aload_n (pc := 24) d_M_get_24 rfl ?_
    refine x_getf (c := 1) (k := 2) (v := vA 375) (pc := 25) d_M_get_25 l_M_13 (xm_at s3 R) rfl ?_
    refine x_iload_n (pc := 28) d_M_get_28 rfl ?_
    obtain ⟨c16, h⟩ := ite_some h
    refine x_lald (pc := 29) d_M_get_29 (xm_a2 s3 R) (xin_vp c16) ?_
    obtain ⟨⟨v19, s18⟩, e17, h⟩ := Option.bind_eq_some_iff.mp h
    dsimp only at h
    refine x_invv (c := 1) (av := [vI ((mL 2 s (a1 - (1 : Int32)).toNatClampNeg).toInt32), vL (mL 2 s3 a1.toNatClampNeg)]) (st := []) (pc := 30) d_M_get_30 cv_M_362 y_M_entry (xm_at s3 R) rfl (Nat.le_of_ble_eq_true rfl) (Nat.le_of_ble_eq_true rfl) (w_M_entry (d := d + 0) (Q := fun r h' => r = .inl (some (vI v19)) ∧ h' = mH s18 R) (R := R) ⟨rfl, rfl⟩ s3 ((mL 2 s (a1 - (1 : Int32)).toNatClampNeg).toInt32) (mL 2 s3 a1.toNatClampNeg) e17) (fun v h' z => ?_) (fun a h' z => nomatch z.1)
    obtain ⟨z1, z2⟩ := z
    subst z2
    cases z1
    show xW sc m_M_get (d + 2) Q (mH s18 R) 33 [some (vA 373), some (vI a1), some (vL (mL 2 s (a1 - (1 : Int32)).toNatClampNeg)), none, none] [vI v19]
    refine x_goto (tgt := 81) (pc := 33) d_M_get_33 (by decide) ?_
    exact x_wk (L' := [some (vA 373), some (vI a1), none, none, none]) ⟨Or.inr rfl, Or.inr rfl, Or.inl rfl, Or.inl rfl, Or.inl rfl, trivial⟩ (w_M_get_b81 hQ a1 v19 s18 h)
def f_M_giveExact_b25  (t0 : Int32) (s : MT) : Option (Int32 × MT) := some (t0, s)
theorem w_M_giveExact_b25 {sc : xSc} {d : Nat} {Q : xR → xH → Prop} {R : xH} {sZ : MT} {rZ : Int32}  (hQ : Q (.inl (some (vI rZ))) (mH sZ R)) (t0 : Int32) (s : MT) (h : f_M_giveExact_b25  t0 s = some (rZ, sZ)) : xW sc m_M_giveExact (d + 2) Q (mH s R) 25 [none, none, none, none] [vI t0] := by
  unfold f_M_giveExact_b25 at h
  cases h
  exact x_iret (ty := .int) (pc := 25) d_M_giveExact_25 rfl (rfl) hQ
def f_M_giveExact (s : MT) (a1 : Int32) (a2 : Int64) : Option (Int32 × MT) := (if (lg_cmp a2 a2.toInt32.toInt64) = 0 then (f_M_give s a1 (0 : Int32) a2).bind fun (v8, s7) => f_M_giveExact_b25 v8 s7 else (f_M_giveReal s a1 (FP.l2d a2)).bind fun (v4, s3) => f_M_giveExact_b25 v4 s3)
theorem w_M_giveExact {sc : xSc} {d : Nat} {Q : xR → xH → Prop} {R : xH} {sZ : MT} {rZ : Int32} (hQ : Q (.inl (some (vI rZ))) (mH sZ R)) (s : MT) (a1 : Int32) (a2 : Int64) (h : f_M_giveExact s a1 a2 = some (rZ, sZ)) : xW sc m_M_giveExact (d + 2) Q (mH s R) 0 (xent [vA 373, vI a1, vL a2] m_M_giveExact.2.2.1) [] := by
  show xW sc m_M_giveExact (d + 2) Q (mH s R) 0 [some (vA 373), some (vI a1), some (vL a2), none] []
  unfold f_M_giveExact at h
  refine x_lload_n (pc := 0) d_M_giveExact_0 rfl ?_
  refine x_lload_n (pc := 1) d_M_giveExact_1 rfl ?_
  refine x_l2i (pc := 2) d_M_giveExact_2 ?_
  refine x_i2l (pc := 3) d_M_giveExact_3 ?_
  refine x_lcmp (pc := 4) d_M_giveExact_4 ?_
  refine x_if_ne (tgt := 18) (pc := 5) d_M_giveExact_5 (by decide) (fun c1 => ?_) (fun c1 => ?_)
  · rw [if_neg c1] at h
    refine x_aload_n (pc := 18) d_M_giveExact_18 rfl ?_
    refine x_iload_n (pc := 19) d_M_giveExact_19 rfl ?_
    refine x_lload_n (pc := 20) d_M_giveExact_20 rfl ?_
    refine x_l2d (pc := 21) d_M_giveExact_21 ?_
    obtain ⟨⟨v4, s3⟩, e2, h⟩ := Option.bind_eq_some_iff.mp h
    dsimp only at h
    refine x_invv (c := 1) (av := [vI a1, vD (FP.l2d a2)]) (st := []) (pc := 22) d_M_giveExact_22 cv_M_266 y_M_giveReal (xm_at s R) rfl (Nat.le_of_ble_eq_true rfl) (Nat.le_of_ble_eq_true rfl) (w_M_giveReal (d := d + 0) (Q := fun r h' => r = .inl (some (vI v4)) ∧ h' = mH s3 R) (R := R) ⟨rfl, rfl⟩ s a1 (FP.l2d a2) e2) (fun v h' z => ?_) (fun a h' z => nomatch z.1)
    obtain ⟨z1, z2⟩ := z
    subst z2
    cases z1
    show xW sc m_M_giveExact (d + 2) Q (mH s3 R) 25 [some (vA 373), some (vI a1), some (vL a2), none] [vI v4]
    exact x_wk (L' := [none, none, none, none]) ⟨Or.inl rfl, Or.inl rfl, Or.inl rfl, Or.inl rfl, trivial⟩ (w_M_giveExact_b25 hQ v4 s3 h)
  · rw [if_pos c1] at h
    refine x_aload_n (pc := 8) d_M_giveExact_8 rfl ?_
    refine x_iload_n (pc := 9) d_M_giveExact_9 rfl ?_
    refine x_iconst (v := (0 : Int32)) (pc := 10) d_M_giveExact_10 (by decide) ?_
    refine x_lload_n (pc := 11) d_M_giveExact_11 rfl ?_
    obtain ⟨⟨v8, s7⟩, e6, h⟩ := Option.bind_eq_some_iff.mp h
    dsimp only at h
    refine x_invv (c := 1) (av := [vI a1, vI (0 : Int32), vL a2]) (st := []) (pc := 12) d_M_giveExact_12 cv_M_262 y_M_give (xm_at s R) rfl (Nat.le_of_ble_eq_true rfl) (Nat.le_of_ble_eq_true rfl) (w_M_give (d := d + 0) (Q := fun r h' => r = .inl (some (vI v8)) ∧ h' = mH s7 R) (R := R) ⟨rfl, rfl⟩ s a1 (0 : Int32) a2 e6) (fun v h' z => ?_) (fun a h' z => nomatch z.1)
    obtain ⟨z1, z2⟩ := z
    subst z2
    cases z1
    show xW sc m_M_giveExact (d + 2) Q (mH s7 R) 15 [some (vA 373), some (vI a1), some (vL a2), none] [vI v8]
    refine x_goto (tgt := 25) (pc := 15) d_M_giveExact_15 (by decide) ?_
    exact x_wk (L' := [none, none, none, none]) ⟨Or.inl rfl, Or.inl rfl, Or.inl rfl, Or.inl rfl, trivial⟩ (w_M_giveExact_b25 hQ v8 s7 h)
def f_M_newDict_b39  (l1 : Int64) (l3 : Int32) (s : MT) : Option (Int32 × MT) := (if l3 = (7 : Int32) then some ((7 : Int32), s) else (if xin l3 28 = true then (if xin l3 28 = true then (f_M_give (sA 7 (va_up (mA 7 (sA 8 (va_up (mA 8 s) l3.toNatClampNeg l1.toInt32) s)) l3.toNatClampNeg (0 : Int32)) (sA 8 (va_up (mA 8 s) l3.toNatClampNeg l1.toInt32) s)) (1 : Int32) (6 : Int32) l3.toInt64).bind fun (v6, s5) => some (v6, s5) else none) else none))
theorem w_M_newDict_b39 {sc : xSc} {d : Nat} {Q : xR → xH → Prop} {R : xH} {sZ : MT} {rZ : Int32}  (hQ : Q (.inl (some (vI rZ))) (mH sZ R)) (l1 : Int64) (l3 : Int32) (s : MT) (h : f_M_newDict_b39  l1 l3 s = some (rZ, sZ)) : xW sc m_M_newDict (d + 2) Q (mH s R) 39 [some (vA 373), some (vL l1), none, some (vI l3)] [] := by
  unfold f_M_newDict_b39 at h
  refine x_iload_n (pc := 39) d_M_newDict_39 rfl ?_
  refine x_bipush (v := (7 : Int32)) (pc := 40) d_M_newDict_40 (by decide) ?_
  refine x_icmp_ne (tgt := 48) (pc := 42) d_M_newDict_42 (by decide) (fun c1 => ?_) (fun c1 => ?_)
  · rw [if_neg c1] at h
    refine x_aload_n (pc := 48) d_M_newDict_48 rfl ?_
    refine x_getf (c := 1) (k := 8) (v := vA 379) (pc := 49) d_M_newDict_49 l_M_27 (xm_at s R) rfl ?_
    refine x_iload_n (pc := 52) d_M_newDict_52 rfl ?_
    refine x_lload_n (pc := 53) d_M_newDict_53 rfl ?_
    refine x_l2i (pc := 54) d_M_newDict_54 ?_
    obtain ⟨c2, h⟩ := ite_some h
    refine xm_s8 (pc := 55) d_M_newDict_55 c2 ?_
    refine x_aload_n (pc := 56) d_M_newDict_56 rfl ?_
    refine x_getf (c := 1) (k := 7) (v := vA 378) (pc := 57) d_M_newDict_57 l_M_24 (xm_at (sA 8 (va_up (mA 8 s) l3.toNatClampNeg l1.toInt32) s) R) rfl ?_
    refine x_iload_n (pc := 60) d_M_newDict_60 rfl ?_
    refine x_iconst (v := (0 : Int32)) (pc := 61) d_M_newDict_61 (by decide) ?_
    obtain ⟨c3, h⟩ := ite_some h
    refine xm_s7 (pc := 62) d_M_newDict_62 c3 ?_
    refine x_aload_n (pc := 63) d_M_newDict_63 rfl ?_
    refine x_iconst (v := (1 : Int32)) (pc := 64) d_M_newDict_64 (by decide) ?_
    refine x_bipush (v := (6 : Int32)) (pc := 65) d_M_newDict_65 (by decide) ?_
    refine x_iload_n (pc := 67) d_M_newDict_67 rfl ?_
    refine x_i2l (pc := 68) d_M_newDict_68 ?_
    obtain ⟨⟨v6, s5⟩, e4, h⟩ := Option.bind_eq_some_iff.mp h
    dsimp only at h
    refine x_invv (c := 1) (av := [vI (1 : Int32), vI (6 : Int32), vL l3.toInt64]) (st := []) (pc := 69) d_M_newDict_69 cv_M_262 y_M_give (xm_at (sA 7 (va_up (mA 7 (sA 8 (va_up (mA 8 s) l3.toNatClampNeg l1.toInt32) s)) l3.toNatClampNeg (0 : Int32)) (sA 8 (va_up (mA 8 s) l3.toNatClampNeg l1.toInt32) s)) R) rfl (Nat.le_of_ble_eq_true rfl) (Nat.le_of_ble_eq_true rfl) (w_M_give (d := d + 0) (Q := fun r h' => r = .inl (some (vI v6)) ∧ h' = mH s5 R) (R := R) ⟨rfl, rfl⟩ (sA 7 (va_up (mA 7 (sA 8 (va_up (mA 8 s) l3.toNatClampNeg l1.toInt32) s)) l3.toNatClampNeg (0 : Int32)) (sA 8 (va_up (mA 8 s) l3.toNatClampNeg l1.toInt32) s)) (1 : Int32) (6 : Int32) l3.toInt64 e4) (fun v h' z => ?_) (fun a h' z => nomatch z.1)
    obtain ⟨z1, z2⟩ := z
    subst z2
    cases z1
    show xW sc m_M_newDict (d + 2) Q (mH s5 R) 72 [some (vA 373), some (vL l1), none, some (vI l3)] [vI v6]
    cases h
    exact x_iret (ty := .int) (pc := 72) d_M_newDict_72 rfl (rfl) hQ
  · rw [if_pos c1] at h
    refine x_bipush (v := (7 : Int32)) (pc := 45) d_M_newDict_45 (by decide) ?_
    cases h
    exact x_iret (ty := .int) (pc := 47) d_M_newDict_47 rfl (rfl) hQ
def f_M_newDict_b18  : Nat → Int64 → Int32 → MT → Option (Int32 × MT)
  | 0, _, _, _ => none
  | n + 1, l1, l3, s => (if (7 : Int32) ≤ l3 then f_M_newDict_b39 l1 l3 s else (if xin l3 28 = true then (if (mA 8 s l3.toNatClampNeg) ≤ 0 then f_M_newDict_b39 l1 l3 s else (f_M_newDict_b18 n) l1 (l3 + Int32.ofInt 1) s) else none))
theorem w_M_newDict_b18 {sc : xSc} {d : Nat} {Q : xR → xH → Prop} {R : xH} {sZ : MT} {rZ : Int32}  (hQ : Q (.inl (some (vI rZ))) (mH sZ R)) : ∀ (n : Nat) (l1 : Int64) (l3 : Int32) (s : MT), f_M_newDict_b18  n l1 l3 s = some (rZ, sZ) → xW sc m_M_newDict (d + 2) Q (mH s R) 18 [some (vA 373), some (vL l1), none, some (vI l3)] [] := by
  intro n
  induction n with
  | zero =>
    intro l1 l3 s h
    cases h
  | succ n hk18 =>
    intro l1 l3 s h
    unfold f_M_newDict_b18 at h
    refine x_iload_n (pc := 18) d_M_newDict_18 rfl ?_
    refine x_bipush (v := (7 : Int32)) (pc := 19) d_M_newDict_19 (by decide) ?_
    refine x_icmp_ge (tgt := 39) (pc := 21) d_M_newDict_21 (by decide) (fun c1 => ?_) (fun c1 => ?_)
    · rw [if_pos c1] at h
      exact w_M_newDict_b39 hQ l1 l3 s h
    · rw [if_neg c1] at h
      refine x_aload_n (pc := 24) d_M_newDict_24 rfl ?_
      refine x_getf (c := 1) (k := 8) (v := vA 379) (pc := 25) d_M_newDict_25 l_M_27 (xm_at s R) rfl ?_
      refine x_iload_n (pc := 28) d_M_newDict_28 rfl ?_
      obtain ⟨c2, h⟩ := ite_some h
      refine x_iald (pc := 29) d_M_newDict_29 (xm_a8 s R) (xin_vp c2) ?_
      refine x_if_le (tgt := 39) (pc := 30) d_M_newDict_30 (by decide) (fun c3 => ?_) (fun c3 => ?_)
      · rw [if_pos c3] at h
        exact w_M_newDict_b39 hQ l1 l3 s h
      · rw [if_neg c3] at h
        refine x_iinc (pc := 33) d_M_newDict_33 rfl (by decide) ?_
        show xW sc m_M_newDict (d + 2) Q (mH s R) 36 [some (vA 373), some (vL l1), none, some (vI (l3 + Int32.ofInt 1))] []
        refine x_goto (tgt := 18) (pc := 36) d_M_newDict_36 (by decide) ?_
        exact hk18 l1 (l3 + Int32.ofInt 1) s h
def f_M_newDict_b14  (s : MT) : Option (Int32 × MT) := some ((4 : Int32), s)
theorem w_M_newDict_b14 {sc : xSc} {d : Nat} {Q : xR → xH → Prop} {R : xH} {sZ : MT} {rZ : Int32}  (hQ : Q (.inl (some (vI rZ))) (mH sZ R)) (s : MT) (h : f_M_newDict_b14  s = some (rZ, sZ)) : xW sc m_M_newDict (d + 2) Q (mH s R) 14 [none, none, none, none] [] := by
  unfold f_M_newDict_b14 at h
  refine x_iconst (v := (4 : Int32)) (pc := 14) d_M_newDict_14 (by decide) ?_
  cases h
  exact x_iret (ty := .int) (pc := 15) d_M_newDict_15 rfl (rfl) hQ
def f_M_newDict (s : MT) (a1 : Int64) : Option (Int32 × MT) := (if (lg_cmp a1 (1 : Int64)) < 0 then f_M_newDict_b14 s else (if (lg_cmp a1 (10 : Int64)) ≤ 0 then f_M_newDict_b18 mF a1 (1 : Int32) s else f_M_newDict_b14 s))
theorem w_M_newDict {sc : xSc} {d : Nat} {Q : xR → xH → Prop} {R : xH} {sZ : MT} {rZ : Int32} (hQ : Q (.inl (some (vI rZ))) (mH sZ R)) (s : MT) (a1 : Int64) (h : f_M_newDict s a1 = some (rZ, sZ)) : xW sc m_M_newDict (d + 2) Q (mH s R) 0 (xent [vA 373, vL a1] m_M_newDict.2.2.1) [] := by
  show xW sc m_M_newDict (d + 2) Q (mH s R) 0 [some (vA 373), some (vL a1), none, none] []
  unfold f_M_newDict at h
  refine x_lload_n (pc := 0) d_M_newDict_0 rfl ?_
  refine x_lconst (v := (1 : Int64)) (pc := 1) d_M_newDict_1 (by decide) ?_
  refine x_lcmp (pc := 2) d_M_newDict_2 ?_
  refine x_if_lt (tgt := 14) (pc := 3) d_M_newDict_3 (by decide) (fun c1 => ?_) (fun c1 => ?_)
  · rw [if_pos c1] at h
    exact x_wk (L' := [none, none, none, none]) ⟨Or.inl rfl, Or.inl rfl, Or.inl rfl, Or.inl rfl, trivial⟩ (w_M_newDict_b14 hQ s h)
  · rw [if_neg c1] at h
    refine x_lload_n (pc := 6) d_M_newDict_6 rfl ?_
    refine x_ldc2 (v := (10 : Int64)) (pc := 7) d_M_newDict_7 c_M_277 ?_
    refine x_lcmp (pc := 10) d_M_newDict_10 ?_
    refine x_if_le (tgt := 16) (pc := 11) d_M_newDict_11 (by decide) (fun c2 => ?_) (fun c2 => ?_)
    · rw [if_pos c2] at h
      refine x_iconst (v := (1 : Int32)) (pc := 16) d_M_newDict_16 (by decide) ?_
      refine x_istore_n (pc := 17) d_M_newDict_17 (by decide) ?_
      show xW sc m_M_newDict (d + 2) Q (mH s R) 18 [some (vA 373), some (vL a1), none, some (vI (1 : Int32))] []
      exact w_M_newDict_b18 hQ mF a1 (1 : Int32) s h
    · rw [if_neg c2] at h
      exact x_wk (L' := [none, none, none, none]) ⟨Or.inl rfl, Or.inl rfl, Or.inl rfl, Or.inl rfl, trivial⟩ (w_M_newDict_b14 hQ s h)
def f_M_part_b26  (s : MT) : Option (Int32 × MT) := some ((4 : Int32), s)
theorem w_M_part_b26 {sc : xSc} {d : Nat} {Q : xR → xH → Prop} {R : xH} {sZ : MT} {rZ : Int32}  (hQ : Q (.inl (some (vI rZ))) (mH sZ R)) (s : MT) (h : f_M_part_b26  s = some (rZ, sZ)) : xW sc m_M_part (d + 2) Q (mH s R) 26 [none, none, none, none, none, none, none] [] := by
  unfold f_M_part_b26 at h
  refine x_iconst (v := (4 : Int32)) (pc := 26) d_M_part_26 (by decide) ?_
  cases h
  exact x_iret (ty := .int) (pc := 27) d_M_part_27 rfl (rfl) hQ
def f_M_part (s : MT) (a1 : Int64) (a2 : Int64) (a3 : Int64) : Option (Int32 × MT) := (if (lg_cmp a2 (0 : Int64)) < 0 then f_M_part_b26 s else (if (lg_cmp a3 (0 : Int64)) < 0 then f_M_part_b26 s else (f_M_count a1).bind fun v3 => (if (lg_cmp (a2 + a3) v3.toInt64) ≤ 0 then (if xin ((mI 4 s) - (3 : Int32)) 1300 = true then (f_M_first a1).bind fun v7 => (f_M_give s (3 : Int32) (mA 1 s ((mI 4 s) - (3 : Int32)).toNatClampNeg) ((v7.toInt64 + a2) + ((1024 : Int64) * a3))).bind fun (v11, s10) => some (v11, s10) else none) else f_M_part_b26 s)))
theorem w_M_part {sc : xSc} {d : Nat} {Q : xR → xH → Prop} {R : xH} {sZ : MT} {rZ : Int32} (hQ : Q (.inl (some (vI rZ))) (mH sZ R)) (s : MT) (a1 : Int64) (a2 : Int64) (a3 : Int64) (h : f_M_part s a1 a2 a3 = some (rZ, sZ)) : xW sc m_M_part (d + 2) Q (mH s R) 0 (xent [vA 373, vL a1, vL a2, vL a3] m_M_part.2.2.1) [] := by
  show xW sc m_M_part (d + 2) Q (mH s R) 0 [some (vA 373), some (vL a1), none, some (vL a2), none, some (vL a3), none] []
  unfold f_M_part at h
  refine x_lload_n (pc := 0) d_M_part_0 rfl ?_
  refine x_lconst (v := (0 : Int64)) (pc := 1) d_M_part_1 (by decide) ?_
  refine x_lcmp (pc := 2) d_M_part_2 ?_
  refine x_if_lt (tgt := 26) (pc := 3) d_M_part_3 (by decide) (fun c1 => ?_) (fun c1 => ?_)
  · rw [if_pos c1] at h
    exact x_wk (L' := [none, none, none, none, none, none, none]) ⟨Or.inl rfl, Or.inl rfl, Or.inl rfl, Or.inl rfl, Or.inl rfl, Or.inl rfl, Or.inl rfl, trivial⟩ (w_M_part_b26 hQ s h)
  · rw [if_neg c1] at h
    refine x_lload (pc := 6) d_M_part_6 rfl ?_
    refine x_lconst (v := (0 : Int64)) (pc := 8) d_M_part_8 (by decide) ?_
    refine x_lcmp (pc := 9) d_M_part_9 ?_
    refine x_if_lt (tgt := 26) (pc := 10) d_M_part_10 (by decide) (fun c2 => ?_) (fun c2 => ?_)
    · rw [if_pos c2] at h
      exact x_wk (L' := [none, none, none, none, none, none, none]) ⟨Or.inl rfl, Or.inl rfl, Or.inl rfl, Or.inl rfl, Or.inl rfl, Or.inl rfl, Or.inl rfl, trivial⟩ (w_M_part_b26 hQ s h)
    · rw [if_neg c2] at h
      refine x_lload_n (pc := 13) d_M_part_13 rfl ?_
      refine x_lload (pc := 14) d_M_part_14 rfl ?_
      refine x_ladd (pc := 16) d_M_part_16 ?_
      refine x_lload_n (pc := 17) d_M_part_17 rfl ?_
      obtain ⟨v3, e4, h⟩ := Option.bind_eq_some_iff.mp h
      refine x_invs (av := [vL a1]) (st := [vL (a2 + a3)]) (pc := 18) d_M_part_18 cs_M_391 y_M_count rfl (Nat.le_of_ble_eq_true rfl) (Nat.le_of_ble_eq_true rfl) (w_M_count (d := d + 1) (Q := fun r h' => r = .inl (some (vI v3)) ∧ h' = mH s R) (hh := mH s R) ⟨rfl, rfl⟩ a1 e4) (fun v h' z => ?_) (fun a h' z => nomatch z.1)
      obtain ⟨z1, z2⟩ := z
      subst z2
      cases z1
      show xW sc m_M_part (d + 2) Q (mH s R) 21 [some (vA 373), some (vL a1), none, some (vL a2), none, some (vL a3), none] [vI v3, vL (a2 + a3)]
      refine x_i2l (pc := 21) d_M_part_21 ?_
      refine x_lcmp (pc := 22) d_M_part_22 ?_
      refine x_if_le (tgt := 28) (pc := 23) d_M_part_23 (by decide) (fun c5 => ?_) (fun c5 => ?_)
      · rw [if_pos c5] at h
        refine x_aload_n (pc := 28) d_M_part_28 rfl ?_
        refine x_iconst (v := (3 : Int32)) (pc := 29) d_M_part_29 (by decide) ?_
        refine x_aload_n (pc := 30) d_M_part_30 rfl ?_
        refine x_getf (c := 1) (k := 1) (v := vA 374) (pc := 31) d_M_part_31 l_M_7 (xm_at s R) rfl ?_
        refine x_aload_n (pc := 34) d_M_part_34 rfl ?_
        refine x_getf (c := 1) (k := 4) (v := vI (mI 4 s)) (pc := 35) d_M_part_35 l_M_247 (xm_at s R) rfl ?_
        refine x_iconst (v := (3 : Int32)) (pc := 38) d_M_part_38 (by decide) ?_
        refine x_isub (pc := 39) d_M_part_39 ?_
        obtain ⟨c6, h⟩ := ite_some h
        refine x_iald (pc := 40) d_M_part_40 (xm_a1 s R) (xin_vp c6) ?_
        refine x_lload_n (pc := 41) d_M_part_41 rfl ?_
        obtain ⟨v7, e8, h⟩ := Option.bind_eq_some_iff.mp h
        refine x_invs (av := [vL a1]) (st := [vI (mA 1 s ((mI 4 s) - (3 : Int32)).toNatClampNeg), vI (3 : Int32), vA 373]) (pc := 42) d_M_part_42 cs_M_394 y_M_first rfl (Nat.le_of_ble_eq_true rfl) (Nat.le_of_ble_eq_true rfl) (w_M_first (d := d + 1) (Q := fun r h' => r = .inl (some (vI v7)) ∧ h' = mH s R) (hh := mH s R) ⟨rfl, rfl⟩ a1 e8) (fun v h' z => ?_) (fun a h' z => nomatch z.1)
        obtain ⟨z1, z2⟩ := z
        subst z2
        cases z1
        show xW sc m_M_part (d + 2) Q (mH s R) 45 [some (vA 373), some (vL a1), none, some (vL a2), none, some (vL a3), none] [vI v7, vI (mA 1 s ((mI 4 s) - (3 : Int32)).toNatClampNeg), vI (3 : Int32), vA 373]
        refine x_i2l (pc := 45) d_M_part_45 ?_
        refine x_lload_n (pc := 46) d_M_part_46 rfl ?_
        refine x_ladd (pc := 47) d_M_part_47 ?_
        refine x_ldc2 (v := (1024 : Int64)) (pc := 48) d_M_part_48 c_M_328 ?_
        refine x_lload (pc := 51) d_M_part_51 rfl ?_
        refine x_lmul (pc := 53) d_M_part_53 ?_
        refine x_ladd (pc := 54) d_M_part_54 ?_
        obtain ⟨⟨v11, s10⟩, e9, h⟩ := Option.bind_eq_some_iff.mp h
        dsimp only at h
        refine x_invv (c := 1) (av := [vI (3 : Int32), vI (mA 1 s ((mI 4 s) - (3 : Int32)).toNatClampNeg), vL ((v7.toInt64 + a2) + ((1024 : Int64) * a3))]) (st := []) (pc := 55) d_M_part_55 cv_M_262 y_M_give (xm_at s R) rfl (Nat.le_of_ble_eq_true rfl) (Nat.le_of_ble_eq_true rfl) (w_M_give (d := d + 0) (Q := fun r h' => r = .inl (some (vI v11)) ∧ h' = mH s10 R) (R := R) ⟨rfl, rfl⟩ s (3 : Int32) (mA 1 s ((mI 4 s) - (3 : Int32)).toNatClampNeg) ((v7.toInt64 + a2) + ((1024 : Int64) * a3)) e9) (fun v h' z => ?_) (fun a h' z => nomatch z.1)
        obtain ⟨z1, z2⟩ := z
        subst z2
        cases z1
        show xW sc m_M_part (d + 2) Q (mH s10 R) 58 [some (vA 373), some (vL a1), none, some (vL a2), none, some (vL a3), none] [vI v11]
        cases h
        exact x_iret (ty := .int) (pc := 58) d_M_part_58 rfl (rfl) hQ
      · rw [if_neg c5] at h
        exact x_wk (L' := [none, none, none, none, none, none, none]) ⟨Or.inl rfl, Or.inl rfl, Or.inl rfl, Or.inl rfl, Or.inl rfl, Or.inl rfl, Or.inl rfl, trivial⟩ (w_M_part_b26 hQ s h)
