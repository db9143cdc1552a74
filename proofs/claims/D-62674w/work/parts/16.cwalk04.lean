def f_P_paint_b91 (sc : xSc) (k16 : Option Nat → Int32 → Int32 → Int32 → xH → Option xH) (l0 : Option Nat) (l1 : Int32) (l2 : Int32) (l3 : Int32) (u : xH) : Option xH := k16 l0 l1 l2 (l3 + Int32.ofInt 1) u
theorem w_P_paint_b91 {sc : xSc} {d : Nat} {Q : xR → xH → Prop} {hZ : xH} (k16 : Option Nat → Int32 → Int32 → Int32 → xH → Option xH) (hk16 : ∀ (l0 : Option Nat) (l1 : Int32) (l2 : Int32) (l3 : Int32) (u : xH), k16 l0 l1 l2 l3 u = some hZ → xW sc m_P_paint (d + 1) Q (u) 16 [some (vR l0), some (vI l1), some (vI l2), some (vI l3), none] []) (hQ : Q (.inl none) hZ) (l0 : Option Nat) (l1 : Int32) (l2 : Int32) (l3 : Int32) (u : xH) (h : f_P_paint_b91 sc k16 l0 l1 l2 l3 u = some hZ) : xW sc m_P_paint (d + 1) Q (u) 91 [some (vR l0), some (vI l1), some (vI l2), some (vI l3), none] [] := by
  unfold f_P_paint_b91 at h
  refine x_iinc (pc := 91) d_P_paint_91 rfl (by decide) ?_
  show xW sc m_P_paint (d + 1) Q (u) 94 [some (vR l0), some (vI l1), some (vI l2), some (vI (l3 + Int32.ofInt 1)), none] []
  refine x_goto (tgt := 16) (pc := 94) d_P_paint_94 (by decide) ?_
  exact hk16 l0 l1 l2 (l3 + Int32.ofInt 1) u h
def f_P_paint_b85 (sc : xSc) (k16 : Option Nat → Int32 → Int32 → Int32 → xH → Option xH) (k37 : Option Nat → Int32 → Int32 → Int32 → Int32 → xH → Option xH) (l0 : Option Nat) (l1 : Int32) (l2 : Int32) (l3 : Int32) (l4 : Int32) (u : xH) : Option xH := k37 l0 l1 l2 l3 (l4 + Int32.ofInt 1) u
theorem w_P_paint_b85 {sc : xSc} {d : Nat} {Q : xR → xH → Prop} {hZ : xH} (k16 : Option Nat → Int32 → Int32 → Int32 → xH → Option xH) (hk16 : ∀ (l0 : Option Nat) (l1 : Int32) (l2 : Int32) (l3 : Int32) (u : xH), k16 l0 l1 l2 l3 u = some hZ → xW sc m_P_paint (d + 1) Q (u) 16 [some (vR l0), some (vI l1), some (vI l2), some (vI l3), none] []) (k37 : Option Nat → Int32 → Int32 → Int32 → Int32 → xH → Option xH) (hk37 : ∀ (l0 : Option Nat) (l1 : Int32) (l2 : Int32) (l3 : Int32) (l4 : Int32) (u : xH), k37 l0 l1 l2 l3 l4 u = some hZ → xW sc m_P_paint (d + 1) Q (u) 37 [some (vR l0), some (vI l1), some (vI l2), some (vI l3), some (vI l4)] []) (hQ : Q (.inl none) hZ) (l0 : Option Nat) (l1 : Int32) (l2 : Int32) (l3 : Int32) (l4 : Int32) (u : xH) (h : f_P_paint_b85 sc k16 k37 l0 l1 l2 l3 l4 u = some hZ) : xW sc m_P_paint (d + 1) Q (u) 85 [some (vR l0), some (vI l1), some (vI l2), some (vI l3), some (vI l4)] [] := by
  unfold f_P_paint_b85 at h
  refine x_iinc (pc := 85) d_P_paint_85 rfl (by decide) ?_
  show xW sc m_P_paint (d + 1) Q (u) 88 [some (vR l0), some (vI l1), some (vI l2), some (vI l3), some (vI (l4 + Int32.ofInt 1))] []
  refine x_goto (tgt := 37) (pc := 88) d_P_paint_88 (by decide) ?_
  exact hk37 l0 l1 l2 l3 (l4 + Int32.ofInt 1) u h
def f_P_paint_b37 (sc : xSc) (k16 : Option Nat → Int32 → Int32 → Int32 → xH → Option xH) : Nat → Option Nat → Int32 → Int32 → Int32 → Int32 → xH → Option xH
  | 0, _, _, _, _, _, _ => none
  | n + 1, l0, l1, l2, l3, l4, u => (gI sc u 0 38 l0).bind fun v1 => (if v1 ≤ l4 then f_P_paint_b91 sc k16 l0 l1 l2 l3 u else (gI sc u 0 36 l0).bind fun v4 => (if v4 ≤ 0 then f_P_paint_b91 sc k16 l0 l1 l2 l3 u else (if xn64 (FP.dadd (FP.i2d l4) (4602678819172646912 : UInt64)) = true then (if xn64 (FP.dadd (FP.i2d l3) (4602678819172646912 : UInt64)) = true then (if xis sc u 0 l0 = true then (f_P_isInside sc u l0 (FP.dadd (FP.i2d l4) (4602678819172646912 : UInt64)) (FP.dadd (FP.i2d l3) (4602678819172646912 : UInt64)) l1).bind fun v10 => (if v10 = 0 then f_P_paint_b85 sc k16 (f_P_paint_b37 sc k16 n) l0 l1 l2 l3 l4 u else (gR sc u 0 37 l0).bind fun v13 => (aR sc u v13 l3).bind fun v15 => (bI .byte u v15 l4 (l2.toInt8.toInt32.toInt8.toInt32)).bind fun u17 => f_P_paint_b85 sc k16 (f_P_paint_b37 sc k16 n) l0 l1 l2 l3 l4 u17) else none) else none) else none)))
theorem w_P_paint_b37 {sc : xSc} {d : Nat} {Q : xR → xH → Prop} {hZ : xH} (k16 : Option Nat → Int32 → Int32 → Int32 → xH → Option xH) (hk16 : ∀ (l0 : Option Nat) (l1 : Int32) (l2 : Int32) (l3 : Int32) (u : xH), k16 l0 l1 l2 l3 u = some hZ → xW sc m_P_paint (d + 1) Q (u) 16 [some (vR l0), some (vI l1), some (vI l2), some (vI l3), none] []) (hQ : Q (.inl none) hZ) : ∀ (n : Nat) (l0 : Option Nat) (l1 : Int32) (l2 : Int32) (l3 : Int32) (l4 : Int32) (u : xH), f_P_paint_b37 sc k16 n l0 l1 l2 l3 l4 u = some hZ → xW sc m_P_paint (d + 1) Q (u) 37 [some (vR l0), some (vI l1), some (vI l2), some (vI l3), some (vI l4)] [] := by
  intro n
  induction n with
  | zero =>
    intro l0 l1 l2 l3 l4 u h
    cases h
  | succ n hk37 =>
    intro l0 l1 l2 l3 l4 u h
    unfold f_P_paint_b37 at h
    refine x_iload (pc := 37) d_P_paint_37 rfl ?_
    refine x_aload_n (pc := 39) d_P_paint_39 rfl ?_
    obtain ⟨v1, e2, h⟩ := Option.bind_eq_some_iff.mp h
    refine c_getI (pc := 40) d_P_paint_40 l_P_118 e2 ?_
    refine x_icmp_ge (tgt := 91) (pc := 43) d_P_paint_43 (by decide) (fun c3 => ?_) (fun c3 => ?_)
    · rw [if_pos c3] at h
      exact x_wk (L' := [some (vR l0), some (vI l1), some (vI l2), some (vI l3), none]) ⟨Or.inr rfl, Or.inr rfl, Or.inr rfl, Or.inr rfl, Or.inl rfl, trivial⟩ (w_P_paint_b91 k16 hk16 hQ l0 l1 l2 l3 u h)
    · rw [if_neg c3] at h
      refine x_aload_n (pc := 46) d_P_paint_46 rfl ?_
      obtain ⟨v4, e5, h⟩ := Option.bind_eq_some_iff.mp h
      refine c_getI (pc := 47) d_P_paint_47 l_P_474 e5 ?_
      refine x_if_le (tgt := 91) (pc := 50) d_P_paint_50 (by decide) (fun c6 => ?_) (fun c6 => ?_)
      · rw [if_pos c6] at h
        exact x_wk (L' := [some (vR l0), some (vI l1), some (vI l2), some (vI l3), none]) ⟨Or.inr rfl, Or.inr rfl, Or.inr rfl, Or.inr rfl, Or.inl rfl, trivial⟩ (w_P_paint_b91 k16 hk16 hQ l0 l1 l2 l3 u h)
      · rw [if_neg c6] at h
        refine x_aload_n (pc := 53) d_P_paint_53 rfl ?_
        refine x_iload (pc := 54) d_P_paint_54 rfl ?_
        refine x_i2d (pc := 56) d_P_paint_56 ?_
        refine x_ldc2d (v := (4602678819172646912 : UInt64)) (pc := 57) d_P_paint_57 c_P_479 ?_
        obtain ⟨c7, h⟩ := ite_some h
        refine x_dadd (pc := 60) d_P_paint_60 (xn64_v c7) ?_
        refine x_iload_n (pc := 61) d_P_paint_61 rfl ?_
        refine x_i2d (pc := 62) d_P_paint_62 ?_
        refine x_ldc2d (v := (4602678819172646912 : UInt64)) (pc := 63) d_P_paint_63 c_P_479 ?_
        obtain ⟨c8, h⟩ := ite_some h
        refine x_dadd (pc := 66) d_P_paint_66 (xn64_v c8) ?_
        refine x_iload_n (pc := 67) d_P_paint_67 rfl ?_
        obtain ⟨c9, h⟩ := ite_some h
        obtain ⟨v10, e11, h⟩ := Option.bind_eq_some_iff.mp h
        refine c_invv (c := 0) (d := d + 0) (av := [vD (FP.dadd (FP.i2d l4) (4602678819172646912 : UInt64)), vD (FP.dadd (FP.i2d l3) (4602678819172646912 : UInt64)), vI l1]) (st := []) (Q' := fun r h' => r = .inl (some (vI v10)) ∧ h' = u) (pc := 68) d_P_paint_68 cv_P_484 y_P_isInside c9 rfl (Nat.le_of_ble_eq_true rfl) (Nat.le_of_ble_eq_true rfl) (w_P_isInside (d := d + 0) (Q := fun r h' => r = .inl (some (vI v10)) ∧ h' = u) ⟨rfl, rfl⟩ l0 (FP.dadd (FP.i2d l4) (4602678819172646912 : UInt64)) (FP.dadd (FP.i2d l3) (4602678819172646912 : UInt64)) l1 e11) (fun v h' z => ?_) (fun a h' z => nomatch z.1)
        obtain ⟨z1, z2⟩ := z
        subst h'
        cases z1
        show xW sc m_P_paint (d + 1) Q (u) 71 [some (vR l0), some (vI l1), some (vI l2), some (vI l3), some (vI l4)] [vI v10]
        refine x_if_eq (tgt := 85) (pc := 71) d_P_paint_71 (by decide) (fun c12 => ?_) (fun c12 => ?_)
        · rw [if_pos c12] at h
          exact w_P_paint_b85 k16 hk16 (f_P_paint_b37 sc k16 n) hk37 hQ l0 l1 l2 l3 l4 u h
        · rw [if_neg c12] at h
          refine x_aload_n (pc := 74) d_P_paint_74 rfl ?_
          obtain ⟨v13, e14, h⟩ := Option.bind_eq_some_iff.mp h
          refine c_getR (pc := 75) d_P_paint_75 l_P_115 e14 ?_
          refine x_iload_n (pc := 78) d_P_paint_78 rfl ?_
          obtain ⟨v15, e16, h⟩ := Option.bind_eq_some_iff.mp h
          refine c_aald (pc := 79) d_P_paint_79 e16 ?_
          refine x_iload (pc := 80) d_P_paint_80 rfl ?_
          refine x_iload_n (pc := 82) d_P_paint_82 rfl ?_
          refine x_i2b (pc := 83) d_P_paint_83 ?_
          obtain ⟨u17, e18, h⟩ := Option.bind_eq_some_iff.mp h
          refine c_bast (pc := 84) d_P_paint_84 e18 ?_
          exact w_P_paint_b85 k16 hk16 (f_P_paint_b37 sc k16 n) hk37 hQ l0 l1 l2 l3 l4 u17 h
def f_P_paint_b16 (sc : xSc)  : Nat → Option Nat → Int32 → Int32 → Int32 → xH → Option xH
  | 0, _, _, _, _, _ => none
  | n + 1, l0, l1, l2, l3, u => (gI sc u 0 39 l0).bind fun v1 => (if v1 ≤ l3 then (pV u 0 35 l0 (vI (0 : Int32))).bind fun u4 => some u4 else (if xn64 (FP.dadd (FP.i2d l3) (4602678819172646912 : UInt64)) = true then (if xis sc u 0 l0 = true then (f_P_pass sc u l0 (FP.dadd (FP.i2d l3) (4602678819172646912 : UInt64))).bind fun u8 => f_P_paint_b37 sc (f_P_paint_b16 sc n) mF l0 l1 l2 l3 (0 : Int32) u8 else none) else none))
theorem w_P_paint_b16 {sc : xSc} {d : Nat} {Q : xR → xH → Prop} {hZ : xH}  (hQ : Q (.inl none) hZ) : ∀ (n : Nat) (l0 : Option Nat) (l1 : Int32) (l2 : Int32) (l3 : Int32) (u : xH), f_P_paint_b16 sc  n l0 l1 l2 l3 u = some hZ → xW sc m_P_paint (d + 1) Q (u) 16 [some (vR l0), some (vI l1), some (vI l2), some (vI l3), none] [] := by
  intro n
  induction n with
  | zero =>
    intro l0 l1 l2 l3 u h
    cases h
  | succ n hk16 =>
    intro l0 l1 l2 l3 u h
    unfold f_P_paint_b16 at h
    refine x_iload_n (pc := 16) d_P_paint_16 rfl ?_
    refine x_aload_n (pc := 17) d_P_paint_17 rfl ?_
    obtain ⟨v1, e2, h⟩ := Option.bind_eq_some_iff.mp h
    refine c_getI (pc := 18) d_P_paint_18 l_P_121 e2 ?_
    refine x_icmp_ge (tgt := 97) (pc := 21) d_P_paint_21 (by decide) (fun c3 => ?_) (fun c3 => ?_)
    · rw [if_pos c3] at h
      refine x_aload_n (pc := 97) d_P_paint_97 rfl ?_
      refine x_iconst (v := (0 : Int32)) (pc := 98) d_P_paint_98 (by decide) ?_
      obtain ⟨u4, e5, h⟩ := Option.bind_eq_some_iff.mp h
      refine c_putf (pc := 99) d_P_paint_99 l_P_471 fp_0_35 (xfit_int) e5 ?_
      cases h
      exact x_vret (pc := 102) d_P_paint_102 rfl hQ
    · rw [if_neg c3] at h
      refine x_aload_n (pc := 24) d_P_paint_24 rfl ?_
      refine x_iload_n (pc := 25) d_P_paint_25 rfl ?_
      refine x_i2d (pc := 26) d_P_paint_26 ?_
      refine x_ldc2d (v := (4602678819172646912 : UInt64)) (pc := 27) d_P_paint_27 c_P_479 ?_
      obtain ⟨c6, h⟩ := ite_some h
      refine x_dadd (pc := 30) d_P_paint_30 (xn64_v c6) ?_
      obtain ⟨c7, h⟩ := ite_some h
      obtain ⟨u8, e9, h⟩ := Option.bind_eq_some_iff.mp h
      refine c_invv (c := 0) (d := d + 0) (av := [vD (FP.dadd (FP.i2d l3) (4602678819172646912 : UInt64))]) (st := []) (Q' := fun r h' => r = .inl none ∧ h' = u8) (pc := 31) d_P_paint_31 cv_P_481 y_P_pass c7 rfl (Nat.le_of_ble_eq_true rfl) (Nat.le_of_ble_eq_true rfl) (w_P_pass (d := d + 0) (Q := fun r h' => r = .inl none ∧ h' = u8) ⟨rfl, rfl⟩ u l0 (FP.dadd (FP.i2d l3) (4602678819172646912 : UInt64)) e9) (fun v h' z => ?_) (fun a h' z => nomatch z.1)
      obtain ⟨z1, z2⟩ := z
      subst h'
      cases z1
      show xW sc m_P_paint (d + 1) Q (u8) 34 [some (vR l0), some (vI l1), some (vI l2), some (vI l3), none] []
      refine x_iconst (v := (0 : Int32)) (pc := 34) d_P_paint_34 (by decide) ?_
      refine x_istore (pc := 35) d_P_paint_35 (by decide) ?_
      show xW sc m_P_paint (d + 1) Q (u8) 37 [some (vR l0), some (vI l1), some (vI l2), some (vI l3), some (vI (0 : Int32))] []
      exact w_P_paint_b37 (f_P_paint_b16 sc n) hk16 hQ mF l0 l1 l2 l3 (0 : Int32) u8 h
def f_P_paint (sc : xSc) (u : xH) (a0 : Option Nat) (a1 : Int32) : Option xH := (gF sc u 0 29 a0).bind fun v1 => (if xn32 (FP.fmul (1097859072 : UInt32) v1) = true then (if xn32 (FP.fadd (FP.fmul (1097859072 : UInt32) v1) (1056964608 : UInt32)) = true then f_P_paint_b16 sc mF a0 a1 (FP.f2i (FP.fadd (FP.fmul (1097859072 : UInt32) v1) (1056964608 : UInt32))) (0 : Int32) u else none) else none)
theorem w_P_paint {sc : xSc} {d : Nat} {Q : xR → xH → Prop} {hZ : xH} (hQ : Q (.inl none) hZ) (u : xH) (a0 : Option Nat) (a1 : Int32) (h : f_P_paint sc u a0 a1 = some hZ) : xW sc m_P_paint (d + 1) Q (u) 0 (xent [vR a0, vI a1] m_P_paint.2.2.1) [] := by
  show xW sc m_P_paint (d + 1) Q (u) 0 [some (vR a0), some (vI a1), none, none, none] []
  unfold f_P_paint at h
  refine x_ldcwf (v := (1097859072 : UInt32)) (pc := 0) d_P_paint_0 c_P_477 ?_
  refine x_aload_n (pc := 3) d_P_paint_3 rfl ?_
  obtain ⟨v1, e2, h⟩ := Option.bind_eq_some_iff.mp h
  refine c_getF (pc := 4) d_P_paint_4 l_P_93 e2 ?_
  obtain ⟨c3, h⟩ := ite_some h
  refine x_fmul (pc := 7) d_P_paint_7 (xn32_v c3) ?_
  refine x_ldcwf (v := (1056964608 : UInt32)) (pc := 8) d_P_paint_8 c_P_478 ?_
  obtain ⟨c4, h⟩ := ite_some h
  refine x_fadd (pc := 11) d_P_paint_11 (xn32_v c4) ?_
  refine x_f2i (pc := 12) d_P_paint_12 ?_
  refine x_istore_n (pc := 13) d_P_paint_13 (by decide) ?_
  show xW sc m_P_paint (d + 1) Q (u) 14 [some (vR a0), some (vI a1), some (vI (FP.f2i (FP.fadd (FP.fmul (1097859072 : UInt32) v1) (1056964608 : UInt32)))), none, none] []
  refine x_iconst (v := (0 : Int32)) (pc := 14) d_P_paint_14 (by decide) ?_
  refine x_istore_n (pc := 15) d_P_paint_15 (by decide) ?_
  show xW sc m_P_paint (d + 1) Q (u) 16 [some (vR a0), some (vI a1), some (vI (FP.f2i (FP.fadd (FP.fmul (1097859072 : UInt32) v1) (1056964608 : UInt32)))), some (vI (0 : Int32)), none] []
  exact w_P_paint_b16 hQ mF a0 a1 (FP.f2i (FP.fadd (FP.fmul (1097859072 : UInt32) v1) (1056964608 : UInt32))) (0 : Int32) u h
def f_Paint_perform_b307 (sc : xSc)  (l1 : Option Nat) (l2 : Option Nat) (u : xH) : Option ((Unit ⊕ Nat) × xH) := (gI sc u 0 9 l1).bind fun v1 => (gI sc u 19 2 l2).bind fun v3 => (pV u 0 9 l1 (vI (v1 - v3))).bind fun u5 => some (.inl (), u5)
theorem w_Paint_perform_b307 {sc : xSc} {d : Nat} {Q : xR → xH → Prop} {oZ : Unit ⊕ Nat} {hZ : xH}  (hQ : Q (cvU oZ) hZ) (l1 : Option Nat) (l2 : Option Nat) (u : xH) (h : f_Paint_perform_b307 sc  l1 l2 u = some (oZ, hZ)) : xW sc m_Paint_perform (d + 8) Q (u) 307 [none, some (vR l1), some (vR l2), none, none, none, none, none, none, none, none] [] := by
  unfold f_Paint_perform_b307 at h
  refine x_aload_n (pc := 307) d_Paint_perform_307 rfl ?_
  refine x_dup (pc := 308) d_Paint_perform_308 rfl ?_
  obtain ⟨v1, e2, h⟩ := Option.bind_eq_some_iff.mp h
  refine c_getI (pc := 309) d_Paint_perform_309 l_Paint_73 e2 ?_
  refine x_aload_n (pc := 312) d_Paint_perform_312 rfl ?_
  obtain ⟨v3, e4, h⟩ := Option.bind_eq_some_iff.mp h
  refine c_getI (pc := 313) d_Paint_perform_313 l_Paint_9 e4 ?_
  refine x_isub (pc := 316) d_Paint_perform_316 ?_
  obtain ⟨u5, e6, h⟩ := Option.bind_eq_some_iff.mp h
  refine c_putf (pc := 317) d_Paint_perform_317 l_Paint_73 fp_0_9 (xfit_int) e6 ?_
  cases h
  exact x_vret (pc := 320) d_Paint_perform_320 rfl hQ
def f_Paint_perform_b249 (sc : xSc)  (l1 : Option Nat) (l2 : Option Nat) (l6 : UInt64) (l8 : UInt64) (t0 : Int32) (t1 : Option Nat) (u : xH) : Option ((Unit ⊕ Nat) × xH) := (if xis sc u 0 t1 = true then tB (f_P_need sc u t1 t0 (13 : Int32)) (fun v3 u2 => (gR sc u2 0 32 l1).bind fun v7 => (gI sc u2 0 35 l1).bind fun v9 => (aI .int sc u2 v7 (v9 - (1 : Int32))).bind fun v11 => (if xcm l2 = true then (if xcm (some 68) = true then (if l2 = (some 68) then (if xis sc u2 0 l1 = true then tB (f_P_point sc u2 l1 l6 l8 v11) (fun v32 u31 => f_Paint_perform_b307 sc l1 l2 u31) (fun a34 u35 => some (.inr a34, u35)) else none) else (gR sc u2 0 30 l1).bind fun v16 => (aD sc u2 v16 v11).bind fun v18 => (gR sc u2 0 31 l1).bind fun v20 => (aD sc u2 v20 v11).bind fun v22 => (if xis sc u2 0 l1 = true then tB (f_P_point sc u2 l1 v18 v22 v11) (fun v26 u25 => f_Paint_perform_b307 sc l1 l2 u25) (fun a28 u29 => some (.inr a28, u29)) else none)) else none) else none)) (fun a5 u6 => some (.inr a5, u6)) else none)
theorem w_Paint_perform_b249 {sc : xSc} {d : Nat} {Q : xR → xH → Prop} {oZ : Unit ⊕ Nat} {hZ : xH}  (hQ : Q (cvU oZ) hZ) (l1 : Option Nat) (l2 : Option Nat) (l6 : UInt64) (l8 : UInt64) (t0 : Int32) (t1 : Option Nat) (u : xH) (h : f_Paint_perform_b249 sc  l1 l2 l6 l8 t0 t1 u = some (oZ, hZ)) : xW sc m_Paint_perform (d + 8) Q (u) 249 [none, some (vR l1), some (vR l2), none, none, none, some (vD l6), none, some (vD l8), none, none] [vI t0, vR t1] := by
  unfold f_Paint_perform_b249 at h
  refine x_bipush (v := (13 : Int32)) (pc := 249) d_Paint_perform_249 (by decide) ?_
  obtain ⟨c1, h⟩ := ite_some h
  rcases tB_s h with ⟨a5, u6, e4, h⟩ | ⟨v3, u2, e4, h⟩
  · refine c_invv (c := 0) (d := d + 7) (av := [vI t0, vI (13 : Int32)]) (st := []) (Q' := fun r h' => r = .inr a5 ∧ h' = u6) (pc := 251) d_Paint_perform_251 cv_Paint_33 y_P_need c1 rfl (Nat.le_of_ble_eq_true rfl) (Nat.le_of_ble_eq_true rfl) (w_P_need (d := d + 1) (Q := fun r h' => r = .inr a5 ∧ h' = u6) ⟨rfl, rfl⟩ u t1 t0 (13 : Int32) e4) (fun v h' z => nomatch z.1) (fun a h' z => ?_)
    obtain ⟨z1, z2⟩ := z
    subst h'
    cases z1
    cases h
    exact x_thOut (xno rfl) hQ
  refine c_invv (c := 0) (d := d + 7) (av := [vI t0, vI (13 : Int32)]) (st := []) (Q' := fun r h' => r = .inl none ∧ h' = u2) (pc := 251) d_Paint_perform_251 cv_Paint_33 y_P_need c1 rfl (Nat.le_of_ble_eq_true rfl) (Nat.le_of_ble_eq_true rfl) (w_P_need (d := d + 1) (Q := fun r h' => r = .inl none ∧ h' = u2) ⟨rfl, rfl⟩ u t1 t0 (13 : Int32) e4) (fun v h' z => ?_) (fun a h' z => nomatch z.1)
  obtain ⟨z1, z2⟩ := z
  subst h'
  cases z1
  show xW sc m_Paint_perform (d + 8) Q (u2) 254 [none, some (vR l1), some (vR l2), none, none, none, some (vD l6), none, some (vD l8), none, none] []
  refine x_aload_n (pc := 254) d_Paint_perform_254 rfl ?_
  obtain ⟨v7, e8, h⟩ := Option.bind_eq_some_iff.mp h
  refine c_getR (pc := 255) d_Paint_perform_255 l_Paint_59 e8 ?_
  refine x_aload_n (pc := 258) d_Paint_perform_258 rfl ?_
  obtain ⟨v9, e10, h⟩ := Option.bind_eq_some_iff.mp h
  refine c_getI (pc := 259) d_Paint_perform_259 l_Paint_45 e10 ?_
  refine x_iconst (v := (1 : Int32)) (pc := 262) d_Paint_perform_262 (by decide) ?_
  refine x_isub (pc := 263) d_Paint_perform_263 ?_
  obtain ⟨v11, e12, h⟩ := Option.bind_eq_some_iff.mp h
  refine c_iald (pc := 264) d_Paint_perform_264 e12 ?_
  refine x_istore (pc := 265) d_Paint_perform_265 (by decide) ?_
  show xW sc m_Paint_perform (d + 8) Q (u2) 267 [none, some (vR l1), some (vR l2), none, none, none, some (vD l6), none, some (vD l8), none, some (vI v11)] []
  refine x_aload_n (pc := 267) d_Paint_perform_267 rfl ?_
  refine x_gets (v := vR (some 68)) (pc := 268) d_Paint_perform_268 sl_Paint_63 ?_
  obtain ⟨c13, h⟩ := ite_some h
  obtain ⟨c14, h⟩ := ite_some h
  refine x_acmp_ne (tgt := 287) (pc := 271) d_Paint_perform_271 (by decide) (xcm_s c13) (xcm_s c14) (fun c15 => ?_) (fun c15 => ?_)
  · rw [if_neg c15] at h
    refine x_aload_n (pc := 287) d_Paint_perform_287 rfl ?_
    refine x_aload_n (pc := 288) d_Paint_perform_288 rfl ?_
    obtain ⟨v16, e17, h⟩ := Option.bind_eq_some_iff.mp h
    refine c_getR (pc := 289) d_Paint_perform_289 l_Paint_66 e17 ?_
    refine x_iload (pc := 292) d_Paint_perform_292 rfl ?_
    obtain ⟨v18, e19, h⟩ := Option.bind_eq_some_iff.mp h
    refine c_dald (pc := 294) d_Paint_perform_294 e19 ?_
    refine x_aload_n (pc := 295) d_Paint_perform_295 rfl ?_
    obtain ⟨v20, e21, h⟩ := Option.bind_eq_some_iff.mp h
    refine c_getR (pc := 296) d_Paint_perform_296 l_Paint_70 e21 ?_
    refine x_iload (pc := 299) d_Paint_perform_299 rfl ?_
    obtain ⟨v22, e23, h⟩ := Option.bind_eq_some_iff.mp h
    refine c_dald (pc := 301) d_Paint_perform_301 e23 ?_
    refine x_iload (pc := 302) d_Paint_perform_302 rfl ?_
    obtain ⟨c24, h⟩ := ite_some h
    rcases tB_s h with ⟨a28, u29, e27, h⟩ | ⟨v26, u25, e27, h⟩
    · refine c_invv (c := 0) (d := d + 7) (av := [vD v18, vD v22, vI v11]) (st := []) (Q' := fun r h' => r = .inr a28 ∧ h' = u29) (pc := 304) d_Paint_perform_304 cv_Paint_48 y_P_point c24 rfl (Nat.le_of_ble_eq_true rfl) (Nat.le_of_ble_eq_true rfl) (w_P_point (d := d + 0) (Q := fun r h' => r = .inr a28 ∧ h' = u29) ⟨rfl, rfl⟩ u2 l1 v18 v22 v11 e27) (fun v h' z => nomatch z.1) (fun a h' z => ?_)
      obtain ⟨z1, z2⟩ := z
      subst h'
      cases z1
      cases h
      exact x_thOut (xno rfl) hQ
    refine c_invv (c := 0) (d := d + 7) (av := [vD v18, vD v22, vI v11]) (st := []) (Q' := fun r h' => r = .inl none ∧ h' = u25) (pc := 304) d_Paint_perform_304 cv_Paint_48 y_P_point c24 rfl (Nat.le_of_ble_eq_true rfl) (Nat.le_of_ble_eq_true rfl) (w_P_point (d := d + 0) (Q := fun r h' => r = .inl none ∧ h' = u25) ⟨rfl, rfl⟩ u2 l1 v18 v22 v11 e27) (fun v h' z => ?_) (fun a h' z => nomatch z.1)
    obtain ⟨z1, z2⟩ := z
    subst h'
    cases z1
    show xW sc m_Paint_perform (d + 8) Q (u25) 307 [none, some (vR l1), some (vR l2), none, none, none, some (vD l6), none, some (vD l8), none, some (vI v11)] []
    exact x_wk (L' := [none, some (vR l1), some (vR l2), none, none, none, none, none, none, none, none]) ⟨Or.inl rfl, Or.inr rfl, Or.inr rfl, Or.inl rfl, Or.inl rfl, Or.inl rfl, Or.inl rfl, Or.inl rfl, Or.inl rfl, Or.inl rfl, Or.inl rfl, trivial⟩ (w_Paint_perform_b307 hQ l1 l2 u25 h)
  · rw [if_pos c15] at h
    refine x_aload_n (pc := 274) d_Paint_perform_274 rfl ?_
    refine x_dload (pc := 275) d_Paint_perform_275 rfl ?_
    refine x_dload (pc := 277) d_Paint_perform_277 rfl ?_
    refine x_iload (pc := 279) d_Paint_perform_279 rfl ?_
    obtain ⟨c30, h⟩ := ite_some h
    rcases tB_s h with ⟨a34, u35, e33, h⟩ | ⟨v32, u31, e33, h⟩
    · refine c_invv (c := 0) (d := d + 7) (av := [vD l6, vD l8, vI v11]) (st := []) (Q' := fun r h' => r = .inr a34 ∧ h' = u35) (pc := 281) d_Paint_perform_281 cv_Paint_48 y_P_point c30 rfl (Nat.le_of_ble_eq_true rfl) (Nat.le_of_ble_eq_true rfl) (w_P_point (d := d + 0) (Q := fun r h' => r = .inr a34 ∧ h' = u35) ⟨rfl, rfl⟩ u2 l1 l6 l8 v11 e33) (fun v h' z => nomatch z.1) (fun a h' z => ?_)
      obtain ⟨z1, z2⟩ := z
      subst h'
      cases z1
      cases h
      exact x_thOut (xno rfl) hQ
    refine c_invv (c := 0) (d := d + 7) (av := [vD l6, vD l8, vI v11]) (st := []) (Q' := fun r h' => r = .inl none ∧ h' = u31) (pc := 281) d_Paint_perform_281 cv_Paint_48 y_P_point c30 rfl (Nat.le_of_ble_eq_true rfl) (Nat.le_of_ble_eq_true rfl) (w_P_point (d := d + 0) (Q := fun r h' => r = .inl none ∧ h' = u31) ⟨rfl, rfl⟩ u2 l1 l6 l8 v11 e33) (fun v h' z => ?_) (fun a h' z => nomatch z.1)
    obtain ⟨z1, z2⟩ := z
    subst h'
    cases z1
    show xW sc m_Paint_perform (d + 8) Q (u31) 284 [none, some (vR l1), some (vR l2), none, none, none, some (vD l6), none, some (vD l8), none, some (vI v11)] []
    refine x_goto (tgt := 307) (pc := 284) d_Paint_perform_284 (by decide) ?_
    exact x_wk (L' := [none, some (vR l1), some (vR l2), none, none, none, none, none, none, none, none]) ⟨Or.inl rfl, Or.inr rfl, Or.inr rfl, Or.inl rfl, Or.inl rfl, Or.inl rfl, Or.inl rfl, Or.inl rfl, Or.inl rfl, Or.inl rfl, Or.inl rfl, trivial⟩ (w_Paint_perform_b307 hQ l1 l2 u31 h)
def f_Paint_perform_b236 (sc : xSc)  (l1 : Option Nat) (l2 : Option Nat) (l6 : UInt64) (l8 : UInt64) (u : xH) : Option ((Unit ⊕ Nat) × xH) := (gI sc u 0 35 l1).bind fun v1 => (if v1 ≤ 0 then f_Paint_perform_b249 sc l1 l2 l6 l8 (0 : Int32) l1 u else f_Paint_perform_b249 sc l1 l2 l6 l8 (1 : Int32) l1 u)
theorem w_Paint_perform_b236 {sc : xSc} {d : Nat} {Q : xR → xH → Prop} {oZ : Unit ⊕ Nat} {hZ : xH}  (hQ : Q (cvU oZ) hZ) (l1 : Option Nat) (l2 : Option Nat) (l6 : UInt64) (l8 : UInt64) (u : xH) (h : f_Paint_perform_b236 sc  l1 l2 l6 l8 u = some (oZ, hZ)) : xW sc m_Paint_perform (d + 8) Q (u) 236 [none, some (vR l1), some (vR l2), none, none, none, some (vD l6), none, some (vD l8), none, none] [] := by
  unfold f_Paint_perform_b236 at h
  refine x_aload_n (pc := 236) d_Paint_perform_236 rfl ?_
  refine x_aload_n (pc := 237) d_Paint_perform_237 rfl ?_
  obtain ⟨v1, e2, h⟩ := Option.bind_eq_some_iff.mp h
  refine c_getI (pc := 238) d_Paint_perform_238 l_Paint_45 e2 ?_
  refine x_if_le (tgt := 248) (pc := 241) d_Paint_perform_241 (by decide) (fun c3 => ?_) (fun c3 => ?_)
  · rw [if_pos c3] at h
    refine x_iconst (v := (0 : Int32)) (pc := 248) d_Paint_perform_248 (by decide) ?_
    exact w_Paint_perform_b249 hQ l1 l2 l6 l8 (0 : Int32) l1 u h
  · rw [if_neg c3] at h
    refine x_iconst (v := (1 : Int32)) (pc := 244) d_Paint_perform_244 (by decide) ?_
    refine x_goto (tgt := 249) (pc := 245) d_Paint_perform_245 (by decide) ?_
    exact w_Paint_perform_b249 hQ l1 l2 l6 l8 (1 : Int32) l1 u h
def f_Paint_perform_b230 (sc : xSc)  (l1 : Option Nat) (l2 : Option Nat) (t0 : Int32) (t1 : Option Nat) (u : xH) : Option ((Unit ⊕ Nat) × xH) := (if xis sc u 0 t1 = true then (f_P_paint sc u t1 t0).bind fun u2 => f_Paint_perform_b307 sc l1 l2 u2 else none)
theorem w_Paint_perform_b230 {sc : xSc} {d : Nat} {Q : xR → xH → Prop} {oZ : Unit ⊕ Nat} {hZ : xH}  (hQ : Q (cvU oZ) hZ) (l1 : Option Nat) (l2 : Option Nat) (t0 : Int32) (t1 : Option Nat) (u : xH) (h : f_Paint_perform_b230 sc  l1 l2 t0 t1 u = some (oZ, hZ)) : xW sc m_Paint_perform (d + 8) Q (u) 230 [none, some (vR l1), some (vR l2), none, none, none, none, none, none, none, none] [vI t0, vR t1] := by
  unfold f_Paint_perform_b230 at h
  obtain ⟨c1, h⟩ := ite_some h
  obtain ⟨u2, e3, h⟩ := Option.bind_eq_some_iff.mp h
  refine c_invv (c := 0) (d := d + 7) (av := [vI t0]) (st := []) (Q' := fun r h' => r = .inl none ∧ h' = u2) (pc := 230) d_Paint_perform_230 cv_Paint_56 y_P_paint c1 rfl (Nat.le_of_ble_eq_true rfl) (Nat.le_of_ble_eq_true rfl) (w_P_paint (d := d + 6) (Q := fun r h' => r = .inl none ∧ h' = u2) ⟨rfl, rfl⟩ u t1 t0 e3) (fun v h' z => ?_) (fun a h' z => nomatch z.1)
  obtain ⟨z1, z2⟩ := z
  subst h'
  cases z1
  show xW sc m_Paint_perform (d + 8) Q (u2) 233 [none, some (vR l1), some (vR l2), none, none, none, none, none, none, none, none] []
  refine x_goto (tgt := 307) (pc := 233) d_Paint_perform_233 (by decide) ?_
  exact w_Paint_perform_b307 hQ l1 l2 u2 h
def f_Paint_perform_b217 (sc : xSc)  (l1 : Option Nat) (l2 : Option Nat) (u : xH) : Option ((Unit ⊕ Nat) × xH) := (if xcm l2 = true then (if xcm (some 70) = true then (if l2 = (some 70) then f_Paint_perform_b230 sc l1 l2 (1 : Int32) l1 u else f_Paint_perform_b230 sc l1 l2 (0 : Int32) l1 u) else none) else none)
theorem w_Paint_perform_b217 {sc : xSc} {d : Nat} {Q : xR → xH → Prop} {oZ : Unit ⊕ Nat} {hZ : xH}  (hQ : Q (cvU oZ) hZ) (l1 : Option Nat) (l2 : Option Nat) (u : xH) (h : f_Paint_perform_b217 sc  l1 l2 u = some (oZ, hZ)) : xW sc m_Paint_perform (d + 8) Q (u) 217 [none, some (vR l1), some (vR l2), none, none, none, none, none, none, none, none] [] := by
  unfold f_Paint_perform_b217 at h
  refine x_aload_n (pc := 217) d_Paint_perform_217 rfl ?_
  refine x_aload_n (pc := 218) d_Paint_perform_218 rfl ?_
  refine x_gets (v := vR (some 70)) (pc := 219) d_Paint_perform_219 sl_Paint_52 ?_
  obtain ⟨c1, h⟩ := ite_some h
  obtain ⟨c2, h⟩ := ite_some h
  refine x_acmp_ne (tgt := 229) (pc := 222) d_Paint_perform_222 (by decide) (xcm_s c1) (xcm_s c2) (fun c3 => ?_) (fun c3 => ?_)
  · rw [if_neg c3] at h
    refine x_iconst (v := (0 : Int32)) (pc := 229) d_Paint_perform_229 (by decide) ?_
    exact w_Paint_perform_b230 hQ l1 l2 (0 : Int32) l1 u h
  · rw [if_pos c3] at h
    refine x_iconst (v := (1 : Int32)) (pc := 225) d_Paint_perform_225 (by decide) ?_
    refine x_goto (tgt := 230) (pc := 226) d_Paint_perform_226 (by decide) ?_
    exact w_Paint_perform_b230 hQ l1 l2 (1 : Int32) l1 u h
def f_Paint_perform_b180 (sc : xSc)  (l1 : Option Nat) (l2 : Option Nat) (l6 : UInt64) (t0 : Int32) (t1 : Option Nat) (u : xH) : Option ((Unit ⊕ Nat) × xH) := (if xis sc u 0 t1 = true then tB (f_P_need sc u t1 t0 (4 : Int32)) (fun v3 u2 => (if xn32 (FP.d2f l6) = true then (pV u2 0 29 l1 (vF (FP.d2f l6))).bind fun u8 => f_Paint_perform_b307 sc l1 l2 u8 else none)) (fun a5 u6 => some (.inr a5, u6)) else none)
theorem w_Paint_perform_b180 {sc : xSc} {d : Nat} {Q : xR → xH → Prop} {oZ : Unit ⊕ Nat} {hZ : xH}  (hQ : Q (cvU oZ) hZ) (l1 : Option Nat) (l2 : Option Nat) (l6 : UInt64) (t0 : Int32) (t1 : Option Nat) (u : xH) (h : f_Paint_perform_b180 sc  l1 l2 l6 t0 t1 u = some (oZ, hZ)) : xW sc m_Paint_perform (d + 8) Q (u) 180 [none, some (vR l1), some (vR l2), none, none, none, some (vD l6), none, none, none, none] [vI t0, vR t1] := by
  unfold f_Paint_perform_b180 at h
  refine x_iconst (v := (4 : Int32)) (pc := 180) d_Paint_perform_180 (by decide) ?_
  obtain ⟨c1, h⟩ := ite_some h
  rcases tB_s h with ⟨a5, u6, e4, h⟩ | ⟨v3, u2, e4, h⟩
  · refine c_invv (c := 0) (d := d + 7) (av := [vI t0, vI (4 : Int32)]) (st := []) (Q' := fun r h' => r = .inr a5 ∧ h' = u6) (pc := 181) d_Paint_perform_181 cv_Paint_33 y_P_need c1 rfl (Nat.le_of_ble_eq_true rfl) (Nat.le_of_ble_eq_true rfl) (w_P_need (d := d + 1) (Q := fun r h' => r = .inr a5 ∧ h' = u6) ⟨rfl, rfl⟩ u t1 t0 (4 : Int32) e4) (fun v h' z => nomatch z.1) (fun a h' z => ?_)
    obtain ⟨z1, z2⟩ := z
    subst h'
    cases z1
    cases h
    exact x_thOut (xno rfl) hQ
  refine c_invv (c := 0) (d := d + 7) (av := [vI t0, vI (4 : Int32)]) (st := []) (Q' := fun r h' => r = .inl none ∧ h' = u2) (pc := 181) d_Paint_perform_181 cv_Paint_33 y_P_need c1 rfl (Nat.le_of_ble_eq_true rfl) (Nat.le_of_ble_eq_true rfl) (w_P_need (d := d + 1) (Q := fun r h' => r = .inl none ∧ h' = u2) ⟨rfl, rfl⟩ u t1 t0 (4 : Int32) e4) (fun v h' z => ?_) (fun a h' z => nomatch z.1)
  obtain ⟨z1, z2⟩ := z
  subst h'
  cases z1
  show xW sc m_Paint_perform (d + 8) Q (u2) 184 [none, some (vR l1), some (vR l2), none, none, none, some (vD l6), none, none, none, none] []
  refine x_aload_n (pc := 184) d_Paint_perform_184 rfl ?_
  refine x_dload (pc := 185) d_Paint_perform_185 rfl ?_
  obtain ⟨c7, h⟩ := ite_some h
  refine x_d2f (pc := 187) d_Paint_perform_187 (xn32_v c7) ?_
  obtain ⟨u8, e9, h⟩ := Option.bind_eq_some_iff.mp h
  refine c_putf (pc := 188) d_Paint_perform_188 l_Paint_41 fp_0_29 (xfit_float) e9 ?_
  refine x_goto (tgt := 307) (pc := 191) d_Paint_perform_191 (by decide) ?_
  exact x_wk (L' := [none, some (vR l1), some (vR l2), none, none, none, none, none, none, none, none]) ⟨Or.inl rfl, Or.inr rfl, Or.inr rfl, Or.inl rfl, Or.inl rfl, Or.inl rfl, Or.inl rfl, Or.inl rfl, Or.inl rfl, Or.inl rfl, Or.inl rfl, trivial⟩ (w_Paint_perform_b307 hQ l1 l2 u8 h)
def f_Paint_perform_b179 (sc : xSc)  (l1 : Option Nat) (l2 : Option Nat) (l6 : UInt64) (t0 : Option Nat) (u : xH) : Option ((Unit ⊕ Nat) × xH) := f_Paint_perform_b180 sc l1 l2 l6 (0 : Int32) t0 u
theorem w_Paint_perform_b179 {sc : xSc} {d : Nat} {Q : xR → xH → Prop} {oZ : Unit ⊕ Nat} {hZ : xH}  (hQ : Q (cvU oZ) hZ) (l1 : Option Nat) (l2 : Option Nat) (l6 : UInt64) (t0 : Option Nat) (u : xH) (h : f_Paint_perform_b179 sc  l1 l2 l6 t0 u = some (oZ, hZ)) : xW sc m_Paint_perform (d + 8) Q (u) 179 [none, some (vR l1), some (vR l2), none, none, none, some (vD l6), none, none, none, none] [vR t0] := by
  unfold f_Paint_perform_b179 at h
  refine x_iconst (v := (0 : Int32)) (pc := 179) d_Paint_perform_179 (by decide) ?_
  exact w_Paint_perform_b180 hQ l1 l2 l6 (0 : Int32) t0 u h
def f_Paint_perform_b108 (sc : xSc)  (l1 : Option Nat) (l2 : Option Nat) (l6 : UInt64) (l8 : UInt64) (t0 : Int32) (t1 : Option Nat) (u : xH) : Option ((Unit ⊕ Nat) × xH) := (if xis sc u 0 t1 = true then tB (f_P_need sc u t1 t0 (4 : Int32)) (fun v3 u2 => (if xis sc u2 19 l2 = true then (f_Enum_ordinal19 sc u2 l2).bind fun v8 => (if v8 = (65 : Int32) then (if (Op.cmpValue (FP.dcmp l6 FP.dconst0) .l) < 0 then f_Paint_perform_b179 sc l1 l2 l6 l1 u2 else (if 0 < (Op.cmpValue (FP.dcmp l6 FP.dconst1) .g) then f_Paint_perform_b179 sc l1 l2 l6 l1 u2 else f_Paint_perform_b180 sc l1 l2 l6 (1 : Int32) l1 u2)) else (if v8 = (66 : Int32) then (pV u2 0 35 l1 (vI (0 : Int32))).bind fun u14 => f_Paint_perform_b307 sc l1 l2 u14 else (if v8 = (67 : Int32) then (gI sc u2 0 35 l1).bind fun v17 => (if xis sc u2 0 l1 = true then tB (f_P_point sc u2 l1 l6 l8 v17) (fun v21 u20 => f_Paint_perform_b307 sc l1 l2 u20) (fun a23 u24 => some (.inr a23, u24)) else none) else (if v8 = (68 : Int32) then f_Paint_perform_b236 sc l1 l2 l6 l8 u2 else (if v8 = (69 : Int32) then f_Paint_perform_b236 sc l1 l2 l6 l8 u2 else (if v8 = (70 : Int32) then f_Paint_perform_b217 sc l1 l2 u2 else (if v8 = (71 : Int32) then f_Paint_perform_b217 sc l1 l2 u2 else f_Paint_perform_b236 sc l1 l2 l6 l8 u2))))))) else none)) (fun a5 u6 => some (.inr a5, u6)) else none)
theorem w_Paint_perform_b108 {sc : xSc} {d : Nat} {Q : xR → xH → Prop} {oZ : Unit ⊕ Nat} {hZ : xH}  (hQ : Q (cvU oZ) hZ) (l1 : Option Nat) (l2 : Option Nat) (l6 : UInt64) (l8 : UInt64) (t0 : Int32) (t1 : Option Nat) (u : xH) (h : f_Paint_perform_b108 sc  l1 l2 l6 l8 t0 t1 u = some (oZ, hZ)) : xW sc m_Paint_perform (d + 8) Q (u) 108 [none, some (vR l1), some (vR l2), none, none, none, some (vD l6), none, some (vD l8), none, none] [vI t0, vR t1] := by
  unfold f_Paint_perform_b108 at h
  refine x_iconst (v := (4 : Int32)) (pc := 108) d_Paint_perform_108 (by decide) ?_
  obtain ⟨c1, h⟩ := ite_some h
  rcases tB_s h with ⟨a5, u6, e4, h⟩ | ⟨v3, u2, e4, h⟩
  · refine c_invv (c := 0) (d := d + 7) (av := [vI t0, vI (4 : Int32)]) (st := []) (Q' := fun r h' => r = .inr a5 ∧ h' = u6) (pc := 109) d_Paint_perform_109 cv_Paint_33 y_P_need c1 rfl (Nat.le_of_ble_eq_true rfl) (Nat.le_of_ble_eq_true rfl) (w_P_need (d := d + 1) (Q := fun r h' => r = .inr a5 ∧ h' = u6) ⟨rfl, rfl⟩ u t1 t0 (4 : Int32) e4) (fun v h' z => nomatch z.1) (fun a h' z => ?_)
    obtain ⟨z1, z2⟩ := z
    subst h'
    cases z1
    cases h
    exact x_thOut (xno rfl) hQ
  refine c_invv (c := 0) (d := d + 7) (av := [vI t0, vI (4 : Int32)]) (st := []) (Q' := fun r h' => r = .inl none ∧ h' = u2) (pc := 109) d_Paint_perform_109 cv_Paint_33 y_P_need c1 rfl (Nat.le_of_ble_eq_true rfl) (Nat.le_of_ble_eq_true rfl) (w_P_need (d := d + 1) (Q := fun r h' => r = .inl none ∧ h' = u2) ⟨rfl, rfl⟩ u t1 t0 (4 : Int32) e4) (fun v h' z => ?_) (fun a h' z => nomatch z.1)
  obtain ⟨z1, z2⟩ := z
  subst h'
  cases z1
  show xW sc m_Paint_perform (d + 8) Q (u2) 112 [none, some (vR l1), some (vR l2), none, none, none, some (vD l6), none, some (vD l8), none, none] []
  refine x_aload_n (pc := 112) d_Paint_perform_112 rfl ?_
  obtain ⟨c7, h⟩ := ite_some h
  obtain ⟨v8, e9, h⟩ := Option.bind_eq_some_iff.mp h
  refine c_invu (c := 19) (d := d + 7) (av := []) (st := []) (Q' := fun r h' => r = .inl (some (vI v8)) ∧ h' = u2) (pc := 113) d_Paint_perform_113 cw_Paint_37_19 y_Enum_ordinal c7 rfl (Nat.le_of_ble_eq_true rfl) (Nat.le_of_ble_eq_true rfl) (w_Enum_ordinal19 (d := d + 7) (Q := fun r h' => r = .inl (some (vI v8)) ∧ h' = u2) ⟨rfl, rfl⟩ l2 e9) (fun v h' z => ?_) (fun a h' z => nomatch z.1)
  obtain ⟨z1, z2⟩ := z
  subst h'
  cases z1
  show xW sc m_Paint_perform (d + 8) Q (u2) 116 [none, some (vR l1), some (vR l2), none, none, none, some (vD l6), none, some (vD l8), none, none] [vI v8]
  by_cases c10 : v8 = (65 : Int32)
  · rw [if_pos c10] at h
    refine x_tableIn (off := 44) (tgt := 160) (pc := 116) d_Paint_perform_116 (by rw [c10]; decide) (by rw [c10]; decide) (by rw [c10]; decide) (by decide) ?_
    refine x_aload_n (pc := 160) d_Paint_perform_160 rfl ?_
    refine x_dload (pc := 161) d_Paint_perform_161 rfl ?_
    refine x_dconst0 (pc := 163) d_Paint_perform_163 ?_
    refine x_dcmp (pc := 164) d_Paint_perform_164 ?_
    refine x_if_lt (tgt := 179) (pc := 165) d_Paint_perform_165 (by decide) (fun c11 => ?_) (fun c11 => ?_)
    · rw [if_pos c11] at h
      exact x_wk (L' := [none, some (vR l1), some (vR l2), none, none, none, some (vD l6), none, none, none, none]) ⟨Or.inl rfl, Or.inr rfl, Or.inr rfl, Or.inl rfl, Or.inl rfl, Or.inl rfl, Or.inr rfl, Or.inl rfl, Or.inl rfl, Or.inl rfl, Or.inl rfl, trivial⟩ (w_Paint_perform_b179 hQ l1 l2 l6 l1 u2 h)
    · rw [if_neg c11] at h
      refine x_dload (pc := 168) d_Paint_perform_168 rfl ?_
      refine x_dconst1 (pc := 170) d_Paint_perform_170 ?_
      refine x_dcmp (pc := 171) d_Paint_perform_171 ?_
      refine x_if_gt (tgt := 179) (pc := 172) d_Paint_perform_172 (by decide) (fun c12 => ?_) (fun c12 => ?_)
      · rw [if_pos c12] at h
        exact x_wk (L' := [none, some (vR l1), some (vR l2), none, none, none, some (vD l6), none, none, none, none]) ⟨Or.inl rfl, Or.inr rfl, Or.inr rfl, Or.inl rfl, Or.inl rfl, Or.inl rfl, Or.inr rfl, Or.inl rfl, Or.inl rfl, Or.inl rfl, Or.inl rfl, trivial⟩ (w_Paint_perform_b179 hQ l1 l2 l6 l1 u2 h)
      · rw [if_neg c12] at h
        refine x_iconst (v := (1 : Int32)) (pc := 175) d_Paint_perform_175 (by decide) ?_
        refine x_goto (tgt := 180) (pc := 176) d_Paint_perform_176 (by decide) ?_
        exact x_wk (L' := [none, some (vR l1), some (vR l2), none, none, none, some (vD l6), none, none, none, none]) ⟨Or.inl rfl, Or.inr rfl, Or.inr rfl, Or.inl rfl, Or.inl rfl, Or.inl rfl, Or.inr rfl, Or.inl rfl, Or.inl rfl, Or.inl rfl, Or.inl rfl, trivial⟩ (w_Paint_perform_b180 hQ l1 l2 l6 (1 : Int32) l1 u2 h)
  rw [if_neg c10] at h
  by_cases c13 : v8 = (66 : Int32)
  · rw [if_pos c13] at h
    refine x_tableIn (off := 78) (tgt := 194) (pc := 116) d_Paint_perform_116 (by rw [c13]; decide) (by rw [c13]; decide) (by rw [c13]; decide) (by decide) ?_
    refine x_aload_n (pc := 194) d_Paint_perform_194 rfl ?_
    refine x_iconst (v := (0 : Int32)) (pc := 195) d_Paint_perform_195 (by decide) ?_
    obtain ⟨u14, e15, h⟩ := Option.bind_eq_some_iff.mp h
    refine c_putf (pc := 196) d_Paint_perform_196 l_Paint_45 fp_0_35 (xfit_int) e15 ?_
    refine x_goto (tgt := 307) (pc := 199) d_Paint_perform_199 (by decide) ?_
    exact x_wk (L' := [none, some (vR l1), some (vR l2), none, none, none, none, none, none, none, none]) ⟨Or.inl rfl, Or.inr rfl, Or.inr rfl, Or.inl rfl, Or.inl rfl, Or.inl rfl, Or.inl rfl, Or.inl rfl, Or.inl rfl, Or.inl rfl, Or.inl rfl, trivial⟩ (w_Paint_perform_b307 hQ l1 l2 u14 h)
  rw [if_neg c13] at h
  by_cases c16 : v8 = (67 : Int32)
  · rw [if_pos c16] at h
    refine x_tableIn (off := 86) (tgt := 202) (pc := 116) d_Paint_perform_116 (by rw [c16]; decide) (by rw [c16]; decide) (by rw [c16]; decide) (by decide) ?_
    refine x_aload_n (pc := 202) d_Paint_perform_202 rfl ?_
    refine x_dload (pc := 203) d_Paint_perform_203 rfl ?_
    refine x_dload (pc := 205) d_Paint_perform_205 rfl ?_
    refine x_aload_n (pc := 207) d_Paint_perform_207 rfl ?_
    obtain ⟨v17, e18, h⟩ := Option.bind_eq_some_iff.mp h
    refine c_getI (pc := 208) d_Paint_perform_208 l_Paint_45 e18 ?_
    obtain ⟨c19, h⟩ := ite_some h
    rcases tB_s h with ⟨a23, u24, e22, h⟩ | ⟨v21, u20, e22, h⟩
    · refine c_invv (c := 0) (d := d + 7) (av := [vD l6, vD l8, vI v17]) (st := []) (Q' := fun r h' => r = .inr a23 ∧ h' = u24) (pc := 211) d_Paint_perform_211 cv_Paint_48 y_P_point c19 rfl (Nat.le_of_ble_eq_true rfl) (Nat.le_of_ble_eq_true rfl) (w_P_point (d := d + 0) (Q := fun r h' => r = .inr a23 ∧ h' = u24) ⟨rfl, rfl⟩ u2 l1 l6 l8 v17 e22) (fun v h' z => nomatch z.1) (fun a h' z => ?_)
      obtain ⟨z1, z2⟩ := z
      subst h'
      cases z1
      cases h
      exact x_thOut (xno rfl) hQ
    refine c_invv (c := 0) (d := d + 7) (av := [vD l6, vD l8, vI v17]) (st := []) (Q' := fun r h' => r = .inl none ∧ h' = u20) (pc := 211) d_Paint_perform_211 cv_Paint_48 y_P_point c19 rfl (Nat.le_of_ble_eq_true rfl) (Nat.le_of_ble_eq_true rfl) (w_P_point (d := d + 0) (Q := fun r h' => r = .inl none ∧ h' = u20) ⟨rfl, rfl⟩ u2 l1 l6 l8 v17 e22) (fun v h' z => ?_) (fun a h' z => nomatch z.1)
    obtain ⟨z1, z2⟩ := z
    subst h'
    cases z1
    show xW sc m_Paint_perform (d + 8) Q (u20) 214 [none, some (vR l1), some (vR l2), none, none, none, some (vD l6), none, some (vD l8), none, none] []
    refine x_goto (tgt := 307) (pc := 214) d_Paint_perform_214 (by decide) ?_
    exact x_wk (L' := [none, some (vR l1), some (vR l2), none, none, none, none, none, none, none, none]) ⟨Or.inl rfl, Or.inr rfl, Or.inr rfl, Or.inl rfl, Or.inl rfl, Or.inl rfl, Or.inl rfl, Or.inl rfl, Or.inl rfl, Or.inl rfl, Or.inl rfl, trivial⟩ (w_Paint_perform_b307 hQ l1 l2 u20 h)
  rw [if_neg c16] at h
  by_cases c25 : v8 = (68 : Int32)
  · rw [if_pos c25] at h
    refine x_tableIn (off := 120) (tgt := 236) (pc := 116) d_Paint_perform_116 (by rw [c25]; decide) (by rw [c25]; decide) (by rw [c25]; decide) (by decide) ?_
    exact w_Paint_perform_b236 hQ l1 l2 l6 l8 u2 h
  rw [if_neg c25] at h
  by_cases c26 : v8 = (69 : Int32)
  · rw [if_pos c26] at h
    refine x_tableIn (off := 120) (tgt := 236) (pc := 116) d_Paint_perform_116 (by rw [c26]; decide) (by rw [c26]; decide) (by rw [c26]; decide) (by decide) ?_
    exact w_Paint_perform_b236 hQ l1 l2 l6 l8 u2 h
  rw [if_neg c26] at h
  by_cases c27 : v8 = (70 : Int32)
  · rw [if_pos c27] at h
    refine x_tableIn (off := 101) (tgt := 217) (pc := 116) d_Paint_perform_116 (by rw [c27]; decide) (by rw [c27]; decide) (by rw [c27]; decide) (by decide) ?_
    exact x_wk (L' := [none, some (vR l1), some (vR l2), none, none, none, none, none, none, none, none]) ⟨Or.inl rfl, Or.inr rfl, Or.inr rfl, Or.inl rfl, Or.inl rfl, Or.inl rfl, Or.inl rfl, Or.inl rfl, Or.inl rfl, Or.inl rfl, Or.inl rfl, trivial⟩ (w_Paint_perform_b217 hQ l1 l2 u2 h)
  rw [if_neg c27] at h
  by_cases c28 : v8 = (71 : Int32)
  · rw [if_pos c28] at h
    refine x_tableIn (off := 101) (tgt := 217) (pc := 116) d_Paint_perform_116 (by rw [c28]; decide) (by rw [c28]; decide) (by rw [c28]; decide) (by decide) ?_
    exact x_wk (L' := [none, some (vR l1), some (vR l2), none, none, none, none, none, none, none, none]) ⟨Or.inl rfl, Or.inr rfl, Or.inr rfl, Or.inl rfl, Or.inl rfl, Or.inl rfl, Or.inl rfl, Or.inl rfl, Or.inl rfl, Or.inl rfl, Or.inl rfl, trivial⟩ (w_Paint_perform_b217 hQ l1 l2 u2 h)
  rw [if_neg c28] at h
  refine x_tableOut (tgt := 236) (pc := 116) d_Paint_perform_116 (by have q0 := lv_neT c10 (a := 65) (by decide); have q1 := lv_neT c13 (a := 66) (by decide); have q2 := lv_neT c16 (a := 67) (by decide); have q3 := lv_neT c25 (a := 68) (by decide); have q4 := lv_neT c26 (a := 69) (by decide); have q5 := lv_neT c27 (a := 70) (by decide); have q6 := lv_neT c28 (a := 71) (by decide); omega) (by decide) ?_
  exact w_Paint_perform_b236 hQ l1 l2 l6 l8 u2 h
def f_Paint_perform_b107 (sc : xSc)  (l1 : Option Nat) (l2 : Option Nat) (l6 : UInt64) (l8 : UInt64) (t0 : Option Nat) (u : xH) : Option ((Unit ⊕ Nat) × xH) := f_Paint_perform_b108 sc l1 l2 l6 l8 (0 : Int32) t0 u
theorem w_Paint_perform_b107 {sc : xSc} {d : Nat} {Q : xR → xH → Prop} {oZ : Unit ⊕ Nat} {hZ : xH}  (hQ : Q (cvU oZ) hZ) (l1 : Option Nat) (l2 : Option Nat) (l6 : UInt64) (l8 : UInt64) (t0 : Option Nat) (u : xH) (h : f_Paint_perform_b107 sc  l1 l2 l6 l8 t0 u = some (oZ, hZ)) : xW sc m_Paint_perform (d + 8) Q (u) 107 [none, some (vR l1), some (vR l2), none, none, none, some (vD l6), none, some (vD l8), none, none] [vR t0] := by
  unfold f_Paint_perform_b107 at h
  refine x_iconst (v := (0 : Int32)) (pc := 107) d_Paint_perform_107 (by decide) ?_
  exact w_Paint_perform_b108 hQ l1 l2 l6 l8 (0 : Int32) t0 u h
def f_Paint_perform_b64 (sc : xSc)  (l1 : Option Nat) (l2 : Option Nat) (l6 : UInt64) (t0 : UInt64) (u : xH) : Option ((Unit ⊕ Nat) × xH) := (if 0 < (Op.cmpValue (FP.dcmp l6 (4696837146684686336 : UInt64)) .g) then f_Paint_perform_b107 sc l1 l2 l6 t0 l1 u else (if (Op.cmpValue (FP.dcmp l6 (13920209183539462144 : UInt64)) .l) < 0 then f_Paint_perform_b107 sc l1 l2 l6 t0 l1 u else (if 0 < (Op.cmpValue (FP.dcmp t0 (4696837146684686336 : UInt64)) .g) then f_Paint_perform_b107 sc l1 l2 l6 t0 l1 u else (if (Op.cmpValue (FP.dcmp t0 (13920209183539462144 : UInt64)) .l) < 0 then f_Paint_perform_b107 sc l1 l2 l6 t0 l1 u else f_Paint_perform_b108 sc l1 l2 l6 t0 (1 : Int32) l1 u))))
theorem w_Paint_perform_b64 {sc : xSc} {d : Nat} {Q : xR → xH → Prop} {oZ : Unit ⊕ Nat} {hZ : xH}  (hQ : Q (cvU oZ) hZ) (l1 : Option Nat) (l2 : Option Nat) (l6 : UInt64) (t0 : UInt64) (u : xH) (h : f_Paint_perform_b64 sc  l1 l2 l6 t0 u = some (oZ, hZ)) : xW sc m_Paint_perform (d + 8) Q (u) 64 [none, some (vR l1), some (vR l2), none, none, none, some (vD l6), none, none, none, none] [vD t0] := by
  unfold f_Paint_perform_b64 at h
  refine x_dstore (pc := 64) d_Paint_perform_64 (by decide) ?_
  show xW sc m_Paint_perform (d + 8) Q (u) 66 [none, some (vR l1), some (vR l2), none, none, none, some (vD l6), none, some (vD t0), none, none] []
  refine x_aload_n (pc := 66) d_Paint_perform_66 rfl ?_
  refine x_dload (pc := 67) d_Paint_perform_67 rfl ?_
  refine x_ldc2d (v := (4696837146684686336 : UInt64)) (pc := 69) d_Paint_perform_69 c_Paint_29 ?_
  refine x_dcmp (pc := 72) d_Paint_perform_72 ?_
  refine x_if_gt (tgt := 107) (pc := 73) d_Paint_perform_73 (by decide) (fun c1 => ?_) (fun c1 => ?_)
  · rw [if_pos c1] at h
    exact w_Paint_perform_b107 hQ l1 l2 l6 t0 l1 u h
  · rw [if_neg c1] at h
    refine x_dload (pc := 76) d_Paint_perform_76 rfl ?_
    refine x_ldc2d (v := (13920209183539462144 : UInt64)) (pc := 78) d_Paint_perform_78 c_Paint_31 ?_
    refine x_dcmp (pc := 81) d_Paint_perform_81 ?_
    refine x_if_lt (tgt := 107) (pc := 82) d_Paint_perform_82 (by decide) (fun c2 => ?_) (fun c2 => ?_)
    · rw [if_pos c2] at h
      exact w_Paint_perform_b107 hQ l1 l2 l6 t0 l1 u h
    · rw [if_neg c2] at h
      refine x_dload (pc := 85) d_Paint_perform_85 rfl ?_
      refine x_ldc2d (v := (4696837146684686336 : UInt64)) (pc := 87) d_Paint_perform_87 c_Paint_29 ?_
      refine x_dcmp (pc := 90) d_Paint_perform_90 ?_
      refine x_if_gt (tgt := 107) (pc := 91) d_Paint_perform_91 (by decide) (fun c3 => ?_) (fun c3 => ?_)
      · rw [if_pos c3] at h
        exact w_Paint_perform_b107 hQ l1 l2 l6 t0 l1 u h
      · rw [if_neg c3] at h
        refine x_dload (pc := 94) d_Paint_perform_94 rfl ?_
        refine x_ldc2d (v := (13920209183539462144 : UInt64)) (pc := 96) d_Paint_perform_96 c_Paint_31 ?_
        refine x_dcmp (pc := 99) d_Paint_perform_99 ?_
        refine x_if_lt (tgt := 107) (pc := 100) d_Paint_perform_100 (by decide) (fun c4 => ?_) (fun c4 => ?_)
        · rw [if_pos c4] at h
          exact w_Paint_perform_b107 hQ l1 l2 l6 t0 l1 u h
        · rw [if_neg c4] at h
          refine x_iconst (v := (1 : Int32)) (pc := 103) d_Paint_perform_103 (by decide) ?_
          refine x_goto (tgt := 108) (pc := 104) d_Paint_perform_104 (by decide) ?_
          exact w_Paint_perform_b108 hQ l1 l2 l6 t0 (1 : Int32) l1 u h
def f_Paint_perform_b46 (sc : xSc)  (l1 : Option Nat) (l2 : Option Nat) (l4 : Option Nat) (t0 : UInt64) (u : xH) : Option ((Unit ⊕ Nat) × xH) := (gI sc u 19 2 l2).bind fun v1 => (if v1 = 0 then f_Paint_perform_b64 sc l1 l2 t0 FP.dconst0 u else (if xis sc u 2 l4 = true then (f_Slot_value sc u l4).bind fun v5 => f_Paint_perform_b64 sc l1 l2 t0 v5 u else none))
theorem w_Paint_perform_b46 {sc : xSc} {d : Nat} {Q : xR → xH → Prop} {oZ : Unit ⊕ Nat} {hZ : xH}  (hQ : Q (cvU oZ) hZ) (l1 : Option Nat) (l2 : Option Nat) (l4 : Option Nat) (t0 : UInt64) (u : xH) (h : f_Paint_perform_b46 sc  l1 l2 l4 t0 u = some (oZ, hZ)) : xW sc m_Paint_perform (d + 8) Q (u) 46 [none, some (vR l1), some (vR l2), none, some (vR l4), none, none, none, none, none, none] [vD t0] := by
  unfold f_Paint_perform_b46 at h
  refine x_dstore (pc := 46) d_Paint_perform_46 (by decide) ?_
  show xW sc m_Paint_perform (d + 8) Q (u) 48 [none, some (vR l1), some (vR l2), none, some (vR l4), none, some (vD t0), none, none, none, none] []
  refine x_aload_n (pc := 48) d_Paint_perform_48 rfl ?_
  obtain ⟨v1, e2, h⟩ := Option.bind_eq_some_iff.mp h
  refine c_getI (pc := 49) d_Paint_perform_49 l_Paint_9 e2 ?_
  refine x_if_ne (tgt := 59) (pc := 52) d_Paint_perform_52 (by decide) (fun c3 => ?_) (fun c3 => ?_)
  · rw [if_neg c3] at h
    refine x_aload (pc := 59) d_Paint_perform_59 rfl ?_
    obtain ⟨c4, h⟩ := ite_some h
    obtain ⟨v5, e6, h⟩ := Option.bind_eq_some_iff.mp h
    refine c_invv (c := 2) (d := d + 7) (av := []) (st := []) (Q' := fun r h' => r = .inl (some (vD v5)) ∧ h' = u) (pc := 61) d_Paint_perform_61 cv_Paint_25 y_Slot_value c4 rfl (Nat.le_of_ble_eq_true rfl) (Nat.le_of_ble_eq_true rfl) (w_Slot_value (d := d + 7) (Q := fun r h' => r = .inl (some (vD v5)) ∧ h' = u) ⟨rfl, rfl⟩ l4 e6) (fun v h' z => ?_) (fun a h' z => nomatch z.1)
    obtain ⟨z1, z2⟩ := z
    subst h'
    cases z1
    show xW sc m_Paint_perform (d + 8) Q (u) 64 [none, some (vR l1), some (vR l2), none, some (vR l4), none, some (vD t0), none, none, none, none] [vD v5]
    exact x_wk (L' := [none, some (vR l1), some (vR l2), none, none, none, some (vD t0), none, none, none, none]) ⟨Or.inl rfl, Or.inr rfl, Or.inr rfl, Or.inl rfl, Or.inl rfl, Or.inl rfl, Or.inr rfl, Or.inl rfl, Or.inl rfl, Or.inl rfl, Or.inl rfl, trivial⟩ (w_Paint_perform_b64 hQ l1 l2 t0 v5 u h)
  · rw [if_pos c3] at h
    refine x_dconst0 (pc := 55) d_Paint_perform_55 ?_
    refine x_goto (tgt := 64) (pc := 56) d_Paint_perform_56 (by decide) ?_
    exact x_wk (L' := [none, some (vR l1), some (vR l2), none, none, none, some (vD t0), none, none, none, none]) ⟨Or.inl rfl, Or.inr rfl, Or.inr rfl, Or.inl rfl, Or.inl rfl, Or.inl rfl, Or.inr rfl, Or.inl rfl, Or.inl rfl, Or.inl rfl, Or.inl rfl, trivial⟩ (w_Paint_perform_b64 hQ l1 l2 t0 FP.dconst0 u h)
def f_Paint_perform_b28 (sc : xSc)  (l1 : Option Nat) (l2 : Option Nat) (l3 : Option Nat) (l4 : Option Nat) (t0 : Int32) (t1 : Option Nat) (u : xH) : Option ((Unit ⊕ Nat) × xH) := (if xis sc u 0 t1 = true then tB (f_P_type sc u t1 t0) (fun v3 u2 => (gI sc u2 19 2 l2).bind fun v7 => (if v7 = 0 then f_Paint_perform_b46 sc l1 l2 l4 FP.dconst0 u2 else (if xis sc u2 2 l3 = true then (f_Slot_value sc u2 l3).bind fun v11 => f_Paint_perform_b46 sc l1 l2 l4 v11 u2 else none))) (fun a5 u6 => some (.inr a5, u6)) else none)
theorem w_Paint_perform_b28 {sc : xSc} {d : Nat} {Q : xR → xH → Prop} {oZ : Unit ⊕ Nat} {hZ : xH}  (hQ : Q (cvU oZ) hZ) (l1 : Option Nat) (l2 : Option Nat) (l3 : Option Nat) (l4 : Option Nat) (t0 : Int32) (t1 : Option Nat) (u : xH) (h : f_Paint_perform_b28 sc  l1 l2 l3 l4 t0 t1 u = some (oZ, hZ)) : xW sc m_Paint_perform (d + 8) Q (u) 28 [none, some (vR l1), some (vR l2), some (vR l3), some (vR l4), none, none, none, none, none, none] [vI t0, vR t1] := by
  unfold f_Paint_perform_b28 at h
  obtain ⟨c1, h⟩ := ite_some h
  rcases tB_s h with ⟨a5, u6, e4, h⟩ | ⟨v3, u2, e4, h⟩
  · refine c_invv (c := 0) (d := d + 7) (av := [vI t0]) (st := []) (Q' := fun r h' => r = .inr a5 ∧ h' = u6) (pc := 28) d_Paint_perform_28 cv_Paint_21 y_P_type c1 rfl (Nat.le_of_ble_eq_true rfl) (Nat.le_of_ble_eq_true rfl) (w_P_type (d := d + 0) (Q := fun r h' => r = .inr a5 ∧ h' = u6) ⟨rfl, rfl⟩ u t1 t0 e4) (fun v h' z => nomatch z.1) (fun a h' z => ?_)
    obtain ⟨z1, z2⟩ := z
    subst h'
    cases z1
    cases h
    exact x_thOut (xno rfl) hQ
  refine c_invv (c := 0) (d := d + 7) (av := [vI t0]) (st := []) (Q' := fun r h' => r = .inl none ∧ h' = u2) (pc := 28) d_Paint_perform_28 cv_Paint_21 y_P_type c1 rfl (Nat.le_of_ble_eq_true rfl) (Nat.le_of_ble_eq_true rfl) (w_P_type (d := d + 0) (Q := fun r h' => r = .inl none ∧ h' = u2) ⟨rfl, rfl⟩ u t1 t0 e4) (fun v h' z => ?_) (fun a h' z => nomatch z.1)
  obtain ⟨z1, z2⟩ := z
  subst h'
  cases z1
  show xW sc m_Paint_perform (d + 8) Q (u2) 31 [none, some (vR l1), some (vR l2), some (vR l3), some (vR l4), none, none, none, none, none, none] []
  refine x_aload_n (pc := 31) d_Paint_perform_31 rfl ?_
  obtain ⟨v7, e8, h⟩ := Option.bind_eq_some_iff.mp h
  refine c_getI (pc := 32) d_Paint_perform_32 l_Paint_9 e8 ?_
  refine x_if_ne (tgt := 42) (pc := 35) d_Paint_perform_35 (by decide) (fun c9 => ?_) (fun c9 => ?_)
  · rw [if_neg c9] at h
    refine x_aload_n (pc := 42) d_Paint_perform_42 rfl ?_
    obtain ⟨c10, h⟩ := ite_some h
    obtain ⟨v11, e12, h⟩ := Option.bind_eq_some_iff.mp h
    refine c_invv (c := 2) (d := d + 7) (av := []) (st := []) (Q' := fun r h' => r = .inl (some (vD v11)) ∧ h' = u2) (pc := 43) d_Paint_perform_43 cv_Paint_25 y_Slot_value c10 rfl (Nat.le_of_ble_eq_true rfl) (Nat.le_of_ble_eq_true rfl) (w_Slot_value (d := d + 7) (Q := fun r h' => r = .inl (some (vD v11)) ∧ h' = u2) ⟨rfl, rfl⟩ l3 e12) (fun v h' z => ?_) (fun a h' z => nomatch z.1)
    obtain ⟨z1, z2⟩ := z
    subst h'
    cases z1
    show xW sc m_Paint_perform (d + 8) Q (u2) 46 [none, some (vR l1), some (vR l2), some (vR l3), some (vR l4), none, none, none, none, none, none] [vD v11]
    exact x_wk (L' := [none, some (vR l1), some (vR l2), none, some (vR l4), none, none, none, none, none, none]) ⟨Or.inl rfl, Or.inr rfl, Or.inr rfl, Or.inl rfl, Or.inr rfl, Or.inl rfl, Or.inl rfl, Or.inl rfl, Or.inl rfl, Or.inl rfl, Or.inl rfl, trivial⟩ (w_Paint_perform_b46 hQ l1 l2 l4 v11 u2 h)
  · rw [if_pos c9] at h
    refine x_dconst0 (pc := 38) d_Paint_perform_38 ?_
    refine x_goto (tgt := 46) (pc := 39) d_Paint_perform_39 (by decide) ?_
    exact x_wk (L' := [none, some (vR l1), some (vR l2), none, some (vR l4), none, none, none, none, none, none]) ⟨Or.inl rfl, Or.inr rfl, Or.inr rfl, Or.inl rfl, Or.inr rfl, Or.inl rfl, Or.inl rfl, Or.inl rfl, Or.inl rfl, Or.inl rfl, Or.inl rfl, trivial⟩ (w_Paint_perform_b46 hQ l1 l2 l4 FP.dconst0 u2 h)
def f_Paint_perform_b27 (sc : xSc)  (l1 : Option Nat) (l2 : Option Nat) (l3 : Option Nat) (l4 : Option Nat) (t0 : Option Nat) (u : xH) : Option ((Unit ⊕ Nat) × xH) := f_Paint_perform_b28 sc l1 l2 l3 l4 (0 : Int32) t0 u
theorem w_Paint_perform_b27 {sc : xSc} {d : Nat} {Q : xR → xH → Prop} {oZ : Unit ⊕ Nat} {hZ : xH}  (hQ : Q (cvU oZ) hZ) (l1 : Option Nat) (l2 : Option Nat) (l3 : Option Nat) (l4 : Option Nat) (t0 : Option Nat) (u : xH) (h : f_Paint_perform_b27 sc  l1 l2 l3 l4 t0 u = some (oZ, hZ)) : xW sc m_Paint_perform (d + 8) Q (u) 27 [none, some (vR l1), some (vR l2), some (vR l3), some (vR l4), none, none, none, none, none, none] [vR t0] := by
  unfold f_Paint_perform_b27 at h
  refine x_iconst (v := (0 : Int32)) (pc := 27) d_Paint_perform_27 (by decide) ?_
  exact w_Paint_perform_b28 hQ l1 l2 l3 l4 (0 : Int32) t0 u h
def f_Paint_perform_b23 (sc : xSc)  (l1 : Option Nat) (l2 : Option Nat) (l3 : Option Nat) (l4 : Option Nat) (t0 : Option Nat) (u : xH) : Option ((Unit ⊕ Nat) × xH) := f_Paint_perform_b28 sc l1 l2 l3 l4 (1 : Int32) t0 u
theorem w_Paint_perform_b23 {sc : xSc} {d : Nat} {Q : xR → xH → Prop} {oZ : Unit ⊕ Nat} {hZ : xH}  (hQ : Q (cvU oZ) hZ) (l1 : Option Nat) (l2 : Option Nat) (l3 : Option Nat) (l4 : Option Nat) (t0 : Option Nat) (u : xH) (h : f_Paint_perform_b23 sc  l1 l2 l3 l4 t0 u = some (oZ, hZ)) : xW sc m_Paint_perform (d + 8) Q (u) 23 [none, some (vR l1), some (vR l2), some (vR l3), some (vR l4), none, none, none, none, none, none] [vR t0] := by
  unfold f_Paint_perform_b23 at h
  refine x_iconst (v := (1 : Int32)) (pc := 23) d_Paint_perform_23 (by decide) ?_
  refine x_goto (tgt := 28) (pc := 24) d_Paint_perform_24 (by decide) ?_
  exact w_Paint_perform_b28 hQ l1 l2 l3 l4 (1 : Int32) t0 u h
def f_Paint_perform (sc : xSc) (u : xH) (a0 : Option Nat) (a1 : Option Nat) (a2 : Option Nat) (a3 : Option Nat) (a4 : Option Nat) (a5 : Int32) : Option ((Unit ⊕ Nat) × xH) := (gI sc u 19 2 a2).bind fun v1 => (if v1 = 0 then f_Paint_perform_b23 sc a1 a2 a3 a4 a1 u else (if xis sc u 2 a3 = true then (f_Slot_isNumber sc u a3).bind fun v5 => (if v5 = 0 then f_Paint_perform_b27 sc a1 a2 a3 a4 a1 u else (if xis sc u 2 a4 = true then (f_Slot_isNumber sc u a4).bind fun v9 => (if v9 = 0 then f_Paint_perform_b27 sc a1 a2 a3 a4 a1 u else f_Paint_perform_b23 sc a1 a2 a3 a4 a1 u) else none)) else none))
theorem w_Paint_perform {sc : xSc} {d : Nat} {Q : xR → xH → Prop} {oZ : Unit ⊕ Nat} {hZ : xH} (hQ : Q (cvU oZ) hZ) (u : xH) (a0 : Option Nat) (a1 : Option Nat) (a2 : Option Nat) (a3 : Option Nat) (a4 : Option Nat) (a5 : Int32) (h : f_Paint_perform sc u a0 a1 a2 a3 a4 a5 = some (oZ, hZ)) : xW sc m_Paint_perform (d + 8) Q (u) 0 (xent [vR a0, vR a1, vR a2, vR a3, vR a4, vI a5] m_Paint_perform.2.2.1) [] := by
  show xW sc m_Paint_perform (d + 8) Q (u) 0 [some (vR a0), some (vR a1), some (vR a2), some (vR a3), some (vR a4), some (vI a5), none, none, none, none, none] []
  unfold f_Paint_perform at h
  refine x_aload_n (pc := 0) d_Paint_perform_0 rfl ?_
  refine x_aload_n (pc := 1) d_Paint_perform_1 rfl ?_
  obtain ⟨v1, e2, h⟩ := Option.bind_eq_some_iff.mp h
  refine c_getI (pc := 2) d_Paint_perform_2 l_Paint_9 e2 ?_
  refine x_if_eq (tgt := 23) (pc := 5) d_Paint_perform_5 (by decide) (fun c3 => ?_) (fun c3 => ?_)
  · rw [if_pos c3] at h
    exact x_wk (L' := [none, some (vR a1), some (vR a2), some (vR a3), some (vR a4), none, none, none, none, none, none]) ⟨Or.inl rfl, Or.inr rfl, Or.inr rfl, Or.inr rfl, Or.inr rfl, Or.inl rfl, Or.inl rfl, Or.inl rfl, Or.inl rfl, Or.inl rfl, Or.inl rfl, trivial⟩ (w_Paint_perform_b23 hQ a1 a2 a3 a4 a1 u h)
  · rw [if_neg c3] at h
    refine x_aload_n (pc := 8) d_Paint_perform_8 rfl ?_
    obtain ⟨c4, h⟩ := ite_some h
    obtain ⟨v5, e6, h⟩ := Option.bind_eq_some_iff.mp h
    refine c_invv (c := 2) (d := d + 7) (av := []) (st := [vR a1]) (Q' := fun r h' => r = .inl (some (vI v5)) ∧ h' = u) (pc := 9) d_Paint_perform_9 cv_Paint_15 y_Slot_isNumber c4 rfl (Nat.le_of_ble_eq_true rfl) (Nat.le_of_ble_eq_true rfl) (w_Slot_isNumber (d := d + 7) (Q := fun r h' => r = .inl (some (vI v5)) ∧ h' = u) ⟨rfl, rfl⟩ a3 e6) (fun v h' z => ?_) (fun a h' z => nomatch z.1)
    obtain ⟨z1, z2⟩ := z
    subst h'
    cases z1
    show xW sc m_Paint_perform (d + 8) Q (u) 12 [some (vR a0), some (vR a1), some (vR a2), some (vR a3), some (vR a4), some (vI a5), none, none, none, none, none] [vI v5, vR a1]
    refine x_if_eq (tgt := 27) (pc := 12) d_Paint_perform_12 (by decide) (fun c7 => ?_) (fun c7 => ?_)
    · rw [if_pos c7] at h
      exact x_wk (L' := [none, some (vR a1), some (vR a2), some (vR a3), some (vR a4), none, none, none, none, none, none]) ⟨Or.inl rfl, Or.inr rfl, Or.inr rfl, Or.inr rfl, Or.inr rfl, Or.inl rfl, Or.inl rfl, Or.inl rfl, Or.inl rfl, Or.inl rfl, Or.inl rfl, trivial⟩ (w_Paint_perform_b27 hQ a1 a2 a3 a4 a1 u h)
    · rw [if_neg c7] at h
      refine x_aload (pc := 15) d_Paint_perform_15 rfl ?_
      obtain ⟨c8, h⟩ := ite_some h
      obtain ⟨v9, e10, h⟩ := Option.bind_eq_some_iff.mp h
      refine c_invv (c := 2) (d := d + 7) (av := []) (st := [vR a1]) (Q' := fun r h' => r = .inl (some (vI v9)) ∧ h' = u) (pc := 17) d_Paint_perform_17 cv_Paint_15 y_Slot_isNumber c8 rfl (Nat.le_of_ble_eq_true rfl) (Nat.le_of_ble_eq_true rfl) (w_Slot_isNumber (d := d + 7) (Q := fun r h' => r = .inl (some (vI v9)) ∧ h' = u) ⟨rfl, rfl⟩ a4 e10) (fun v h' z => ?_) (fun a h' z => nomatch z.1)
      obtain ⟨z1, z2⟩ := z
      subst h'
      cases z1
      show xW sc m_Paint_perform (d + 8) Q (u) 20 [some (vR a0), some (vR a1), some (vR a2), some (vR a3), some (vR a4), some (vI a5), none, none, none, none, none] [vI v9, vR a1]
      refine x_if_eq (tgt := 27) (pc := 20) d_Paint_perform_20 (by decide) (fun c11 => ?_) (fun c11 => ?_)
      · rw [if_pos c11] at h
        exact x_wk (L' := [none, some (vR a1), some (vR a2), some (vR a3), some (vR a4), none, none, none, none, none, none]) ⟨Or.inl rfl, Or.inr rfl, Or.inr rfl, Or.inr rfl, Or.inr rfl, Or.inl rfl, Or.inl rfl, Or.inl rfl, Or.inl rfl, Or.inl rfl, Or.inl rfl, trivial⟩ (w_Paint_perform_b27 hQ a1 a2 a3 a4 a1 u h)
      · rw [if_neg c11] at h
        exact x_wk (L' := [none, some (vR a1), some (vR a2), some (vR a3), some (vR a4), none, none, none, none, none, none]) ⟨Or.inl rfl, Or.inr rfl, Or.inr rfl, Or.inr rfl, Or.inr rfl, Or.inl rfl, Or.inl rfl, Or.inl rfl, Or.inl rfl, Or.inl rfl, Or.inl rfl, trivial⟩ (w_Paint_perform_b23 hQ a1 a2 a3 a4 a1 u h)
def f_Stacks_copy_b73 (sc : xSc)  : Nat → Option Nat → Int32 → Int32 → xH → Option ((Unit ⊕ Nat) × xH)
  | 0, _, _, _, _ => none
  | n + 1, l0, l2, l3, u => (if l2 ≤ l3 then some (.inl (), u) else (if xis sc u 0 l0 = true then (f_P_at sc u l0 (l2 - (1 : Int32))).bind fun v3 => (if xis sc u 0 l0 = true then tB (f_P_push sc u l0 v3) (fun v7 u6 => (f_Stacks_copy_b73 sc n) l0 l2 (l3 + Int32.ofInt 1) u6) (fun a9 u10 => some (.inr a9, u10)) else none) else none))
theorem w_Stacks_copy_b73 {sc : xSc} {d : Nat} {Q : xR → xH → Prop} {oZ : Unit ⊕ Nat} {hZ : xH}  (hQ : Q (cvU oZ) hZ) : ∀ (n : Nat) (l0 : Option Nat) (l2 : Int32) (l3 : Int32) (u : xH), f_Stacks_copy_b73 sc  n l0 l2 l3 u = some (oZ, hZ) → xW sc m_Stacks_copy (d + 9) Q (u) 73 [some (vR l0), none, some (vI l2), some (vI l3)] [] := by
  intro n
  induction n with
  | zero =>
    intro l0 l2 l3 u h
    cases h
  | succ n hk73 =>
    intro l0 l2 l3 u h
    unfold f_Stacks_copy_b73 at h
    refine x_iload_n (pc := 73) d_Stacks_copy_73 rfl ?_
    refine x_iload_n (pc := 74) d_Stacks_copy_74 rfl ?_
    refine x_icmp_ge (tgt := 95) (pc := 75) d_Stacks_copy_75 (by decide) (fun c1 => ?_) (fun c1 => ?_)
    · rw [if_pos c1] at h
      cases h
      exact x_vret (pc := 95) d_Stacks_copy_95 rfl hQ
    · rw [if_neg c1] at h
      refine x_aload_n (pc := 78) d_Stacks_copy_78 rfl ?_
      refine x_aload_n (pc := 79) d_Stacks_copy_79 rfl ?_
      refine x_iload_n (pc := 80) d_Stacks_copy_80 rfl ?_
      refine x_iconst (v := (1 : Int32)) (pc := 81) d_Stacks_copy_81 (by decide) ?_
      refine x_isub (pc := 82) d_Stacks_copy_82 ?_
      obtain ⟨c2, h⟩ := ite_some h
      obtain ⟨v3, e4, h⟩ := Option.bind_eq_some_iff.mp h
      refine c_invv (c := 0) (d := d + 8) (av := [vI (l2 - (1 : Int32))]) (st := [vR l0]) (Q' := fun r h' => r = .inl (some (vR v3)) ∧ h' = u) (pc := 83) d_Stacks_copy_83 cv_Stacks_56 y_P_at c2 rfl (Nat.le_of_ble_eq_true rfl) (Nat.le_of_ble_eq_true rfl) (w_P_at (d := d + 8) (Q := fun r h' => r = .inl (some (vR v3)) ∧ h' = u) ⟨rfl, rfl⟩ l0 (l2 - (1 : Int32)) e4) (fun v h' z => ?_) (fun a h' z => nomatch z.1)
      obtain ⟨z1, z2⟩ := z
      subst h'
      cases z1
      show xW sc m_Stacks_copy (d + 9) Q (u) 86 [some (vR l0), none, some (vI l2), some (vI l3)] [vR v3, vR l0]
      obtain ⟨c5, h⟩ := ite_some h
      rcases tB_s h with ⟨a9, u10, e8, h⟩ | ⟨v7, u6, e8, h⟩
      · refine c_invv (c := 0) (d := d + 8) (av := [vR v3]) (st := []) (Q' := fun r h' => r = .inr a9 ∧ h' = u10) (pc := 86) d_Stacks_copy_86 cv_Stacks_23 y_P_push c5 rfl (Nat.le_of_ble_eq_true rfl) (Nat.le_of_ble_eq_true rfl) (w_P_push (d := d + 0) (Q := fun r h' => r = .inr a9 ∧ h' = u10) ⟨rfl, rfl⟩ u l0 v3 e8) (fun v h' z => nomatch z.1) (fun a h' z => ?_)
        obtain ⟨z1, z2⟩ := z
        subst h'
        cases z1
        cases h
        exact x_thOut (xno rfl) hQ
      refine c_invv (c := 0) (d := d + 8) (av := [vR v3]) (st := []) (Q' := fun r h' => r = .inl none ∧ h' = u6) (pc := 86) d_Stacks_copy_86 cv_Stacks_23 y_P_push c5 rfl (Nat.le_of_ble_eq_true rfl) (Nat.le_of_ble_eq_true rfl) (w_P_push (d := d + 0) (Q := fun r h' => r = .inl none ∧ h' = u6) ⟨rfl, rfl⟩ u l0 v3 e8) (fun v h' z => ?_) (fun a h' z => nomatch z.1)
      obtain ⟨z1, z2⟩ := z
      subst h'
      cases z1
      show xW sc m_Stacks_copy (d + 9) Q (u6) 89 [some (vR l0), none, some (vI l2), some (vI l3)] []
      refine x_iinc (pc := 89) d_Stacks_copy_89 rfl (by decide) ?_
      show xW sc m_Stacks_copy (d + 9) Q (u6) 92 [some (vR l0), none, some (vI l2), some (vI (l3 + Int32.ofInt 1))] []
      refine x_goto (tgt := 73) (pc := 92) d_Stacks_copy_92 (by decide) ?_
      exact hk73 l0 l2 (l3 + Int32.ofInt 1) u6 h
def f_Stacks_copy_b57 (sc : xSc)  (l0 : Option Nat) (l2 : Int32) (t0 : Int32) (t1 : Option Nat) (u : xH) : Option ((Unit ⊕ Nat) × xH) := (if xis sc u 0 t1 = true then tB (f_P_need sc u t1 t0 (2 : Int32)) (fun v3 u2 => (gI sc u2 0 9 l0).bind fun v7 => (pV u2 0 9 l0 (vI (v7 - (1 : Int32)))).bind fun u9 => f_Stacks_copy_b73 sc mF l0 l2 (0 : Int32) u9) (fun a5 u6 => some (.inr a5, u6)) else none)
theorem w_Stacks_copy_b57 {sc : xSc} {d : Nat} {Q : xR → xH → Prop} {oZ : Unit ⊕ Nat} {hZ : xH}  (hQ : Q (cvU oZ) hZ) (l0 : Option Nat) (l2 : Int32) (t0 : Int32) (t1 : Option Nat) (u : xH) (h : f_Stacks_copy_b57 sc  l0 l2 t0 t1 u = some (oZ, hZ)) : xW sc m_Stacks_copy (d + 9) Q (u) 57 [some (vR l0), none, some (vI l2), none] [vI t0, vR t1] := by
  unfold f_Stacks_copy_b57 at h
  refine x_iconst (v := (2 : Int32)) (pc := 57) d_Stacks_copy_57 (by decide) ?_
  obtain ⟨c1, h⟩ := ite_some h
  rcases tB_s h with ⟨a5, u6, e4, h⟩ | ⟨v3, u2, e4, h⟩
  · refine c_invv (c := 0) (d := d + 8) (av := [vI t0, vI (2 : Int32)]) (st := []) (Q' := fun r h' => r = .inr a5 ∧ h' = u6) (pc := 58) d_Stacks_copy_58 cv_Stacks_52 y_P_need c1 rfl (Nat.le_of_ble_eq_true rfl) (Nat.le_of_ble_eq_true rfl) (w_P_need (d := d + 2) (Q := fun r h' => r = .inr a5 ∧ h' = u6) ⟨rfl, rfl⟩ u t1 t0 (2 : Int32) e4) (fun v h' z => nomatch z.1) (fun a h' z => ?_)
    obtain ⟨z1, z2⟩ := z
    subst h'
    cases z1
    cases h
    exact x_thOut (xno rfl) hQ
  refine c_invv (c := 0) (d := d + 8) (av := [vI t0, vI (2 : Int32)]) (st := []) (Q' := fun r h' => r = .inl none ∧ h' = u2) (pc := 58) d_Stacks_copy_58 cv_Stacks_52 y_P_need c1 rfl (Nat.le_of_ble_eq_true rfl) (Nat.le_of_ble_eq_true rfl) (w_P_need (d := d + 2) (Q := fun r h' => r = .inl none ∧ h' = u2) ⟨rfl, rfl⟩ u t1 t0 (2 : Int32) e4) (fun v h' z => ?_) (fun a h' z => nomatch z.1)
  obtain ⟨z1, z2⟩ := z
  subst h'
  cases z1
  show xW sc m_Stacks_copy (d + 9) Q (u2) 61 [some (vR l0), none, some (vI l2), none] []
  refine x_aload_n (pc := 61) d_Stacks_copy_61 rfl ?_
  refine x_dup (pc := 62) d_Stacks_copy_62 rfl ?_
  obtain ⟨v7, e8, h⟩ := Option.bind_eq_some_iff.mp h
  refine c_getI (pc := 63) d_Stacks_copy_63 l_Stacks_15 e8 ?_
  refine x_iconst (v := (1 : Int32)) (pc := 66) d_Stacks_copy_66 (by decide) ?_
  refine x_isub (pc := 67) d_Stacks_copy_67 ?_
  obtain ⟨u9, e10, h⟩ := Option.bind_eq_some_iff.mp h
  refine c_putf (pc := 68) d_Stacks_copy_68 l_Stacks_15 fp_0_9 (xfit_int) e10 ?_
  refine x_iconst (v := (0 : Int32)) (pc := 71) d_Stacks_copy_71 (by decide) ?_
  refine x_istore_n (pc := 72) d_Stacks_copy_72 (by decide) ?_
  show xW sc m_Stacks_copy (d + 9) Q (u9) 73 [some (vR l0), none, some (vI l2), some (vI (0 : Int32))] []
  exact w_Stacks_copy_b73 hQ mF l0 l2 (0 : Int32) u9 h
def f_Stacks_copy_b34 (sc : xSc)  (l0 : Option Nat) (l2 : Int32) (t0 : Int32) (t1 : Option Nat) (u : xH) : Option ((Unit ⊕ Nat) × xH) := (if xis sc u 0 t1 = true then tB (f_P_need sc u t1 t0 (4 : Int32)) (fun v3 u2 => (gI sc u2 0 9 l0).bind fun v7 => (if (40 : Int32) < ((v7 - (1 : Int32)) + l2) then f_Stacks_copy_b57 sc l0 l2 (0 : Int32) l0 u2 else f_Stacks_copy_b57 sc l0 l2 (1 : Int32) l0 u2)) (fun a5 u6 => some (.inr a5, u6)) else none)
theorem w_Stacks_copy_b34 {sc : xSc} {d : Nat} {Q : xR → xH → Prop} {oZ : Unit ⊕ Nat} {hZ : xH}  (hQ : Q (cvU oZ) hZ) (l0 : Option Nat) (l2 : Int32) (t0 : Int32) (t1 : Option Nat) (u : xH) (h : f_Stacks_copy_b34 sc  l0 l2 t0 t1 u = some (oZ, hZ)) : xW sc m_Stacks_copy (d + 9) Q (u) 34 [some (vR l0), none, some (vI l2), none] [vI t0, vR t1] := by
  unfold f_Stacks_copy_b34 at h
  refine x_iconst (v := (4 : Int32)) (pc := 34) d_Stacks_copy_34 (by decide) ?_
  obtain ⟨c1, h⟩ := ite_some h
  rcases tB_s h with ⟨a5, u6, e4, h⟩ | ⟨v3, u2, e4, h⟩
  · refine c_invv (c := 0) (d := d + 8) (av := [vI t0, vI (4 : Int32)]) (st := []) (Q' := fun r h' => r = .inr a5 ∧ h' = u6) (pc := 35) d_Stacks_copy_35 cv_Stacks_52 y_P_need c1 rfl (Nat.le_of_ble_eq_true rfl) (Nat.le_of_ble_eq_true rfl) (w_P_need (d := d + 2) (Q := fun r h' => r = .inr a5 ∧ h' = u6) ⟨rfl, rfl⟩ u t1 t0 (4 : Int32) e4) (fun v h' z => nomatch z.1) (fun a h' z => ?_)
    obtain ⟨z1, z2⟩ := z
    subst h'
    cases z1
    cases h
    exact x_thOut (xno rfl) hQ
  refine c_invv (c := 0) (d := d + 8) (av := [vI t0, vI (4 : Int32)]) (st := []) (Q' := fun r h' => r = .inl none ∧ h' = u2) (pc := 35) d_Stacks_copy_35 cv_Stacks_52 y_P_need c1 rfl (Nat.le_of_ble_eq_true rfl) (Nat.le_of_ble_eq_true rfl) (w_P_need (d := d + 2) (Q := fun r h' => r = .inl none ∧ h' = u2) ⟨rfl, rfl⟩ u t1 t0 (4 : Int32) e4) (fun v h' z => ?_) (fun a h' z => nomatch z.1)
  obtain ⟨z1, z2⟩ := z
  subst h'
  cases z1
  show xW sc m_Stacks_copy (d + 9) Q (u2) 38 [some (vR l0), none, some (vI l2), none] []
  refine x_aload_n (pc := 38) d_Stacks_copy_38 rfl ?_
  refine x_aload_n (pc := 39) d_Stacks_copy_39 rfl ?_
  obtain ⟨v7, e8, h⟩ := Option.bind_eq_some_iff.mp h
  refine c_getI (pc := 40) d_Stacks_copy_40 l_Stacks_15 e8 ?_
  refine x_iconst (v := (1 : Int32)) (pc := 43) d_Stacks_copy_43 (by decide) ?_
  refine x_isub (pc := 44) d_Stacks_copy_44 ?_
  refine x_iload_n (pc := 45) d_Stacks_copy_45 rfl ?_
  refine x_iadd (pc := 46) d_Stacks_copy_46 ?_
  refine x_bipush (v := (40 : Int32)) (pc := 47) d_Stacks_copy_47 (by decide) ?_
  refine x_icmp_gt (tgt := 56) (pc := 49) d_Stacks_copy_49 (by decide) (fun c9 => ?_) (fun c9 => ?_)
  · rw [if_pos c9] at h
    refine x_iconst (v := (0 : Int32)) (pc := 56) d_Stacks_copy_56 (by decide) ?_
    exact w_Stacks_copy_b57 hQ l0 l2 (0 : Int32) l0 u2 h
  · rw [if_neg c9] at h
    refine x_iconst (v := (1 : Int32)) (pc := 52) d_Stacks_copy_52 (by decide) ?_
    refine x_goto (tgt := 57) (pc := 53) d_Stacks_copy_53 (by decide) ?_
    exact w_Stacks_copy_b57 hQ l0 l2 (1 : Int32) l0 u2 h
def f_Stacks_copy_b33 (sc : xSc)  (l0 : Option Nat) (l2 : Int32) (t0 : Option Nat) (u : xH) : Option ((Unit ⊕ Nat) × xH) := f_Stacks_copy_b34 sc l0 l2 (0 : Int32) t0 u
theorem w_Stacks_copy_b33 {sc : xSc} {d : Nat} {Q : xR → xH → Prop} {oZ : Unit ⊕ Nat} {hZ : xH}  (hQ : Q (cvU oZ) hZ) (l0 : Option Nat) (l2 : Int32) (t0 : Option Nat) (u : xH) (h : f_Stacks_copy_b33 sc  l0 l2 t0 u = some (oZ, hZ)) : xW sc m_Stacks_copy (d + 9) Q (u) 33 [some (vR l0), none, some (vI l2), none] [vR t0] := by
  unfold f_Stacks_copy_b33 at h
  refine x_iconst (v := (0 : Int32)) (pc := 33) d_Stacks_copy_33 (by decide) ?_
  exact w_Stacks_copy_b34 hQ l0 l2 (0 : Int32) t0 u h
def f_Stacks_copy (sc : xSc) (u : xH) (a1 : Option Nat) (a2 : Option Nat) : Option ((Unit ⊕ Nat) × xH) := (if xis sc u 2 a2 = true then (f_Slot_is sc u a2 (some 72)).bind fun v2 => (if xis sc u 0 a1 = true then tB (f_P_type sc u a1 v2) (fun v6 u5 => (gI sc u5 2 2 a2).bind fun v10 => (if v10 < 0 then f_Stacks_copy_b33 sc a1 v10 a1 u5 else (gI sc u5 0 9 a1).bind fun v13 => (if v13 ≤ v10 then f_Stacks_copy_b33 sc a1 v10 a1 u5 else f_Stacks_copy_b34 sc a1 v10 (1 : Int32) a1 u5))) (fun a8 u9 => some (.inr a8, u9)) else none) else none)
theorem w_Stacks_copy {sc : xSc} {d : Nat} {Q : xR → xH → Prop} {oZ : Unit ⊕ Nat} {hZ : xH} (hQ : Q (cvU oZ) hZ) (u : xH) (a1 : Option Nat) (a2 : Option Nat) (h : f_Stacks_copy sc u a1 a2 = some (oZ, hZ)) : xW sc m_Stacks_copy (d + 9) Q (u) 0 (xent [vR a1, vR a2] m_Stacks_copy.2.2.1) [] := by
  show xW sc m_Stacks_copy (d + 9) Q (u) 0 [some (vR a1), some (vR a2), none, none] []
  unfold f_Stacks_copy at h
  refine x_aload_n (pc := 0) d_Stacks_copy_0 rfl ?_
  refine x_aload_n (pc := 1) d_Stacks_copy_1 rfl ?_
  refine x_gets (v := vR (some 72)) (pc := 2) d_Stacks_copy_2 sl_Stacks_33 ?_
  obtain ⟨c1, h⟩ := ite_some h
  obtain ⟨v2, e3, h⟩ := Option.bind_eq_some_iff.mp h
  refine c_invv (c := 2) (d := d + 8) (av := [vR (some 72)]) (st := [vR a1]) (Q' := fun r h' => r = .inl (some (vI v2)) ∧ h' = u) (pc := 5) d_Stacks_copy_5 cv_Stacks_39 y_Slot_is c1 rfl (Nat.le_of_ble_eq_true rfl) (Nat.le_of_ble_eq_true rfl) (w_Slot_is (d := d + 8) (Q := fun r h' => r = .inl (some (vI v2)) ∧ h' = u) ⟨rfl, rfl⟩ a2 (some 72) e3) (fun v h' z => ?_) (fun a h' z => nomatch z.1)
  obtain ⟨z1, z2⟩ := z
  subst h'
  cases z1
  show xW sc m_Stacks_copy (d + 9) Q (u) 8 [some (vR a1), some (vR a2), none, none] [vI v2, vR a1]
  obtain ⟨c4, h⟩ := ite_some h
  rcases tB_s h with ⟨a8, u9, e7, h⟩ | ⟨v6, u5, e7, h⟩
  · refine c_invv (c := 0) (d := d + 8) (av := [vI v2]) (st := []) (Q' := fun r h' => r = .inr a8 ∧ h' = u9) (pc := 8) d_Stacks_copy_8 cv_Stacks_45 y_P_type c4 rfl (Nat.le_of_ble_eq_true rfl) (Nat.le_of_ble_eq_true rfl) (w_P_type (d := d + 1) (Q := fun r h' => r = .inr a8 ∧ h' = u9) ⟨rfl, rfl⟩ u a1 v2 e7) (fun v h' z => nomatch z.1) (fun a h' z => ?_)
    obtain ⟨z1, z2⟩ := z
    subst h'
    cases z1
    cases h
    exact x_thOut (xno rfl) hQ
  refine c_invv (c := 0) (d := d + 8) (av := [vI v2]) (st := []) (Q' := fun r h' => r = .inl none ∧ h' = u5) (pc := 8) d_Stacks_copy_8 cv_Stacks_45 y_P_type c4 rfl (Nat.le_of_ble_eq_true rfl) (Nat.le_of_ble_eq_true rfl) (w_P_type (d := d + 1) (Q := fun r h' => r = .inl none ∧ h' = u5) ⟨rfl, rfl⟩ u a1 v2 e7) (fun v h' z => ?_) (fun a h' z => nomatch z.1)
  obtain ⟨z1, z2⟩ := z
  subst h'
  cases z1
  show xW sc m_Stacks_copy (d + 9) Q (u5) 11 [some (vR a1), some (vR a2), none, none] []
  refine x_aload_n (pc := 11) d_Stacks_copy_11 rfl ?_
  obtain ⟨v10, e11, h⟩ := Option.bind_eq_some_iff.mp h
  refine c_getI (pc := 12) d_Stacks_copy_12 l_Stacks_49 e11 ?_
  refine x_istore_n (pc := 15) d_Stacks_copy_15 (by decide) ?_
  show xW sc m_Stacks_copy (d + 9) Q (u5) 16 [some (vR a1), some (vR a2), some (vI v10), none] []
  refine x_aload_n (pc := 16) d_Stacks_copy_16 rfl ?_
  refine x_iload_n (pc := 17) d_Stacks_copy_17 rfl ?_
  refine x_if_lt (tgt := 33) (pc := 18) d_Stacks_copy_18 (by decide) (fun c12 => ?_) (fun c12 => ?_)
  · rw [if_pos c12] at h
    exact x_wk (L' := [some (vR a1), none, some (vI v10), none]) ⟨Or.inr rfl, Or.inl rfl, Or.inr rfl, Or.inl rfl, trivial⟩ (w_Stacks_copy_b33 hQ a1 v10 a1 u5 h)
  · rw [if_neg c12] at h
    refine x_iload_n (pc := 21) d_Stacks_copy_21 rfl ?_
    refine x_aload_n (pc := 22) d_Stacks_copy_22 rfl ?_
    obtain ⟨v13, e14, h⟩ := Option.bind_eq_some_iff.mp h
    refine c_getI (pc := 23) d_Stacks_copy_23 l_Stacks_15 e14 ?_
    refine x_icmp_ge (tgt := 33) (pc := 26) d_Stacks_copy_26 (by decide) (fun c15 => ?_) (fun c15 => ?_)
    · rw [if_pos c15] at h
      exact x_wk (L' := [some (vR a1), none, some (vI v10), none]) ⟨Or.inr rfl, Or.inl rfl, Or.inr rfl, Or.inl rfl, trivial⟩ (w_Stacks_copy_b33 hQ a1 v10 a1 u5 h)
    · rw [if_neg c15] at h
      refine x_iconst (v := (1 : Int32)) (pc := 29) d_Stacks_copy_29 (by decide) ?_
      refine x_goto (tgt := 34) (pc := 30) d_Stacks_copy_30 (by decide) ?_
      exact x_wk (L' := [some (vR a1), none, some (vI v10), none]) ⟨Or.inr rfl, Or.inl rfl, Or.inr rfl, Or.inl rfl, trivial⟩ (w_Stacks_copy_b34 hQ a1 v10 (1 : Int32) a1 u5 h)
def f_Stacks_roll_b101 (sc : xSc)  (l0 : Option Nat) (l3 : Int32) (t0 : Int32) (u : xH) : Option ((Unit ⊕ Nat) × xH) := (gI sc u 0 9 l0).bind fun v1 => (if xis sc u 0 l0 = true then (f_P_about sc u l0 l3 (v1 - (1 : Int32))).bind fun u4 => (if xis sc u4 0 l0 = true then (f_P_about sc u4 l0 l3 ((l3 + t0) - (1 : Int32))).bind fun u7 => (gI sc u7 0 9 l0).bind fun v9 => (if xis sc u7 0 l0 = true then (f_P_about sc u7 l0 (l3 + t0) (v9 - (1 : Int32))).bind fun u12 => some (.inl (), u12) else none) else none) else none)
theorem w_Stacks_roll_b101 {sc : xSc} {d : Nat} {Q : xR → xH → Prop} {oZ : Unit ⊕ Nat} {hZ : xH}  (hQ : Q (cvU oZ) hZ) (l0 : Option Nat) (l3 : Int32) (t0 : Int32) (u : xH) (h : f_Stacks_roll_b101 sc  l0 l3 t0 u = some (oZ, hZ)) : xW sc m_Stacks_roll (d + 8) Q (u) 101 [some (vR l0), none, none, some (vI l3), none] [vI t0] := by
  unfold f_Stacks_roll_b101 at h
  refine x_istore (pc := 101) d_Stacks_roll_101 (by decide) ?_
  show xW sc m_Stacks_roll (d + 8) Q (u) 103 [some (vR l0), none, none, some (vI l3), some (vI t0)] []
  refine x_aload_n (pc := 103) d_Stacks_roll_103 rfl ?_
  refine x_iload_n (pc := 104) d_Stacks_roll_104 rfl ?_
  refine x_aload_n (pc := 105) d_Stacks_roll_105 rfl ?_
  obtain ⟨v1, e2, h⟩ := Option.bind_eq_some_iff.mp h
  refine c_getI (pc := 106) d_Stacks_roll_106 l_Stacks_15 e2 ?_
  refine x_iconst (v := (1 : Int32)) (pc := 109) d_Stacks_roll_109 (by decide) ?_
  refine x_isub (pc := 110) d_Stacks_roll_110 ?_
  obtain ⟨c3, h⟩ := ite_some h
  obtain ⟨u4, e5, h⟩ := Option.bind_eq_some_iff.mp h
  refine c_invv (c := 0) (d := d + 7) (av := [vI l3, vI (v1 - (1 : Int32))]) (st := []) (Q' := fun r h' => r = .inl none ∧ h' = u4) (pc := 111) d_Stacks_roll_111 cv_Stacks_87 y_P_about c3 rfl (Nat.le_of_ble_eq_true rfl) (Nat.le_of_ble_eq_true rfl) (w_P_about (d := d + 6) (Q := fun r h' => r = .inl none ∧ h' = u4) ⟨rfl, rfl⟩ u l0 l3 (v1 - (1 : Int32)) e5) (fun v h' z => ?_) (fun a h' z => nomatch z.1)
  obtain ⟨z1, z2⟩ := z
  subst h'
  cases z1
  show xW sc m_Stacks_roll (d + 8) Q (u4) 114 [some (vR l0), none, none, some (vI l3), some (vI t0)] []
  refine x_aload_n (pc := 114) d_Stacks_roll_114 rfl ?_
  refine x_iload_n (pc := 115) d_Stacks_roll_115 rfl ?_
  refine x_iload_n (pc := 116) d_Stacks_roll_116 rfl ?_
  refine x_iload (pc := 117) d_Stacks_roll_117 rfl ?_
  refine x_iadd (pc := 119) d_Stacks_roll_119 ?_
  refine x_iconst (v := (1 : Int32)) (pc := 120) d_Stacks_roll_120 (by decide) ?_
  refine x_isub (pc := 121) d_Stacks_roll_121 ?_
  obtain ⟨c6, h⟩ := ite_some h
  obtain ⟨u7, e8, h⟩ := Option.bind_eq_some_iff.mp h
  refine c_invv (c := 0) (d := d + 7) (av := [vI l3, vI ((l3 + t0) - (1 : Int32))]) (st := []) (Q' := fun r h' => r = .inl none ∧ h' = u7) (pc := 122) d_Stacks_roll_122 cv_Stacks_87 y_P_about c6 rfl (Nat.le_of_ble_eq_true rfl) (Nat.le_of_ble_eq_true rfl) (w_P_about (d := d + 6) (Q := fun r h' => r = .inl none ∧ h' = u7) ⟨rfl, rfl⟩ u4 l0 l3 ((l3 + t0) - (1 : Int32)) e8) (fun v h' z => ?_) (fun a h' z => nomatch z.1)
  obtain ⟨z1, z2⟩ := z
  subst h'
  cases z1
  show xW sc m_Stacks_roll (d + 8) Q (u7) 125 [some (vR l0), none, none, some (vI l3), some (vI t0)] []
  refine x_aload_n (pc := 125) d_Stacks_roll_125 rfl ?_
  refine x_iload_n (pc := 126) d_Stacks_roll_126 rfl ?_
  refine x_iload (pc := 127) d_Stacks_roll_127 rfl ?_
  refine x_iadd (pc := 129) d_Stacks_roll_129 ?_
  refine x_aload_n (pc := 130) d_Stacks_roll_130 rfl ?_
  obtain ⟨v9, e10, h⟩ := Option.bind_eq_some_iff.mp h
  refine c_getI (pc := 131) d_Stacks_roll_131 l_Stacks_15 e10 ?_
  refine x_iconst (v := (1 : Int32)) (pc := 134) d_Stacks_roll_134 (by decide) ?_
  refine x_isub (pc := 135) d_Stacks_roll_135 ?_
  obtain ⟨c11, h⟩ := ite_some h
  obtain ⟨u12, e13, h⟩ := Option.bind_eq_some_iff.mp h
  refine c_invv (c := 0) (d := d + 7) (av := [vI (l3 + t0), vI (v9 - (1 : Int32))]) (st := []) (Q' := fun r h' => r = .inl none ∧ h' = u12) (pc := 136) d_Stacks_roll_136 cv_Stacks_87 y_P_about c11 rfl (Nat.le_of_ble_eq_true rfl) (Nat.le_of_ble_eq_true rfl) (w_P_about (d := d + 6) (Q := fun r h' => r = .inl none ∧ h' = u12) ⟨rfl, rfl⟩ u7 l0 (l3 + t0) (v9 - (1 : Int32)) e13) (fun v h' z => ?_) (fun a h' z => nomatch z.1)
  obtain ⟨z1, z2⟩ := z
  subst h'
  cases z1
  show xW sc m_Stacks_roll (d + 8) Q (u12) 139 [some (vR l0), none, none, some (vI l3), some (vI t0)] []
  cases h
  exact x_vret (pc := 139) d_Stacks_roll_139 rfl hQ
def f_Stacks_roll_b55 (sc : xSc)  (l0 : Option Nat) (l1 : Option Nat) (l2 : Option Nat) (t0 : Int32) (t1 : Option Nat) (u : xH) : Option ((Unit ⊕ Nat) × xH) := (if xis sc u 0 t1 = true then tB (f_P_need sc u t1 t0 (4 : Int32)) (fun v3 u2 => (gI sc u2 0 9 l0).bind fun v7 => (pV u2 0 9 l0 (vI (v7 - (2 : Int32)))).bind fun u9 => (gI sc u9 0 9 l0).bind fun v11 => (gI sc u9 2 2 l1).bind fun v13 => (gI sc u9 2 2 l1).bind fun v15 => (if v15 = 0 then f_Stacks_roll_b101 sc l0 (v11 - v13) (0 : Int32) u9 else (gI sc u9 2 2 l2).bind fun v18 => (gI sc u9 2 2 l1).bind fun v20 => (f_Math_floorMod v18 v20).bind fun v22 => f_Stacks_roll_b101 sc l0 (v11 - v13) v22 u9)) (fun a5 u6 => some (.inr a5, u6)) else none)
theorem w_Stacks_roll_b55 {sc : xSc} {d : Nat} {Q : xR → xH → Prop} {oZ : Unit ⊕ Nat} {hZ : xH}  (hQ : Q (cvU oZ) hZ) (l0 : Option Nat) (l1 : Option Nat) (l2 : Option Nat) (t0 : Int32) (t1 : Option Nat) (u : xH) (h : f_Stacks_roll_b55 sc  l0 l1 l2 t0 t1 u = some (oZ, hZ)) : xW sc m_Stacks_roll (d + 8) Q (u) 55 [some (vR l0), some (vR l1), some (vR l2), none, none] [vI t0, vR t1] := by
  unfold f_Stacks_roll_b55 at h
  refine x_iconst (v := (4 : Int32)) (pc := 55) d_Stacks_roll_55 (by decide) ?_
  obtain ⟨c1, h⟩ := ite_some h
  rcases tB_s h with ⟨a5, u6, e4, h⟩ | ⟨v3, u2, e4, h⟩
  · refine c_invv (c := 0) (d := d + 7) (av := [vI t0, vI (4 : Int32)]) (st := []) (Q' := fun r h' => r = .inr a5 ∧ h' = u6) (pc := 56) d_Stacks_roll_56 cv_Stacks_52 y_P_need c1 rfl (Nat.le_of_ble_eq_true rfl) (Nat.le_of_ble_eq_true rfl) (w_P_need (d := d + 1) (Q := fun r h' => r = .inr a5 ∧ h' = u6) ⟨rfl, rfl⟩ u t1 t0 (4 : Int32) e4) (fun v h' z => nomatch z.1) (fun a h' z => ?_)
    obtain ⟨z1, z2⟩ := z
    subst h'
    cases z1
    cases h
    exact x_thOut (xno rfl) hQ
  refine c_invv (c := 0) (d := d + 7) (av := [vI t0, vI (4 : Int32)]) (st := []) (Q' := fun r h' => r = .inl none ∧ h' = u2) (pc := 56) d_Stacks_roll_56 cv_Stacks_52 y_P_need c1 rfl (Nat.le_of_ble_eq_true rfl) (Nat.le_of_ble_eq_true rfl) (w_P_need (d := d + 1) (Q := fun r h' => r = .inl none ∧ h' = u2) ⟨rfl, rfl⟩ u t1 t0 (4 : Int32) e4) (fun v h' z => ?_) (fun a h' z => nomatch z.1)
  obtain ⟨z1, z2⟩ := z
  subst h'
  cases z1
  show xW sc m_Stacks_roll (d + 8) Q (u2) 59 [some (vR l0), some (vR l1), some (vR l2), none, none] []
  refine x_aload_n (pc := 59) d_Stacks_roll_59 rfl ?_
  refine x_dup (pc := 60) d_Stacks_roll_60 rfl ?_
  obtain ⟨v7, e8, h⟩ := Option.bind_eq_some_iff.mp h
  refine c_getI (pc := 61) d_Stacks_roll_61 l_Stacks_15 e8 ?_
  refine x_iconst (v := (2 : Int32)) (pc := 64) d_Stacks_roll_64 (by decide) ?_
  refine x_isub (pc := 65) d_Stacks_roll_65 ?_
  obtain ⟨u9, e10, h⟩ := Option.bind_eq_some_iff.mp h
  refine c_putf (pc := 66) d_Stacks_roll_66 l_Stacks_15 fp_0_9 (xfit_int) e10 ?_
  refine x_aload_n (pc := 69) d_Stacks_roll_69 rfl ?_
  obtain ⟨v11, e12, h⟩ := Option.bind_eq_some_iff.mp h
  refine c_getI (pc := 70) d_Stacks_roll_70 l_Stacks_15 e12 ?_
  refine x_aload_n (pc := 73) d_Stacks_roll_73 rfl ?_
  obtain ⟨v13, e14, h⟩ := Option.bind_eq_some_iff.mp h
  refine c_getI (pc := 74) d_Stacks_roll_74 l_Stacks_49 e14 ?_
  refine x_isub (pc := 77) d_Stacks_roll_77 ?_
  refine x_istore_n (pc := 78) d_Stacks_roll_78 (by decide) ?_
  show xW sc m_Stacks_roll (d + 8) Q (u9) 79 [some (vR l0), some (vR l1), some (vR l2), some (vI (v11 - v13)), none] []
  refine x_aload_n (pc := 79) d_Stacks_roll_79 rfl ?_
  obtain ⟨v15, e16, h⟩ := Option.bind_eq_some_iff.mp h
  refine c_getI (pc := 80) d_Stacks_roll_80 l_Stacks_49 e16 ?_
  refine x_if_ne (tgt := 90) (pc := 83) d_Stacks_roll_83 (by decide) (fun c17 => ?_) (fun c17 => ?_)
  · rw [if_neg c17] at h
    refine x_aload_n (pc := 90) d_Stacks_roll_90 rfl ?_
    obtain ⟨v18, e19, h⟩ := Option.bind_eq_some_iff.mp h
    refine c_getI (pc := 91) d_Stacks_roll_91 l_Stacks_49 e19 ?_
    refine x_aload_n (pc := 94) d_Stacks_roll_94 rfl ?_
    obtain ⟨v20, e21, h⟩ := Option.bind_eq_some_iff.mp h
    refine c_getI (pc := 95) d_Stacks_roll_95 l_Stacks_49 e21 ?_
    obtain ⟨v22, e23, h⟩ := Option.bind_eq_some_iff.mp h
    refine x_invs (d := d + 7) (av := [vI v18, vI v20]) (st := []) (Q' := fun r h' => r = .inl (some (vI v22)) ∧ h' = u9) (pc := 98) d_Stacks_roll_98 cs_Stacks_81 y_Math_floorMod rfl (Nat.le_of_ble_eq_true rfl) (Nat.le_of_ble_eq_true rfl) (w_Math_floorMod (d := d + 7) (Q := fun r h' => r = .inl (some (vI v22)) ∧ h' = u9) (hh := u9) ⟨rfl, rfl⟩ v18 v20 e23) (fun v h' z => ?_) (fun a h' z => nomatch z.1)
    obtain ⟨z1, z2⟩ := z
    subst h'
    cases z1
    show xW sc m_Stacks_roll (d + 8) Q (u9) 101 [some (vR l0), some (vR l1), some (vR l2), some (vI (v11 - v13)), none] [vI v22]
    exact x_wk (L' := [some (vR l0), none, none, some (vI (v11 - v13)), none]) ⟨Or.inr rfl, Or.inl rfl, Or.inl rfl, Or.inr rfl, Or.inl rfl, trivial⟩ (w_Stacks_roll_b101 hQ l0 (v11 - v13) v22 u9 h)
  · rw [if_pos c17] at h
    refine x_iconst (v := (0 : Int32)) (pc := 86) d_Stacks_roll_86 (by decide) ?_
    refine x_goto (tgt := 101) (pc := 87) d_Stacks_roll_87 (by decide) ?_
    exact x_wk (L' := [some (vR l0), none, none, some (vI (v11 - v13)), none]) ⟨Or.inr rfl, Or.inl rfl, Or.inl rfl, Or.inr rfl, Or.inl rfl, trivial⟩ (w_Stacks_roll_b101 hQ l0 (v11 - v13) (0 : Int32) u9 h)
def f_Stacks_roll_b54 (sc : xSc)  (l0 : Option Nat) (l1 : Option Nat) (l2 : Option Nat) (t0 : Option Nat) (u : xH) : Option ((Unit ⊕ Nat) × xH) := f_Stacks_roll_b55 sc l0 l1 l2 (0 : Int32) t0 u
theorem w_Stacks_roll_b54 {sc : xSc} {d : Nat} {Q : xR → xH → Prop} {oZ : Unit ⊕ Nat} {hZ : xH}  (hQ : Q (cvU oZ) hZ) (l0 : Option Nat) (l1 : Option Nat) (l2 : Option Nat) (t0 : Option Nat) (u : xH) (h : f_Stacks_roll_b54 sc  l0 l1 l2 t0 u = some (oZ, hZ)) : xW sc m_Stacks_roll (d + 8) Q (u) 54 [some (vR l0), some (vR l1), some (vR l2), none, none] [vR t0] := by
  unfold f_Stacks_roll_b54 at h
  refine x_iconst (v := (0 : Int32)) (pc := 54) d_Stacks_roll_54 (by decide) ?_
  exact w_Stacks_roll_b55 hQ l0 l1 l2 (0 : Int32) t0 u h
def f_Stacks_roll_b26 (sc : xSc)  (l0 : Option Nat) (l1 : Option Nat) (l2 : Option Nat) (t0 : Int32) (t1 : Option Nat) (u : xH) : Option ((Unit ⊕ Nat) × xH) := (if xis sc u 0 t1 = true then tB (f_P_type sc u t1 t0) (fun v3 u2 => (gI sc u2 2 2 l1).bind fun v7 => (if v7 < 0 then f_Stacks_roll_b54 sc l0 l1 l2 l0 u2 else (gI sc u2 2 2 l1).bind fun v10 => (gI sc u2 0 9 l0).bind fun v12 => (if (v12 - (2 : Int32)) < v10 then f_Stacks_roll_b54 sc l0 l1 l2 l0 u2 else f_Stacks_roll_b55 sc l0 l1 l2 (1 : Int32) l0 u2))) (fun a5 u6 => some (.inr a5, u6)) else none)
theorem w_Stacks_roll_b26 {sc : xSc} {d : Nat} {Q : xR → xH → Prop} {oZ : Unit ⊕ Nat} {hZ : xH}  (hQ : Q (cvU oZ) hZ) (l0 : Option Nat) (l1 : Option Nat) (l2 : Option Nat) (t0 : Int32) (t1 : Option Nat) (u : xH) (h : f_Stacks_roll_b26 sc  l0 l1 l2 t0 t1 u = some (oZ, hZ)) : xW sc m_Stacks_roll (d + 8) Q (u) 26 [some (vR l0), some (vR l1), some (vR l2), none, none] [vI t0, vR t1] := by
  unfold f_Stacks_roll_b26 at h
  obtain ⟨c1, h⟩ := ite_some h
  rcases tB_s h with ⟨a5, u6, e4, h⟩ | ⟨v3, u2, e4, h⟩
  · refine c_invv (c := 0) (d := d + 7) (av := [vI t0]) (st := []) (Q' := fun r h' => r = .inr a5 ∧ h' = u6) (pc := 26) d_Stacks_roll_26 cv_Stacks_45 y_P_type c1 rfl (Nat.le_of_ble_eq_true rfl) (Nat.le_of_ble_eq_true rfl) (w_P_type (d := d + 0) (Q := fun r h' => r = .inr a5 ∧ h' = u6) ⟨rfl, rfl⟩ u t1 t0 e4) (fun v h' z => nomatch z.1) (fun a h' z => ?_)
    obtain ⟨z1, z2⟩ := z
    subst h'
    cases z1
    cases h
    exact x_thOut (xno rfl) hQ
  refine c_invv (c := 0) (d := d + 7) (av := [vI t0]) (st := []) (Q' := fun r h' => r = .inl none ∧ h' = u2) (pc := 26) d_Stacks_roll_26 cv_Stacks_45 y_P_type c1 rfl (Nat.le_of_ble_eq_true rfl) (Nat.le_of_ble_eq_true rfl) (w_P_type (d := d + 0) (Q := fun r h' => r = .inl none ∧ h' = u2) ⟨rfl, rfl⟩ u t1 t0 e4) (fun v h' z => ?_) (fun a h' z => nomatch z.1)
  obtain ⟨z1, z2⟩ := z
  subst h'
  cases z1
  show xW sc m_Stacks_roll (d + 8) Q (u2) 29 [some (vR l0), some (vR l1), some (vR l2), none, none] []
  refine x_aload_n (pc := 29) d_Stacks_roll_29 rfl ?_
  refine x_aload_n (pc := 30) d_Stacks_roll_30 rfl ?_
  obtain ⟨v7, e8, h⟩ := Option.bind_eq_some_iff.mp h
  refine c_getI (pc := 31) d_Stacks_roll_31 l_Stacks_49 e8 ?_
  refine x_if_lt (tgt := 54) (pc := 34) d_Stacks_roll_34 (by decide) (fun c9 => ?_) (fun c9 => ?_)
  · rw [if_pos c9] at h
    exact w_Stacks_roll_b54 hQ l0 l1 l2 l0 u2 h
  · rw [if_neg c9] at h
    refine x_aload_n (pc := 37) d_Stacks_roll_37 rfl ?_
    obtain ⟨v10, e11, h⟩ := Option.bind_eq_some_iff.mp h
    refine c_getI (pc := 38) d_Stacks_roll_38 l_Stacks_49 e11 ?_
    refine x_aload_n (pc := 41) d_Stacks_roll_41 rfl ?_
    obtain ⟨v12, e13, h⟩ := Option.bind_eq_some_iff.mp h
    refine c_getI (pc := 42) d_Stacks_roll_42 l_Stacks_15 e13 ?_
    refine x_iconst (v := (2 : Int32)) (pc := 45) d_Stacks_roll_45 (by decide) ?_
    refine x_isub (pc := 46) d_Stacks_roll_46 ?_
    refine x_icmp_gt (tgt := 54) (pc := 47) d_Stacks_roll_47 (by decide) (fun c14 => ?_) (fun c14 => ?_)
    · rw [if_pos c14] at h
      exact w_Stacks_roll_b54 hQ l0 l1 l2 l0 u2 h
    · rw [if_neg c14] at h
      refine x_iconst (v := (1 : Int32)) (pc := 50) d_Stacks_roll_50 (by decide) ?_
      refine x_goto (tgt := 55) (pc := 51) d_Stacks_roll_51 (by decide) ?_
      exact w_Stacks_roll_b55 hQ l0 l1 l2 (1 : Int32) l0 u2 h
def f_Stacks_roll_b25 (sc : xSc)  (l0 : Option Nat) (l1 : Option Nat) (l2 : Option Nat) (t0 : Option Nat) (u : xH) : Option ((Unit ⊕ Nat) × xH) := f_Stacks_roll_b26 sc l0 l1 l2 (0 : Int32) t0 u
theorem w_Stacks_roll_b25 {sc : xSc} {d : Nat} {Q : xR → xH → Prop} {oZ : Unit ⊕ Nat} {hZ : xH}  (hQ : Q (cvU oZ) hZ) (l0 : Option Nat) (l1 : Option Nat) (l2 : Option Nat) (t0 : Option Nat) (u : xH) (h : f_Stacks_roll_b25 sc  l0 l1 l2 t0 u = some (oZ, hZ)) : xW sc m_Stacks_roll (d + 8) Q (u) 25 [some (vR l0), some (vR l1), some (vR l2), none, none] [vR t0] := by
  unfold f_Stacks_roll_b25 at h
  refine x_iconst (v := (0 : Int32)) (pc := 25) d_Stacks_roll_25 (by decide) ?_
  exact w_Stacks_roll_b26 hQ l0 l1 l2 (0 : Int32) t0 u h
def f_Stacks_roll (sc : xSc) (u : xH) (a1 : Option Nat) (a2 : Option Nat) (a3 : Option Nat) : Option ((Unit ⊕ Nat) × xH) := (if xis sc u 2 a2 = true then (f_Slot_is sc u a2 (some 72)).bind fun v2 => (if v2 = 0 then f_Stacks_roll_b25 sc a1 a2 a3 a1 u else (if xis sc u 2 a3 = true then (f_Slot_is sc u a3 (some 72)).bind fun v6 => (if v6 = 0 then f_Stacks_roll_b25 sc a1 a2 a3 a1 u else f_Stacks_roll_b26 sc a1 a2 a3 (1 : Int32) a1 u) else none)) else none)
theorem w_Stacks_roll {sc : xSc} {d : Nat} {Q : xR → xH → Prop} {oZ : Unit ⊕ Nat} {hZ : xH} (hQ : Q (cvU oZ) hZ) (u : xH) (a1 : Option Nat) (a2 : Option Nat) (a3 : Option Nat) (h : f_Stacks_roll sc u a1 a2 a3 = some (oZ, hZ)) : xW sc m_Stacks_roll (d + 8) Q (u) 0 (xent [vR a1, vR a2, vR a3] m_Stacks_roll.2.2.1) [] := by
  show xW sc m_Stacks_roll (d + 8) Q (u) 0 [some (vR a1), some (vR a2), some (vR a3), none, none] []
  unfold f_Stacks_roll at h
  refine x_aload_n (pc := 0) d_Stacks_roll_0 rfl ?_
  refine x_aload_n (pc := 1) d_Stacks_roll_1 rfl ?_
  refine x_gets (v := vR (some 72)) (pc := 2) d_Stacks_roll_2 sl_Stacks_33 ?_
  obtain ⟨c1, h⟩ := ite_some h
  obtain ⟨v2, e3, h⟩ := Option.bind_eq_some_iff.mp h
  refine c_invv (c := 2) (d := d + 7) (av := [vR (some 72)]) (st := [vR a1]) (Q' := fun r h' => r = .inl (some (vI v2)) ∧ h' = u) (pc := 5) d_Stacks_roll_5 cv_Stacks_39 y_Slot_is c1 rfl (Nat.le_of_ble_eq_true rfl) (Nat.le_of_ble_eq_true rfl) (w_Slot_is (d := d + 7) (Q := fun r h' => r = .inl (some (vI v2)) ∧ h' = u) ⟨rfl, rfl⟩ a2 (some 72) e3) (fun v h' z => ?_) (fun a h' z => nomatch z.1)
  obtain ⟨z1, z2⟩ := z
  subst h'
  cases z1
  show xW sc m_Stacks_roll (d + 8) Q (u) 8 [some (vR a1), some (vR a2), some (vR a3), none, none] [vI v2, vR a1]
  refine x_if_eq (tgt := 25) (pc := 8) d_Stacks_roll_8 (by decide) (fun c4 => ?_) (fun c4 => ?_)
  · rw [if_pos c4] at h
    exact w_Stacks_roll_b25 hQ a1 a2 a3 a1 u h
  · rw [if_neg c4] at h
    refine x_aload_n (pc := 11) d_Stacks_roll_11 rfl ?_
    refine x_gets (v := vR (some 72)) (pc := 12) d_Stacks_roll_12 sl_Stacks_33 ?_
    obtain ⟨c5, h⟩ := ite_some h
    obtain ⟨v6, e7, h⟩ := Option.bind_eq_some_iff.mp h
    refine c_invv (c := 2) (d := d + 7) (av := [vR (some 72)]) (st := [vR a1]) (Q' := fun r h' => r = .inl (some (vI v6)) ∧ h' = u) (pc := 15) d_Stacks_roll_15 cv_Stacks_39 y_Slot_is c5 rfl (Nat.le_of_ble_eq_true rfl) (Nat.le_of_ble_eq_true rfl) (w_Slot_is (d := d + 7) (Q := fun r h' => r = .inl (some (vI v6)) ∧ h' = u) ⟨rfl, rfl⟩ a3 (some 72) e7) (fun v h' z => ?_) (fun a h' z => nomatch z.1)
    obtain ⟨z1, z2⟩ := z
    subst h'
    cases z1
    show xW sc m_Stacks_roll (d + 8) Q (u) 18 [some (vR a1), some (vR a2), some (vR a3), none, none] [vI v6, vR a1]
    refine x_if_eq (tgt := 25) (pc := 18) d_Stacks_roll_18 (by decide) (fun c8 => ?_) (fun c8 => ?_)
    · rw [if_pos c8] at h
      exact w_Stacks_roll_b25 hQ a1 a2 a3 a1 u h
    · rw [if_neg c8] at h
      refine x_iconst (v := (1 : Int32)) (pc := 21) d_Stacks_roll_21 (by decide) ?_
      refine x_goto (tgt := 26) (pc := 22) d_Stacks_roll_22 (by decide) ?_
      exact w_Stacks_roll_b26 hQ a1 a2 a3 (1 : Int32) a1 u h
def f_Stacks_marked_b42 (sc : xSc)  (l1 : Int32) (t0 : Int32) (t1 : Option Nat) (u : xH) : Option ((Int32 ⊕ Nat) × xH) := (if xis sc u 0 t1 = true then tB (f_P_need sc u t1 t0 (9 : Int32)) (fun v3 u2 => some (.inl l1, u2)) (fun a5 u6 => some (.inr a5, u6)) else none)
theorem w_Stacks_marked_b42 {sc : xSc} {d : Nat} {Q : xR → xH → Prop} {oZ : Int32 ⊕ Nat} {hZ : xH}  (hQ : Q (cvI oZ) hZ) (l1 : Int32) (t0 : Int32) (t1 : Option Nat) (u : xH) (h : f_Stacks_marked_b42 sc  l1 t0 t1 u = some (oZ, hZ)) : xW sc m_Stacks_marked (d + 7) Q (u) 42 [none, some (vI l1)] [vI t0, vR t1] := by
  unfold f_Stacks_marked_b42 at h
  refine x_bipush (v := (9 : Int32)) (pc := 42) d_Stacks_marked_42 (by decide) ?_
  obtain ⟨c1, h⟩ := ite_some h
  rcases tB_s h with ⟨a5, u6, e4, h⟩ | ⟨v3, u2, e4, h⟩
  · refine c_invv (c := 0) (d := d + 6) (av := [vI t0, vI (9 : Int32)]) (st := []) (Q' := fun r h' => r = .inr a5 ∧ h' = u6) (pc := 44) d_Stacks_marked_44 cv_Stacks_52 y_P_need c1 rfl (Nat.le_of_ble_eq_true rfl) (Nat.le_of_ble_eq_true rfl) (w_P_need (d := d + 0) (Q := fun r h' => r = .inr a5 ∧ h' = u6) ⟨rfl, rfl⟩ u t1 t0 (9 : Int32) e4) (fun v h' z => nomatch z.1) (fun a h' z => ?_)
    obtain ⟨z1, z2⟩ := z
    subst h'
    cases z1
    cases h
    exact x_thOut (xno rfl) hQ
  refine c_invv (c := 0) (d := d + 6) (av := [vI t0, vI (9 : Int32)]) (st := []) (Q' := fun r h' => r = .inl none ∧ h' = u2) (pc := 44) d_Stacks_marked_44 cv_Stacks_52 y_P_need c1 rfl (Nat.le_of_ble_eq_true rfl) (Nat.le_of_ble_eq_true rfl) (w_P_need (d := d + 0) (Q := fun r h' => r = .inl none ∧ h' = u2) ⟨rfl, rfl⟩ u t1 t0 (9 : Int32) e4) (fun v h' z => ?_) (fun a h' z => nomatch z.1)
  obtain ⟨z1, z2⟩ := z
  subst h'
  cases z1
  show xW sc m_Stacks_marked (d + 7) Q (u2) 47 [none, some (vI l1)] []
  refine x_iload_n (pc := 47) d_Stacks_marked_47 rfl ?_
  cases h
  exact x_iret (ty := .int) (pc := 48) d_Stacks_marked_48 rfl (rfl) hQ
def f_Stacks_marked_b32 (sc : xSc)  (l0 : Option Nat) (l1 : Int32) (u : xH) : Option ((Int32 ⊕ Nat) × xH) := (if l1 < 0 then f_Stacks_marked_b42 sc l1 (0 : Int32) l0 u else f_Stacks_marked_b42 sc l1 (1 : Int32) l0 u)
theorem w_Stacks_marked_b32 {sc : xSc} {d : Nat} {Q : xR → xH → Prop} {oZ : Int32 ⊕ Nat} {hZ : xH}  (hQ : Q (cvI oZ) hZ) (l0 : Option Nat) (l1 : Int32) (u : xH) (h : f_Stacks_marked_b32 sc  l0 l1 u = some (oZ, hZ)) : xW sc m_Stacks_marked (d + 7) Q (u) 32 [some (vR l0), some (vI l1)] [] := by
  unfold f_Stacks_marked_b32 at h
  refine x_aload_n (pc := 32) d_Stacks_marked_32 rfl ?_
  refine x_iload_n (pc := 33) d_Stacks_marked_33 rfl ?_
  refine x_if_lt (tgt := 41) (pc := 34) d_Stacks_marked_34 (by decide) (fun c1 => ?_) (fun c1 => ?_)
  · rw [if_pos c1] at h
    refine x_iconst (v := (0 : Int32)) (pc := 41) d_Stacks_marked_41 (by decide) ?_
    exact x_wk (L' := [none, some (vI l1)]) ⟨Or.inl rfl, Or.inr rfl, trivial⟩ (w_Stacks_marked_b42 hQ l1 (0 : Int32) l0 u h)
  · rw [if_neg c1] at h
    refine x_iconst (v := (1 : Int32)) (pc := 37) d_Stacks_marked_37 (by decide) ?_
    refine x_goto (tgt := 42) (pc := 38) d_Stacks_marked_38 (by decide) ?_
    exact x_wk (L' := [none, some (vI l1)]) ⟨Or.inl rfl, Or.inr rfl, trivial⟩ (w_Stacks_marked_b42 hQ l1 (1 : Int32) l0 u h)
def f_Stacks_marked_b7 (sc : xSc)  : Nat → Option Nat → Int32 → xH → Option ((Int32 ⊕ Nat) × xH)
  | 0, _, _, _ => none
  | n + 1, l0, l1, u => (if l1 < 0 then f_Stacks_marked_b32 sc l0 l1 u else (gR sc u 0 6 l0).bind fun v2 => (aR sc u v2 l1).bind fun v4 => (if xis sc u 2 v4 = true then (f_Slot_is sc u v4 (some 76)).bind fun v7 => (if v7 = 0 then (f_Stacks_marked_b7 sc n) l0 (l1 + Int32.ofInt (-1)) u else f_Stacks_marked_b32 sc l0 l1 u) else none))
theorem w_Stacks_marked_b7 {sc : xSc} {d : Nat} {Q : xR → xH → Prop} {oZ : Int32 ⊕ Nat} {hZ : xH}  (hQ : Q (cvI oZ) hZ) : ∀ (n : Nat) (l0 : Option Nat) (l1 : Int32) (u : xH), f_Stacks_marked_b7 sc  n l0 l1 u = some (oZ, hZ) → xW sc m_Stacks_marked (d + 7) Q (u) 7 [some (vR l0), some (vI l1)] [] := by
  intro n
  induction n with
  | zero =>
    intro l0 l1 u h
    cases h
  | succ n hk7 =>
    intro l0 l1 u h
    unfold f_Stacks_marked_b7 at h
    refine x_iload_n (pc := 7) d_Stacks_marked_7 rfl ?_
    refine x_if_lt (tgt := 32) (pc := 8) d_Stacks_marked_8 (by decide) (fun c1 => ?_) (fun c1 => ?_)
    · rw [if_pos c1] at h
      exact w_Stacks_marked_b32 hQ l0 l1 u h
    · rw [if_neg c1] at h
      refine x_aload_n (pc := 11) d_Stacks_marked_11 rfl ?_
      obtain ⟨v2, e3, h⟩ := Option.bind_eq_some_iff.mp h
      refine c_getR (pc := 12) d_Stacks_marked_12 l_Stacks_90 e3 ?_
      refine x_iload_n (pc := 15) d_Stacks_marked_15 rfl ?_
      obtain ⟨v4, e5, h⟩ := Option.bind_eq_some_iff.mp h
      refine c_aald (pc := 16) d_Stacks_marked_16 e5 ?_
      refine x_gets (v := vR (some 76)) (pc := 17) d_Stacks_marked_17 sl_Stacks_78 ?_
      obtain ⟨c6, h⟩ := ite_some h
      obtain ⟨v7, e8, h⟩ := Option.bind_eq_some_iff.mp h
      refine c_invv (c := 2) (d := d + 6) (av := [vR (some 76)]) (st := []) (Q' := fun r h' => r = .inl (some (vI v7)) ∧ h' = u) (pc := 20) d_Stacks_marked_20 cv_Stacks_39 y_Slot_is c6 rfl (Nat.le_of_ble_eq_true rfl) (Nat.le_of_ble_eq_true rfl) (w_Slot_is (d := d + 6) (Q := fun r h' => r = .inl (some (vI v7)) ∧ h' = u) ⟨rfl, rfl⟩ v4 (some 76) e8) (fun v h' z => ?_) (fun a h' z => nomatch z.1)
      obtain ⟨z1, z2⟩ := z
      subst h'
      cases z1
      show xW sc m_Stacks_marked (d + 7) Q (u) 23 [some (vR l0), some (vI l1)] [vI v7]
      refine x_if_ne (tgt := 32) (pc := 23) d_Stacks_marked_23 (by decide) (fun c9 => ?_) (fun c9 => ?_)
      · rw [if_neg c9] at h
        exact w_Stacks_marked_b32 hQ l0 l1 u h
      · rw [if_pos c9] at h
        refine x_iinc (pc := 26) d_Stacks_marked_26 rfl (by decide) ?_
        show xW sc m_Stacks_marked (d + 7) Q (u) 29 [some (vR l0), some (vI (l1 + Int32.ofInt (-1)))] []
        refine x_goto (tgt := 7) (pc := 29) d_Stacks_marked_29 (by decide) ?_
        exact hk7 l0 (l1 + Int32.ofInt (-1)) u h
def f_Stacks_marked (sc : xSc) (u : xH) (a1 : Option Nat) : Option ((Int32 ⊕ Nat) × xH) := (gI sc u 0 9 a1).bind fun v1 => f_Stacks_marked_b7 sc mF a1 (v1 - (1 : Int32)) u
theorem w_Stacks_marked {sc : xSc} {d : Nat} {Q : xR → xH → Prop} {oZ : Int32 ⊕ Nat} {hZ : xH} (hQ : Q (cvI oZ) hZ) (u : xH) (a1 : Option Nat) (h : f_Stacks_marked sc u a1 = some (oZ, hZ)) : xW sc m_Stacks_marked (d + 7) Q (u) 0 (xent [vR a1] m_Stacks_marked.2.2.1) [] := by
  show xW sc m_Stacks_marked (d + 7) Q (u) 0 [some (vR a1), none] []
  unfold f_Stacks_marked at h
  refine x_aload_n (pc := 0) d_Stacks_marked_0 rfl ?_
  obtain ⟨v1, e2, h⟩ := Option.bind_eq_some_iff.mp h
  refine c_getI (pc := 1) d_Stacks_marked_1 l_Stacks_15 e2 ?_
  refine x_iconst (v := (1 : Int32)) (pc := 4) d_Stacks_marked_4 (by decide) ?_
  refine x_isub (pc := 5) d_Stacks_marked_5 ?_
  refine x_istore_n (pc := 6) d_Stacks_marked_6 (by decide) ?_
  show xW sc m_Stacks_marked (d + 7) Q (u) 7 [some (vR a1), some (vI (v1 - (1 : Int32)))] []
  exact w_Stacks_marked_b7 hQ mF a1 (v1 - (1 : Int32)) u h
def f_Stacks_close_b16 (sc : xSc)  : Nat → Option Nat → Int32 → Int32 → Int32 → Int32 → xH → Option ((Unit ⊕ Nat) × xH)
  | 0, _, _, _, _, _, _ => none
  | n + 1, l0, l1, l2, l3, l4, u => (if l2 ≤ l4 then (pV u 0 9 l0 (vI l1)).bind fun u2 => (if xis sc u2 0 l0 = true then (f_P_at sc u2 l0 (0 : Int32)).bind fun v5 => (if xis sc u2 2 v5 = true then (f_Slot_set sc u2 v5 (some 77) l3 l2 (0 : Int32)).bind fun u8 => some (.inl (), u8) else none) else none) else (gR sc u 0 7 l0).bind fun v10 => (aR sc u v10 (l3 + l4)).bind fun v12 => (gR sc u 0 6 l0).bind fun v14 => (aR sc u v14 (l1 + l4)).bind fun v16 => (if xis sc u 2 v12 = true then (f_Slot_copy sc u v12 v16).bind fun u19 => (f_Stacks_close_b16 sc n) l0 l1 l2 l3 (l4 + Int32.ofInt 1) u19 else none))
theorem w_Stacks_close_b16 {sc : xSc} {d : Nat} {Q : xR → xH → Prop} {oZ : Unit ⊕ Nat} {hZ : xH}  (hQ : Q (cvU oZ) hZ) : ∀ (n : Nat) (l0 : Option Nat) (l1 : Int32) (l2 : Int32) (l3 : Int32) (l4 : Int32) (u : xH), f_Stacks_close_b16 sc  n l0 l1 l2 l3 l4 u = some (oZ, hZ) → xW sc m_Stacks_close (d + 8) Q (u) 16 [some (vR l0), some (vI l1), some (vI l2), some (vI l3), some (vI l4)] [] := by
  intro n
  induction n with
  | zero =>
    intro l0 l1 l2 l3 l4 u h
    cases h
  | succ n hk16 =>
    intro l0 l1 l2 l3 l4 u h
    unfold f_Stacks_close_b16 at h
    refine x_iload (pc := 16) d_Stacks_close_16 rfl ?_
    refine x_iload_n (pc := 18) d_Stacks_close_18 rfl ?_
    refine x_icmp_ge (tgt := 49) (pc := 19) d_Stacks_close_19 (by decide) (fun c1 => ?_) (fun c1 => ?_)
    · rw [if_pos c1] at h
      refine x_aload_n (pc := 49) d_Stacks_close_49 rfl ?_
      refine x_iload_n (pc := 50) d_Stacks_close_50 rfl ?_
      obtain ⟨u2, e3, h⟩ := Option.bind_eq_some_iff.mp h
      refine c_putf (pc := 51) d_Stacks_close_51 l_Stacks_15 fp_0_9 (xfit_int) e3 ?_
      refine x_aload_n (pc := 54) d_Stacks_close_54 rfl ?_
      refine x_iconst (v := (0 : Int32)) (pc := 55) d_Stacks_close_55 (by decide) ?_
      obtain ⟨c4, h⟩ := ite_some h
      obtain ⟨v5, e6, h⟩ := Option.bind_eq_some_iff.mp h
      refine c_invv (c := 0) (d := d + 7) (av := [vI (0 : Int32)]) (st := []) (Q' := fun r h' => r = .inl (some (vR v5)) ∧ h' = u2) (pc := 56) d_Stacks_close_56 cv_Stacks_56 y_P_at c4 rfl (Nat.le_of_ble_eq_true rfl) (Nat.le_of_ble_eq_true rfl) (w_P_at (d := d + 7) (Q := fun r h' => r = .inl (some (vR v5)) ∧ h' = u2) ⟨rfl, rfl⟩ l0 (0 : Int32) e6) (fun v h' z => ?_) (fun a h' z => nomatch z.1)
      obtain ⟨z1, z2⟩ := z
      subst h'
      cases z1
      show xW sc m_Stacks_close (d + 8) Q (u2) 59 [some (vR l0), some (vI l1), some (vI l2), some (vI l3), some (vI l4)] [vR v5]
      refine x_gets (v := vR (some 77)) (pc := 59) d_Stacks_close_59 sl_Stacks_101 ?_
      refine x_iload_n (pc := 62) d_Stacks_close_62 rfl ?_
      refine x_iload_n (pc := 63) d_Stacks_close_63 rfl ?_
      refine x_iconst (v := (0 : Int32)) (pc := 64) d_Stacks_close_64 (by decide) ?_
      obtain ⟨c7, h⟩ := ite_some h
      obtain ⟨u8, e9, h⟩ := Option.bind_eq_some_iff.mp h
      refine c_invv (c := 2) (d := d + 7) (av := [vR (some 77), vI l3, vI l2, vI (0 : Int32)]) (st := []) (Q' := fun r h' => r = .inl none ∧ h' = u8) (pc := 65) d_Stacks_close_65 cv_Stacks_104 y_Slot_set c7 rfl (Nat.le_of_ble_eq_true rfl) (Nat.le_of_ble_eq_true rfl) (w_Slot_set (d := d + 7) (Q := fun r h' => r = .inl none ∧ h' = u8) ⟨rfl, rfl⟩ u2 v5 (some 77) l3 l2 (0 : Int32) e9) (fun v h' z => ?_) (fun a h' z => nomatch z.1)
      obtain ⟨z1, z2⟩ := z
      subst h'
      cases z1
      show xW sc m_Stacks_close (d + 8) Q (u8) 68 [some (vR l0), some (vI l1), some (vI l2), some (vI l3), some (vI l4)] []
      cases h
      exact x_vret (pc := 68) d_Stacks_close_68 rfl hQ
    · rw [if_neg c1] at h
      refine x_aload_n (pc := 22) d_Stacks_close_22 rfl ?_
      obtain ⟨v10, e11, h⟩ := Option.bind_eq_some_iff.mp h
      refine c_getR (pc := 23) d_Stacks_close_23 l_Stacks_98 e11 ?_
      refine x_iload_n (pc := 26) d_Stacks_close_26 rfl ?_
      refine x_iload (pc := 27) d_Stacks_close_27 rfl ?_
      refine x_iadd (pc := 29) d_Stacks_close_29 ?_
      obtain ⟨v12, e13, h⟩ := Option.bind_eq_some_iff.mp h
      refine c_aald (pc := 30) d_Stacks_close_30 e13 ?_
      refine x_aload_n (pc := 31) d_Stacks_close_31 rfl ?_
      obtain ⟨v14, e15, h⟩ := Option.bind_eq_some_iff.mp h
      refine c_getR (pc := 32) d_Stacks_close_32 l_Stacks_90 e15 ?_
      refine x_iload_n (pc := 35) d_Stacks_close_35 rfl ?_
      refine x_iload (pc := 36) d_Stacks_close_36 rfl ?_
      refine x_iadd (pc := 38) d_Stacks_close_38 ?_
      obtain ⟨v16, e17, h⟩ := Option.bind_eq_some_iff.mp h
      refine c_aald (pc := 39) d_Stacks_close_39 e17 ?_
      obtain ⟨c18, h⟩ := ite_some h
      obtain ⟨u19, e20, h⟩ := Option.bind_eq_some_iff.mp h
      refine c_invv (c := 2) (d := d + 7) (av := [vR v16]) (st := []) (Q' := fun r h' => r = .inl none ∧ h' = u19) (pc := 40) d_Stacks_close_40 cv_Stacks_60 y_Slot_copy c18 rfl (Nat.le_of_ble_eq_true rfl) (Nat.le_of_ble_eq_true rfl) (w_Slot_copy (d := d + 6) (Q := fun r h' => r = .inl none ∧ h' = u19) ⟨rfl, rfl⟩ u v12 v16 e20) (fun v h' z => ?_) (fun a h' z => nomatch z.1)
      obtain ⟨z1, z2⟩ := z
      subst h'
      cases z1
      show xW sc m_Stacks_close (d + 8) Q (u19) 43 [some (vR l0), some (vI l1), some (vI l2), some (vI l3), some (vI l4)] []
      refine x_iinc (pc := 43) d_Stacks_close_43 rfl (by decide) ?_
      show xW sc m_Stacks_close (d + 8) Q (u19) 46 [some (vR l0), some (vI l1), some (vI l2), some (vI l3), some (vI (l4 + Int32.ofInt 1))] []
      refine x_goto (tgt := 16) (pc := 46) d_Stacks_close_46 (by decide) ?_
      exact hk16 l0 l1 l2 l3 (l4 + Int32.ofInt 1) u19 h
def f_Stacks_close (sc : xSc) (u : xH) (a1 : Option Nat) (a2 : Int32) : Option ((Unit ⊕ Nat) × xH) := (gI sc u 0 9 a1).bind fun v1 => (if xis sc u 0 a1 = true then tB (f_P_take sc u a1 (v1 - a2)) (fun v5 u4 => f_Stacks_close_b16 sc mF a1 a2 (v1 - a2) v5 (0 : Int32) u4) (fun a7 u8 => some (.inr a7, u8)) else none)
theorem w_Stacks_close {sc : xSc} {d : Nat} {Q : xR → xH → Prop} {oZ : Unit ⊕ Nat} {hZ : xH} (hQ : Q (cvU oZ) hZ) (u : xH) (a1 : Option Nat) (a2 : Int32) (h : f_Stacks_close sc u a1 a2 = some (oZ, hZ)) : xW sc m_Stacks_close (d + 8) Q (u) 0 (xent [vR a1, vI a2] m_Stacks_close.2.2.1) [] := by
  show xW sc m_Stacks_close (d + 8) Q (u) 0 [some (vR a1), some (vI a2), none, none, none] []
  unfold f_Stacks_close at h
  refine x_aload_n (pc := 0) d_Stacks_close_0 rfl ?_
  obtain ⟨v1, e2, h⟩ := Option.bind_eq_some_iff.mp h
  refine c_getI (pc := 1) d_Stacks_close_1 l_Stacks_15 e2 ?_
  refine x_iload_n (pc := 4) d_Stacks_close_4 rfl ?_
  refine x_isub (pc := 5) d_Stacks_close_5 ?_
  refine x_istore_n (pc := 6) d_Stacks_close_6 (by decide) ?_
  show xW sc m_Stacks_close (d + 8) Q (u) 7 [some (vR a1), some (vI a2), some (vI (v1 - a2)), none, none] []
  refine x_aload_n (pc := 7) d_Stacks_close_7 rfl ?_
  refine x_iload_n (pc := 8) d_Stacks_close_8 rfl ?_
  obtain ⟨c3, h⟩ := ite_some h
  rcases tB_s h with ⟨a7, u8, e6, h⟩ | ⟨v5, u4, e6, h⟩
  · refine c_invv (c := 0) (d := d + 7) (av := [vI (v1 - a2)]) (st := []) (Q' := fun r h' => r = .inr a7 ∧ h' = u8) (pc := 9) d_Stacks_close_9 cv_Stacks_94 y_P_take c3 rfl (Nat.le_of_ble_eq_true rfl) (Nat.le_of_ble_eq_true rfl) (w_P_take (d := d + 0) (Q := fun r h' => r = .inr a7 ∧ h' = u8) ⟨rfl, rfl⟩ u a1 (v1 - a2) e6) (fun v h' z => nomatch z.1) (fun a h' z => ?_)
    obtain ⟨z1, z2⟩ := z
    subst h'
    cases z1
    cases h
    exact x_thOut (xno rfl) hQ
  refine c_invv (c := 0) (d := d + 7) (av := [vI (v1 - a2)]) (st := []) (Q' := fun r h' => r = .inl (some (vI v5)) ∧ h' = u4) (pc := 9) d_Stacks_close_9 cv_Stacks_94 y_P_take c3 rfl (Nat.le_of_ble_eq_true rfl) (Nat.le_of_ble_eq_true rfl) (w_P_take (d := d + 0) (Q := fun r h' => r = .inl (some (vI v5)) ∧ h' = u4) ⟨rfl, rfl⟩ u a1 (v1 - a2) e6) (fun v h' z => ?_) (fun a h' z => nomatch z.1)
  obtain ⟨z1, z2⟩ := z
  subst h'
  cases z1
  show xW sc m_Stacks_close (d + 8) Q (u4) 12 [some (vR a1), some (vI a2), some (vI (v1 - a2)), none, none] [vI v5]
  refine x_istore_n (pc := 12) d_Stacks_close_12 (by decide) ?_
  show xW sc m_Stacks_close (d + 8) Q (u4) 13 [some (vR a1), some (vI a2), some (vI (v1 - a2)), some (vI v5), none] []
  refine x_iconst (v := (0 : Int32)) (pc := 13) d_Stacks_close_13 (by decide) ?_
  refine x_istore (pc := 14) d_Stacks_close_14 (by decide) ?_
  show xW sc m_Stacks_close (d + 8) Q (u4) 16 [some (vR a1), some (vI a2), some (vI (v1 - a2)), some (vI v5), some (vI (0 : Int32))] []
  exact w_Stacks_close_b16 hQ mF a1 a2 (v1 - a2) v5 (0 : Int32) u4 h
def f_Stacks_perform_b240 (sc : xSc)  (u : xH) : Option ((Unit ⊕ Nat) × xH) := some (.inl (), u)
theorem w_Stacks_perform_b240 {sc : xSc} {d : Nat} {Q : xR → xH → Prop} {oZ : Unit ⊕ Nat} {hZ : xH}  (hQ : Q (cvU oZ) hZ) (u : xH) (h : f_Stacks_perform_b240 sc  u = some (oZ, hZ)) : xW sc m_Stacks_perform (d + 10) Q (u) 240 [none, none, none, none, none, none] [] := by
  unfold f_Stacks_perform_b240 at h
  cases h
  exact x_vret (pc := 240) d_Stacks_perform_240 rfl hQ
def f_Stacks_perform_b231 (sc : xSc)  (l1 : Option Nat) (u : xH) : Option ((Unit ⊕ Nat) × xH) := (if xis sc u 0 l1 = true then tB (f_P_give sc u l1 (0 : Int32) (some 76) (0 : Int32)) (fun v3 u2 => f_Stacks_perform_b240 sc u2) (fun a5 u6 => some (.inr a5, u6)) else none)
theorem w_Stacks_perform_b231 {sc : xSc} {d : Nat} {Q : xR → xH → Prop} {oZ : Unit ⊕ Nat} {hZ : xH}  (hQ : Q (cvU oZ) hZ) (l1 : Option Nat) (u : xH) (h : f_Stacks_perform_b231 sc  l1 u = some (oZ, hZ)) : xW sc m_Stacks_perform (d + 10) Q (u) 231 [none, some (vR l1), none, none, none, none] [] := by
  unfold f_Stacks_perform_b231 at h
  refine x_aload_n (pc := 231) d_Stacks_perform_231 rfl ?_
  refine x_iconst (v := (0 : Int32)) (pc := 232) d_Stacks_perform_232 (by decide) ?_
  refine x_gets (v := vR (some 76)) (pc := 233) d_Stacks_perform_233 sl_Stacks_78 ?_
  refine x_iconst (v := (0 : Int32)) (pc := 236) d_Stacks_perform_236 (by decide) ?_
  obtain ⟨c1, h⟩ := ite_some h
  rcases tB_s h with ⟨a5, u6, e4, h⟩ | ⟨v3, u2, e4, h⟩
  · refine c_invv (c := 0) (d := d + 9) (av := [vI (0 : Int32), vR (some 76), vI (0 : Int32)]) (st := []) (Q' := fun r h' => r = .inr a5 ∧ h' = u6) (pc := 237) d_Stacks_perform_237 cv_Stacks_66 y_P_give c1 rfl (Nat.le_of_ble_eq_true rfl) (Nat.le_of_ble_eq_true rfl) (w_P_give (d := d + 1) (Q := fun r h' => r = .inr a5 ∧ h' = u6) ⟨rfl, rfl⟩ u l1 (0 : Int32) (some 76) (0 : Int32) e4) (fun v h' z => nomatch z.1) (fun a h' z => ?_)
    obtain ⟨z1, z2⟩ := z
    subst h'
    cases z1
    cases h
    exact x_thOut (xno rfl) hQ
  refine c_invv (c := 0) (d := d + 9) (av := [vI (0 : Int32), vR (some 76), vI (0 : Int32)]) (st := []) (Q' := fun r h' => r = .inl none ∧ h' = u2) (pc := 237) d_Stacks_perform_237 cv_Stacks_66 y_P_give c1 rfl (Nat.le_of_ble_eq_true rfl) (Nat.le_of_ble_eq_true rfl) (w_P_give (d := d + 1) (Q := fun r h' => r = .inl none ∧ h' = u2) ⟨rfl, rfl⟩ u l1 (0 : Int32) (some 76) (0 : Int32) e4) (fun v h' z => ?_) (fun a h' z => nomatch z.1)
  obtain ⟨z1, z2⟩ := z
  subst h'
  cases z1
  show xW sc m_Stacks_perform (d + 10) Q (u2) 240 [none, some (vR l1), none, none, none, none] []
  exact x_wk (L' := [none, none, none, none, none, none]) ⟨Or.inl rfl, Or.inl rfl, Or.inl rfl, Or.inl rfl, Or.inl rfl, Or.inl rfl, trivial⟩ (w_Stacks_perform_b240 hQ u2 h)
def f_Stacks_perform_b153 (sc : xSc)  (l1 : Option Nat) (l3 : Option Nat) (t0 : Int32) (t1 : Option Nat) (u : xH) : Option ((Unit ⊕ Nat) × xH) := (if xis sc u 0 t1 = true then tB (f_P_need sc u t1 t0 (4 : Int32)) (fun v3 u2 => (gI sc u2 2 2 l3).bind fun v7 => (if xis sc u2 0 l1 = true then (f_P_at sc u2 l1 ((1 : Int32) + v7)).bind fun v10 => (if xis sc u2 2 l3 = true then (f_Slot_copy sc u2 l3 v10).bind fun u13 => f_Stacks_perform_b240 sc u13 else none) else none)) (fun a5 u6 => some (.inr a5, u6)) else none)
theorem w_Stacks_perform_b153 {sc : xSc} {d : Nat} {Q : xR → xH → Prop} {oZ : Unit ⊕ Nat} {hZ : xH}  (hQ : Q (cvU oZ) hZ) (l1 : Option Nat) (l3 : Option Nat) (t0 : Int32) (t1 : Option Nat) (u : xH) (h : f_Stacks_perform_b153 sc  l1 l3 t0 t1 u = some (oZ, hZ)) : xW sc m_Stacks_perform (d + 10) Q (u) 153 [none, some (vR l1), none, some (vR l3), none, none] [vI t0, vR t1] := by
  unfold f_Stacks_perform_b153 at h
  refine x_iconst (v := (4 : Int32)) (pc := 153) d_Stacks_perform_153 (by decide) ?_
  obtain ⟨c1, h⟩ := ite_some h
  rcases tB_s h with ⟨a5, u6, e4, h⟩ | ⟨v3, u2, e4, h⟩
  · refine c_invv (c := 0) (d := d + 9) (av := [vI t0, vI (4 : Int32)]) (st := []) (Q' := fun r h' => r = .inr a5 ∧ h' = u6) (pc := 154) d_Stacks_perform_154 cv_Stacks_52 y_P_need c1 rfl (Nat.le_of_ble_eq_true rfl) (Nat.le_of_ble_eq_true rfl) (w_P_need (d := d + 3) (Q := fun r h' => r = .inr a5 ∧ h' = u6) ⟨rfl, rfl⟩ u t1 t0 (4 : Int32) e4) (fun v h' z => nomatch z.1) (fun a h' z => ?_)
    obtain ⟨z1, z2⟩ := z
    subst h'
    cases z1
    cases h
    exact x_thOut (xno rfl) hQ
  refine c_invv (c := 0) (d := d + 9) (av := [vI t0, vI (4 : Int32)]) (st := []) (Q' := fun r h' => r = .inl none ∧ h' = u2) (pc := 154) d_Stacks_perform_154 cv_Stacks_52 y_P_need c1 rfl (Nat.le_of_ble_eq_true rfl) (Nat.le_of_ble_eq_true rfl) (w_P_need (d := d + 3) (Q := fun r h' => r = .inl none ∧ h' = u2) ⟨rfl, rfl⟩ u t1 t0 (4 : Int32) e4) (fun v h' z => ?_) (fun a h' z => nomatch z.1)
  obtain ⟨z1, z2⟩ := z
  subst h'
  cases z1
  show xW sc m_Stacks_perform (d + 10) Q (u2) 157 [none, some (vR l1), none, some (vR l3), none, none] []
  refine x_aload_n (pc := 157) d_Stacks_perform_157 rfl ?_
  refine x_aload_n (pc := 158) d_Stacks_perform_158 rfl ?_
  refine x_iconst (v := (1 : Int32)) (pc := 159) d_Stacks_perform_159 (by decide) ?_
  refine x_aload_n (pc := 160) d_Stacks_perform_160 rfl ?_
  obtain ⟨v7, e8, h⟩ := Option.bind_eq_some_iff.mp h
  refine c_getI (pc := 161) d_Stacks_perform_161 l_Stacks_49 e8 ?_
  refine x_iadd (pc := 164) d_Stacks_perform_164 ?_
  obtain ⟨c9, h⟩ := ite_some h
  obtain ⟨v10, e11, h⟩ := Option.bind_eq_some_iff.mp h
  refine c_invv (c := 0) (d := d + 9) (av := [vI ((1 : Int32) + v7)]) (st := [vR l3]) (Q' := fun r h' => r = .inl (some (vR v10)) ∧ h' = u2) (pc := 165) d_Stacks_perform_165 cv_Stacks_56 y_P_at c9 rfl (Nat.le_of_ble_eq_true rfl) (Nat.le_of_ble_eq_true rfl) (w_P_at (d := d + 9) (Q := fun r h' => r = .inl (some (vR v10)) ∧ h' = u2) ⟨rfl, rfl⟩ l1 ((1 : Int32) + v7) e11) (fun v h' z => ?_) (fun a h' z => nomatch z.1)
  obtain ⟨z1, z2⟩ := z
  subst h'
  cases z1
  show xW sc m_Stacks_perform (d + 10) Q (u2) 168 [none, some (vR l1), none, some (vR l3), none, none] [vR v10, vR l3]
  obtain ⟨c12, h⟩ := ite_some h
  obtain ⟨u13, e14, h⟩ := Option.bind_eq_some_iff.mp h
  refine c_invv (c := 2) (d := d + 9) (av := [vR v10]) (st := []) (Q' := fun r h' => r = .inl none ∧ h' = u13) (pc := 168) d_Stacks_perform_168 cv_Stacks_60 y_Slot_copy c12 rfl (Nat.le_of_ble_eq_true rfl) (Nat.le_of_ble_eq_true rfl) (w_Slot_copy (d := d + 8) (Q := fun r h' => r = .inl none ∧ h' = u13) ⟨rfl, rfl⟩ u2 l3 v10 e14) (fun v h' z => ?_) (fun a h' z => nomatch z.1)
  obtain ⟨z1, z2⟩ := z
  subst h'
  cases z1
  show xW sc m_Stacks_perform (d + 10) Q (u13) 171 [none, some (vR l1), none, some (vR l3), none, none] []
  refine x_goto (tgt := 240) (pc := 171) d_Stacks_perform_171 (by decide) ?_
  exact x_wk (L' := [none, none, none, none, none, none]) ⟨Or.inl rfl, Or.inl rfl, Or.inl rfl, Or.inl rfl, Or.inl rfl, Or.inl rfl, trivial⟩ (w_Stacks_perform_b240 hQ u13 h)
def f_Stacks_perform_b152 (sc : xSc)  (l1 : Option Nat) (l3 : Option Nat) (t0 : Option Nat) (u : xH) : Option ((Unit ⊕ Nat) × xH) := f_Stacks_perform_b153 sc l1 l3 (0 : Int32) t0 u
theorem w_Stacks_perform_b152 {sc : xSc} {d : Nat} {Q : xR → xH → Prop} {oZ : Unit ⊕ Nat} {hZ : xH}  (hQ : Q (cvU oZ) hZ) (l1 : Option Nat) (l3 : Option Nat) (t0 : Option Nat) (u : xH) (h : f_Stacks_perform_b152 sc  l1 l3 t0 u = some (oZ, hZ)) : xW sc m_Stacks_perform (d + 10) Q (u) 152 [none, some (vR l1), none, some (vR l3), none, none] [vR t0] := by
  unfold f_Stacks_perform_b152 at h
  refine x_iconst (v := (0 : Int32)) (pc := 152) d_Stacks_perform_152 (by decide) ?_
  exact w_Stacks_perform_b153 hQ l1 l3 (0 : Int32) t0 u h
def f_Stacks_perform (sc : xSc) (u : xH) (a0 : Option Nat) (a1 : Option Nat) (a2 : Option Nat) (a3 : Option Nat) (a4 : Option Nat) (a5 : Int32) : Option ((Unit ⊕ Nat) × xH) := (if xis sc u 19 a2 = true then (f_Enum_ordinal19 sc u a2).bind fun v2 => (if v2 = (0 : Int32) then (gI sc u 0 9 a1).bind fun v5 => (pV u 0 9 a1 (vI (v5 - (1 : Int32)))).bind fun u7 => f_Stacks_perform_b240 sc u7 else (if v2 = (1 : Int32) then (gI sc u 0 9 a1).bind fun v10 => (gI sc u 0 9 a1).bind fun v12 => (if xis sc u 0 a1 = true then (f_P_swap sc u a1 (v10 - (2 : Int32)) (v12 - (1 : Int32))).bind fun u15 => f_Stacks_perform_b240 sc u15 else none) else (if v2 = (2 : Int32) then (if xis sc u 0 a1 = true then tB (f_P_push sc u a1 a3) (fun v20 u19 => f_Stacks_perform_b240 sc u19) (fun a22 u23 => some (.inr a22, u23)) else none) else (if v2 = (3 : Int32) then tB (f_Stacks_copy sc u a1 a3) (fun v26 u25 => f_Stacks_perform_b240 sc u25) (fun a28 u29 => some (.inr a28, u29)) else (if v2 = (4 : Int32) then (if xis sc u 2 a3 = true then (f_Slot_is sc u a3 (some 72)).bind fun v32 => (if xis sc u 0 a1 = true then tB (f_P_type sc u a1 v32) (fun v36 u35 => (gI sc u35 2 2 a3).bind fun v40 => (if v40 < 0 then f_Stacks_perform_b152 sc a1 a3 a1 u35 else (gI sc u35 2 2 a3).bind fun v43 => (gI sc u35 0 9 a1).bind fun v45 => (if (v45 - (1 : Int32)) ≤ v43 then f_Stacks_perform_b152 sc a1 a3 a1 u35 else f_Stacks_perform_b153 sc a1 a3 (1 : Int32) a1 u35))) (fun a38 u39 => some (.inr a38, u39)) else none) else none) else (if v2 = (5 : Int32) then tB (f_Stacks_roll sc u a1 a3 a4) (fun v50 u49 => f_Stacks_perform_b240 sc u49) (fun a52 u53 => some (.inr a52, u53)) else (if v2 = (6 : Int32) then (pV u 0 9 a1 (vI (0 : Int32))).bind fun u55 => f_Stacks_perform_b240 sc u55 else (if v2 = (7 : Int32) then (gI sc u 0 9 a1).bind fun v58 => (if xis sc u 0 a1 = true then tB (f_P_give sc u a1 (0 : Int32) (some 72) v58) (fun v62 u61 => f_Stacks_perform_b240 sc u61) (fun a64 u65 => some (.inr a64, u65)) else none) else (if v2 = (8 : Int32) then f_Stacks_perform_b231 sc a1 u else (if v2 = (9 : Int32) then f_Stacks_perform_b231 sc a1 u else (if v2 = (10 : Int32) then tB (f_Stacks_marked sc u a1) (fun v70 u69 => (pV u69 0 9 a1 (vI v70)).bind fun u74 => f_Stacks_perform_b240 sc u74) (fun a72 u73 => some (.inr a72, u73)) else (if v2 = (11 : Int32) then tB (f_Stacks_marked sc u a1) (fun v78 u77 => tB (f_Stacks_close sc u77 a1 (v78 + (1 : Int32))) (fun v83 u82 => f_Stacks_perform_b240 sc u82) (fun a85 u86 => some (.inr a85, u86))) (fun a80 u81 => some (.inr a80, u81)) else f_Stacks_perform_b231 sc a1 u)))))))))))) else none)
theorem w_Stacks_perform {sc : xSc} {d : Nat} {Q : xR → xH → Prop} {oZ : Unit ⊕ Nat} {hZ : xH} (hQ : Q (cvU oZ) hZ) (u : xH) (a0 : Option Nat) (a1 : Option Nat) (a2 : Option Nat) (a3 : Option Nat) (a4 : Option Nat) (a5 : Int32) (h : f_Stacks_perform sc u a0 a1 a2 a3 a4 a5 = some (oZ, hZ)) : xW sc m_Stacks_perform (d + 10) Q (u) 0 (xent [vR a0, vR a1, vR a2, vR a3, vR a4, vI a5] m_Stacks_perform.2.2.1) [] := by
  show xW sc m_Stacks_perform (d + 10) Q (u) 0 [some (vR a0), some (vR a1), some (vR a2), some (vR a3), some (vR a4), some (vI a5)] []
  unfold f_Stacks_perform at h
  refine x_aload_n (pc := 0) d_Stacks_perform_0 rfl ?_
  obtain ⟨c1, h⟩ := ite_some h
  obtain ⟨v2, e3, h⟩ := Option.bind_eq_some_iff.mp h
  refine c_invu (c := 19) (d := d + 9) (av := []) (st := []) (Q' := fun r h' => r = .inl (some (vI v2)) ∧ h' = u) (pc := 1) d_Stacks_perform_1 cw_Stacks_9_19 y_Enum_ordinal c1 rfl (Nat.le_of_ble_eq_true rfl) (Nat.le_of_ble_eq_true rfl) (w_Enum_ordinal19 (d := d + 9) (Q := fun r h' => r = .inl (some (vI v2)) ∧ h' = u) ⟨rfl, rfl⟩ a2 e3) (fun v h' z => ?_) (fun a h' z => nomatch z.1)
  obtain ⟨z1, z2⟩ := z
  subst h'
  cases z1
  show xW sc m_Stacks_perform (d + 10) Q (u) 4 [some (vR a0), some (vR a1), some (vR a2), some (vR a3), some (vR a4), some (vI a5)] [vI v2]
  by_cases c4 : v2 = (0 : Int32)
  · rw [if_pos c4] at h
    refine x_tableIn (off := 64) (tgt := 68) (pc := 4) d_Stacks_perform_4 (by rw [c4]; decide) (by rw [c4]; decide) (by rw [c4]; decide) (by decide) ?_
    refine x_aload_n (pc := 68) d_Stacks_perform_68 rfl ?_
    refine x_dup (pc := 69) d_Stacks_perform_69 rfl ?_
    obtain ⟨v5, e6, h⟩ := Option.bind_eq_some_iff.mp h
    refine c_getI (pc := 70) d_Stacks_perform_70 l_Stacks_15 e6 ?_
    refine x_iconst (v := (1 : Int32)) (pc := 73) d_Stacks_perform_73 (by decide) ?_
    refine x_isub (pc := 74) d_Stacks_perform_74 ?_
    obtain ⟨u7, e8, h⟩ := Option.bind_eq_some_iff.mp h
    refine c_putf (pc := 75) d_Stacks_perform_75 l_Stacks_15 fp_0_9 (xfit_int) e8 ?_
    refine x_goto (tgt := 240) (pc := 78) d_Stacks_perform_78 (by decide) ?_
    exact x_wk (L' := [none, none, none, none, none, none]) ⟨Or.inl rfl, Or.inl rfl, Or.inl rfl, Or.inl rfl, Or.inl rfl, Or.inl rfl, trivial⟩ (w_Stacks_perform_b240 hQ u7 h)
  rw [if_neg c4] at h
  by_cases c9 : v2 = (1 : Int32)
  · rw [if_pos c9] at h
    refine x_tableIn (off := 77) (tgt := 81) (pc := 4) d_Stacks_perform_4 (by rw [c9]; decide) (by rw [c9]; decide) (by rw [c9]; decide) (by decide) ?_
    refine x_aload_n (pc := 81) d_Stacks_perform_81 rfl ?_
    refine x_aload_n (pc := 82) d_Stacks_perform_82 rfl ?_
    obtain ⟨v10, e11, h⟩ := Option.bind_eq_some_iff.mp h
    refine c_getI (pc := 83) d_Stacks_perform_83 l_Stacks_15 e11 ?_
    refine x_iconst (v := (2 : Int32)) (pc := 86) d_Stacks_perform_86 (by decide) ?_
    refine x_isub (pc := 87) d_Stacks_perform_87 ?_
    refine x_aload_n (pc := 88) d_Stacks_perform_88 rfl ?_
    obtain ⟨v12, e13, h⟩ := Option.bind_eq_some_iff.mp h
    refine c_getI (pc := 89) d_Stacks_perform_89 l_Stacks_15 e13 ?_
    refine x_iconst (v := (1 : Int32)) (pc := 92) d_Stacks_perform_92 (by decide) ?_
    refine x_isub (pc := 93) d_Stacks_perform_93 ?_
    obtain ⟨c14, h⟩ := ite_some h
    obtain ⟨u15, e16, h⟩ := Option.bind_eq_some_iff.mp h
    refine c_invv (c := 0) (d := d + 9) (av := [vI (v10 - (2 : Int32)), vI (v12 - (1 : Int32))]) (st := []) (Q' := fun r h' => r = .inl none ∧ h' = u15) (pc := 94) d_Stacks_perform_94 cv_Stacks_19 y_P_swap c14 rfl (Nat.le_of_ble_eq_true rfl) (Nat.le_of_ble_eq_true rfl) (w_P_swap (d := d + 9) (Q := fun r h' => r = .inl none ∧ h' = u15) ⟨rfl, rfl⟩ u a1 (v10 - (2 : Int32)) (v12 - (1 : Int32)) e16) (fun v h' z => ?_) (fun a h' z => nomatch z.1)
    obtain ⟨z1, z2⟩ := z
    subst h'
    cases z1
    show xW sc m_Stacks_perform (d + 10) Q (u15) 97 [some (vR a0), some (vR a1), some (vR a2), some (vR a3), some (vR a4), some (vI a5)] []
    refine x_goto (tgt := 240) (pc := 97) d_Stacks_perform_97 (by decide) ?_
    exact x_wk (L' := [none, none, none, none, none, none]) ⟨Or.inl rfl, Or.inl rfl, Or.inl rfl, Or.inl rfl, Or.inl rfl, Or.inl rfl, trivial⟩ (w_Stacks_perform_b240 hQ u15 h)
  rw [if_neg c9] at h
  by_cases c17 : v2 = (2 : Int32)
  · rw [if_pos c17] at h
    refine x_tableIn (off := 96) (tgt := 100) (pc := 4) d_Stacks_perform_4 (by rw [c17]; decide) (by rw [c17]; decide) (by rw [c17]; decide) (by decide) ?_
    refine x_aload_n (pc := 100) d_Stacks_perform_100 rfl ?_
    refine x_aload_n (pc := 101) d_Stacks_perform_101 rfl ?_
    obtain ⟨c18, h⟩ := ite_some h
    rcases tB_s h with ⟨a22, u23, e21, h⟩ | ⟨v20, u19, e21, h⟩
    · refine c_invv (c := 0) (d := d + 9) (av := [vR a3]) (st := []) (Q' := fun r h' => r = .inr a22 ∧ h' = u23) (pc := 102) d_Stacks_perform_102 cv_Stacks_23 y_P_push c18 rfl (Nat.le_of_ble_eq_true rfl) (Nat.le_of_ble_eq_true rfl) (w_P_push (d := d + 1) (Q := fun r h' => r = .inr a22 ∧ h' = u23) ⟨rfl, rfl⟩ u a1 a3 e21) (fun v h' z => nomatch z.1) (fun a h' z => ?_)
      obtain ⟨z1, z2⟩ := z
      subst h'
      cases z1
      cases h
      exact x_thOut (xno rfl) hQ
    refine c_invv (c := 0) (d := d + 9) (av := [vR a3]) (st := []) (Q' := fun r h' => r = .inl none ∧ h' = u19) (pc := 102) d_Stacks_perform_102 cv_Stacks_23 y_P_push c18 rfl (Nat.le_of_ble_eq_true rfl) (Nat.le_of_ble_eq_true rfl) (w_P_push (d := d + 1) (Q := fun r h' => r = .inl none ∧ h' = u19) ⟨rfl, rfl⟩ u a1 a3 e21) (fun v h' z => ?_) (fun a h' z => nomatch z.1)
    obtain ⟨z1, z2⟩ := z
    subst h'
    cases z1
    show xW sc m_Stacks_perform (d + 10) Q (u19) 105 [some (vR a0), some (vR a1), some (vR a2), some (vR a3), some (vR a4), some (vI a5)] []
    refine x_goto (tgt := 240) (pc := 105) d_Stacks_perform_105 (by decide) ?_
    exact x_wk (L' := [none, none, none, none, none, none]) ⟨Or.inl rfl, Or.inl rfl, Or.inl rfl, Or.inl rfl, Or.inl rfl, Or.inl rfl, trivial⟩ (w_Stacks_perform_b240 hQ u19 h)
  rw [if_neg c17] at h
  by_cases c24 : v2 = (3 : Int32)
  · rw [if_pos c24] at h
    refine x_tableIn (off := 104) (tgt := 108) (pc := 4) d_Stacks_perform_4 (by rw [c24]; decide) (by rw [c24]; decide) (by rw [c24]; decide) (by decide) ?_
    refine x_aload_n (pc := 108) d_Stacks_perform_108 rfl ?_
    refine x_aload_n (pc := 109) d_Stacks_perform_109 rfl ?_
    rcases tB_s h with ⟨a28, u29, e27, h⟩ | ⟨v26, u25, e27, h⟩
    · refine x_invs (d := d + 9) (av := [vR a1, vR a3]) (st := []) (Q' := fun r h' => r = .inr a28 ∧ h' = u29) (pc := 110) d_Stacks_perform_110 cs_Stacks_27 y_Stacks_copy rfl (Nat.le_of_ble_eq_true rfl) (Nat.le_of_ble_eq_true rfl) (w_Stacks_copy (d := d + 0) (Q := fun r h' => r = .inr a28 ∧ h' = u29) ⟨rfl, rfl⟩ u a1 a3 e27) (fun v h' z => nomatch z.1) (fun a h' z => ?_)
      obtain ⟨z1, z2⟩ := z
      subst h'
      cases z1
      cases h
      exact x_thOut (xno rfl) hQ
    refine x_invs (d := d + 9) (av := [vR a1, vR a3]) (st := []) (Q' := fun r h' => r = .inl none ∧ h' = u25) (pc := 110) d_Stacks_perform_110 cs_Stacks_27 y_Stacks_copy rfl (Nat.le_of_ble_eq_true rfl) (Nat.le_of_ble_eq_true rfl) (w_Stacks_copy (d := d + 0) (Q := fun r h' => r = .inl none ∧ h' = u25) ⟨rfl, rfl⟩ u a1 a3 e27) (fun v h' z => ?_) (fun a h' z => nomatch z.1)
    obtain ⟨z1, z2⟩ := z
    subst h'
    cases z1
    show xW sc m_Stacks_perform (d + 10) Q (u25) 113 [some (vR a0), some (vR a1), some (vR a2), some (vR a3), some (vR a4), some (vI a5)] []
    refine x_goto (tgt := 240) (pc := 113) d_Stacks_perform_113 (by decide) ?_
    exact x_wk (L' := [none, none, none, none, none, none]) ⟨Or.inl rfl, Or.inl rfl, Or.inl rfl, Or.inl rfl, Or.inl rfl, Or.inl rfl, trivial⟩ (w_Stacks_perform_b240 hQ u25 h)
  rw [if_neg c24] at h
  by_cases c30 : v2 = (4 : Int32)
  · rw [if_pos c30] at h
    refine x_tableIn (off := 112) (tgt := 116) (pc := 4) d_Stacks_perform_4 (by rw [c30]; decide) (by rw [c30]; decide) (by rw [c30]; decide) (by decide) ?_
    refine x_aload_n (pc := 116) d_Stacks_perform_116 rfl ?_
    refine x_aload_n (pc := 117) d_Stacks_perform_117 rfl ?_
    refine x_gets (v := vR (some 72)) (pc := 118) d_Stacks_perform_118 sl_Stacks_33 ?_
    obtain ⟨c31, h⟩ := ite_some h
    obtain ⟨v32, e33, h⟩ := Option.bind_eq_some_iff.mp h
    refine c_invv (c := 2) (d := d + 9) (av := [vR (some 72)]) (st := [vR a1]) (Q' := fun r h' => r = .inl (some (vI v32)) ∧ h' = u) (pc := 121) d_Stacks_perform_121 cv_Stacks_39 y_Slot_is c31 rfl (Nat.le_of_ble_eq_true rfl) (Nat.le_of_ble_eq_true rfl) (w_Slot_is (d := d + 9) (Q := fun r h' => r = .inl (some (vI v32)) ∧ h' = u) ⟨rfl, rfl⟩ a3 (some 72) e33) (fun v h' z => ?_) (fun a h' z => nomatch z.1)
    obtain ⟨z1, z2⟩ := z
    subst h'
    cases z1
    show xW sc m_Stacks_perform (d + 10) Q (u) 124 [some (vR a0), some (vR a1), some (vR a2), some (vR a3), some (vR a4), some (vI a5)] [vI v32, vR a1]
    obtain ⟨c34, h⟩ := ite_some h
    rcases tB_s h with ⟨a38, u39, e37, h⟩ | ⟨v36, u35, e37, h⟩
    · refine c_invv (c := 0) (d := d + 9) (av := [vI v32]) (st := []) (Q' := fun r h' => r = .inr a38 ∧ h' = u39) (pc := 124) d_Stacks_perform_124 cv_Stacks_45 y_P_type c34 rfl (Nat.le_of_ble_eq_true rfl) (Nat.le_of_ble_eq_true rfl) (w_P_type (d := d + 2) (Q := fun r h' => r = .inr a38 ∧ h' = u39) ⟨rfl, rfl⟩ u a1 v32 e37) (fun v h' z => nomatch z.1) (fun a h' z => ?_)
      obtain ⟨z1, z2⟩ := z
      subst h'
      cases z1
      cases h
      exact x_thOut (xno rfl) hQ
    refine c_invv (c := 0) (d := d + 9) (av := [vI v32]) (st := []) (Q' := fun r h' => r = .inl none ∧ h' = u35) (pc := 124) d_Stacks_perform_124 cv_Stacks_45 y_P_type c34 rfl (Nat.le_of_ble_eq_true rfl) (Nat.le_of_ble_eq_true rfl) (w_P_type (d := d + 2) (Q := fun r h' => r = .inl none ∧ h' = u35) ⟨rfl, rfl⟩ u a1 v32 e37) (fun v h' z => ?_) (fun a h' z => nomatch z.1)
    obtain ⟨z1, z2⟩ := z
    subst h'
    cases z1
    show xW sc m_Stacks_perform (d + 10) Q (u35) 127 [some (vR a0), some (vR a1), some (vR a2), some (vR a3), some (vR a4), some (vI a5)] []
    refine x_aload_n (pc := 127) d_Stacks_perform_127 rfl ?_
    refine x_aload_n (pc := 128) d_Stacks_perform_128 rfl ?_
    obtain ⟨v40, e41, h⟩ := Option.bind_eq_some_iff.mp h
    refine c_getI (pc := 129) d_Stacks_perform_129 l_Stacks_49 e41 ?_
    refine x_if_lt (tgt := 152) (pc := 132) d_Stacks_perform_132 (by decide) (fun c42 => ?_) (fun c42 => ?_)
    · rw [if_pos c42] at h
      exact x_wk (L' := [none, some (vR a1), none, some (vR a3), none, none]) ⟨Or.inl rfl, Or.inr rfl, Or.inl rfl, Or.inr rfl, Or.inl rfl, Or.inl rfl, trivial⟩ (w_Stacks_perform_b152 hQ a1 a3 a1 u35 h)
    · rw [if_neg c42] at h
      refine x_aload_n (pc := 135) d_Stacks_perform_135 rfl ?_
      obtain ⟨v43, e44, h⟩ := Option.bind_eq_some_iff.mp h
      refine c_getI (pc := 136) d_Stacks_perform_136 l_Stacks_49 e44 ?_
      refine x_aload_n (pc := 139) d_Stacks_perform_139 rfl ?_
      obtain ⟨v45, e46, h⟩ := Option.bind_eq_some_iff.mp h
      refine c_getI (pc := 140) d_Stacks_perform_140 l_Stacks_15 e46 ?_
      refine x_iconst (v := (1 : Int32)) (pc := 143) d_Stacks_perform_143 (by decide) ?_
      refine x_isub (pc := 144) d_Stacks_perform_144 ?_
      refine x_icmp_ge (tgt := 152) (pc := 145) d_Stacks_perform_145 (by decide) (fun c47 => ?_) (fun c47 => ?_)
      · rw [if_pos c47] at h
        exact x_wk (L' := [none, some (vR a1), none, some (vR a3), none, none]) ⟨Or.inl rfl, Or.inr rfl, Or.inl rfl, Or.inr rfl, Or.inl rfl, Or.inl rfl, trivial⟩ (w_Stacks_perform_b152 hQ a1 a3 a1 u35 h)
      · rw [if_neg c47] at h
        refine x_iconst (v := (1 : Int32)) (pc := 148) d_Stacks_perform_148 (by decide) ?_
        refine x_goto (tgt := 153) (pc := 149) d_Stacks_perform_149 (by decide) ?_
        exact x_wk (L' := [none, some (vR a1), none, some (vR a3), none, none]) ⟨Or.inl rfl, Or.inr rfl, Or.inl rfl, Or.inr rfl, Or.inl rfl, Or.inl rfl, trivial⟩ (w_Stacks_perform_b153 hQ a1 a3 (1 : Int32) a1 u35 h)
  rw [if_neg c30] at h
  by_cases c48 : v2 = (5 : Int32)
  · rw [if_pos c48] at h
    refine x_tableIn (off := 170) (tgt := 174) (pc := 4) d_Stacks_perform_4 (by rw [c48]; decide) (by rw [c48]; decide) (by rw [c48]; decide) (by decide) ?_
    refine x_aload_n (pc := 174) d_Stacks_perform_174 rfl ?_
    refine x_aload_n (pc := 175) d_Stacks_perform_175 rfl ?_
    refine x_aload (pc := 176) d_Stacks_perform_176 rfl ?_
    rcases tB_s h with ⟨a52, u53, e51, h⟩ | ⟨v50, u49, e51, h⟩
    · refine x_invs (d := d + 9) (av := [vR a1, vR a3, vR a4]) (st := []) (Q' := fun r h' => r = .inr a52 ∧ h' = u53) (pc := 178) d_Stacks_perform_178 cs_Stacks_62 y_Stacks_roll rfl (Nat.le_of_ble_eq_true rfl) (Nat.le_of_ble_eq_true rfl) (w_Stacks_roll (d := d + 1) (Q := fun r h' => r = .inr a52 ∧ h' = u53) ⟨rfl, rfl⟩ u a1 a3 a4 e51) (fun v h' z => nomatch z.1) (fun a h' z => ?_)
      obtain ⟨z1, z2⟩ := z
      subst h'
      cases z1
      cases h
      exact x_thOut (xno rfl) hQ
    refine x_invs (d := d + 9) (av := [vR a1, vR a3, vR a4]) (st := []) (Q' := fun r h' => r = .inl none ∧ h' = u49) (pc := 178) d_Stacks_perform_178 cs_Stacks_62 y_Stacks_roll rfl (Nat.le_of_ble_eq_true rfl) (Nat.le_of_ble_eq_true rfl) (w_Stacks_roll (d := d + 1) (Q := fun r h' => r = .inl none ∧ h' = u49) ⟨rfl, rfl⟩ u a1 a3 a4 e51) (fun v h' z => ?_) (fun a h' z => nomatch z.1)
    obtain ⟨z1, z2⟩ := z
    subst h'
    cases z1
    show xW sc m_Stacks_perform (d + 10) Q (u49) 181 [some (vR a0), some (vR a1), some (vR a2), some (vR a3), some (vR a4), some (vI a5)] []
    refine x_goto (tgt := 240) (pc := 181) d_Stacks_perform_181 (by decide) ?_
    exact x_wk (L' := [none, none, none, none, none, none]) ⟨Or.inl rfl, Or.inl rfl, Or.inl rfl, Or.inl rfl, Or.inl rfl, Or.inl rfl, trivial⟩ (w_Stacks_perform_b240 hQ u49 h)
  rw [if_neg c48] at h
  by_cases c54 : v2 = (6 : Int32)
  · rw [if_pos c54] at h
    refine x_tableIn (off := 180) (tgt := 184) (pc := 4) d_Stacks_perform_4 (by rw [c54]; decide) (by rw [c54]; decide) (by rw [c54]; decide) (by decide) ?_
    refine x_aload_n (pc := 184) d_Stacks_perform_184 rfl ?_
    refine x_iconst (v := (0 : Int32)) (pc := 185) d_Stacks_perform_185 (by decide) ?_
    obtain ⟨u55, e56, h⟩ := Option.bind_eq_some_iff.mp h
    refine c_putf (pc := 186) d_Stacks_perform_186 l_Stacks_15 fp_0_9 (xfit_int) e56 ?_
    refine x_goto (tgt := 240) (pc := 189) d_Stacks_perform_189 (by decide) ?_
    exact x_wk (L' := [none, none, none, none, none, none]) ⟨Or.inl rfl, Or.inl rfl, Or.inl rfl, Or.inl rfl, Or.inl rfl, Or.inl rfl, trivial⟩ (w_Stacks_perform_b240 hQ u55 h)
  rw [if_neg c54] at h
  by_cases c57 : v2 = (7 : Int32)
  · rw [if_pos c57] at h
    refine x_tableIn (off := 188) (tgt := 192) (pc := 4) d_Stacks_perform_4 (by rw [c57]; decide) (by rw [c57]; decide) (by rw [c57]; decide) (by decide) ?_
    refine x_aload_n (pc := 192) d_Stacks_perform_192 rfl ?_
    refine x_iconst (v := (0 : Int32)) (pc := 193) d_Stacks_perform_193 (by decide) ?_
    refine x_gets (v := vR (some 72)) (pc := 194) d_Stacks_perform_194 sl_Stacks_33 ?_
    refine x_aload_n (pc := 197) d_Stacks_perform_197 rfl ?_
    obtain ⟨v58, e59, h⟩ := Option.bind_eq_some_iff.mp h
    refine c_getI (pc := 198) d_Stacks_perform_198 l_Stacks_15 e59 ?_
    obtain ⟨c60, h⟩ := ite_some h
    rcases tB_s h with ⟨a64, u65, e63, h⟩ | ⟨v62, u61, e63, h⟩
    · refine c_invv (c := 0) (d := d + 9) (av := [vI (0 : Int32), vR (some 72), vI v58]) (st := []) (Q' := fun r h' => r = .inr a64 ∧ h' = u65) (pc := 201) d_Stacks_perform_201 cv_Stacks_66 y_P_give c60 rfl (Nat.le_of_ble_eq_true rfl) (Nat.le_of_ble_eq_true rfl) (w_P_give (d := d + 1) (Q := fun r h' => r = .inr a64 ∧ h' = u65) ⟨rfl, rfl⟩ u a1 (0 : Int32) (some 72) v58 e63) (fun v h' z => nomatch z.1) (fun a h' z => ?_)
      obtain ⟨z1, z2⟩ := z
      subst h'
      cases z1
      cases h
      exact x_thOut (xno rfl) hQ
    refine c_invv (c := 0) (d := d + 9) (av := [vI (0 : Int32), vR (some 72), vI v58]) (st := []) (Q' := fun r h' => r = .inl none ∧ h' = u61) (pc := 201) d_Stacks_perform_201 cv_Stacks_66 y_P_give c60 rfl (Nat.le_of_ble_eq_true rfl) (Nat.le_of_ble_eq_true rfl) (w_P_give (d := d + 1) (Q := fun r h' => r = .inl none ∧ h' = u61) ⟨rfl, rfl⟩ u a1 (0 : Int32) (some 72) v58 e63) (fun v h' z => ?_) (fun a h' z => nomatch z.1)
    obtain ⟨z1, z2⟩ := z
    subst h'
    cases z1
    show xW sc m_Stacks_perform (d + 10) Q (u61) 204 [some (vR a0), some (vR a1), some (vR a2), some (vR a3), some (vR a4), some (vI a5)] []
    refine x_goto (tgt := 240) (pc := 204) d_Stacks_perform_204 (by decide) ?_
    exact x_wk (L' := [none, none, none, none, none, none]) ⟨Or.inl rfl, Or.inl rfl, Or.inl rfl, Or.inl rfl, Or.inl rfl, Or.inl rfl, trivial⟩ (w_Stacks_perform_b240 hQ u61 h)
  rw [if_neg c57] at h
  by_cases c66 : v2 = (8 : Int32)
  · rw [if_pos c66] at h
    refine x_tableIn (off := 227) (tgt := 231) (pc := 4) d_Stacks_perform_4 (by rw [c66]; decide) (by rw [c66]; decide) (by rw [c66]; decide) (by decide) ?_
    exact x_wk (L' := [none, some (vR a1), none, none, none, none]) ⟨Or.inl rfl, Or.inr rfl, Or.inl rfl, Or.inl rfl, Or.inl rfl, Or.inl rfl, trivial⟩ (w_Stacks_perform_b231 hQ a1 u h)
  rw [if_neg c66] at h
  by_cases c67 : v2 = (9 : Int32)
  · rw [if_pos c67] at h
    refine x_tableIn (off := 227) (tgt := 231) (pc := 4) d_Stacks_perform_4 (by rw [c67]; decide) (by rw [c67]; decide) (by rw [c67]; decide) (by decide) ?_
    exact x_wk (L' := [none, some (vR a1), none, none, none, none]) ⟨Or.inl rfl, Or.inr rfl, Or.inl rfl, Or.inl rfl, Or.inl rfl, Or.inl rfl, trivial⟩ (w_Stacks_perform_b231 hQ a1 u h)
  rw [if_neg c67] at h
  by_cases c68 : v2 = (10 : Int32)
  · rw [if_pos c68] at h
    refine x_tableIn (off := 203) (tgt := 207) (pc := 4) d_Stacks_perform_4 (by rw [c68]; decide) (by rw [c68]; decide) (by rw [c68]; decide) (by decide) ?_
    refine x_aload_n (pc := 207) d_Stacks_perform_207 rfl ?_
    refine x_aload_n (pc := 208) d_Stacks_perform_208 rfl ?_
    rcases tB_s h with ⟨a72, u73, e71, h⟩ | ⟨v70, u69, e71, h⟩
    · refine x_invs (d := d + 9) (av := [vR a1]) (st := [vR a1]) (Q' := fun r h' => r = .inr a72 ∧ h' = u73) (pc := 209) d_Stacks_perform_209 cs_Stacks_70 y_Stacks_marked rfl (Nat.le_of_ble_eq_true rfl) (Nat.le_of_ble_eq_true rfl) (w_Stacks_marked (d := d + 2) (Q := fun r h' => r = .inr a72 ∧ h' = u73) ⟨rfl, rfl⟩ u a1 e71) (fun v h' z => nomatch z.1) (fun a h' z => ?_)
      obtain ⟨z1, z2⟩ := z
      subst h'
      cases z1
      cases h
      exact x_thOut (xno rfl) hQ
    refine x_invs (d := d + 9) (av := [vR a1]) (st := [vR a1]) (Q' := fun r h' => r = .inl (some (vI v70)) ∧ h' = u69) (pc := 209) d_Stacks_perform_209 cs_Stacks_70 y_Stacks_marked rfl (Nat.le_of_ble_eq_true rfl) (Nat.le_of_ble_eq_true rfl) (w_Stacks_marked (d := d + 2) (Q := fun r h' => r = .inl (some (vI v70)) ∧ h' = u69) ⟨rfl, rfl⟩ u a1 e71) (fun v h' z => ?_) (fun a h' z => nomatch z.1)
    obtain ⟨z1, z2⟩ := z
    subst h'
    cases z1
    show xW sc m_Stacks_perform (d + 10) Q (u69) 212 [some (vR a0), some (vR a1), some (vR a2), some (vR a3), some (vR a4), some (vI a5)] [vI v70, vR a1]
    obtain ⟨u74, e75, h⟩ := Option.bind_eq_some_iff.mp h
    refine c_putf (pc := 212) d_Stacks_perform_212 l_Stacks_15 fp_0_9 (xfit_int) e75 ?_
    refine x_goto (tgt := 240) (pc := 215) d_Stacks_perform_215 (by decide) ?_
    exact x_wk (L' := [none, none, none, none, none, none]) ⟨Or.inl rfl, Or.inl rfl, Or.inl rfl, Or.inl rfl, Or.inl rfl, Or.inl rfl, trivial⟩ (w_Stacks_perform_b240 hQ u74 h)
  rw [if_neg c68] at h
  by_cases c76 : v2 = (11 : Int32)
  · rw [if_pos c76] at h
    refine x_tableIn (off := 214) (tgt := 218) (pc := 4) d_Stacks_perform_4 (by rw [c76]; decide) (by rw [c76]; decide) (by rw [c76]; decide) (by decide) ?_
    refine x_aload_n (pc := 218) d_Stacks_perform_218 rfl ?_
    refine x_aload_n (pc := 219) d_Stacks_perform_219 rfl ?_
    rcases tB_s h with ⟨a80, u81, e79, h⟩ | ⟨v78, u77, e79, h⟩
    · refine x_invs (d := d + 9) (av := [vR a1]) (st := [vR a1]) (Q' := fun r h' => r = .inr a80 ∧ h' = u81) (pc := 220) d_Stacks_perform_220 cs_Stacks_70 y_Stacks_marked rfl (Nat.le_of_ble_eq_true rfl) (Nat.le_of_ble_eq_true rfl) (w_Stacks_marked (d := d + 2) (Q := fun r h' => r = .inr a80 ∧ h' = u81) ⟨rfl, rfl⟩ u a1 e79) (fun v h' z => nomatch z.1) (fun a h' z => ?_)
      obtain ⟨z1, z2⟩ := z
      subst h'
      cases z1
      cases h
      exact x_thOut (xno rfl) hQ
    refine x_invs (d := d + 9) (av := [vR a1]) (st := [vR a1]) (Q' := fun r h' => r = .inl (some (vI v78)) ∧ h' = u77) (pc := 220) d_Stacks_perform_220 cs_Stacks_70 y_Stacks_marked rfl (Nat.le_of_ble_eq_true rfl) (Nat.le_of_ble_eq_true rfl) (w_Stacks_marked (d := d + 2) (Q := fun r h' => r = .inl (some (vI v78)) ∧ h' = u77) ⟨rfl, rfl⟩ u a1 e79) (fun v h' z => ?_) (fun a h' z => nomatch z.1)
    obtain ⟨z1, z2⟩ := z
    subst h'
    cases z1
    show xW sc m_Stacks_perform (d + 10) Q (u77) 223 [some (vR a0), some (vR a1), some (vR a2), some (vR a3), some (vR a4), some (vI a5)] [vI v78, vR a1]
    refine x_iconst (v := (1 : Int32)) (pc := 223) d_Stacks_perform_223 (by decide) ?_
    refine x_iadd (pc := 224) d_Stacks_perform_224 ?_
    rcases tB_s h with ⟨a85, u86, e84, h⟩ | ⟨v83, u82, e84, h⟩
    · refine x_invs (d := d + 9) (av := [vR a1, vI (v78 + (1 : Int32))]) (st := []) (Q' := fun r h' => r = .inr a85 ∧ h' = u86) (pc := 225) d_Stacks_perform_225 cs_Stacks_74 y_Stacks_close rfl (Nat.le_of_ble_eq_true rfl) (Nat.le_of_ble_eq_true rfl) (w_Stacks_close (d := d + 1) (Q := fun r h' => r = .inr a85 ∧ h' = u86) ⟨rfl, rfl⟩ u77 a1 (v78 + (1 : Int32)) e84) (fun v h' z => nomatch z.1) (fun a h' z => ?_)
      obtain ⟨z1, z2⟩ := z
      subst h'
      cases z1
      cases h
      exact x_thOut (xno rfl) hQ
    refine x_invs (d := d + 9) (av := [vR a1, vI (v78 + (1 : Int32))]) (st := []) (Q' := fun r h' => r = .inl none ∧ h' = u82) (pc := 225) d_Stacks_perform_225 cs_Stacks_74 y_Stacks_close rfl (Nat.le_of_ble_eq_true rfl) (Nat.le_of_ble_eq_true rfl) (w_Stacks_close (d := d + 1) (Q := fun r h' => r = .inl none ∧ h' = u82) ⟨rfl, rfl⟩ u77 a1 (v78 + (1 : Int32)) e84) (fun v h' z => ?_) (fun a h' z => nomatch z.1)
    obtain ⟨z1, z2⟩ := z
    subst h'
    cases z1
    show xW sc m_Stacks_perform (d + 10) Q (u82) 228 [some (vR a0), some (vR a1), some (vR a2), some (vR a3), some (vR a4), some (vI a5)] []
    refine x_goto (tgt := 240) (pc := 228) d_Stacks_perform_228 (by decide) ?_
    exact x_wk (L' := [none, none, none, none, none, none]) ⟨Or.inl rfl, Or.inl rfl, Or.inl rfl, Or.inl rfl, Or.inl rfl, Or.inl rfl, trivial⟩ (w_Stacks_perform_b240 hQ u82 h)
  rw [if_neg c76] at h
  refine x_tableOut (tgt := 231) (pc := 4) d_Stacks_perform_4 (by have q0 := lv_neT c4 (a := 0) (by decide); have q1 := lv_neT c9 (a := 1) (by decide); have q2 := lv_neT c17 (a := 2) (by decide); have q3 := lv_neT c24 (a := 3) (by decide); have q4 := lv_neT c30 (a := 4) (by decide); have q5 := lv_neT c48 (a := 5) (by decide); have q6 := lv_neT c54 (a := 6) (by decide); have q7 := lv_neT c57 (a := 7) (by decide); have q8 := lv_neT c66 (a := 8) (by decide); have q9 := lv_neT c67 (a := 9) (by decide); have q10 := lv_neT c68 (a := 10) (by decide); have q11 := lv_neT c76 (a := 11) (by decide); omega) (by decide) ?_
  exact x_wk (L' := [none, some (vR a1), none, none, none, none]) ⟨Or.inl rfl, Or.inr rfl, Or.inl rfl, Or.inl rfl, Or.inl rfl, Or.inl rfl, trivial⟩ (w_Stacks_perform_b231 hQ a1 u h)
def f_Slot_same_b135 (sc : xSc) (u : xH)  (t0 : Int32) : Option Int32 := (if xbo t0 = true then some t0 else none)
theorem w_Slot_same_b135 {sc : xSc} {d : Nat} {Q : xR → xH → Prop} {u : xH} {rZ : Int32}  (hQ : Q (.inl (some (vI rZ))) u) (t0 : Int32) (h : f_Slot_same_b135 sc u  t0 = some rZ) : xW sc m_Slot_same (d + 1) Q (u) 135 [none, none] [vI t0] := by
  unfold f_Slot_same_b135 at h
  obtain ⟨c1, h⟩ := ite_some h
  cases h
  exact x_iret (ty := .boolean) (pc := 135) d_Slot_same_135 rfl (xbo_n c1) hQ
def f_Slot_same_b115 (sc : xSc) (u : xH)   : Option Int32 := f_Slot_same_b135 sc u (0 : Int32)
theorem w_Slot_same_b115 {sc : xSc} {d : Nat} {Q : xR → xH → Prop} {u : xH} {rZ : Int32}  (hQ : Q (.inl (some (vI rZ))) u)  (h : f_Slot_same_b115 sc u   = some rZ) : xW sc m_Slot_same (d + 1) Q (u) 115 [none, none] [] := by
  unfold f_Slot_same_b115 at h
  refine x_iconst (v := (0 : Int32)) (pc := 115) d_Slot_same_115 (by decide) ?_
  refine x_goto (tgt := 135) (pc := 116) d_Slot_same_116 (by decide) ?_
  exact w_Slot_same_b135 hQ (0 : Int32) h
def f_Slot_same_b111 (sc : xSc) (u : xH)   : Option Int32 := f_Slot_same_b135 sc u (1 : Int32)
theorem w_Slot_same_b111 {sc : xSc} {d : Nat} {Q : xR → xH → Prop} {u : xH} {rZ : Int32}  (hQ : Q (.inl (some (vI rZ))) u)  (h : f_Slot_same_b111 sc u   = some rZ) : xW sc m_Slot_same (d + 1) Q (u) 111 [none, none] [] := by
  unfold f_Slot_same_b111 at h
  refine x_iconst (v := (1 : Int32)) (pc := 111) d_Slot_same_111 (by decide) ?_
  refine x_goto (tgt := 135) (pc := 112) d_Slot_same_112 (by decide) ?_
  exact w_Slot_same_b135 hQ (1 : Int32) h
def f_Slot_same_b71 (sc : xSc) (u : xH)  (t0 : Int32) : Option Int32 := (if xbo t0 = true then some t0 else none)
theorem w_Slot_same_b71 {sc : xSc} {d : Nat} {Q : xR → xH → Prop} {u : xH} {rZ : Int32}  (hQ : Q (.inl (some (vI rZ))) u) (t0 : Int32) (h : f_Slot_same_b71 sc u  t0 = some rZ) : xW sc m_Slot_same (d + 1) Q (u) 71 [none, none] [vI t0] := by
  unfold f_Slot_same_b71 at h
  obtain ⟨c1, h⟩ := ite_some h
  cases h
  exact x_iret (ty := .boolean) (pc := 71) d_Slot_same_71 rfl (xbo_n c1) hQ
def f_Slot_same_b32 (sc : xSc) (u : xH)  (l0 : Option Nat) (l1 : Option Nat) : Option Int32 := (gR sc u 2 0 l0).bind fun v1 => (gR sc u 2 0 l1).bind fun v3 => (if xcm v1 = true then (if xcm v3 = true then (if v1 = v3 then (gR sc u 2 0 l0).bind fun v8 => (if xcm v8 = true then (if xcm (some 75) = true then (if v8 = (some 75) then (gR sc u 2 6 l0).bind fun v36 => (gR sc u 2 6 l1).bind fun v38 => (if xcm v36 = true then (if xcm v38 = true then (if v36 = v38 then f_Slot_same_b71 sc u (1 : Int32) else f_Slot_same_b71 sc u (0 : Int32)) else none) else none) else (gR sc u 2 0 l0).bind fun v13 => (if xcm v13 = true then (if xcm (some 77) = true then (if v13 = (some 77) then (gI sc u 2 3 l0).bind fun v23 => (gI sc u 2 3 l1).bind fun v25 => (if v23 = v25 then (gI sc u 2 3 l0).bind fun v28 => (if v28 = 0 then f_Slot_same_b111 sc u else (gI sc u 2 2 l0).bind fun v31 => (gI sc u 2 2 l1).bind fun v33 => (if v31 = v33 then f_Slot_same_b111 sc u else f_Slot_same_b115 sc u)) else f_Slot_same_b115 sc u) else (gI sc u 2 2 l0).bind fun v18 => (gI sc u 2 2 l1).bind fun v20 => (if v18 = v20 then f_Slot_same_b135 sc u (1 : Int32) else f_Slot_same_b135 sc u (0 : Int32))) else none) else none)) else none) else none) else some (0 : Int32)) else none) else none)
theorem w_Slot_same_b32 {sc : xSc} {d : Nat} {Q : xR → xH → Prop} {u : xH} {rZ : Int32}  (hQ : Q (.inl (some (vI rZ))) u) (l0 : Option Nat) (l1 : Option Nat) (h : f_Slot_same_b32 sc u  l0 l1 = some rZ) : xW sc m_Slot_same (d + 1) Q (u) 32 [some (vR l0), some (vR l1)] [] := by
  unfold f_Slot_same_b32 at h
  refine x_aload_n (pc := 32) d_Slot_same_32 rfl ?_
  obtain ⟨v1, e2, h⟩ := Option.bind_eq_some_iff.mp h
  refine c_getR (pc := 33) d_Slot_same_33 l_Slot_13 e2 ?_
  refine x_aload_n (pc := 36) d_Slot_same_36 rfl ?_
  obtain ⟨v3, e4, h⟩ := Option.bind_eq_some_iff.mp h
  refine c_getR (pc := 37) d_Slot_same_37 l_Slot_13 e4 ?_
  obtain ⟨c5, h⟩ := ite_some h
  obtain ⟨c6, h⟩ := ite_some h
  refine x_acmp_eq (tgt := 45) (pc := 40) d_Slot_same_40 (by decide) (xcm_s c5) (xcm_s c6) (fun c7 => ?_) (fun c7 => ?_)
  · rw [if_pos c7] at h
    refine x_aload_n (pc := 45) d_Slot_same_45 rfl ?_
    obtain ⟨v8, e9, h⟩ := Option.bind_eq_some_iff.mp h
    refine c_getR (pc := 46) d_Slot_same_46 l_Slot_13 e9 ?_
    refine x_gets (v := vR (some 75)) (pc := 49) d_Slot_same_49 sl_Slot_40 ?_
    obtain ⟨c10, h⟩ := ite_some h
    obtain ⟨c11, h⟩ := ite_some h
    refine x_acmp_ne (tgt := 72) (pc := 52) d_Slot_same_52 (by decide) (xcm_s c10) (xcm_s c11) (fun c12 => ?_) (fun c12 => ?_)
    · rw [if_neg c12] at h
      refine x_aload_n (pc := 72) d_Slot_same_72 rfl ?_
      obtain ⟨v13, e14, h⟩ := Option.bind_eq_some_iff.mp h
      refine c_getR (pc := 73) d_Slot_same_73 l_Slot_13 e14 ?_
      refine x_gets (v := vR (some 77)) (pc := 76) d_Slot_same_76 sl_Slot_51 ?_
      obtain ⟨c15, h⟩ := ite_some h
      obtain ⟨c16, h⟩ := ite_some h
      refine x_acmp_ne (tgt := 119) (pc := 79) d_Slot_same_79 (by decide) (xcm_s c15) (xcm_s c16) (fun c17 => ?_) (fun c17 => ?_)
      · rw [if_neg c17] at h
        refine x_aload_n (pc := 119) d_Slot_same_119 rfl ?_
        obtain ⟨v18, e19, h⟩ := Option.bind_eq_some_iff.mp h
        refine c_getI (pc := 120) d_Slot_same_120 l_Slot_18 e19 ?_
        refine x_aload_n (pc := 123) d_Slot_same_123 rfl ?_
        obtain ⟨v20, e21, h⟩ := Option.bind_eq_some_iff.mp h
        refine c_getI (pc := 124) d_Slot_same_124 l_Slot_18 e21 ?_
        refine x_icmp_ne (tgt := 134) (pc := 127) d_Slot_same_127 (by decide) (fun c22 => ?_) (fun c22 => ?_)
        · rw [if_neg c22] at h
          refine x_iconst (v := (0 : Int32)) (pc := 134) d_Slot_same_134 (by decide) ?_
          exact x_wk (L' := [none, none]) ⟨Or.inl rfl, Or.inl rfl, trivial⟩ (w_Slot_same_b135 hQ (0 : Int32) h)
        · rw [if_pos c22] at h
          refine x_iconst (v := (1 : Int32)) (pc := 130) d_Slot_same_130 (by decide) ?_
          refine x_goto (tgt := 135) (pc := 131) d_Slot_same_131 (by decide) ?_
          exact x_wk (L' := [none, none]) ⟨Or.inl rfl, Or.inl rfl, trivial⟩ (w_Slot_same_b135 hQ (1 : Int32) h)
      · rw [if_pos c17] at h
        refine x_aload_n (pc := 82) d_Slot_same_82 rfl ?_
        obtain ⟨v23, e24, h⟩ := Option.bind_eq_some_iff.mp h
        refine c_getI (pc := 83) d_Slot_same_83 l_Slot_22 e24 ?_
        refine x_aload_n (pc := 86) d_Slot_same_86 rfl ?_
        obtain ⟨v25, e26, h⟩ := Option.bind_eq_some_iff.mp h
        refine c_getI (pc := 87) d_Slot_same_87 l_Slot_22 e26 ?_
        refine x_icmp_ne (tgt := 115) (pc := 90) d_Slot_same_90 (by decide) (fun c27 => ?_) (fun c27 => ?_)
        · rw [if_neg c27] at h
          exact x_wk (L' := [none, none]) ⟨Or.inl rfl, Or.inl rfl, trivial⟩ (w_Slot_same_b115 hQ h)
        · rw [if_pos c27] at h
          refine x_aload_n (pc := 93) d_Slot_same_93 rfl ?_
          obtain ⟨v28, e29, h⟩ := Option.bind_eq_some_iff.mp h
          refine c_getI (pc := 94) d_Slot_same_94 l_Slot_22 e29 ?_
          refine x_if_eq (tgt := 111) (pc := 97) d_Slot_same_97 (by decide) (fun c30 => ?_) (fun c30 => ?_)
          · rw [if_pos c30] at h
            exact x_wk (L' := [none, none]) ⟨Or.inl rfl, Or.inl rfl, trivial⟩ (w_Slot_same_b111 hQ h)
          · rw [if_neg c30] at h
            refine x_aload_n (pc := 100) d_Slot_same_100 rfl ?_
            obtain ⟨v31, e32, h⟩ := Option.bind_eq_some_iff.mp h
            refine c_getI (pc := 101) d_Slot_same_101 l_Slot_18 e32 ?_
            refine x_aload_n (pc := 104) d_Slot_same_104 rfl ?_
            obtain ⟨v33, e34, h⟩ := Option.bind_eq_some_iff.mp h
            refine c_getI (pc := 105) d_Slot_same_105 l_Slot_18 e34 ?_
            refine x_icmp_ne (tgt := 115) (pc := 108) d_Slot_same_108 (by decide) (fun c35 => ?_) (fun c35 => ?_)
            · rw [if_neg c35] at h
              exact x_wk (L' := [none, none]) ⟨Or.inl rfl, Or.inl rfl, trivial⟩ (w_Slot_same_b115 hQ h)
            · rw [if_pos c35] at h
              exact x_wk (L' := [none, none]) ⟨Or.inl rfl, Or.inl rfl, trivial⟩ (w_Slot_same_b111 hQ h)
    · rw [if_pos c12] at h
      refine x_aload_n (pc := 55) d_Slot_same_55 rfl ?_
      obtain ⟨v36, e37, h⟩ := Option.bind_eq_some_iff.mp h
      refine c_getR (pc := 56) d_Slot_same_56 l_Slot_43 e37 ?_
      refine x_aload_n (pc := 59) d_Slot_same_59 rfl ?_
      obtain ⟨v38, e39, h⟩ := Option.bind_eq_some_iff.mp h
      refine c_getR (pc := 60) d_Slot_same_60 l_Slot_43 e39 ?_
      obtain ⟨c40, h⟩ := ite_some h
      obtain ⟨c41, h⟩ := ite_some h
      refine x_acmp_ne (tgt := 70) (pc := 63) d_Slot_same_63 (by decide) (xcm_s c40) (xcm_s c41) (fun c42 => ?_) (fun c42 => ?_)
      · rw [if_neg c42] at h
        refine x_iconst (v := (0 : Int32)) (pc := 70) d_Slot_same_70 (by decide) ?_
        exact x_wk (L' := [none, none]) ⟨Or.inl rfl, Or.inl rfl, trivial⟩ (w_Slot_same_b71 hQ (0 : Int32) h)
      · rw [if_pos c42] at h
        refine x_iconst (v := (1 : Int32)) (pc := 66) d_Slot_same_66 (by decide) ?_
        refine x_goto (tgt := 71) (pc := 67) d_Slot_same_67 (by decide) ?_
        exact x_wk (L' := [none, none]) ⟨Or.inl rfl, Or.inl rfl, trivial⟩ (w_Slot_same_b71 hQ (1 : Int32) h)
  · rw [if_neg c7] at h
    refine x_iconst (v := (0 : Int32)) (pc := 43) d_Slot_same_43 (by decide) ?_
    cases h
    exact x_iret (ty := .boolean) (pc := 44) d_Slot_same_44 rfl (rfl) hQ
def f_Slot_same_b31 (sc : xSc) (u : xH)  (t0 : Int32) : Option Int32 := (if xbo t0 = true then some t0 else none)
theorem w_Slot_same_b31 {sc : xSc} {d : Nat} {Q : xR → xH → Prop} {u : xH} {rZ : Int32}  (hQ : Q (.inl (some (vI rZ))) u) (t0 : Int32) (h : f_Slot_same_b31 sc u  t0 = some rZ) : xW sc m_Slot_same (d + 1) Q (u) 31 [none, none] [vI t0] := by
  unfold f_Slot_same_b31 at h
  obtain ⟨c1, h⟩ := ite_some h
  cases h
  exact x_iret (ty := .boolean) (pc := 31) d_Slot_same_31 rfl (xbo_n c1) hQ
def f_Slot_same (sc : xSc) (u : xH) (a0 : Option Nat) (a1 : Option Nat) : Option Int32 := (if xis sc u 2 a0 = true then (f_Slot_isNumber sc u a0).bind fun v2 => (if v2 = 0 then f_Slot_same_b32 sc u a0 a1 else (if xis sc u 2 a1 = true then (f_Slot_isNumber sc u a1).bind fun v6 => (if v6 = 0 then f_Slot_same_b32 sc u a0 a1 else (if xis sc u 2 a0 = true then (f_Slot_value sc u a0).bind fun v10 => (if xis sc u 2 a1 = true then (f_Slot_value sc u a1).bind fun v13 => (if (Op.cmpValue (FP.dcmp v10 v13) .l) = 0 then f_Slot_same_b31 sc u (1 : Int32) else f_Slot_same_b31 sc u (0 : Int32)) else none) else none)) else none)) else none)
theorem w_Slot_same {sc : xSc} {d : Nat} {Q : xR → xH → Prop} {u : xH} {rZ : Int32} (hQ : Q (.inl (some (vI rZ))) u) (a0 : Option Nat) (a1 : Option Nat) (h : f_Slot_same sc u a0 a1 = some rZ) : xW sc m_Slot_same (d + 1) Q (u) 0 (xent [vR a0, vR a1] m_Slot_same.2.2.1) [] := by
  show xW sc m_Slot_same (d + 1) Q (u) 0 [some (vR a0), some (vR a1)] []
  unfold f_Slot_same at h
  refine x_aload_n (pc := 0) d_Slot_same_0 rfl ?_
  obtain ⟨c1, h⟩ := ite_some h
  obtain ⟨v2, e3, h⟩ := Option.bind_eq_some_iff.mp h
  refine c_invv (c := 2) (d := d + 0) (av := []) (st := []) (Q' := fun r h' => r = .inl (some (vI v2)) ∧ h' = u) (pc := 1) d_Slot_same_1 cv_Slot_54 y_Slot_isNumber c1 rfl (Nat.le_of_ble_eq_true rfl) (Nat.le_of_ble_eq_true rfl) (w_Slot_isNumber (d := d + 0) (Q := fun r h' => r = .inl (some (vI v2)) ∧ h' = u) ⟨rfl, rfl⟩ a0 e3) (fun v h' z => ?_) (fun a h' z => nomatch z.1)
  obtain ⟨z1, z2⟩ := z
  subst h'
  cases z1
  show xW sc m_Slot_same (d + 1) Q (u) 4 [some (vR a0), some (vR a1)] [vI v2]
  refine x_if_eq (tgt := 32) (pc := 4) d_Slot_same_4 (by decide) (fun c4 => ?_) (fun c4 => ?_)
  · rw [if_pos c4] at h
    exact w_Slot_same_b32 hQ a0 a1 h
  · rw [if_neg c4] at h
    refine x_aload_n (pc := 7) d_Slot_same_7 rfl ?_
    obtain ⟨c5, h⟩ := ite_some h
    obtain ⟨v6, e7, h⟩ := Option.bind_eq_some_iff.mp h
    refine c_invv (c := 2) (d := d + 0) (av := []) (st := []) (Q' := fun r h' => r = .inl (some (vI v6)) ∧ h' = u) (pc := 8) d_Slot_same_8 cv_Slot_54 y_Slot_isNumber c5 rfl (Nat.le_of_ble_eq_true rfl) (Nat.le_of_ble_eq_true rfl) (w_Slot_isNumber (d := d + 0) (Q := fun r h' => r = .inl (some (vI v6)) ∧ h' = u) ⟨rfl, rfl⟩ a1 e7) (fun v h' z => ?_) (fun a h' z => nomatch z.1)
    obtain ⟨z1, z2⟩ := z
    subst h'
    cases z1
    show xW sc m_Slot_same (d + 1) Q (u) 11 [some (vR a0), some (vR a1)] [vI v6]
    refine x_if_eq (tgt := 32) (pc := 11) d_Slot_same_11 (by decide) (fun c8 => ?_) (fun c8 => ?_)
    · rw [if_pos c8] at h
      exact w_Slot_same_b32 hQ a0 a1 h
    · rw [if_neg c8] at h
      refine x_aload_n (pc := 14) d_Slot_same_14 rfl ?_
      obtain ⟨c9, h⟩ := ite_some h
      obtain ⟨v10, e11, h⟩ := Option.bind_eq_some_iff.mp h
      refine c_invv (c := 2) (d := d + 0) (av := []) (st := []) (Q' := fun r h' => r = .inl (some (vD v10)) ∧ h' = u) (pc := 15) d_Slot_same_15 cv_Slot_58 y_Slot_value c9 rfl (Nat.le_of_ble_eq_true rfl) (Nat.le_of_ble_eq_true rfl) (w_Slot_value (d := d + 0) (Q := fun r h' => r = .inl (some (vD v10)) ∧ h' = u) ⟨rfl, rfl⟩ a0 e11) (fun v h' z => ?_) (fun a h' z => nomatch z.1)
      obtain ⟨z1, z2⟩ := z
      subst h'
      cases z1
      show xW sc m_Slot_same (d + 1) Q (u) 18 [some (vR a0), some (vR a1)] [vD v10]
      refine x_aload_n (pc := 18) d_Slot_same_18 rfl ?_
      obtain ⟨c12, h⟩ := ite_some h
      obtain ⟨v13, e14, h⟩ := Option.bind_eq_some_iff.mp h
      refine c_invv (c := 2) (d := d + 0) (av := []) (st := [vD v10]) (Q' := fun r h' => r = .inl (some (vD v13)) ∧ h' = u) (pc := 19) d_Slot_same_19 cv_Slot_58 y_Slot_value c12 rfl (Nat.le_of_ble_eq_true rfl) (Nat.le_of_ble_eq_true rfl) (w_Slot_value (d := d + 0) (Q := fun r h' => r = .inl (some (vD v13)) ∧ h' = u) ⟨rfl, rfl⟩ a1 e14) (fun v h' z => ?_) (fun a h' z => nomatch z.1)
      obtain ⟨z1, z2⟩ := z
      subst h'
      cases z1
      show xW sc m_Slot_same (d + 1) Q (u) 22 [some (vR a0), some (vR a1)] [vD v13, vD v10]
      refine x_dcmp (pc := 22) d_Slot_same_22 ?_
      refine x_if_ne (tgt := 30) (pc := 23) d_Slot_same_23 (by decide) (fun c15 => ?_) (fun c15 => ?_)
      · rw [if_neg c15] at h
        refine x_iconst (v := (0 : Int32)) (pc := 30) d_Slot_same_30 (by decide) ?_
        exact x_wk (L' := [none, none]) ⟨Or.inl rfl, Or.inl rfl, trivial⟩ (w_Slot_same_b31 hQ (0 : Int32) h)
      · rw [if_pos c15] at h
        refine x_iconst (v := (1 : Int32)) (pc := 26) d_Slot_same_26 (by decide) ?_
        refine x_goto (tgt := 31) (pc := 27) d_Slot_same_27 (by decide) ?_
        exact x_wk (L' := [none, none]) ⟨Or.inl rfl, Or.inl rfl, trivial⟩ (w_Slot_same_b31 hQ (1 : Int32) h)
def f_Truths_bits_b25 (sc : xSc) (u : xH)  (t0 : Int32) : Option Int32 := (if xbo t0 = true then some t0 else none)
theorem w_Truths_bits_b25 {sc : xSc} {d : Nat} {Q : xR → xH → Prop} {u : xH} {rZ : Int32}  (hQ : Q (.inl (some (vI rZ))) u) (t0 : Int32) (h : f_Truths_bits_b25 sc u  t0 = some rZ) : xW sc m_Truths_bits (d + 1) Q (u) 25 [none] [vI t0] := by
  unfold f_Truths_bits_b25 at h
  obtain ⟨c1, h⟩ := ite_some h
  cases h
  exact x_iret (ty := .boolean) (pc := 25) d_Truths_bits_25 rfl (xbo_n c1) hQ
def f_Truths_bits_b20 (sc : xSc) (u : xH)   : Option Int32 := f_Truths_bits_b25 sc u (1 : Int32)
theorem w_Truths_bits_b20 {sc : xSc} {d : Nat} {Q : xR → xH → Prop} {u : xH} {rZ : Int32}  (hQ : Q (.inl (some (vI rZ))) u)  (h : f_Truths_bits_b20 sc u   = some rZ) : xW sc m_Truths_bits (d + 1) Q (u) 20 [none] [] := by
  unfold f_Truths_bits_b20 at h
  refine x_iconst (v := (1 : Int32)) (pc := 20) d_Truths_bits_20 (by decide) ?_
  refine x_goto (tgt := 25) (pc := 21) d_Truths_bits_21 (by decide) ?_
  exact w_Truths_bits_b25 hQ (1 : Int32) h
def f_Truths_bits (sc : xSc) (u : xH) (a1 : Option Nat) : Option Int32 := (if xis sc u 2 a1 = true then (f_Slot_is sc u a1 (some 72)).bind fun v2 => (if v2 = 0 then (if xis sc u 2 a1 = true then (f_Slot_is sc u a1 (some 74)).bind fun v6 => (if v6 = 0 then f_Truths_bits_b25 sc u (0 : Int32) else f_Truths_bits_b20 sc u) else none) else f_Truths_bits_b20 sc u) else none)
theorem w_Truths_bits {sc : xSc} {d : Nat} {Q : xR → xH → Prop} {u : xH} {rZ : Int32} (hQ : Q (.inl (some (vI rZ))) u) (a1 : Option Nat) (h : f_Truths_bits sc u a1 = some rZ) : xW sc m_Truths_bits (d + 1) Q (u) 0 (xent [vR a1] m_Truths_bits.2.2.1) [] := by
  show xW sc m_Truths_bits (d + 1) Q (u) 0 [some (vR a1)] []
  unfold f_Truths_bits at h
  refine x_aload_n (pc := 0) d_Truths_bits_0 rfl ?_
  refine x_gets (v := vR (some 72)) (pc := 1) d_Truths_bits_1 sl_Truths_56 ?_
  obtain ⟨c1, h⟩ := ite_some h
  obtain ⟨v2, e3, h⟩ := Option.bind_eq_some_iff.mp h
  refine c_invv (c := 2) (d := d + 0) (av := [vR (some 72)]) (st := []) (Q' := fun r h' => r = .inl (some (vI v2)) ∧ h' = u) (pc := 4) d_Truths_bits_4 cv_Truths_61 y_Slot_is c1 rfl (Nat.le_of_ble_eq_true rfl) (Nat.le_of_ble_eq_true rfl) (w_Slot_is (d := d + 0) (Q := fun r h' => r = .inl (some (vI v2)) ∧ h' = u) ⟨rfl, rfl⟩ a1 (some 72) e3) (fun v h' z => ?_) (fun a h' z => nomatch z.1)
  obtain ⟨z1, z2⟩ := z
  subst h'
  cases z1
  show xW sc m_Truths_bits (d + 1) Q (u) 7 [some (vR a1)] [vI v2]
  refine x_if_ne (tgt := 20) (pc := 7) d_Truths_bits_7 (by decide) (fun c4 => ?_) (fun c4 => ?_)
  · rw [if_neg c4] at h
    exact x_wk (L' := [none]) ⟨Or.inl rfl, trivial⟩ (w_Truths_bits_b20 hQ h)
  · rw [if_pos c4] at h
    refine x_aload_n (pc := 10) d_Truths_bits_10 rfl ?_
    refine x_gets (v := vR (some 74)) (pc := 11) d_Truths_bits_11 sl_Truths_91 ?_
    obtain ⟨c5, h⟩ := ite_some h
    obtain ⟨v6, e7, h⟩ := Option.bind_eq_some_iff.mp h
    refine c_invv (c := 2) (d := d + 0) (av := [vR (some 74)]) (st := []) (Q' := fun r h' => r = .inl (some (vI v6)) ∧ h' = u) (pc := 14) d_Truths_bits_14 cv_Truths_61 y_Slot_is c5 rfl (Nat.le_of_ble_eq_true rfl) (Nat.le_of_ble_eq_true rfl) (w_Slot_is (d := d + 0) (Q := fun r h' => r = .inl (some (vI v6)) ∧ h' = u) ⟨rfl, rfl⟩ a1 (some 74) e7) (fun v h' z => ?_) (fun a h' z => nomatch z.1)
    obtain ⟨z1, z2⟩ := z
    subst h'
    cases z1
    show xW sc m_Truths_bits (d + 1) Q (u) 17 [some (vR a1)] [vI v6]
    refine x_if_eq (tgt := 24) (pc := 17) d_Truths_bits_17 (by decide) (fun c8 => ?_) (fun c8 => ?_)
    · rw [if_pos c8] at h
      refine x_iconst (v := (0 : Int32)) (pc := 24) d_Truths_bits_24 (by decide) ?_
      exact x_wk (L' := [none]) ⟨Or.inl rfl, trivial⟩ (w_Truths_bits_b25 hQ (0 : Int32) h)
    · rw [if_neg c8] at h
      exact x_wk (L' := [none]) ⟨Or.inl rfl, trivial⟩ (w_Truths_bits_b20 hQ h)
def f_Truths_compares_b74   (t0 : Int32) : Option Int32 := (if xbo t0 = true then some t0 else none)
theorem w_Truths_compares_b74 {sc : xSc} {d : Nat} {Q : xR → xH → Prop} {hh : xH} {rZ : Int32}  (hQ : Q (.inl (some (vI rZ))) hh) (t0 : Int32) (h : f_Truths_compares_b74   t0 = some rZ) : xW sc m_Truths_compares (d + 0) Q (hh) 74 [none, none, none, none, none] [vI t0] := by
  unfold f_Truths_compares_b74 at h
  obtain ⟨c1, h⟩ := ite_some h
  cases h
  exact x_iret (ty := .boolean) (pc := 74) d_Truths_compares_74 rfl (xbo_n c1) hQ
def f_Truths_compares  (a1 : Option Nat) (a2 : UInt64) (a3 : UInt64) : Option Int32 := (if xcm a1 = true then (if xcm (some 27) = true then (if a1 = (some 27) then (if (Op.cmpValue (FP.dcmp a2 a3) .l) ≤ 0 then f_Truths_compares_b74 (0 : Int32) else f_Truths_compares_b74 (1 : Int32)) else (if xcm a1 = true then (if xcm (some 28) = true then (if a1 = (some 28) then (if (Op.cmpValue (FP.dcmp a2 a3) .l) < 0 then f_Truths_compares_b74 (0 : Int32) else f_Truths_compares_b74 (1 : Int32)) else (if xcm a1 = true then (if xcm (some 29) = true then (if a1 = (some 29) then (if 0 ≤ (Op.cmpValue (FP.dcmp a2 a3) .g) then f_Truths_compares_b74 (0 : Int32) else f_Truths_compares_b74 (1 : Int32)) else (if 0 < (Op.cmpValue (FP.dcmp a2 a3) .g) then f_Truths_compares_b74 (0 : Int32) else f_Truths_compares_b74 (1 : Int32))) else none) else none)) else none) else none)) else none) else none)
theorem w_Truths_compares {sc : xSc} {d : Nat} {Q : xR → xH → Prop} {hh : xH} {rZ : Int32} (hQ : Q (.inl (some (vI rZ))) hh) (a1 : Option Nat) (a2 : UInt64) (a3 : UInt64) (h : f_Truths_compares  a1 a2 a3 = some rZ) : xW sc m_Truths_compares (d + 0) Q (hh) 0 (xent [vR a1, vD a2, vD a3] m_Truths_compares.2.2.1) [] := by
  show xW sc m_Truths_compares (d + 0) Q (hh) 0 [some (vR a1), some (vD a2), none, some (vD a3), none] []
  unfold f_Truths_compares at h
  refine x_aload_n (pc := 0) d_Truths_compares_0 rfl ?_
  refine x_gets (v := vR (some 27)) (pc := 1) d_Truths_compares_1 sl_Truths_94 ?_
  obtain ⟨c1, h⟩ := ite_some h
  obtain ⟨c2, h⟩ := ite_some h
  refine x_acmp_ne (tgt := 21) (pc := 4) d_Truths_compares_4 (by decide) (xcm_s c1) (xcm_s c2) (fun c3 => ?_) (fun c3 => ?_)
  · rw [if_neg c3] at h
    refine x_aload_n (pc := 21) d_Truths_compares_21 rfl ?_
    refine x_gets (v := vR (some 28)) (pc := 22) d_Truths_compares_22 sl_Truths_97 ?_
    obtain ⟨c4, h⟩ := ite_some h
    obtain ⟨c5, h⟩ := ite_some h
    refine x_acmp_ne (tgt := 42) (pc := 25) d_Truths_compares_25 (by decide) (xcm_s c4) (xcm_s c5) (fun c6 => ?_) (fun c6 => ?_)
    · rw [if_neg c6] at h
      refine x_aload_n (pc := 42) d_Truths_compares_42 rfl ?_
      refine x_gets (v := vR (some 29)) (pc := 43) d_Truths_compares_43 sl_Truths_100 ?_
      obtain ⟨c7, h⟩ := ite_some h
      obtain ⟨c8, h⟩ := ite_some h
      refine x_acmp_ne (tgt := 63) (pc := 46) d_Truths_compares_46 (by decide) (xcm_s c7) (xcm_s c8) (fun c9 => ?_) (fun c9 => ?_)
      · rw [if_neg c9] at h
        refine x_dload_n (pc := 63) d_Truths_compares_63 rfl ?_
        refine x_dload_n (pc := 64) d_Truths_compares_64 rfl ?_
        refine x_dcmp (pc := 65) d_Truths_compares_65 ?_
        refine x_if_gt (tgt := 73) (pc := 66) d_Truths_compares_66 (by decide) (fun c10 => ?_) (fun c10 => ?_)
        · rw [if_pos c10] at h
          refine x_iconst (v := (0 : Int32)) (pc := 73) d_Truths_compares_73 (by decide) ?_
          exact x_wk (L' := [none, none, none, none, none]) ⟨Or.inl rfl, Or.inl rfl, Or.inl rfl, Or.inl rfl, Or.inl rfl, trivial⟩ (w_Truths_compares_b74 hQ (0 : Int32) h)
        · rw [if_neg c10] at h
          refine x_iconst (v := (1 : Int32)) (pc := 69) d_Truths_compares_69 (by decide) ?_
          refine x_goto (tgt := 74) (pc := 70) d_Truths_compares_70 (by decide) ?_
          exact x_wk (L' := [none, none, none, none, none]) ⟨Or.inl rfl, Or.inl rfl, Or.inl rfl, Or.inl rfl, Or.inl rfl, trivial⟩ (w_Truths_compares_b74 hQ (1 : Int32) h)
      · rw [if_pos c9] at h
        refine x_dload_n (pc := 49) d_Truths_compares_49 rfl ?_
        refine x_dload_n (pc := 50) d_Truths_compares_50 rfl ?_
        refine x_dcmp (pc := 51) d_Truths_compares_51 ?_
        refine x_if_ge (tgt := 59) (pc := 52) d_Truths_compares_52 (by decide) (fun c11 => ?_) (fun c11 => ?_)
        · rw [if_pos c11] at h
          refine x_iconst (v := (0 : Int32)) (pc := 59) d_Truths_compares_59 (by decide) ?_
          refine x_goto (tgt := 74) (pc := 60) d_Truths_compares_60 (by decide) ?_
          exact x_wk (L' := [none, none, none, none, none]) ⟨Or.inl rfl, Or.inl rfl, Or.inl rfl, Or.inl rfl, Or.inl rfl, trivial⟩ (w_Truths_compares_b74 hQ (0 : Int32) h)
        · rw [if_neg c11] at h
          refine x_iconst (v := (1 : Int32)) (pc := 55) d_Truths_compares_55 (by decide) ?_
          refine x_goto (tgt := 74) (pc := 56) d_Truths_compares_56 (by decide) ?_
          exact x_wk (L' := [none, none, none, none, none]) ⟨Or.inl rfl, Or.inl rfl, Or.inl rfl, Or.inl rfl, Or.inl rfl, trivial⟩ (w_Truths_compares_b74 hQ (1 : Int32) h)
    · rw [if_pos c6] at h
      refine x_dload_n (pc := 28) d_Truths_compares_28 rfl ?_
      refine x_dload_n (pc := 29) d_Truths_compares_29 rfl ?_
      refine x_dcmp (pc := 30) d_Truths_compares_30 ?_
      refine x_if_lt (tgt := 38) (pc := 31) d_Truths_compares_31 (by decide) (fun c12 => ?_) (fun c12 => ?_)
      · rw [if_pos c12] at h
        refine x_iconst (v := (0 : Int32)) (pc := 38) d_Truths_compares_38 (by decide) ?_
        refine x_goto (tgt := 74) (pc := 39) d_Truths_compares_39 (by decide) ?_
        exact x_wk (L' := [none, none, none, none, none]) ⟨Or.inl rfl, Or.inl rfl, Or.inl rfl, Or.inl rfl, Or.inl rfl, trivial⟩ (w_Truths_compares_b74 hQ (0 : Int32) h)
      · rw [if_neg c12] at h
        refine x_iconst (v := (1 : Int32)) (pc := 34) d_Truths_compares_34 (by decide) ?_
        refine x_goto (tgt := 74) (pc := 35) d_Truths_compares_35 (by decide) ?_
        exact x_wk (L' := [none, none, none, none, none]) ⟨Or.inl rfl, Or.inl rfl, Or.inl rfl, Or.inl rfl, Or.inl rfl, trivial⟩ (w_Truths_compares_b74 hQ (1 : Int32) h)
  · rw [if_pos c3] at h
    refine x_dload_n (pc := 7) d_Truths_compares_7 rfl ?_
    refine x_dload_n (pc := 8) d_Truths_compares_8 rfl ?_
    refine x_dcmp (pc := 9) d_Truths_compares_9 ?_
    refine x_if_le (tgt := 17) (pc := 10) d_Truths_compares_10 (by decide) (fun c13 => ?_) (fun c13 => ?_)
    · rw [if_pos c13] at h
      refine x_iconst (v := (0 : Int32)) (pc := 17) d_Truths_compares_17 (by decide) ?_
      refine x_goto (tgt := 74) (pc := 18) d_Truths_compares_18 (by decide) ?_
      exact x_wk (L' := [none, none, none, none, none]) ⟨Or.inl rfl, Or.inl rfl, Or.inl rfl, Or.inl rfl, Or.inl rfl, trivial⟩ (w_Truths_compares_b74 hQ (0 : Int32) h)
    · rw [if_neg c13] at h
      refine x_iconst (v := (1 : Int32)) (pc := 13) d_Truths_compares_13 (by decide) ?_
      refine x_goto (tgt := 74) (pc := 14) d_Truths_compares_14 (by decide) ?_
      exact x_wk (L' := [none, none, none, none, none]) ⟨Or.inl rfl, Or.inl rfl, Or.inl rfl, Or.inl rfl, Or.inl rfl, trivial⟩ (w_Truths_compares_b74 hQ (1 : Int32) h)
def f_Truths_perform_b456 (sc : xSc)  (u : xH) : Option ((Unit ⊕ Nat) × xH) := some (.inl (), u)
theorem w_Truths_perform_b456 {sc : xSc} {d : Nat} {Q : xR → xH → Prop} {oZ : Unit ⊕ Nat} {hZ : xH}  (hQ : Q (cvU oZ) hZ) (u : xH) (h : f_Truths_perform_b456 sc  u = some (oZ, hZ)) : xW sc m_Truths_perform (d + 10) Q (u) 456 [none, none, none, none, none, none] [] := by
  unfold f_Truths_perform_b456 at h
  cases h
  exact x_vret (pc := 456) d_Truths_perform_456 rfl hQ
def f_Truths_perform_b435 (sc : xSc)  (l1 : Option Nat) (l2 : Option Nat) (l3 : Option Nat) (l4 : Option Nat) (t0 : Int32) (t1 : Option Nat) (u : xH) : Option ((Unit ⊕ Nat) × xH) := (if xis sc u 0 t1 = true then tB (f_P_type sc u t1 t0) (fun v3 u2 => (if xis sc u2 2 l3 = true then (f_Slot_value sc u2 l3).bind fun v8 => (if xis sc u2 2 l4 = true then (f_Slot_value sc u2 l4).bind fun v11 => (f_Truths_compares l2 v8 v11).bind fun v13 => (if xis sc u2 0 l1 = true then tB (f_P_truth sc u2 l1 (2 : Int32) v13) (fun v17 u16 => f_Truths_perform_b456 sc u16) (fun a19 u20 => some (.inr a19, u20)) else none) else none) else none)) (fun a5 u6 => some (.inr a5, u6)) else none)
theorem w_Truths_perform_b435 {sc : xSc} {d : Nat} {Q : xR → xH → Prop} {oZ : Unit ⊕ Nat} {hZ : xH}  (hQ : Q (cvU oZ) hZ) (l1 : Option Nat) (l2 : Option Nat) (l3 : Option Nat) (l4 : Option Nat) (t0 : Int32) (t1 : Option Nat) (u : xH) (h : f_Truths_perform_b435 sc  l1 l2 l3 l4 t0 t1 u = some (oZ, hZ)) : xW sc m_Truths_perform (d + 10) Q (u) 435 [none, some (vR l1), some (vR l2), some (vR l3), some (vR l4), none] [vI t0, vR t1] := by
  unfold f_Truths_perform_b435 at h
  obtain ⟨c1, h⟩ := ite_some h
  rcases tB_s h with ⟨a5, u6, e4, h⟩ | ⟨v3, u2, e4, h⟩
  · refine c_invv (c := 0) (d := d + 9) (av := [vI t0]) (st := []) (Q' := fun r h' => r = .inr a5 ∧ h' = u6) (pc := 435) d_Truths_perform_435 cv_Truths_41 y_P_type c1 rfl (Nat.le_of_ble_eq_true rfl) (Nat.le_of_ble_eq_true rfl) (w_P_type (d := d + 2) (Q := fun r h' => r = .inr a5 ∧ h' = u6) ⟨rfl, rfl⟩ u t1 t0 e4) (fun v h' z => nomatch z.1) (fun a h' z => ?_)
    obtain ⟨z1, z2⟩ := z
    subst h'
    cases z1
    cases h
    exact x_thOut (xno rfl) hQ
  refine c_invv (c := 0) (d := d + 9) (av := [vI t0]) (st := []) (Q' := fun r h' => r = .inl none ∧ h' = u2) (pc := 435) d_Truths_perform_435 cv_Truths_41 y_P_type c1 rfl (Nat.le_of_ble_eq_true rfl) (Nat.le_of_ble_eq_true rfl) (w_P_type (d := d + 2) (Q := fun r h' => r = .inl none ∧ h' = u2) ⟨rfl, rfl⟩ u t1 t0 e4) (fun v h' z => ?_) (fun a h' z => nomatch z.1)
  obtain ⟨z1, z2⟩ := z
  subst h'
  cases z1
  show xW sc m_Truths_perform (d + 10) Q (u2) 438 [none, some (vR l1), some (vR l2), some (vR l3), some (vR l4), none] []
  refine x_aload_n (pc := 438) d_Truths_perform_438 rfl ?_
  refine x_iconst (v := (2 : Int32)) (pc := 439) d_Truths_perform_439 (by decide) ?_
  refine x_aload_n (pc := 440) d_Truths_perform_440 rfl ?_
  refine x_aload_n (pc := 441) d_Truths_perform_441 rfl ?_
  obtain ⟨c7, h⟩ := ite_some h
  obtain ⟨v8, e9, h⟩ := Option.bind_eq_some_iff.mp h
  refine c_invv (c := 2) (d := d + 9) (av := []) (st := [vR l2, vI (2 : Int32), vR l1]) (Q' := fun r h' => r = .inl (some (vD v8)) ∧ h' = u2) (pc := 442) d_Truths_perform_442 cv_Truths_83 y_Slot_value c7 rfl (Nat.le_of_ble_eq_true rfl) (Nat.le_of_ble_eq_true rfl) (w_Slot_value (d := d + 9) (Q := fun r h' => r = .inl (some (vD v8)) ∧ h' = u2) ⟨rfl, rfl⟩ l3 e9) (fun v h' z => ?_) (fun a h' z => nomatch z.1)
  obtain ⟨z1, z2⟩ := z
  subst h'
  cases z1
  show xW sc m_Truths_perform (d + 10) Q (u2) 445 [none, some (vR l1), some (vR l2), some (vR l3), some (vR l4), none] [vD v8, vR l2, vI (2 : Int32), vR l1]
  refine x_aload (pc := 445) d_Truths_perform_445 rfl ?_
  obtain ⟨c10, h⟩ := ite_some h
  obtain ⟨v11, e12, h⟩ := Option.bind_eq_some_iff.mp h
  refine c_invv (c := 2) (d := d + 9) (av := []) (st := [vD v8, vR l2, vI (2 : Int32), vR l1]) (Q' := fun r h' => r = .inl (some (vD v11)) ∧ h' = u2) (pc := 447) d_Truths_perform_447 cv_Truths_83 y_Slot_value c10 rfl (Nat.le_of_ble_eq_true rfl) (Nat.le_of_ble_eq_true rfl) (w_Slot_value (d := d + 9) (Q := fun r h' => r = .inl (some (vD v11)) ∧ h' = u2) ⟨rfl, rfl⟩ l4 e12) (fun v h' z => ?_) (fun a h' z => nomatch z.1)
  obtain ⟨z1, z2⟩ := z
  subst h'
  cases z1
  show xW sc m_Truths_perform (d + 10) Q (u2) 450 [none, some (vR l1), some (vR l2), some (vR l3), some (vR l4), none] [vD v11, vD v8, vR l2, vI (2 : Int32), vR l1]
  obtain ⟨v13, e14, h⟩ := Option.bind_eq_some_iff.mp h
  refine x_invs (d := d + 9) (av := [vR l2, vD v8, vD v11]) (st := [vI (2 : Int32), vR l1]) (Q' := fun r h' => r = .inl (some (vI v13)) ∧ h' = u2) (pc := 450) d_Truths_perform_450 cs_Truths_87 y_Truths_compares rfl (Nat.le_of_ble_eq_true rfl) (Nat.le_of_ble_eq_true rfl) (w_Truths_compares (d := d + 9) (Q := fun r h' => r = .inl (some (vI v13)) ∧ h' = u2) (hh := u2) ⟨rfl, rfl⟩ l2 v8 v11 e14) (fun v h' z => ?_) (fun a h' z => nomatch z.1)
  obtain ⟨z1, z2⟩ := z
  subst h'
  cases z1
  show xW sc m_Truths_perform (d + 10) Q (u2) 453 [none, some (vR l1), some (vR l2), some (vR l3), some (vR l4), none] [vI v13, vI (2 : Int32), vR l1]
  obtain ⟨c15, h⟩ := ite_some h
  rcases tB_s h with ⟨a19, u20, e18, h⟩ | ⟨v17, u16, e18, h⟩
  · refine c_invv (c := 0) (d := d + 9) (av := [vI (2 : Int32), vI v13]) (st := []) (Q' := fun r h' => r = .inr a19 ∧ h' = u20) (pc := 453) d_Truths_perform_453 cv_Truths_17 y_P_truth c15 rfl (Nat.le_of_ble_eq_true rfl) (Nat.le_of_ble_eq_true rfl) (w_P_truth (d := d + 0) (Q := fun r h' => r = .inr a19 ∧ h' = u20) ⟨rfl, rfl⟩ u2 l1 (2 : Int32) v13 e18) (fun v h' z => nomatch z.1) (fun a h' z => ?_)
    obtain ⟨z1, z2⟩ := z
    subst h'
    cases z1
    cases h
    exact x_thOut (xno rfl) hQ
  refine c_invv (c := 0) (d := d + 9) (av := [vI (2 : Int32), vI v13]) (st := []) (Q' := fun r h' => r = .inl none ∧ h' = u16) (pc := 453) d_Truths_perform_453 cv_Truths_17 y_P_truth c15 rfl (Nat.le_of_ble_eq_true rfl) (Nat.le_of_ble_eq_true rfl) (w_P_truth (d := d + 0) (Q := fun r h' => r = .inl none ∧ h' = u16) ⟨rfl, rfl⟩ u2 l1 (2 : Int32) v13 e18) (fun v h' z => ?_) (fun a h' z => nomatch z.1)
  obtain ⟨z1, z2⟩ := z
  subst h'
  cases z1
  show xW sc m_Truths_perform (d + 10) Q (u16) 456 [none, some (vR l1), some (vR l2), some (vR l3), some (vR l4), none] []
  exact x_wk (L' := [none, none, none, none, none, none]) ⟨Or.inl rfl, Or.inl rfl, Or.inl rfl, Or.inl rfl, Or.inl rfl, Or.inl rfl, trivial⟩ (w_Truths_perform_b456 hQ u16 h)
def f_Truths_perform_b434 (sc : xSc)  (l1 : Option Nat) (l2 : Option Nat) (l3 : Option Nat) (l4 : Option Nat) (t0 : Option Nat) (u : xH) : Option ((Unit ⊕ Nat) × xH) := f_Truths_perform_b435 sc l1 l2 l3 l4 (0 : Int32) t0 u
theorem w_Truths_perform_b434 {sc : xSc} {d : Nat} {Q : xR → xH → Prop} {oZ : Unit ⊕ Nat} {hZ : xH}  (hQ : Q (cvU oZ) hZ) (l1 : Option Nat) (l2 : Option Nat) (l3 : Option Nat) (l4 : Option Nat) (t0 : Option Nat) (u : xH) (h : f_Truths_perform_b434 sc  l1 l2 l3 l4 t0 u = some (oZ, hZ)) : xW sc m_Truths_perform (d + 10) Q (u) 434 [none, some (vR l1), some (vR l2), some (vR l3), some (vR l4), none] [vR t0] := by
  unfold f_Truths_perform_b434 at h
  refine x_iconst (v := (0 : Int32)) (pc := 434) d_Truths_perform_434 (by decide) ?_
  exact w_Truths_perform_b435 hQ l1 l2 l3 l4 (0 : Int32) t0 u h
def f_Truths_perform_b414 (sc : xSc)  (l1 : Option Nat) (l2 : Option Nat) (l3 : Option Nat) (l4 : Option Nat) (u : xH) : Option ((Unit ⊕ Nat) × xH) := (if xis sc u 2 l3 = true then (f_Slot_isNumber sc u l3).bind fun v2 => (if v2 = 0 then f_Truths_perform_b434 sc l1 l2 l3 l4 l1 u else (if xis sc u 2 l4 = true then (f_Slot_isNumber sc u l4).bind fun v6 => (if v6 = 0 then f_Truths_perform_b434 sc l1 l2 l3 l4 l1 u else f_Truths_perform_b435 sc l1 l2 l3 l4 (1 : Int32) l1 u) else none)) else none)
theorem w_Truths_perform_b414 {sc : xSc} {d : Nat} {Q : xR → xH → Prop} {oZ : Unit ⊕ Nat} {hZ : xH}  (hQ : Q (cvU oZ) hZ) (l1 : Option Nat) (l2 : Option Nat) (l3 : Option Nat) (l4 : Option Nat) (u : xH) (h : f_Truths_perform_b414 sc  l1 l2 l3 l4 u = some (oZ, hZ)) : xW sc m_Truths_perform (d + 10) Q (u) 414 [none, some (vR l1), some (vR l2), some (vR l3), some (vR l4), none] [] := by
  unfold f_Truths_perform_b414 at h
  refine x_aload_n (pc := 414) d_Truths_perform_414 rfl ?_
  refine x_aload_n (pc := 415) d_Truths_perform_415 rfl ?_
  obtain ⟨c1, h⟩ := ite_some h
  obtain ⟨v2, e3, h⟩ := Option.bind_eq_some_iff.mp h
  refine c_invv (c := 2) (d := d + 9) (av := []) (st := [vR l1]) (Q' := fun r h' => r = .inl (some (vI v2)) ∧ h' = u) (pc := 416) d_Truths_perform_416 cv_Truths_79 y_Slot_isNumber c1 rfl (Nat.le_of_ble_eq_true rfl) (Nat.le_of_ble_eq_true rfl) (w_Slot_isNumber (d := d + 9) (Q := fun r h' => r = .inl (some (vI v2)) ∧ h' = u) ⟨rfl, rfl⟩ l3 e3) (fun v h' z => ?_) (fun a h' z => nomatch z.1)
  obtain ⟨z1, z2⟩ := z
  subst h'
  cases z1
  show xW sc m_Truths_perform (d + 10) Q (u) 419 [none, some (vR l1), some (vR l2), some (vR l3), some (vR l4), none] [vI v2, vR l1]
  refine x_if_eq (tgt := 434) (pc := 419) d_Truths_perform_419 (by decide) (fun c4 => ?_) (fun c4 => ?_)
  · rw [if_pos c4] at h
    exact w_Truths_perform_b434 hQ l1 l2 l3 l4 l1 u h
  · rw [if_neg c4] at h
    refine x_aload (pc := 422) d_Truths_perform_422 rfl ?_
    obtain ⟨c5, h⟩ := ite_some h
    obtain ⟨v6, e7, h⟩ := Option.bind_eq_some_iff.mp h
    refine c_invv (c := 2) (d := d + 9) (av := []) (st := [vR l1]) (Q' := fun r h' => r = .inl (some (vI v6)) ∧ h' = u) (pc := 424) d_Truths_perform_424 cv_Truths_79 y_Slot_isNumber c5 rfl (Nat.le_of_ble_eq_true rfl) (Nat.le_of_ble_eq_true rfl) (w_Slot_isNumber (d := d + 9) (Q := fun r h' => r = .inl (some (vI v6)) ∧ h' = u) ⟨rfl, rfl⟩ l4 e7) (fun v h' z => ?_) (fun a h' z => nomatch z.1)
    obtain ⟨z1, z2⟩ := z
    subst h'
    cases z1
    show xW sc m_Truths_perform (d + 10) Q (u) 427 [none, some (vR l1), some (vR l2), some (vR l3), some (vR l4), none] [vI v6, vR l1]
    refine x_if_eq (tgt := 434) (pc := 427) d_Truths_perform_427 (by decide) (fun c8 => ?_) (fun c8 => ?_)
    · rw [if_pos c8] at h
      exact w_Truths_perform_b434 hQ l1 l2 l3 l4 l1 u h
    · rw [if_neg c8] at h
      refine x_iconst (v := (1 : Int32)) (pc := 430) d_Truths_perform_430 (by decide) ?_
      refine x_goto (tgt := 435) (pc := 431) d_Truths_perform_431 (by decide) ?_
      exact w_Truths_perform_b435 hQ l1 l2 l3 l4 (1 : Int32) l1 u h
def f_Truths_perform_b378 (sc : xSc)  (t0 : Int32) (t1 : Option Nat) (u : xH) : Option ((Unit ⊕ Nat) × xH) := (if xbo t0 = true then (pV u 2 1 t1 (vI t0)).bind fun u2 => f_Truths_perform_b456 sc u2 else none)
theorem w_Truths_perform_b378 {sc : xSc} {d : Nat} {Q : xR → xH → Prop} {oZ : Unit ⊕ Nat} {hZ : xH}  (hQ : Q (cvU oZ) hZ) (t0 : Int32) (t1 : Option Nat) (u : xH) (h : f_Truths_perform_b378 sc  t0 t1 u = some (oZ, hZ)) : xW sc m_Truths_perform (d + 10) Q (u) 378 [none, none, none, none, none, none] [vI t0, vR t1] := by
  unfold f_Truths_perform_b378 at h
  obtain ⟨c1, h⟩ := ite_some h
  obtain ⟨u2, e3, h⟩ := Option.bind_eq_some_iff.mp h
  refine c_putf (pc := 378) d_Truths_perform_378 l_Truths_74 fp_2_1 (xfit_bool (xbo_or c1)) e3 ?_
  refine x_goto (tgt := 456) (pc := 381) d_Truths_perform_381 (by decide) ?_
  exact w_Truths_perform_b456 hQ u2 h
def f_Truths_perform_b377 (sc : xSc)  (t0 : Option Nat) (u : xH) : Option ((Unit ⊕ Nat) × xH) := f_Truths_perform_b378 sc (0 : Int32) t0 u
theorem w_Truths_perform_b377 {sc : xSc} {d : Nat} {Q : xR → xH → Prop} {oZ : Unit ⊕ Nat} {hZ : xH}  (hQ : Q (cvU oZ) hZ) (t0 : Option Nat) (u : xH) (h : f_Truths_perform_b377 sc  t0 u = some (oZ, hZ)) : xW sc m_Truths_perform (d + 10) Q (u) 377 [none, none, none, none, none, none] [vR t0] := by
  unfold f_Truths_perform_b377 at h
  refine x_iconst (v := (0 : Int32)) (pc := 377) d_Truths_perform_377 (by decide) ?_
  exact w_Truths_perform_b378 hQ (0 : Int32) t0 u h
def f_Truths_perform_b373 (sc : xSc)  (t0 : Option Nat) (u : xH) : Option ((Unit ⊕ Nat) × xH) := f_Truths_perform_b378 sc (1 : Int32) t0 u
theorem w_Truths_perform_b373 {sc : xSc} {d : Nat} {Q : xR → xH → Prop} {oZ : Unit ⊕ Nat} {hZ : xH}  (hQ : Q (cvU oZ) hZ) (t0 : Option Nat) (u : xH) (h : f_Truths_perform_b373 sc  t0 u = some (oZ, hZ)) : xW sc m_Truths_perform (d + 10) Q (u) 373 [none, none, none, none, none, none] [vR t0] := by
  unfold f_Truths_perform_b373 at h
  refine x_iconst (v := (1 : Int32)) (pc := 373) d_Truths_perform_373 (by decide) ?_
  refine x_goto (tgt := 378) (pc := 374) d_Truths_perform_374 (by decide) ?_
  exact w_Truths_perform_b378 hQ (1 : Int32) t0 u h
def f_Truths_perform_b345 (sc : xSc)  (l2 : Option Nat) (l3 : Option Nat) (u : xH) : Option ((Unit ⊕ Nat) × xH) := (if xcm l2 = true then (if xcm (some 35) = true then (if l2 = (some 35) then (if xis sc u 2 l3 = true then (f_Slot_is sc u l3 (some 75)).bind fun v5 => (if v5 = 0 then (if xis sc u 2 l3 = true then (f_Slot_is sc u l3 (some 77)).bind fun v9 => (if v9 = 0 then f_Truths_perform_b377 sc l3 u else f_Truths_perform_b373 sc l3 u) else none) else f_Truths_perform_b373 sc l3 u) else none) else f_Truths_perform_b377 sc l3 u) else none) else none)
theorem w_Truths_perform_b345 {sc : xSc} {d : Nat} {Q : xR → xH → Prop} {oZ : Unit ⊕ Nat} {hZ : xH}  (hQ : Q (cvU oZ) hZ) (l2 : Option Nat) (l3 : Option Nat) (u : xH) (h : f_Truths_perform_b345 sc  l2 l3 u = some (oZ, hZ)) : xW sc m_Truths_perform (d + 10) Q (u) 345 [none, none, some (vR l2), some (vR l3), none, none] [] := by
  unfold f_Truths_perform_b345 at h
  refine x_aload_n (pc := 345) d_Truths_perform_345 rfl ?_
  refine x_aload_n (pc := 346) d_Truths_perform_346 rfl ?_
  refine x_gets (v := vR (some 35)) (pc := 347) d_Truths_perform_347 sl_Truths_65 ?_
  obtain ⟨c1, h⟩ := ite_some h
  obtain ⟨c2, h⟩ := ite_some h
  refine x_acmp_ne (tgt := 377) (pc := 350) d_Truths_perform_350 (by decide) (xcm_s c1) (xcm_s c2) (fun c3 => ?_) (fun c3 => ?_)
  · rw [if_neg c3] at h
    exact x_wk (L' := [none, none, none, none, none, none]) ⟨Or.inl rfl, Or.inl rfl, Or.inl rfl, Or.inl rfl, Or.inl rfl, Or.inl rfl, trivial⟩ (w_Truths_perform_b377 hQ l3 u h)
  · rw [if_pos c3] at h
    refine x_aload_n (pc := 353) d_Truths_perform_353 rfl ?_
    refine x_gets (v := vR (some 75)) (pc := 354) d_Truths_perform_354 sl_Truths_68 ?_
    obtain ⟨c4, h⟩ := ite_some h
    obtain ⟨v5, e6, h⟩ := Option.bind_eq_some_iff.mp h
    refine c_invv (c := 2) (d := d + 9) (av := [vR (some 75)]) (st := [vR l3]) (Q' := fun r h' => r = .inl (some (vI v5)) ∧ h' = u) (pc := 357) d_Truths_perform_357 cv_Truths_61 y_Slot_is c4 rfl (Nat.le_of_ble_eq_true rfl) (Nat.le_of_ble_eq_true rfl) (w_Slot_is (d := d + 9) (Q := fun r h' => r = .inl (some (vI v5)) ∧ h' = u) ⟨rfl, rfl⟩ l3 (some 75) e6) (fun v h' z => ?_) (fun a h' z => nomatch z.1)
    obtain ⟨z1, z2⟩ := z
    subst h'
    cases z1
    show xW sc m_Truths_perform (d + 10) Q (u) 360 [none, none, some (vR l2), some (vR l3), none, none] [vI v5, vR l3]
    refine x_if_ne (tgt := 373) (pc := 360) d_Truths_perform_360 (by decide) (fun c7 => ?_) (fun c7 => ?_)
    · rw [if_neg c7] at h
      exact x_wk (L' := [none, none, none, none, none, none]) ⟨Or.inl rfl, Or.inl rfl, Or.inl rfl, Or.inl rfl, Or.inl rfl, Or.inl rfl, trivial⟩ (w_Truths_perform_b373 hQ l3 u h)
    · rw [if_pos c7] at h
      refine x_aload_n (pc := 363) d_Truths_perform_363 rfl ?_
      refine x_gets (v := vR (some 77)) (pc := 364) d_Truths_perform_364 sl_Truths_71 ?_
      obtain ⟨c8, h⟩ := ite_some h
      obtain ⟨v9, e10, h⟩ := Option.bind_eq_some_iff.mp h
      refine c_invv (c := 2) (d := d + 9) (av := [vR (some 77)]) (st := [vR l3]) (Q' := fun r h' => r = .inl (some (vI v9)) ∧ h' = u) (pc := 367) d_Truths_perform_367 cv_Truths_61 y_Slot_is c8 rfl (Nat.le_of_ble_eq_true rfl) (Nat.le_of_ble_eq_true rfl) (w_Slot_is (d := d + 9) (Q := fun r h' => r = .inl (some (vI v9)) ∧ h' = u) ⟨rfl, rfl⟩ l3 (some 77) e10) (fun v h' z => ?_) (fun a h' z => nomatch z.1)
      obtain ⟨z1, z2⟩ := z
      subst h'
      cases z1
      show xW sc m_Truths_perform (d + 10) Q (u) 370 [none, none, some (vR l2), some (vR l3), none, none] [vI v9, vR l3]
      refine x_if_eq (tgt := 377) (pc := 370) d_Truths_perform_370 (by decide) (fun c11 => ?_) (fun c11 => ?_)
      · rw [if_pos c11] at h
        exact x_wk (L' := [none, none, none, none, none, none]) ⟨Or.inl rfl, Or.inl rfl, Or.inl rfl, Or.inl rfl, Or.inl rfl, Or.inl rfl, trivial⟩ (w_Truths_perform_b377 hQ l3 u h)
      · rw [if_neg c11] at h
        exact x_wk (L' := [none, none, none, none, none, none]) ⟨Or.inl rfl, Or.inl rfl, Or.inl rfl, Or.inl rfl, Or.inl rfl, Or.inl rfl, trivial⟩ (w_Truths_perform_b373 hQ l3 u h)
def f_Truths_perform_b339 (sc : xSc)  (t0 : Int32) (t1 : Option Nat) (t2 : Int32) (t3 : Option Nat) (u : xH) : Option ((Unit ⊕ Nat) × xH) := (if xis sc u 0 t3 = true then tB (f_P_give sc u t3 t2 t1 t0) (fun v3 u2 => f_Truths_perform_b456 sc u2) (fun a5 u6 => some (.inr a5, u6)) else none)
theorem w_Truths_perform_b339 {sc : xSc} {d : Nat} {Q : xR → xH → Prop} {oZ : Unit ⊕ Nat} {hZ : xH}  (hQ : Q (cvU oZ) hZ) (t0 : Int32) (t1 : Option Nat) (t2 : Int32) (t3 : Option Nat) (u : xH) (h : f_Truths_perform_b339 sc  t0 t1 t2 t3 u = some (oZ, hZ)) : xW sc m_Truths_perform (d + 10) Q (u) 339 [none, none, none, none, none, none] [vI t0, vR t1, vI t2, vR t3] := by
  unfold f_Truths_perform_b339 at h
  obtain ⟨c1, h⟩ := ite_some h
  rcases tB_s h with ⟨a5, u6, e4, h⟩ | ⟨v3, u2, e4, h⟩
  · refine c_invv (c := 0) (d := d + 9) (av := [vI t2, vR t1, vI t0]) (st := []) (Q' := fun r h' => r = .inr a5 ∧ h' = u6) (pc := 339) d_Truths_perform_339 cv_Truths_52 y_P_give c1 rfl (Nat.le_of_ble_eq_true rfl) (Nat.le_of_ble_eq_true rfl) (w_P_give (d := d + 1) (Q := fun r h' => r = .inr a5 ∧ h' = u6) ⟨rfl, rfl⟩ u t3 t2 t1 t0 e4) (fun v h' z => nomatch z.1) (fun a h' z => ?_)
    obtain ⟨z1, z2⟩ := z
    subst h'
    cases z1
    cases h
    exact x_thOut (xno rfl) hQ
  refine c_invv (c := 0) (d := d + 9) (av := [vI t2, vR t1, vI t0]) (st := []) (Q' := fun r h' => r = .inl none ∧ h' = u2) (pc := 339) d_Truths_perform_339 cv_Truths_52 y_P_give c1 rfl (Nat.le_of_ble_eq_true rfl) (Nat.le_of_ble_eq_true rfl) (w_P_give (d := d + 1) (Q := fun r h' => r = .inl none ∧ h' = u2) ⟨rfl, rfl⟩ u t3 t2 t1 t0 e4) (fun v h' z => ?_) (fun a h' z => nomatch z.1)
  obtain ⟨z1, z2⟩ := z
  subst h'
  cases z1
  show xW sc m_Truths_perform (d + 10) Q (u2) 342 [none, none, none, none, none, none] []
  refine x_goto (tgt := 456) (pc := 342) d_Truths_perform_342 (by decide) ?_
  exact w_Truths_perform_b456 hQ u2 h
def f_Truths_perform_b303 (sc : xSc)  (t0 : Option Nat) (t1 : Int32) (t2 : Option Nat) (u : xH) : Option ((Unit ⊕ Nat) × xH) := f_Truths_perform_b339 sc (0 : Int32) t0 t1 t2 u
theorem w_Truths_perform_b303 {sc : xSc} {d : Nat} {Q : xR → xH → Prop} {oZ : Unit ⊕ Nat} {hZ : xH}  (hQ : Q (cvU oZ) hZ) (t0 : Option Nat) (t1 : Int32) (t2 : Option Nat) (u : xH) (h : f_Truths_perform_b303 sc  t0 t1 t2 u = some (oZ, hZ)) : xW sc m_Truths_perform (d + 10) Q (u) 303 [none, none, none, none, none, none] [vR t0, vI t1, vR t2] := by
  unfold f_Truths_perform_b303 at h
  refine x_iconst (v := (0 : Int32)) (pc := 303) d_Truths_perform_303 (by decide) ?_
  refine x_goto (tgt := 339) (pc := 304) d_Truths_perform_304 (by decide) ?_
  exact w_Truths_perform_b339 hQ (0 : Int32) t0 t1 t2 u h
def f_Truths_perform_b275 (sc : xSc)  (l1 : Option Nat) (l3 : Option Nat) (l4 : Option Nat) (t0 : Int32) (t1 : Option Nat) (u : xH) : Option ((Unit ⊕ Nat) × xH) := (if xis sc u 0 t1 = true then tB (f_P_type sc u t1 t0) (fun v3 u2 => (gI sc u2 2 2 l4).bind fun v7 => (if (31 : Int32) < v7 then f_Truths_perform_b303 sc (some 72) (2 : Int32) l1 u2 else (gI sc u2 2 2 l4).bind fun v10 => (if (-31 : Int32) ≤ v10 then (gI sc u2 2 2 l4).bind fun v13 => (if 0 ≤ v13 then (gI sc u2 2 2 l3).bind fun v16 => (gI sc u2 2 2 l4).bind fun v18 => f_Truths_perform_b339 sc (v16 <<< (v18 &&& 31)) (some 72) (2 : Int32) l1 u2 else (gI sc u2 2 2 l3).bind fun v20 => (gI sc u2 2 2 l4).bind fun v22 => f_Truths_perform_b339 sc ((v20.toUInt32 >>> ((-v22).toUInt32 &&& Int32.toUInt32 31)).toInt32) (some 72) (2 : Int32) l1 u2) else f_Truths_perform_b303 sc (some 72) (2 : Int32) l1 u2))) (fun a5 u6 => some (.inr a5, u6)) else none)
theorem w_Truths_perform_b275 {sc : xSc} {d : Nat} {Q : xR → xH → Prop} {oZ : Unit ⊕ Nat} {hZ : xH}  (hQ : Q (cvU oZ) hZ) (l1 : Option Nat) (l3 : Option Nat) (l4 : Option Nat) (t0 : Int32) (t1 : Option Nat) (u : xH) (h : f_Truths_perform_b275 sc  l1 l3 l4 t0 t1 u = some (oZ, hZ)) : xW sc m_Truths_perform (d + 10) Q (u) 275 [none, some (vR l1), none, some (vR l3), some (vR l4), none] [vI t0, vR t1] := by
  unfold f_Truths_perform_b275 at h
  obtain ⟨c1, h⟩ := ite_some h
  rcases tB_s h with ⟨a5, u6, e4, h⟩ | ⟨v3, u2, e4, h⟩
  · refine c_invv (c := 0) (d := d + 9) (av := [vI t0]) (st := []) (Q' := fun r h' => r = .inr a5 ∧ h' = u6) (pc := 275) d_Truths_perform_275 cv_Truths_41 y_P_type c1 rfl (Nat.le_of_ble_eq_true rfl) (Nat.le_of_ble_eq_true rfl) (w_P_type (d := d + 2) (Q := fun r h' => r = .inr a5 ∧ h' = u6) ⟨rfl, rfl⟩ u t1 t0 e4) (fun v h' z => nomatch z.1) (fun a h' z => ?_)
    obtain ⟨z1, z2⟩ := z
    subst h'
    cases z1
    cases h
    exact x_thOut (xno rfl) hQ
  refine c_invv (c := 0) (d := d + 9) (av := [vI t0]) (st := []) (Q' := fun r h' => r = .inl none ∧ h' = u2) (pc := 275) d_Truths_perform_275 cv_Truths_41 y_P_type c1 rfl (Nat.le_of_ble_eq_true rfl) (Nat.le_of_ble_eq_true rfl) (w_P_type (d := d + 2) (Q := fun r h' => r = .inl none ∧ h' = u2) ⟨rfl, rfl⟩ u t1 t0 e4) (fun v h' z => ?_) (fun a h' z => nomatch z.1)
  obtain ⟨z1, z2⟩ := z
  subst h'
  cases z1
  show xW sc m_Truths_perform (d + 10) Q (u2) 278 [none, some (vR l1), none, some (vR l3), some (vR l4), none] []
  refine x_aload_n (pc := 278) d_Truths_perform_278 rfl ?_
  refine x_iconst (v := (2 : Int32)) (pc := 279) d_Truths_perform_279 (by decide) ?_
  refine x_gets (v := vR (some 72)) (pc := 280) d_Truths_perform_280 sl_Truths_56 ?_
  refine x_aload (pc := 283) d_Truths_perform_283 rfl ?_
  obtain ⟨v7, e8, h⟩ := Option.bind_eq_some_iff.mp h
  refine c_getI (pc := 285) d_Truths_perform_285 l_Truths_48 e8 ?_
  refine x_bipush (v := (31 : Int32)) (pc := 288) d_Truths_perform_288 (by decide) ?_
  refine x_icmp_gt (tgt := 303) (pc := 290) d_Truths_perform_290 (by decide) (fun c9 => ?_) (fun c9 => ?_)
  · rw [if_pos c9] at h
    exact x_wk (L' := [none, none, none, none, none, none]) ⟨Or.inl rfl, Or.inl rfl, Or.inl rfl, Or.inl rfl, Or.inl rfl, Or.inl rfl, trivial⟩ (w_Truths_perform_b303 hQ (some 72) (2 : Int32) l1 u2 h)
  · rw [if_neg c9] at h
    refine x_aload (pc := 293) d_Truths_perform_293 rfl ?_
    obtain ⟨v10, e11, h⟩ := Option.bind_eq_some_iff.mp h
    refine c_getI (pc := 295) d_Truths_perform_295 l_Truths_48 e11 ?_
    refine x_bipush (v := (-31 : Int32)) (pc := 298) d_Truths_perform_298 (by decide) ?_
    refine x_icmp_ge (tgt := 307) (pc := 300) d_Truths_perform_300 (by decide) (fun c12 => ?_) (fun c12 => ?_)
    · rw [if_pos c12] at h
      refine x_aload (pc := 307) d_Truths_perform_307 rfl ?_
      obtain ⟨v13, e14, h⟩ := Option.bind_eq_some_iff.mp h
      refine c_getI (pc := 309) d_Truths_perform_309 l_Truths_48 e14 ?_
      refine x_if_ge (tgt := 329) (pc := 312) d_Truths_perform_312 (by decide) (fun c15 => ?_) (fun c15 => ?_)
      · rw [if_pos c15] at h
        refine x_aload_n (pc := 329) d_Truths_perform_329 rfl ?_
        obtain ⟨v16, e17, h⟩ := Option.bind_eq_some_iff.mp h
        refine c_getI (pc := 330) d_Truths_perform_330 l_Truths_48 e17 ?_
        refine x_aload (pc := 333) d_Truths_perform_333 rfl ?_
        obtain ⟨v18, e19, h⟩ := Option.bind_eq_some_iff.mp h
        refine c_getI (pc := 335) d_Truths_perform_335 l_Truths_48 e19 ?_
        refine x_ishl (pc := 338) d_Truths_perform_338 ?_
        exact x_wk (L' := [none, none, none, none, none, none]) ⟨Or.inl rfl, Or.inl rfl, Or.inl rfl, Or.inl rfl, Or.inl rfl, Or.inl rfl, trivial⟩ (w_Truths_perform_b339 hQ (v16 <<< (v18 &&& 31)) (some 72) (2 : Int32) l1 u2 h)
      · rw [if_neg c15] at h
        refine x_aload_n (pc := 315) d_Truths_perform_315 rfl ?_
        obtain ⟨v20, e21, h⟩ := Option.bind_eq_some_iff.mp h
        refine c_getI (pc := 316) d_Truths_perform_316 l_Truths_48 e21 ?_
        refine x_aload (pc := 319) d_Truths_perform_319 rfl ?_
        obtain ⟨v22, e23, h⟩ := Option.bind_eq_some_iff.mp h
        refine c_getI (pc := 321) d_Truths_perform_321 l_Truths_48 e23 ?_
        refine x_ineg (pc := 324) d_Truths_perform_324 ?_
        refine x_iushr (pc := 325) d_Truths_perform_325 ?_
        refine x_goto (tgt := 339) (pc := 326) d_Truths_perform_326 (by decide) ?_
        exact x_wk (L' := [none, none, none, none, none, none]) ⟨Or.inl rfl, Or.inl rfl, Or.inl rfl, Or.inl rfl, Or.inl rfl, Or.inl rfl, trivial⟩ (w_Truths_perform_b339 hQ ((v20.toUInt32 >>> ((-v22).toUInt32 &&& Int32.toUInt32 31)).toInt32) (some 72) (2 : Int32) l1 u2 h)
    · rw [if_neg c12] at h
      exact x_wk (L' := [none, none, none, none, none, none]) ⟨Or.inl rfl, Or.inl rfl, Or.inl rfl, Or.inl rfl, Or.inl rfl, Or.inl rfl, trivial⟩ (w_Truths_perform_b303 hQ (some 72) (2 : Int32) l1 u2 h)
def f_Truths_perform_b274 (sc : xSc)  (l1 : Option Nat) (l3 : Option Nat) (l4 : Option Nat) (t0 : Option Nat) (u : xH) : Option ((Unit ⊕ Nat) × xH) := f_Truths_perform_b275 sc l1 l3 l4 (0 : Int32) t0 u
theorem w_Truths_perform_b274 {sc : xSc} {d : Nat} {Q : xR → xH → Prop} {oZ : Unit ⊕ Nat} {hZ : xH}  (hQ : Q (cvU oZ) hZ) (l1 : Option Nat) (l3 : Option Nat) (l4 : Option Nat) (t0 : Option Nat) (u : xH) (h : f_Truths_perform_b274 sc  l1 l3 l4 t0 u = some (oZ, hZ)) : xW sc m_Truths_perform (d + 10) Q (u) 274 [none, some (vR l1), none, some (vR l3), some (vR l4), none] [vR t0] := by
  unfold f_Truths_perform_b274 at h
  refine x_iconst (v := (0 : Int32)) (pc := 274) d_Truths_perform_274 (by decide) ?_
  exact w_Truths_perform_b275 hQ l1 l3 l4 (0 : Int32) t0 u h
def f_Truths_perform_b242 (sc : xSc)  (t0 : Int32) (t1 : Option Nat) (u : xH) : Option ((Unit ⊕ Nat) × xH) := (pV u 2 2 t1 (vI t0)).bind fun u1 => f_Truths_perform_b456 sc u1
theorem w_Truths_perform_b242 {sc : xSc} {d : Nat} {Q : xR → xH → Prop} {oZ : Unit ⊕ Nat} {hZ : xH}  (hQ : Q (cvU oZ) hZ) (t0 : Int32) (t1 : Option Nat) (u : xH) (h : f_Truths_perform_b242 sc  t0 t1 u = some (oZ, hZ)) : xW sc m_Truths_perform (d + 10) Q (u) 242 [none, none, none, none, none, none] [vI t0, vR t1] := by
  unfold f_Truths_perform_b242 at h
  obtain ⟨u1, e2, h⟩ := Option.bind_eq_some_iff.mp h
  refine c_putf (pc := 242) d_Truths_perform_242 l_Truths_48 fp_2_2 (xfit_int) e2 ?_
  refine x_goto (tgt := 456) (pc := 245) d_Truths_perform_245 (by decide) ?_
  exact w_Truths_perform_b456 hQ u1 h
def f_Truths_perform_b202 (sc : xSc)  (t0 : Int32) (t1 : Option Nat) (t2 : Int32) (t3 : Option Nat) (u : xH) : Option ((Unit ⊕ Nat) × xH) := (if xis sc u 0 t3 = true then tB (f_P_give sc u t3 t2 t1 t0) (fun v3 u2 => f_Truths_perform_b456 sc u2) (fun a5 u6 => some (.inr a5, u6)) else none)
theorem w_Truths_perform_b202 {sc : xSc} {d : Nat} {Q : xR → xH → Prop} {oZ : Unit ⊕ Nat} {hZ : xH}  (hQ : Q (cvU oZ) hZ) (t0 : Int32) (t1 : Option Nat) (t2 : Int32) (t3 : Option Nat) (u : xH) (h : f_Truths_perform_b202 sc  t0 t1 t2 t3 u = some (oZ, hZ)) : xW sc m_Truths_perform (d + 10) Q (u) 202 [none, none, none, none, none, none] [vI t0, vR t1, vI t2, vR t3] := by
  unfold f_Truths_perform_b202 at h
  obtain ⟨c1, h⟩ := ite_some h
  rcases tB_s h with ⟨a5, u6, e4, h⟩ | ⟨v3, u2, e4, h⟩
  · refine c_invv (c := 0) (d := d + 9) (av := [vI t2, vR t1, vI t0]) (st := []) (Q' := fun r h' => r = .inr a5 ∧ h' = u6) (pc := 202) d_Truths_perform_202 cv_Truths_52 y_P_give c1 rfl (Nat.le_of_ble_eq_true rfl) (Nat.le_of_ble_eq_true rfl) (w_P_give (d := d + 1) (Q := fun r h' => r = .inr a5 ∧ h' = u6) ⟨rfl, rfl⟩ u t3 t2 t1 t0 e4) (fun v h' z => nomatch z.1) (fun a h' z => ?_)
    obtain ⟨z1, z2⟩ := z
    subst h'
    cases z1
    cases h
    exact x_thOut (xno rfl) hQ
  refine c_invv (c := 0) (d := d + 9) (av := [vI t2, vR t1, vI t0]) (st := []) (Q' := fun r h' => r = .inl none ∧ h' = u2) (pc := 202) d_Truths_perform_202 cv_Truths_52 y_P_give c1 rfl (Nat.le_of_ble_eq_true rfl) (Nat.le_of_ble_eq_true rfl) (w_P_give (d := d + 1) (Q := fun r h' => r = .inl none ∧ h' = u2) ⟨rfl, rfl⟩ u t3 t2 t1 t0 e4) (fun v h' z => ?_) (fun a h' z => nomatch z.1)
  obtain ⟨z1, z2⟩ := z
  subst h'
  cases z1
  show xW sc m_Truths_perform (d + 10) Q (u2) 205 [none, none, none, none, none, none] []
  refine x_goto (tgt := 456) (pc := 205) d_Truths_perform_205 (by decide) ?_
  exact w_Truths_perform_b456 hQ u2 h
def f_Truths_perform_b163 (sc : xSc)  (l1 : Option Nat) (l2 : Option Nat) (l3 : Option Nat) (l4 : Option Nat) (t0 : Int32) (t1 : Option Nat) (u : xH) : Option ((Unit ⊕ Nat) × xH) := (if xis sc u 0 t1 = true then tB (f_P_type sc u t1 t0) (fun v3 u2 => (gR sc u2 2 0 l3).bind fun v7 => (if xcm l2 = true then (if xcm (some 31) = true then (if l2 = (some 31) then (gI sc u2 2 2 l3).bind fun v16 => (gI sc u2 2 2 l4).bind fun v18 => f_Truths_perform_b202 sc (v16 &&& v18) v7 (2 : Int32) l1 u2 else (gI sc u2 2 2 l3).bind fun v12 => (gI sc u2 2 2 l4).bind fun v14 => f_Truths_perform_b202 sc (v12 ||| v14) v7 (2 : Int32) l1 u2) else none) else none)) (fun a5 u6 => some (.inr a5, u6)) else none)
theorem w_Truths_perform_b163 {sc : xSc} {d : Nat} {Q : xR → xH → Prop} {oZ : Unit ⊕ Nat} {hZ : xH}  (hQ : Q (cvU oZ) hZ) (l1 : Option Nat) (l2 : Option Nat) (l3 : Option Nat) (l4 : Option Nat) (t0 : Int32) (t1 : Option Nat) (u : xH) (h : f_Truths_perform_b163 sc  l1 l2 l3 l4 t0 t1 u = some (oZ, hZ)) : xW sc m_Truths_perform (d + 10) Q (u) 163 [none, some (vR l1), some (vR l2), some (vR l3), some (vR l4), none] [vI t0, vR t1] := by
  unfold f_Truths_perform_b163 at h
  obtain ⟨c1, h⟩ := ite_some h
  rcases tB_s h with ⟨a5, u6, e4, h⟩ | ⟨v3, u2, e4, h⟩
  · refine c_invv (c := 0) (d := d + 9) (av := [vI t0]) (st := []) (Q' := fun r h' => r = .inr a5 ∧ h' = u6) (pc := 163) d_Truths_perform_163 cv_Truths_41 y_P_type c1 rfl (Nat.le_of_ble_eq_true rfl) (Nat.le_of_ble_eq_true rfl) (w_P_type (d := d + 2) (Q := fun r h' => r = .inr a5 ∧ h' = u6) ⟨rfl, rfl⟩ u t1 t0 e4) (fun v h' z => nomatch z.1) (fun a h' z => ?_)
    obtain ⟨z1, z2⟩ := z
    subst h'
    cases z1
    cases h
    exact x_thOut (xno rfl) hQ
  refine c_invv (c := 0) (d := d + 9) (av := [vI t0]) (st := []) (Q' := fun r h' => r = .inl none ∧ h' = u2) (pc := 163) d_Truths_perform_163 cv_Truths_41 y_P_type c1 rfl (Nat.le_of_ble_eq_true rfl) (Nat.le_of_ble_eq_true rfl) (w_P_type (d := d + 2) (Q := fun r h' => r = .inl none ∧ h' = u2) ⟨rfl, rfl⟩ u t1 t0 e4) (fun v h' z => ?_) (fun a h' z => nomatch z.1)
  obtain ⟨z1, z2⟩ := z
  subst h'
  cases z1
  show xW sc m_Truths_perform (d + 10) Q (u2) 166 [none, some (vR l1), some (vR l2), some (vR l3), some (vR l4), none] []
  refine x_aload_n (pc := 166) d_Truths_perform_166 rfl ?_
  refine x_iconst (v := (2 : Int32)) (pc := 167) d_Truths_perform_167 (by decide) ?_
  refine x_aload_n (pc := 168) d_Truths_perform_168 rfl ?_
  obtain ⟨v7, e8, h⟩ := Option.bind_eq_some_iff.mp h
  refine c_getR (pc := 169) d_Truths_perform_169 l_Truths_32 e8 ?_
  refine x_aload_n (pc := 172) d_Truths_perform_172 rfl ?_
  refine x_gets (v := vR (some 31)) (pc := 173) d_Truths_perform_173 sl_Truths_45 ?_
  obtain ⟨c9, h⟩ := ite_some h
  obtain ⟨c10, h⟩ := ite_some h
  refine x_acmp_ne (tgt := 192) (pc := 176) d_Truths_perform_176 (by decide) (xcm_s c9) (xcm_s c10) (fun c11 => ?_) (fun c11 => ?_)
  · rw [if_neg c11] at h
    refine x_aload_n (pc := 192) d_Truths_perform_192 rfl ?_
    obtain ⟨v12, e13, h⟩ := Option.bind_eq_some_iff.mp h
    refine c_getI (pc := 193) d_Truths_perform_193 l_Truths_48 e13 ?_
    refine x_aload (pc := 196) d_Truths_perform_196 rfl ?_
    obtain ⟨v14, e15, h⟩ := Option.bind_eq_some_iff.mp h
    refine c_getI (pc := 198) d_Truths_perform_198 l_Truths_48 e15 ?_
    refine x_ior (pc := 201) d_Truths_perform_201 ?_
    exact x_wk (L' := [none, none, none, none, none, none]) ⟨Or.inl rfl, Or.inl rfl, Or.inl rfl, Or.inl rfl, Or.inl rfl, Or.inl rfl, trivial⟩ (w_Truths_perform_b202 hQ (v12 ||| v14) v7 (2 : Int32) l1 u2 h)
  · rw [if_pos c11] at h
    refine x_aload_n (pc := 179) d_Truths_perform_179 rfl ?_
    obtain ⟨v16, e17, h⟩ := Option.bind_eq_some_iff.mp h
    refine c_getI (pc := 180) d_Truths_perform_180 l_Truths_48 e17 ?_
    refine x_aload (pc := 183) d_Truths_perform_183 rfl ?_
    obtain ⟨v18, e19, h⟩ := Option.bind_eq_some_iff.mp h
    refine c_getI (pc := 185) d_Truths_perform_185 l_Truths_48 e19 ?_
    refine x_iand (pc := 188) d_Truths_perform_188 ?_
    refine x_goto (tgt := 202) (pc := 189) d_Truths_perform_189 (by decide) ?_
    exact x_wk (L' := [none, none, none, none, none, none]) ⟨Or.inl rfl, Or.inl rfl, Or.inl rfl, Or.inl rfl, Or.inl rfl, Or.inl rfl, trivial⟩ (w_Truths_perform_b202 hQ (v16 &&& v18) v7 (2 : Int32) l1 u2 h)
def f_Truths_perform_b162 (sc : xSc)  (l1 : Option Nat) (l2 : Option Nat) (l3 : Option Nat) (l4 : Option Nat) (t0 : Option Nat) (u : xH) : Option ((Unit ⊕ Nat) × xH) := f_Truths_perform_b163 sc l1 l2 l3 l4 (0 : Int32) t0 u
theorem w_Truths_perform_b162 {sc : xSc} {d : Nat} {Q : xR → xH → Prop} {oZ : Unit ⊕ Nat} {hZ : xH}  (hQ : Q (cvU oZ) hZ) (l1 : Option Nat) (l2 : Option Nat) (l3 : Option Nat) (l4 : Option Nat) (t0 : Option Nat) (u : xH) (h : f_Truths_perform_b162 sc  l1 l2 l3 l4 t0 u = some (oZ, hZ)) : xW sc m_Truths_perform (d + 10) Q (u) 162 [none, some (vR l1), some (vR l2), some (vR l3), some (vR l4), none] [vR t0] := by
  unfold f_Truths_perform_b162 at h
  refine x_iconst (v := (0 : Int32)) (pc := 162) d_Truths_perform_162 (by decide) ?_
  exact w_Truths_perform_b163 hQ l1 l2 l3 l4 (0 : Int32) t0 u h
def f_Truths_perform_b138 (sc : xSc)  (l1 : Option Nat) (l2 : Option Nat) (l3 : Option Nat) (l4 : Option Nat) (u : xH) : Option ((Unit ⊕ Nat) × xH) := (gR sc u 2 0 l3).bind fun v1 => (gR sc u 2 0 l4).bind fun v3 => (if xcm v1 = true then (if xcm v3 = true then (if v1 = v3 then (f_Truths_bits sc u l3).bind fun v8 => (if v8 = 0 then f_Truths_perform_b162 sc l1 l2 l3 l4 l1 u else f_Truths_perform_b163 sc l1 l2 l3 l4 (1 : Int32) l1 u) else f_Truths_perform_b162 sc l1 l2 l3 l4 l1 u) else none) else none)
theorem w_Truths_perform_b138 {sc : xSc} {d : Nat} {Q : xR → xH → Prop} {oZ : Unit ⊕ Nat} {hZ : xH}  (hQ : Q (cvU oZ) hZ) (l1 : Option Nat) (l2 : Option Nat) (l3 : Option Nat) (l4 : Option Nat) (u : xH) (h : f_Truths_perform_b138 sc  l1 l2 l3 l4 u = some (oZ, hZ)) : xW sc m_Truths_perform (d + 10) Q (u) 138 [none, some (vR l1), some (vR l2), some (vR l3), some (vR l4), none] [] := by
  unfold f_Truths_perform_b138 at h
  refine x_aload_n (pc := 138) d_Truths_perform_138 rfl ?_
  refine x_aload_n (pc := 139) d_Truths_perform_139 rfl ?_
  obtain ⟨v1, e2, h⟩ := Option.bind_eq_some_iff.mp h
  refine c_getR (pc := 140) d_Truths_perform_140 l_Truths_32 e2 ?_
  refine x_aload (pc := 143) d_Truths_perform_143 rfl ?_
  obtain ⟨v3, e4, h⟩ := Option.bind_eq_some_iff.mp h
  refine c_getR (pc := 145) d_Truths_perform_145 l_Truths_32 e4 ?_
  obtain ⟨c5, h⟩ := ite_some h
  obtain ⟨c6, h⟩ := ite_some h
  refine x_acmp_ne (tgt := 162) (pc := 148) d_Truths_perform_148 (by decide) (xcm_s c5) (xcm_s c6) (fun c7 => ?_) (fun c7 => ?_)
  · rw [if_neg c7] at h
    exact w_Truths_perform_b162 hQ l1 l2 l3 l4 l1 u h
  · rw [if_pos c7] at h
    refine x_aload_n (pc := 151) d_Truths_perform_151 rfl ?_
    obtain ⟨v8, e9, h⟩ := Option.bind_eq_some_iff.mp h
    refine x_invs (d := d + 9) (av := [vR l3]) (st := [vR l1]) (Q' := fun r h' => r = .inl (some (vI v8)) ∧ h' = u) (pc := 152) d_Truths_perform_152 cs_Truths_36 y_Truths_bits rfl (Nat.le_of_ble_eq_true rfl) (Nat.le_of_ble_eq_true rfl) (w_Truths_bits (d := d + 8) (Q := fun r h' => r = .inl (some (vI v8)) ∧ h' = u) ⟨rfl, rfl⟩ l3 e9) (fun v h' z => ?_) (fun a h' z => nomatch z.1)
    obtain ⟨z1, z2⟩ := z
    subst h'
    cases z1
    show xW sc m_Truths_perform (d + 10) Q (u) 155 [none, some (vR l1), some (vR l2), some (vR l3), some (vR l4), none] [vI v8, vR l1]
    refine x_if_eq (tgt := 162) (pc := 155) d_Truths_perform_155 (by decide) (fun c10 => ?_) (fun c10 => ?_)
    · rw [if_pos c10] at h
      exact w_Truths_perform_b162 hQ l1 l2 l3 l4 l1 u h
    · rw [if_neg c10] at h
      refine x_iconst (v := (1 : Int32)) (pc := 158) d_Truths_perform_158 (by decide) ?_
      refine x_goto (tgt := 163) (pc := 159) d_Truths_perform_159 (by decide) ?_
      exact w_Truths_perform_b163 hQ l1 l2 l3 l4 (1 : Int32) l1 u h
def f_Truths_perform_b132 (sc : xSc)  (t0 : Int32) (t1 : Int32) (t2 : Option Nat) (u : xH) : Option ((Unit ⊕ Nat) × xH) := (if xis sc u 0 t2 = true then tB (f_P_truth sc u t2 t1 t0) (fun v3 u2 => f_Truths_perform_b456 sc u2) (fun a5 u6 => some (.inr a5, u6)) else none)
theorem w_Truths_perform_b132 {sc : xSc} {d : Nat} {Q : xR → xH → Prop} {oZ : Unit ⊕ Nat} {hZ : xH}  (hQ : Q (cvU oZ) hZ) (t0 : Int32) (t1 : Int32) (t2 : Option Nat) (u : xH) (h : f_Truths_perform_b132 sc  t0 t1 t2 u = some (oZ, hZ)) : xW sc m_Truths_perform (d + 10) Q (u) 132 [none, none, none, none, none, none] [vI t0, vI t1, vR t2] := by
  unfold f_Truths_perform_b132 at h
  obtain ⟨c1, h⟩ := ite_some h
  rcases tB_s h with ⟨a5, u6, e4, h⟩ | ⟨v3, u2, e4, h⟩
  · refine c_invv (c := 0) (d := d + 9) (av := [vI t1, vI t0]) (st := []) (Q' := fun r h' => r = .inr a5 ∧ h' = u6) (pc := 132) d_Truths_perform_132 cv_Truths_17 y_P_truth c1 rfl (Nat.le_of_ble_eq_true rfl) (Nat.le_of_ble_eq_true rfl) (w_P_truth (d := d + 0) (Q := fun r h' => r = .inr a5 ∧ h' = u6) ⟨rfl, rfl⟩ u t2 t1 t0 e4) (fun v h' z => nomatch z.1) (fun a h' z => ?_)
    obtain ⟨z1, z2⟩ := z
    subst h'
    cases z1
    cases h
    exact x_thOut (xno rfl) hQ
  refine c_invv (c := 0) (d := d + 9) (av := [vI t1, vI t0]) (st := []) (Q' := fun r h' => r = .inl none ∧ h' = u2) (pc := 132) d_Truths_perform_132 cv_Truths_17 y_P_truth c1 rfl (Nat.le_of_ble_eq_true rfl) (Nat.le_of_ble_eq_true rfl) (w_P_truth (d := d + 0) (Q := fun r h' => r = .inl none ∧ h' = u2) ⟨rfl, rfl⟩ u t2 t1 t0 e4) (fun v h' z => ?_) (fun a h' z => nomatch z.1)
  obtain ⟨z1, z2⟩ := z
  subst h'
  cases z1
  show xW sc m_Truths_perform (d + 10) Q (u2) 135 [none, none, none, none, none, none] []
  refine x_goto (tgt := 456) (pc := 135) d_Truths_perform_135 (by decide) ?_
  exact w_Truths_perform_b456 hQ u2 h
def f_Truths_perform_b124 (sc : xSc)  (t0 : Int32) (t1 : Int32) (t2 : Int32) (t3 : Option Nat) (u : xH) : Option ((Unit ⊕ Nat) × xH) := (if t1 = t0 then f_Truths_perform_b132 sc (1 : Int32) t2 t3 u else f_Truths_perform_b132 sc (0 : Int32) t2 t3 u)
theorem w_Truths_perform_b124 {sc : xSc} {d : Nat} {Q : xR → xH → Prop} {oZ : Unit ⊕ Nat} {hZ : xH}  (hQ : Q (cvU oZ) hZ) (t0 : Int32) (t1 : Int32) (t2 : Int32) (t3 : Option Nat) (u : xH) (h : f_Truths_perform_b124 sc  t0 t1 t2 t3 u = some (oZ, hZ)) : xW sc m_Truths_perform (d + 10) Q (u) 124 [none, none, none, none, none, none] [vI t0, vI t1, vI t2, vR t3] := by
  unfold f_Truths_perform_b124 at h
  refine x_icmp_ne (tgt := 131) (pc := 124) d_Truths_perform_124 (by decide) (fun c1 => ?_) (fun c1 => ?_)
  · rw [if_neg c1] at h
    refine x_iconst (v := (0 : Int32)) (pc := 131) d_Truths_perform_131 (by decide) ?_
    exact w_Truths_perform_b132 hQ (0 : Int32) t2 t3 u h
  · rw [if_pos c1] at h
    refine x_iconst (v := (1 : Int32)) (pc := 127) d_Truths_perform_127 (by decide) ?_
    refine x_goto (tgt := 132) (pc := 128) d_Truths_perform_128 (by decide) ?_
    exact w_Truths_perform_b132 hQ (1 : Int32) t2 t3 u h
def f_Truths_perform_b104 (sc : xSc)  (l1 : Option Nat) (l2 : Option Nat) (l3 : Option Nat) (l4 : Option Nat) (u : xH) : Option ((Unit ⊕ Nat) × xH) := (if xis sc u 2 l3 = true then (f_Slot_same sc u l3 l4).bind fun v2 => (if xcm l2 = true then (if xcm (some 25) = true then (if l2 = (some 25) then f_Truths_perform_b124 sc (1 : Int32) v2 (2 : Int32) l1 u else f_Truths_perform_b124 sc (0 : Int32) v2 (2 : Int32) l1 u) else none) else none) else none)
theorem w_Truths_perform_b104 {sc : xSc} {d : Nat} {Q : xR → xH → Prop} {oZ : Unit ⊕ Nat} {hZ : xH}  (hQ : Q (cvU oZ) hZ) (l1 : Option Nat) (l2 : Option Nat) (l3 : Option Nat) (l4 : Option Nat) (u : xH) (h : f_Truths_perform_b104 sc  l1 l2 l3 l4 u = some (oZ, hZ)) : xW sc m_Truths_perform (d + 10) Q (u) 104 [none, some (vR l1), some (vR l2), some (vR l3), some (vR l4), none] [] := by
  unfold f_Truths_perform_b104 at h
  refine x_aload_n (pc := 104) d_Truths_perform_104 rfl ?_
  refine x_iconst (v := (2 : Int32)) (pc := 105) d_Truths_perform_105 (by decide) ?_
  refine x_aload_n (pc := 106) d_Truths_perform_106 rfl ?_
  refine x_aload (pc := 107) d_Truths_perform_107 rfl ?_
  obtain ⟨c1, h⟩ := ite_some h
  obtain ⟨v2, e3, h⟩ := Option.bind_eq_some_iff.mp h
  refine c_invv (c := 2) (d := d + 9) (av := [vR l4]) (st := [vI (2 : Int32), vR l1]) (Q' := fun r h' => r = .inl (some (vI v2)) ∧ h' = u) (pc := 109) d_Truths_perform_109 cv_Truths_23 y_Slot_same c1 rfl (Nat.le_of_ble_eq_true rfl) (Nat.le_of_ble_eq_true rfl) (w_Slot_same (d := d + 8) (Q := fun r h' => r = .inl (some (vI v2)) ∧ h' = u) ⟨rfl, rfl⟩ l3 l4 e3) (fun v h' z => ?_) (fun a h' z => nomatch z.1)
  obtain ⟨z1, z2⟩ := z
  subst h'
  cases z1
  show xW sc m_Truths_perform (d + 10) Q (u) 112 [none, some (vR l1), some (vR l2), some (vR l3), some (vR l4), none] [vI v2, vI (2 : Int32), vR l1]
  refine x_aload_n (pc := 112) d_Truths_perform_112 rfl ?_
  refine x_gets (v := vR (some 25)) (pc := 113) d_Truths_perform_113 sl_Truths_29 ?_
  obtain ⟨c4, h⟩ := ite_some h
  obtain ⟨c5, h⟩ := ite_some h
  refine x_acmp_ne (tgt := 123) (pc := 116) d_Truths_perform_116 (by decide) (xcm_s c4) (xcm_s c5) (fun c6 => ?_) (fun c6 => ?_)
  · rw [if_neg c6] at h
    refine x_iconst (v := (0 : Int32)) (pc := 123) d_Truths_perform_123 (by decide) ?_
    exact x_wk (L' := [none, none, none, none, none, none]) ⟨Or.inl rfl, Or.inl rfl, Or.inl rfl, Or.inl rfl, Or.inl rfl, Or.inl rfl, trivial⟩ (w_Truths_perform_b124 hQ (0 : Int32) v2 (2 : Int32) l1 u h)
  · rw [if_pos c6] at h
    refine x_iconst (v := (1 : Int32)) (pc := 119) d_Truths_perform_119 (by decide) ?_
    refine x_goto (tgt := 124) (pc := 120) d_Truths_perform_120 (by decide) ?_
    exact x_wk (L' := [none, none, none, none, none, none]) ⟨Or.inl rfl, Or.inl rfl, Or.inl rfl, Or.inl rfl, Or.inl rfl, Or.inl rfl, trivial⟩ (w_Truths_perform_b124 hQ (1 : Int32) v2 (2 : Int32) l1 u h)
def f_Truths_perform_b98 (sc : xSc)  (t0 : Int32) (t1 : Int32) (t2 : Option Nat) (u : xH) : Option ((Unit ⊕ Nat) × xH) := (if xis sc u 0 t2 = true then tB (f_P_truth sc u t2 t1 t0) (fun v3 u2 => f_Truths_perform_b456 sc u2) (fun a5 u6 => some (.inr a5, u6)) else none)
theorem w_Truths_perform_b98 {sc : xSc} {d : Nat} {Q : xR → xH → Prop} {oZ : Unit ⊕ Nat} {hZ : xH}  (hQ : Q (cvU oZ) hZ) (t0 : Int32) (t1 : Int32) (t2 : Option Nat) (u : xH) (h : f_Truths_perform_b98 sc  t0 t1 t2 u = some (oZ, hZ)) : xW sc m_Truths_perform (d + 10) Q (u) 98 [none, none, none, none, none, none] [vI t0, vI t1, vR t2] := by
  unfold f_Truths_perform_b98 at h
  obtain ⟨c1, h⟩ := ite_some h
  rcases tB_s h with ⟨a5, u6, e4, h⟩ | ⟨v3, u2, e4, h⟩
  · refine c_invv (c := 0) (d := d + 9) (av := [vI t1, vI t0]) (st := []) (Q' := fun r h' => r = .inr a5 ∧ h' = u6) (pc := 98) d_Truths_perform_98 cv_Truths_17 y_P_truth c1 rfl (Nat.le_of_ble_eq_true rfl) (Nat.le_of_ble_eq_true rfl) (w_P_truth (d := d + 0) (Q := fun r h' => r = .inr a5 ∧ h' = u6) ⟨rfl, rfl⟩ u t2 t1 t0 e4) (fun v h' z => nomatch z.1) (fun a h' z => ?_)
    obtain ⟨z1, z2⟩ := z
    subst h'
    cases z1
    cases h
    exact x_thOut (xno rfl) hQ
  refine c_invv (c := 0) (d := d + 9) (av := [vI t1, vI t0]) (st := []) (Q' := fun r h' => r = .inl none ∧ h' = u2) (pc := 98) d_Truths_perform_98 cv_Truths_17 y_P_truth c1 rfl (Nat.le_of_ble_eq_true rfl) (Nat.le_of_ble_eq_true rfl) (w_P_truth (d := d + 0) (Q := fun r h' => r = .inl none ∧ h' = u2) ⟨rfl, rfl⟩ u t2 t1 t0 e4) (fun v h' z => ?_) (fun a h' z => nomatch z.1)
  obtain ⟨z1, z2⟩ := z
  subst h'
  cases z1
  show xW sc m_Truths_perform (d + 10) Q (u2) 101 [none, none, none, none, none, none] []
  refine x_goto (tgt := 456) (pc := 101) d_Truths_perform_101 (by decide) ?_
  exact w_Truths_perform_b456 hQ u2 h
def f_Truths_perform_b84 (sc : xSc)  (l1 : Option Nat) (l2 : Option Nat) (u : xH) : Option ((Unit ⊕ Nat) × xH) := (if xcm l2 = true then (if xcm (some 23) = true then (if l2 = (some 23) then f_Truths_perform_b98 sc (1 : Int32) (0 : Int32) l1 u else f_Truths_perform_b98 sc (0 : Int32) (0 : Int32) l1 u) else none) else none)
theorem w_Truths_perform_b84 {sc : xSc} {d : Nat} {Q : xR → xH → Prop} {oZ : Unit ⊕ Nat} {hZ : xH}  (hQ : Q (cvU oZ) hZ) (l1 : Option Nat) (l2 : Option Nat) (u : xH) (h : f_Truths_perform_b84 sc  l1 l2 u = some (oZ, hZ)) : xW sc m_Truths_perform (d + 10) Q (u) 84 [none, some (vR l1), some (vR l2), none, none, none] [] := by
  unfold f_Truths_perform_b84 at h
  refine x_aload_n (pc := 84) d_Truths_perform_84 rfl ?_
  refine x_iconst (v := (0 : Int32)) (pc := 85) d_Truths_perform_85 (by decide) ?_
  refine x_aload_n (pc := 86) d_Truths_perform_86 rfl ?_
  refine x_gets (v := vR (some 23)) (pc := 87) d_Truths_perform_87 sl_Truths_13 ?_
  obtain ⟨c1, h⟩ := ite_some h
  obtain ⟨c2, h⟩ := ite_some h
  refine x_acmp_ne (tgt := 97) (pc := 90) d_Truths_perform_90 (by decide) (xcm_s c1) (xcm_s c2) (fun c3 => ?_) (fun c3 => ?_)
  · rw [if_neg c3] at h
    refine x_iconst (v := (0 : Int32)) (pc := 97) d_Truths_perform_97 (by decide) ?_
    exact x_wk (L' := [none, none, none, none, none, none]) ⟨Or.inl rfl, Or.inl rfl, Or.inl rfl, Or.inl rfl, Or.inl rfl, Or.inl rfl, trivial⟩ (w_Truths_perform_b98 hQ (0 : Int32) (0 : Int32) l1 u h)
  · rw [if_pos c3] at h
    refine x_iconst (v := (1 : Int32)) (pc := 93) d_Truths_perform_93 (by decide) ?_
    refine x_goto (tgt := 98) (pc := 94) d_Truths_perform_94 (by decide) ?_
    exact x_wk (L' := [none, none, none, none, none, none]) ⟨Or.inl rfl, Or.inl rfl, Or.inl rfl, Or.inl rfl, Or.inl rfl, Or.inl rfl, trivial⟩ (w_Truths_perform_b98 hQ (1 : Int32) (0 : Int32) l1 u h)
def f_Truths_perform (sc : xSc) (u : xH) (a0 : Option Nat) (a1 : Option Nat) (a2 : Option Nat) (a3 : Option Nat) (a4 : Option Nat) (a5 : Int32) : Option ((Unit ⊕ Nat) × xH) := (if xis sc u 19 a2 = true then (f_Enum_ordinal19 sc u a2).bind fun v2 => (if v2 = (23 : Int32) then f_Truths_perform_b84 sc a1 a2 u else (if v2 = (24 : Int32) then f_Truths_perform_b84 sc a1 a2 u else (if v2 = (25 : Int32) then f_Truths_perform_b104 sc a1 a2 a3 a4 u else (if v2 = (26 : Int32) then f_Truths_perform_b104 sc a1 a2 a3 a4 u else (if v2 = (27 : Int32) then f_Truths_perform_b414 sc a1 a2 a3 a4 u else (if v2 = (28 : Int32) then f_Truths_perform_b414 sc a1 a2 a3 a4 u else (if v2 = (29 : Int32) then f_Truths_perform_b414 sc a1 a2 a3 a4 u else (if v2 = (30 : Int32) then f_Truths_perform_b414 sc a1 a2 a3 a4 u else (if v2 = (31 : Int32) then f_Truths_perform_b138 sc a1 a2 a3 a4 u else (if v2 = (32 : Int32) then f_Truths_perform_b138 sc a1 a2 a3 a4 u else (if v2 = (33 : Int32) then (f_Truths_bits sc u a3).bind fun v15 => (if xis sc u 0 a1 = true then tB (f_P_type sc u a1 v15) (fun v19 u18 => (if xis sc u18 2 a3 = true then (f_Slot_is sc u18 a3 (some 72)).bind fun v24 => (if v24 = 0 then (gI sc u18 2 2 a3).bind fun v27 => f_Truths_perform_b242 sc ((1 : Int32) - v27) a3 u18 else (gI sc u18 2 2 a3).bind fun v29 => f_Truths_perform_b242 sc (v29 ^^^ (-1 : Int32)) a3 u18) else none)) (fun a21 u22 => some (.inr a21, u22)) else none) else (if v2 = (34 : Int32) then (if xis sc u 2 a3 = true then (f_Slot_is sc u a3 (some 72)).bind fun v33 => (if v33 = 0 then f_Truths_perform_b274 sc a1 a3 a4 a1 u else (if xis sc u 2 a4 = true then (f_Slot_is sc u a4 (some 72)).bind fun v37 => (if v37 = 0 then f_Truths_perform_b274 sc a1 a3 a4 a1 u else f_Truths_perform_b275 sc a1 a3 a4 (1 : Int32) a1 u) else none)) else none) else (if v2 = (35 : Int32) then f_Truths_perform_b345 sc a2 a3 u else (if v2 = (36 : Int32) then f_Truths_perform_b345 sc a2 a3 u else (if v2 = (37 : Int32) then (gI sc u 2 1 a3).bind fun v43 => (if xis sc u 0 a1 = true then tB (f_P_truth sc u a1 (1 : Int32) v43) (fun v47 u46 => f_Truths_perform_b456 sc u46) (fun a49 u50 => some (.inr a49, u50)) else none) else (if v2 = (38 : Int32) then (gR sc u 2 0 a3).bind fun v52 => (if xis sc u 20 v52 = true then (f_Enum_ordinal20 sc u v52).bind fun v55 => (if xis sc u 0 a1 = true then tB (f_P_give sc u a1 (1 : Int32) (some 72) v55) (fun v59 u58 => f_Truths_perform_b456 sc u58) (fun a61 u62 => some (.inr a61, u62)) else none) else none) else f_Truths_perform_b414 sc a1 a2 a3 a4 u)))))))))))))))) else none)
theorem w_Truths_perform {sc : xSc} {d : Nat} {Q : xR → xH → Prop} {oZ : Unit ⊕ Nat} {hZ : xH} (hQ : Q (cvU oZ) hZ) (u : xH) (a0 : Option Nat) (a1 : Option Nat) (a2 : Option Nat) (a3 : Option Nat) (a4 : Option Nat) (a5 : Int32) (h : f_Truths_perform sc u a0 a1 a2 a3 a4 a5 = some (oZ, hZ)) : xW sc m_Truths_perform (d + 10) Q (u) 0 (xent [vR a0, vR a1, vR a2, vR a3, vR a4, vI a5] m_Truths_perform.2.2.1) [] := by
  show xW sc m_Truths_perform (d + 10) Q (u) 0 [some (vR a0), some (vR a1), some (vR a2), some (vR a3), some (vR a4), some (vI a5)] []
  unfold f_Truths_perform at h
  refine x_aload_n (pc := 0) d_Truths_perform_0 rfl ?_
  obtain ⟨c1, h⟩ := ite_some h
  obtain ⟨v2, e3, h⟩ := Option.bind_eq_some_iff.mp h
  refine c_invu (c := 19) (d := d + 9) (av := []) (st := []) (Q' := fun r h' => r = .inl (some (vI v2)) ∧ h' = u) (pc := 1) d_Truths_perform_1 cw_Truths_7_19 y_Enum_ordinal c1 rfl (Nat.le_of_ble_eq_true rfl) (Nat.le_of_ble_eq_true rfl) (w_Enum_ordinal19 (d := d + 9) (Q := fun r h' => r = .inl (some (vI v2)) ∧ h' = u) ⟨rfl, rfl⟩ a2 e3) (fun v h' z => ?_) (fun a h' z => nomatch z.1)
  obtain ⟨z1, z2⟩ := z
  subst h'
  cases z1
  show xW sc m_Truths_perform (d + 10) Q (u) 4 [some (vR a0), some (vR a1), some (vR a2), some (vR a3), some (vR a4), some (vI a5)] [vI v2]
  by_cases c4 : v2 = (23 : Int32)
  · rw [if_pos c4] at h
    refine x_tableIn (off := 80) (tgt := 84) (pc := 4) d_Truths_perform_4 (by rw [c4]; decide) (by rw [c4]; decide) (by rw [c4]; decide) (by decide) ?_
    exact x_wk (L' := [none, some (vR a1), some (vR a2), none, none, none]) ⟨Or.inl rfl, Or.inr rfl, Or.inr rfl, Or.inl rfl, Or.inl rfl, Or.inl rfl, trivial⟩ (w_Truths_perform_b84 hQ a1 a2 u h)
  rw [if_neg c4] at h
  by_cases c5 : v2 = (24 : Int32)
  · rw [if_pos c5] at h
    refine x_tableIn (off := 80) (tgt := 84) (pc := 4) d_Truths_perform_4 (by rw [c5]; decide) (by rw [c5]; decide) (by rw [c5]; decide) (by decide) ?_
    exact x_wk (L' := [none, some (vR a1), some (vR a2), none, none, none]) ⟨Or.inl rfl, Or.inr rfl, Or.inr rfl, Or.inl rfl, Or.inl rfl, Or.inl rfl, trivial⟩ (w_Truths_perform_b84 hQ a1 a2 u h)
  rw [if_neg c5] at h
  by_cases c6 : v2 = (25 : Int32)
  · rw [if_pos c6] at h
    refine x_tableIn (off := 100) (tgt := 104) (pc := 4) d_Truths_perform_4 (by rw [c6]; decide) (by rw [c6]; decide) (by rw [c6]; decide) (by decide) ?_
    exact x_wk (L' := [none, some (vR a1), some (vR a2), some (vR a3), some (vR a4), none]) ⟨Or.inl rfl, Or.inr rfl, Or.inr rfl, Or.inr rfl, Or.inr rfl, Or.inl rfl, trivial⟩ (w_Truths_perform_b104 hQ a1 a2 a3 a4 u h)
  rw [if_neg c6] at h
  by_cases c7 : v2 = (26 : Int32)
  · rw [if_pos c7] at h
    refine x_tableIn (off := 100) (tgt := 104) (pc := 4) d_Truths_perform_4 (by rw [c7]; decide) (by rw [c7]; decide) (by rw [c7]; decide) (by decide) ?_
    exact x_wk (L' := [none, some (vR a1), some (vR a2), some (vR a3), some (vR a4), none]) ⟨Or.inl rfl, Or.inr rfl, Or.inr rfl, Or.inr rfl, Or.inr rfl, Or.inl rfl, trivial⟩ (w_Truths_perform_b104 hQ a1 a2 a3 a4 u h)
  rw [if_neg c7] at h
  by_cases c8 : v2 = (27 : Int32)
  · rw [if_pos c8] at h
    refine x_tableIn (off := 410) (tgt := 414) (pc := 4) d_Truths_perform_4 (by rw [c8]; decide) (by rw [c8]; decide) (by rw [c8]; decide) (by decide) ?_
    exact x_wk (L' := [none, some (vR a1), some (vR a2), some (vR a3), some (vR a4), none]) ⟨Or.inl rfl, Or.inr rfl, Or.inr rfl, Or.inr rfl, Or.inr rfl, Or.inl rfl, trivial⟩ (w_Truths_perform_b414 hQ a1 a2 a3 a4 u h)
  rw [if_neg c8] at h
  by_cases c9 : v2 = (28 : Int32)
  · rw [if_pos c9] at h
    refine x_tableIn (off := 410) (tgt := 414) (pc := 4) d_Truths_perform_4 (by rw [c9]; decide) (by rw [c9]; decide) (by rw [c9]; decide) (by decide) ?_
    exact x_wk (L' := [none, some (vR a1), some (vR a2), some (vR a3), some (vR a4), none]) ⟨Or.inl rfl, Or.inr rfl, Or.inr rfl, Or.inr rfl, Or.inr rfl, Or.inl rfl, trivial⟩ (w_Truths_perform_b414 hQ a1 a2 a3 a4 u h)
  rw [if_neg c9] at h
  by_cases c10 : v2 = (29 : Int32)
  · rw [if_pos c10] at h
    refine x_tableIn (off := 410) (tgt := 414) (pc := 4) d_Truths_perform_4 (by rw [c10]; decide) (by rw [c10]; decide) (by rw [c10]; decide) (by decide) ?_
    exact x_wk (L' := [none, some (vR a1), some (vR a2), some (vR a3), some (vR a4), none]) ⟨Or.inl rfl, Or.inr rfl, Or.inr rfl, Or.inr rfl, Or.inr rfl, Or.inl rfl, trivial⟩ (w_Truths_perform_b414 hQ a1 a2 a3 a4 u h)
  rw [if_neg c10] at h
  by_cases c11 : v2 = (30 : Int32)
  · rw [if_pos c11] at h
    refine x_tableIn (off := 410) (tgt := 414) (pc := 4) d_Truths_perform_4 (by rw [c11]; decide) (by rw [c11]; decide) (by rw [c11]; decide) (by decide) ?_
    exact x_wk (L' := [none, some (vR a1), some (vR a2), some (vR a3), some (vR a4), none]) ⟨Or.inl rfl, Or.inr rfl, Or.inr rfl, Or.inr rfl, Or.inr rfl, Or.inl rfl, trivial⟩ (w_Truths_perform_b414 hQ a1 a2 a3 a4 u h)
  rw [if_neg c11] at h
  by_cases c12 : v2 = (31 : Int32)
  · rw [if_pos c12] at h
    refine x_tableIn (off := 134) (tgt := 138) (pc := 4) d_Truths_perform_4 (by rw [c12]; decide) (by rw [c12]; decide) (by rw [c12]; decide) (by decide) ?_
    exact x_wk (L' := [none, some (vR a1), some (vR a2), some (vR a3), some (vR a4), none]) ⟨Or.inl rfl, Or.inr rfl, Or.inr rfl, Or.inr rfl, Or.inr rfl, Or.inl rfl, trivial⟩ (w_Truths_perform_b138 hQ a1 a2 a3 a4 u h)
  rw [if_neg c12] at h
  by_cases c13 : v2 = (32 : Int32)
  · rw [if_pos c13] at h
    refine x_tableIn (off := 134) (tgt := 138) (pc := 4) d_Truths_perform_4 (by rw [c13]; decide) (by rw [c13]; decide) (by rw [c13]; decide) (by decide) ?_
    exact x_wk (L' := [none, some (vR a1), some (vR a2), some (vR a3), some (vR a4), none]) ⟨Or.inl rfl, Or.inr rfl, Or.inr rfl, Or.inr rfl, Or.inr rfl, Or.inl rfl, trivial⟩ (w_Truths_perform_b138 hQ a1 a2 a3 a4 u h)
  rw [if_neg c13] at h
  by_cases c14 : v2 = (33 : Int32)
  · rw [if_pos c14] at h
    refine x_tableIn (off := 204) (tgt := 208) (pc := 4) d_Truths_perform_4 (by rw [c14]; decide) (by rw [c14]; decide) (by rw [c14]; decide) (by decide) ?_
    refine x_aload_n (pc := 208) d_Truths_perform_208 rfl ?_
    refine x_aload_n (pc := 209) d_Truths_perform_209 rfl ?_
    obtain ⟨v15, e16, h⟩ := Option.bind_eq_some_iff.mp h
    refine x_invs (d := d + 9) (av := [vR a3]) (st := [vR a1]) (Q' := fun r h' => r = .inl (some (vI v15)) ∧ h' = u) (pc := 210) d_Truths_perform_210 cs_Truths_36 y_Truths_bits rfl (Nat.le_of_ble_eq_true rfl) (Nat.le_of_ble_eq_true rfl) (w_Truths_bits (d := d + 8) (Q := fun r h' => r = .inl (some (vI v15)) ∧ h' = u) ⟨rfl, rfl⟩ a3 e16) (fun v h' z => ?_) (fun a h' z => nomatch z.1)
    obtain ⟨z1, z2⟩ := z
    subst h'
    cases z1
    show xW sc m_Truths_perform (d + 10) Q (u) 213 [some (vR a0), some (vR a1), some (vR a2), some (vR a3), some (vR a4), some (vI a5)] [vI v15, vR a1]
    obtain ⟨c17, h⟩ := ite_some h
    rcases tB_s h with ⟨a21, u22, e20, h⟩ | ⟨v19, u18, e20, h⟩
    · refine c_invv (c := 0) (d := d + 9) (av := [vI v15]) (st := []) (Q' := fun r h' => r = .inr a21 ∧ h' = u22) (pc := 213) d_Truths_perform_213 cv_Truths_41 y_P_type c17 rfl (Nat.le_of_ble_eq_true rfl) (Nat.le_of_ble_eq_true rfl) (w_P_type (d := d + 2) (Q := fun r h' => r = .inr a21 ∧ h' = u22) ⟨rfl, rfl⟩ u a1 v15 e20) (fun v h' z => nomatch z.1) (fun a h' z => ?_)
      obtain ⟨z1, z2⟩ := z
      subst h'
      cases z1
      cases h
      exact x_thOut (xno rfl) hQ
    refine c_invv (c := 0) (d := d + 9) (av := [vI v15]) (st := []) (Q' := fun r h' => r = .inl none ∧ h' = u18) (pc := 213) d_Truths_perform_213 cv_Truths_41 y_P_type c17 rfl (Nat.le_of_ble_eq_true rfl) (Nat.le_of_ble_eq_true rfl) (w_P_type (d := d + 2) (Q := fun r h' => r = .inl none ∧ h' = u18) ⟨rfl, rfl⟩ u a1 v15 e20) (fun v h' z => ?_) (fun a h' z => nomatch z.1)
    obtain ⟨z1, z2⟩ := z
    subst h'
    cases z1
    show xW sc m_Truths_perform (d + 10) Q (u18) 216 [some (vR a0), some (vR a1), some (vR a2), some (vR a3), some (vR a4), some (vI a5)] []
    refine x_aload_n (pc := 216) d_Truths_perform_216 rfl ?_
    refine x_aload_n (pc := 217) d_Truths_perform_217 rfl ?_
    refine x_gets (v := vR (some 72)) (pc := 218) d_Truths_perform_218 sl_Truths_56 ?_
    obtain ⟨c23, h⟩ := ite_some h
    obtain ⟨v24, e25, h⟩ := Option.bind_eq_some_iff.mp h
    refine c_invv (c := 2) (d := d + 9) (av := [vR (some 72)]) (st := [vR a3]) (Q' := fun r h' => r = .inl (some (vI v24)) ∧ h' = u18) (pc := 221) d_Truths_perform_221 cv_Truths_61 y_Slot_is c23 rfl (Nat.le_of_ble_eq_true rfl) (Nat.le_of_ble_eq_true rfl) (w_Slot_is (d := d + 9) (Q := fun r h' => r = .inl (some (vI v24)) ∧ h' = u18) ⟨rfl, rfl⟩ a3 (some 72) e25) (fun v h' z => ?_) (fun a h' z => nomatch z.1)
    obtain ⟨z1, z2⟩ := z
    subst h'
    cases z1
    show xW sc m_Truths_perform (d + 10) Q (u18) 224 [some (vR a0), some (vR a1), some (vR a2), some (vR a3), some (vR a4), some (vI a5)] [vI v24, vR a3]
    refine x_if_eq (tgt := 236) (pc := 224) d_Truths_perform_224 (by decide) (fun c26 => ?_) (fun c26 => ?_)
    · rw [if_pos c26] at h
      refine x_iconst (v := (1 : Int32)) (pc := 236) d_Truths_perform_236 (by decide) ?_
      refine x_aload_n (pc := 237) d_Truths_perform_237 rfl ?_
      obtain ⟨v27, e28, h⟩ := Option.bind_eq_some_iff.mp h
      refine c_getI (pc := 238) d_Truths_perform_238 l_Truths_48 e28 ?_
      refine x_isub (pc := 241) d_Truths_perform_241 ?_
      exact x_wk (L' := [none, none, none, none, none, none]) ⟨Or.inl rfl, Or.inl rfl, Or.inl rfl, Or.inl rfl, Or.inl rfl, Or.inl rfl, trivial⟩ (w_Truths_perform_b242 hQ ((1 : Int32) - v27) a3 u18 h)
    · rw [if_neg c26] at h
      refine x_aload_n (pc := 227) d_Truths_perform_227 rfl ?_
      obtain ⟨v29, e30, h⟩ := Option.bind_eq_some_iff.mp h
      refine c_getI (pc := 228) d_Truths_perform_228 l_Truths_48 e30 ?_
      refine x_iconst (v := (-1 : Int32)) (pc := 231) d_Truths_perform_231 (by decide) ?_
      refine x_ixor (pc := 232) d_Truths_perform_232 ?_
      refine x_goto (tgt := 242) (pc := 233) d_Truths_perform_233 (by decide) ?_
      exact x_wk (L' := [none, none, none, none, none, none]) ⟨Or.inl rfl, Or.inl rfl, Or.inl rfl, Or.inl rfl, Or.inl rfl, Or.inl rfl, trivial⟩ (w_Truths_perform_b242 hQ (v29 ^^^ (-1 : Int32)) a3 u18 h)
  rw [if_neg c14] at h
  by_cases c31 : v2 = (34 : Int32)
  · rw [if_pos c31] at h
    refine x_tableIn (off := 244) (tgt := 248) (pc := 4) d_Truths_perform_4 (by rw [c31]; decide) (by rw [c31]; decide) (by rw [c31]; decide) (by decide) ?_
    refine x_aload_n (pc := 248) d_Truths_perform_248 rfl ?_
    refine x_aload_n (pc := 249) d_Truths_perform_249 rfl ?_
    refine x_gets (v := vR (some 72)) (pc := 250) d_Truths_perform_250 sl_Truths_56 ?_
    obtain ⟨c32, h⟩ := ite_some h
    obtain ⟨v33, e34, h⟩ := Option.bind_eq_some_iff.mp h
    refine c_invv (c := 2) (d := d + 9) (av := [vR (some 72)]) (st := [vR a1]) (Q' := fun r h' => r = .inl (some (vI v33)) ∧ h' = u) (pc := 253) d_Truths_perform_253 cv_Truths_61 y_Slot_is c32 rfl (Nat.le_of_ble_eq_true rfl) (Nat.le_of_ble_eq_true rfl) (w_Slot_is (d := d + 9) (Q := fun r h' => r = .inl (some (vI v33)) ∧ h' = u) ⟨rfl, rfl⟩ a3 (some 72) e34) (fun v h' z => ?_) (fun a h' z => nomatch z.1)
    obtain ⟨z1, z2⟩ := z
    subst h'
    cases z1
    show xW sc m_Truths_perform (d + 10) Q (u) 256 [some (vR a0), some (vR a1), some (vR a2), some (vR a3), some (vR a4), some (vI a5)] [vI v33, vR a1]
    refine x_if_eq (tgt := 274) (pc := 256) d_Truths_perform_256 (by decide) (fun c35 => ?_) (fun c35 => ?_)
    · rw [if_pos c35] at h
      exact x_wk (L' := [none, some (vR a1), none, some (vR a3), some (vR a4), none]) ⟨Or.inl rfl, Or.inr rfl, Or.inl rfl, Or.inr rfl, Or.inr rfl, Or.inl rfl, trivial⟩ (w_Truths_perform_b274 hQ a1 a3 a4 a1 u h)
    · rw [if_neg c35] at h
      refine x_aload (pc := 259) d_Truths_perform_259 rfl ?_
      refine x_gets (v := vR (some 72)) (pc := 261) d_Truths_perform_261 sl_Truths_56 ?_
      obtain ⟨c36, h⟩ := ite_some h
      obtain ⟨v37, e38, h⟩ := Option.bind_eq_some_iff.mp h
      refine c_invv (c := 2) (d := d + 9) (av := [vR (some 72)]) (st := [vR a1]) (Q' := fun r h' => r = .inl (some (vI v37)) ∧ h' = u) (pc := 264) d_Truths_perform_264 cv_Truths_61 y_Slot_is c36 rfl (Nat.le_of_ble_eq_true rfl) (Nat.le_of_ble_eq_true rfl) (w_Slot_is (d := d + 9) (Q := fun r h' => r = .inl (some (vI v37)) ∧ h' = u) ⟨rfl, rfl⟩ a4 (some 72) e38) (fun v h' z => ?_) (fun a h' z => nomatch z.1)
      obtain ⟨z1, z2⟩ := z
      subst h'
      cases z1
      show xW sc m_Truths_perform (d + 10) Q (u) 267 [some (vR a0), some (vR a1), some (vR a2), some (vR a3), some (vR a4), some (vI a5)] [vI v37, vR a1]
      refine x_if_eq (tgt := 274) (pc := 267) d_Truths_perform_267 (by decide) (fun c39 => ?_) (fun c39 => ?_)
      · rw [if_pos c39] at h
        exact x_wk (L' := [none, some (vR a1), none, some (vR a3), some (vR a4), none]) ⟨Or.inl rfl, Or.inr rfl, Or.inl rfl, Or.inr rfl, Or.inr rfl, Or.inl rfl, trivial⟩ (w_Truths_perform_b274 hQ a1 a3 a4 a1 u h)
      · rw [if_neg c39] at h
        refine x_iconst (v := (1 : Int32)) (pc := 270) d_Truths_perform_270 (by decide) ?_
        refine x_goto (tgt := 275) (pc := 271) d_Truths_perform_271 (by decide) ?_
        exact x_wk (L' := [none, some (vR a1), none, some (vR a3), some (vR a4), none]) ⟨Or.inl rfl, Or.inr rfl, Or.inl rfl, Or.inr rfl, Or.inr rfl, Or.inl rfl, trivial⟩ (w_Truths_perform_b275 hQ a1 a3 a4 (1 : Int32) a1 u h)
  rw [if_neg c31] at h
  by_cases c40 : v2 = (35 : Int32)
  · rw [if_pos c40] at h
    refine x_tableIn (off := 341) (tgt := 345) (pc := 4) d_Truths_perform_4 (by rw [c40]; decide) (by rw [c40]; decide) (by rw [c40]; decide) (by decide) ?_
    exact x_wk (L' := [none, none, some (vR a2), some (vR a3), none, none]) ⟨Or.inl rfl, Or.inl rfl, Or.inr rfl, Or.inr rfl, Or.inl rfl, Or.inl rfl, trivial⟩ (w_Truths_perform_b345 hQ a2 a3 u h)
  rw [if_neg c40] at h
  by_cases c41 : v2 = (36 : Int32)
  · rw [if_pos c41] at h
    refine x_tableIn (off := 341) (tgt := 345) (pc := 4) d_Truths_perform_4 (by rw [c41]; decide) (by rw [c41]; decide) (by rw [c41]; decide) (by decide) ?_
    exact x_wk (L' := [none, none, some (vR a2), some (vR a3), none, none]) ⟨Or.inl rfl, Or.inl rfl, Or.inr rfl, Or.inr rfl, Or.inl rfl, Or.inl rfl, trivial⟩ (w_Truths_perform_b345 hQ a2 a3 u h)
  rw [if_neg c41] at h
  by_cases c42 : v2 = (37 : Int32)
  · rw [if_pos c42] at h
    refine x_tableIn (off := 380) (tgt := 384) (pc := 4) d_Truths_perform_4 (by rw [c42]; decide) (by rw [c42]; decide) (by rw [c42]; decide) (by decide) ?_
    refine x_aload_n (pc := 384) d_Truths_perform_384 rfl ?_
    refine x_iconst (v := (1 : Int32)) (pc := 385) d_Truths_perform_385 (by decide) ?_
    refine x_aload_n (pc := 386) d_Truths_perform_386 rfl ?_
    obtain ⟨v43, e44, h⟩ := Option.bind_eq_some_iff.mp h
    refine c_getI (pc := 387) d_Truths_perform_387 l_Truths_74 e44 ?_
    obtain ⟨c45, h⟩ := ite_some h
    rcases tB_s h with ⟨a49, u50, e48, h⟩ | ⟨v47, u46, e48, h⟩
    · refine c_invv (c := 0) (d := d + 9) (av := [vI (1 : Int32), vI v43]) (st := []) (Q' := fun r h' => r = .inr a49 ∧ h' = u50) (pc := 390) d_Truths_perform_390 cv_Truths_17 y_P_truth c45 rfl (Nat.le_of_ble_eq_true rfl) (Nat.le_of_ble_eq_true rfl) (w_P_truth (d := d + 0) (Q := fun r h' => r = .inr a49 ∧ h' = u50) ⟨rfl, rfl⟩ u a1 (1 : Int32) v43 e48) (fun v h' z => nomatch z.1) (fun a h' z => ?_)
      obtain ⟨z1, z2⟩ := z
      subst h'
      cases z1
      cases h
      exact x_thOut (xno rfl) hQ
    refine c_invv (c := 0) (d := d + 9) (av := [vI (1 : Int32), vI v43]) (st := []) (Q' := fun r h' => r = .inl none ∧ h' = u46) (pc := 390) d_Truths_perform_390 cv_Truths_17 y_P_truth c45 rfl (Nat.le_of_ble_eq_true rfl) (Nat.le_of_ble_eq_true rfl) (w_P_truth (d := d + 0) (Q := fun r h' => r = .inl none ∧ h' = u46) ⟨rfl, rfl⟩ u a1 (1 : Int32) v43 e48) (fun v h' z => ?_) (fun a h' z => nomatch z.1)
    obtain ⟨z1, z2⟩ := z
    subst h'
    cases z1
    show xW sc m_Truths_perform (d + 10) Q (u46) 393 [some (vR a0), some (vR a1), some (vR a2), some (vR a3), some (vR a4), some (vI a5)] []
    refine x_goto (tgt := 456) (pc := 393) d_Truths_perform_393 (by decide) ?_
    exact x_wk (L' := [none, none, none, none, none, none]) ⟨Or.inl rfl, Or.inl rfl, Or.inl rfl, Or.inl rfl, Or.inl rfl, Or.inl rfl, trivial⟩ (w_Truths_perform_b456 hQ u46 h)
  rw [if_neg c42] at h
  by_cases c51 : v2 = (38 : Int32)
  · rw [if_pos c51] at h
    refine x_tableIn (off := 392) (tgt := 396) (pc := 4) d_Truths_perform_4 (by rw [c51]; decide) (by rw [c51]; decide) (by rw [c51]; decide) (by decide) ?_
    refine x_aload_n (pc := 396) d_Truths_perform_396 rfl ?_
    refine x_iconst (v := (1 : Int32)) (pc := 397) d_Truths_perform_397 (by decide) ?_
    refine x_gets (v := vR (some 72)) (pc := 398) d_Truths_perform_398 sl_Truths_56 ?_
    refine x_aload_n (pc := 401) d_Truths_perform_401 rfl ?_
    obtain ⟨v52, e53, h⟩ := Option.bind_eq_some_iff.mp h
    refine c_getR (pc := 402) d_Truths_perform_402 l_Truths_32 e53 ?_
    obtain ⟨c54, h⟩ := ite_some h
    obtain ⟨v55, e56, h⟩ := Option.bind_eq_some_iff.mp h
    refine c_invu (c := 20) (d := d + 9) (av := []) (st := [vR (some 72), vI (1 : Int32), vR a1]) (Q' := fun r h' => r = .inl (some (vI v55)) ∧ h' = u) (pc := 405) d_Truths_perform_405 cw_Truths_78_20 y_Enum_ordinal c54 rfl (Nat.le_of_ble_eq_true rfl) (Nat.le_of_ble_eq_true rfl) (w_Enum_ordinal20 (d := d + 9) (Q := fun r h' => r = .inl (some (vI v55)) ∧ h' = u) ⟨rfl, rfl⟩ v52 e56) (fun v h' z => ?_) (fun a h' z => nomatch z.1)
    obtain ⟨z1, z2⟩ := z
    subst h'
    cases z1
    show xW sc m_Truths_perform (d + 10) Q (u) 408 [some (vR a0), some (vR a1), some (vR a2), some (vR a3), some (vR a4), some (vI a5)] [vI v55, vR (some 72), vI (1 : Int32), vR a1]
    obtain ⟨c57, h⟩ := ite_some h
    rcases tB_s h with ⟨a61, u62, e60, h⟩ | ⟨v59, u58, e60, h⟩
    · refine c_invv (c := 0) (d := d + 9) (av := [vI (1 : Int32), vR (some 72), vI v55]) (st := []) (Q' := fun r h' => r = .inr a61 ∧ h' = u62) (pc := 408) d_Truths_perform_408 cv_Truths_52 y_P_give c57 rfl (Nat.le_of_ble_eq_true rfl) (Nat.le_of_ble_eq_true rfl) (w_P_give (d := d + 1) (Q := fun r h' => r = .inr a61 ∧ h' = u62) ⟨rfl, rfl⟩ u a1 (1 : Int32) (some 72) v55 e60) (fun v h' z => nomatch z.1) (fun a h' z => ?_)
      obtain ⟨z1, z2⟩ := z
      subst h'
      cases z1
      cases h
      exact x_thOut (xno rfl) hQ
    refine c_invv (c := 0) (d := d + 9) (av := [vI (1 : Int32), vR (some 72), vI v55]) (st := []) (Q' := fun r h' => r = .inl none ∧ h' = u58) (pc := 408) d_Truths_perform_408 cv_Truths_52 y_P_give c57 rfl (Nat.le_of_ble_eq_true rfl) (Nat.le_of_ble_eq_true rfl) (w_P_give (d := d + 1) (Q := fun r h' => r = .inl none ∧ h' = u58) ⟨rfl, rfl⟩ u a1 (1 : Int32) (some 72) v55 e60) (fun v h' z => ?_) (fun a h' z => nomatch z.1)
    obtain ⟨z1, z2⟩ := z
    subst h'
    cases z1
    show xW sc m_Truths_perform (d + 10) Q (u58) 411 [some (vR a0), some (vR a1), some (vR a2), some (vR a3), some (vR a4), some (vI a5)] []
    refine x_goto (tgt := 456) (pc := 411) d_Truths_perform_411 (by decide) ?_
    exact x_wk (L' := [none, none, none, none, none, none]) ⟨Or.inl rfl, Or.inl rfl, Or.inl rfl, Or.inl rfl, Or.inl rfl, Or.inl rfl, trivial⟩ (w_Truths_perform_b456 hQ u58 h)
  rw [if_neg c51] at h
  refine x_tableOut (tgt := 414) (pc := 4) d_Truths_perform_4 (by have q0 := lv_neT c4 (a := 23) (by decide); have q1 := lv_neT c5 (a := 24) (by decide); have q2 := lv_neT c6 (a := 25) (by decide); have q3 := lv_neT c7 (a := 26) (by decide); have q4 := lv_neT c8 (a := 27) (by decide); have q5 := lv_neT c9 (a := 28) (by decide); have q6 := lv_neT c10 (a := 29) (by decide); have q7 := lv_neT c11 (a := 30) (by decide); have q8 := lv_neT c12 (a := 31) (by decide); have q9 := lv_neT c13 (a := 32) (by decide); have q10 := lv_neT c14 (a := 33) (by decide); have q11 := lv_neT c31 (a := 34) (by decide); have q12 := lv_neT c40 (a := 35) (by decide); have q13 := lv_neT c41 (a := 36) (by decide); have q14 := lv_neT c42 (a := 37) (by decide); have q15 := lv_neT c51 (a := 38) (by decide); omega) (by decide) ?_
  exact x_wk (L' := [none, some (vR a1), some (vR a2), some (vR a3), some (vR a4), none]) ⟨Or.inl rfl, Or.inr rfl, Or.inr rfl, Or.inr rfl, Or.inr rfl, Or.inl rfl, trivial⟩ (w_Truths_perform_b414 hQ a1 a2 a3 a4 u h)
def f_P_operate_b96 (rc : rcE) (sc : xSc)  (l2 : Int32) (t0 : Option Nat) (t1 : Option Nat) (t2 : Option Nat) (t3 : Option Nat) (t4 : Option Nat) (u : xH) : Option ((Unit ⊕ Nat) × xH) := (if xis sc u 10 t4 = true then tB (f_Stacks_perform sc u t4 t3 t2 t1 t0 l2) (fun v3 u2 => some (.inl (), u2)) (fun a5 u6 => some (.inr a5, u6)) else (if xis sc u 11 t4 = true then tB (f_Numbers_perform sc u t4 t3 t2 t1 t0 l2) (fun v9 u8 => some (.inl (), u8)) (fun a11 u12 => some (.inr a11, u12)) else (if xis sc u 12 t4 = true then tB (f_Truths_perform sc u t4 t3 t2 t1 t0 l2) (fun v15 u14 => some (.inl (), u14)) (fun a17 u18 => some (.inr a17, u18)) else (if xis sc u 13 t4 = true then tB (f_Holders_perform sc u t4 t3 t2 t1 t0 l2) (fun v21 u20 => some (.inl (), u20)) (fun a23 u24 => some (.inr a23, u24)) else (if xis sc u 14 t4 = true then tB (f_Flow_perform rc sc u t4 t3 t2 t1 t0 l2) (fun v27 u26 => some (.inl (), u26)) (fun a29 u30 => some (.inr a29, u30)) else (if xis sc u 15 t4 = true then tB (f_Paint_perform sc u t4 t3 t2 t1 t0 l2) (fun v33 u32 => some (.inl (), u32)) (fun a35 u36 => some (.inr a35, u36)) else none))))))
theorem w_P_operate_b96 {rc : rcE} {D : Nat} {sc : xSc} {d : Nat} {Q : xR → xH → Prop} {oZ : Unit ⊕ Nat} {hZ : xH} (hrc : rcEOK sc D rc)  (hQ : Q (cvU oZ) hZ) (l2 : Int32) (t0 : Option Nat) (t1 : Option Nat) (t2 : Option Nat) (t3 : Option Nat) (t4 : Option Nat) (u : xH) (h : f_P_operate_b96 rc sc  l2 t0 t1 t2 t3 t4 u = some (oZ, hZ)) : xW sc m_P_operate (D + d + 13) Q (u) 96 [none, none, some (vI l2), none] [vR t0, vR t1, vR t2, vR t3, vR t4] := by
  unfold f_P_operate_b96 at h
  refine x_iload_n (pc := 96) d_P_operate_96 rfl ?_
  by_cases c1 : xis sc u 10 t4 = true
  · rw [if_pos c1] at h
    rcases tB_s h with ⟨a5, u6, e4, h⟩ | ⟨v3, u2, e4, h⟩
    · refine c_invu (c := 10) (d := D + d + 12) (av := [vR t3, vR t2, vR t1, vR t0, vI l2]) (st := []) (Q' := fun r h' => r = .inr a5 ∧ h' = u6) (pc := 97) d_P_operate_97 cw_P_374_10 y_Stacks_perform c1 rfl (Nat.le_of_ble_eq_true rfl) (Nat.le_of_ble_eq_true rfl) (w_Stacks_perform (d := D + d + 2) (Q := fun r h' => r = .inr a5 ∧ h' = u6) ⟨rfl, rfl⟩ u t4 t3 t2 t1 t0 l2 e4) (fun v h' z => nomatch z.1) (fun a h' z => ?_)
      obtain ⟨z1, z2⟩ := z
      subst h'
      cases z1
      cases h
      exact x_thOut (xno rfl) hQ
    refine c_invu (c := 10) (d := D + d + 12) (av := [vR t3, vR t2, vR t1, vR t0, vI l2]) (st := []) (Q' := fun r h' => r = .inl none ∧ h' = u2) (pc := 97) d_P_operate_97 cw_P_374_10 y_Stacks_perform c1 rfl (Nat.le_of_ble_eq_true rfl) (Nat.le_of_ble_eq_true rfl) (w_Stacks_perform (d := D + d + 2) (Q := fun r h' => r = .inl none ∧ h' = u2) ⟨rfl, rfl⟩ u t4 t3 t2 t1 t0 l2 e4) (fun v h' z => ?_) (fun a h' z => nomatch z.1)
    obtain ⟨z1, z2⟩ := z
    subst h'
    cases z1
    show xW sc m_P_operate (D + d + 13) Q (u2) 100 [none, none, some (vI l2), none] []
    cases h
    exact x_vret (pc := 100) d_P_operate_100 rfl hQ
  rw [if_neg c1] at h
  by_cases c7 : xis sc u 11 t4 = true
  · rw [if_pos c7] at h
    rcases tB_s h with ⟨a11, u12, e10, h⟩ | ⟨v9, u8, e10, h⟩
    · refine c_invu (c := 11) (d := D + d + 12) (av := [vR t3, vR t2, vR t1, vR t0, vI l2]) (st := []) (Q' := fun r h' => r = .inr a11 ∧ h' = u12) (pc := 97) d_P_operate_97 cw_P_374_11 y_Numbers_perform c7 rfl (Nat.le_of_ble_eq_true rfl) (Nat.le_of_ble_eq_true rfl) (w_Numbers_perform (d := D + d + 2) (Q := fun r h' => r = .inr a11 ∧ h' = u12) ⟨rfl, rfl⟩ u t4 t3 t2 t1 t0 l2 e10) (fun v h' z => nomatch z.1) (fun a h' z => ?_)
      obtain ⟨z1, z2⟩ := z
      subst h'
      cases z1
      cases h
      exact x_thOut (xno rfl) hQ
    refine c_invu (c := 11) (d := D + d + 12) (av := [vR t3, vR t2, vR t1, vR t0, vI l2]) (st := []) (Q' := fun r h' => r = .inl none ∧ h' = u8) (pc := 97) d_P_operate_97 cw_P_374_11 y_Numbers_perform c7 rfl (Nat.le_of_ble_eq_true rfl) (Nat.le_of_ble_eq_true rfl) (w_Numbers_perform (d := D + d + 2) (Q := fun r h' => r = .inl none ∧ h' = u8) ⟨rfl, rfl⟩ u t4 t3 t2 t1 t0 l2 e10) (fun v h' z => ?_) (fun a h' z => nomatch z.1)
    obtain ⟨z1, z2⟩ := z
    subst h'
    cases z1
    show xW sc m_P_operate (D + d + 13) Q (u8) 100 [none, none, some (vI l2), none] []
    cases h
    exact x_vret (pc := 100) d_P_operate_100 rfl hQ
  rw [if_neg c7] at h
  by_cases c13 : xis sc u 12 t4 = true
  · rw [if_pos c13] at h
    rcases tB_s h with ⟨a17, u18, e16, h⟩ | ⟨v15, u14, e16, h⟩
    · refine c_invu (c := 12) (d := D + d + 12) (av := [vR t3, vR t2, vR t1, vR t0, vI l2]) (st := []) (Q' := fun r h' => r = .inr a17 ∧ h' = u18) (pc := 97) d_P_operate_97 cw_P_374_12 y_Truths_perform c13 rfl (Nat.le_of_ble_eq_true rfl) (Nat.le_of_ble_eq_true rfl) (w_Truths_perform (d := D + d + 2) (Q := fun r h' => r = .inr a17 ∧ h' = u18) ⟨rfl, rfl⟩ u t4 t3 t2 t1 t0 l2 e16) (fun v h' z => nomatch z.1) (fun a h' z => ?_)
      obtain ⟨z1, z2⟩ := z
      subst h'
      cases z1
      cases h
      exact x_thOut (xno rfl) hQ
    refine c_invu (c := 12) (d := D + d + 12) (av := [vR t3, vR t2, vR t1, vR t0, vI l2]) (st := []) (Q' := fun r h' => r = .inl none ∧ h' = u14) (pc := 97) d_P_operate_97 cw_P_374_12 y_Truths_perform c13 rfl (Nat.le_of_ble_eq_true rfl) (Nat.le_of_ble_eq_true rfl) (w_Truths_perform (d := D + d + 2) (Q := fun r h' => r = .inl none ∧ h' = u14) ⟨rfl, rfl⟩ u t4 t3 t2 t1 t0 l2 e16) (fun v h' z => ?_) (fun a h' z => nomatch z.1)
    obtain ⟨z1, z2⟩ := z
    subst h'
    cases z1
    show xW sc m_P_operate (D + d + 13) Q (u14) 100 [none, none, some (vI l2), none] []
    cases h
    exact x_vret (pc := 100) d_P_operate_100 rfl hQ
  rw [if_neg c13] at h
  by_cases c19 : xis sc u 13 t4 = true
  · rw [if_pos c19] at h
    rcases tB_s h with ⟨a23, u24, e22, h⟩ | ⟨v21, u20, e22, h⟩
    · refine c_invu (c := 13) (d := D + d + 12) (av := [vR t3, vR t2, vR t1, vR t0, vI l2]) (st := []) (Q' := fun r h' => r = .inr a23 ∧ h' = u24) (pc := 97) d_P_operate_97 cw_P_374_13 y_Holders_perform c19 rfl (Nat.le_of_ble_eq_true rfl) (Nat.le_of_ble_eq_true rfl) (w_Holders_perform (d := D + d + 1) (Q := fun r h' => r = .inr a23 ∧ h' = u24) ⟨rfl, rfl⟩ u t4 t3 t2 t1 t0 l2 e22) (fun v h' z => nomatch z.1) (fun a h' z => ?_)
      obtain ⟨z1, z2⟩ := z
      subst h'
      cases z1
      cases h
      exact x_thOut (xno rfl) hQ
    refine c_invu (c := 13) (d := D + d + 12) (av := [vR t3, vR t2, vR t1, vR t0, vI l2]) (st := []) (Q' := fun r h' => r = .inl none ∧ h' = u20) (pc := 97) d_P_operate_97 cw_P_374_13 y_Holders_perform c19 rfl (Nat.le_of_ble_eq_true rfl) (Nat.le_of_ble_eq_true rfl) (w_Holders_perform (d := D + d + 1) (Q := fun r h' => r = .inl none ∧ h' = u20) ⟨rfl, rfl⟩ u t4 t3 t2 t1 t0 l2 e22) (fun v h' z => ?_) (fun a h' z => nomatch z.1)
    obtain ⟨z1, z2⟩ := z
    subst h'
    cases z1
    show xW sc m_P_operate (D + d + 13) Q (u20) 100 [none, none, some (vI l2), none] []
    cases h
    exact x_vret (pc := 100) d_P_operate_100 rfl hQ
  rw [if_neg c19] at h
  by_cases c25 : xis sc u 14 t4 = true
  · rw [if_pos c25] at h
    rcases tB_s h with ⟨a29, u30, e28, h⟩ | ⟨v27, u26, e28, h⟩
    · refine c_invu (c := 14) (d := D + d + 12) (av := [vR t3, vR t2, vR t1, vR t0, vI l2]) (st := []) (Q' := fun r h' => r = .inr a29 ∧ h' = u30) (pc := 97) d_P_operate_97 cw_P_374_14 y_Flow_perform c25 rfl (Nat.le_of_ble_eq_true rfl) (Nat.le_of_ble_eq_true rfl) (w_Flow_perform (d := d + 0) (Q := fun r h' => r = .inr a29 ∧ h' = u30) hrc ⟨rfl, rfl⟩ u t4 t3 t2 t1 t0 l2 e28) (fun v h' z => nomatch z.1) (fun a h' z => ?_)
      obtain ⟨z1, z2⟩ := z
      subst h'
      cases z1
      cases h
      exact x_thOut (xno rfl) hQ
    refine c_invu (c := 14) (d := D + d + 12) (av := [vR t3, vR t2, vR t1, vR t0, vI l2]) (st := []) (Q' := fun r h' => r = .inl none ∧ h' = u26) (pc := 97) d_P_operate_97 cw_P_374_14 y_Flow_perform c25 rfl (Nat.le_of_ble_eq_true rfl) (Nat.le_of_ble_eq_true rfl) (w_Flow_perform (d := d + 0) (Q := fun r h' => r = .inl none ∧ h' = u26) hrc ⟨rfl, rfl⟩ u t4 t3 t2 t1 t0 l2 e28) (fun v h' z => ?_) (fun a h' z => nomatch z.1)
    obtain ⟨z1, z2⟩ := z
    subst h'
    cases z1
    show xW sc m_P_operate (D + d + 13) Q (u26) 100 [none, none, some (vI l2), none] []
    cases h
    exact x_vret (pc := 100) d_P_operate_100 rfl hQ
  rw [if_neg c25] at h
  by_cases c31 : xis sc u 15 t4 = true
  · rw [if_pos c31] at h
    rcases tB_s h with ⟨a35, u36, e34, h⟩ | ⟨v33, u32, e34, h⟩
    · refine c_invu (c := 15) (d := D + d + 12) (av := [vR t3, vR t2, vR t1, vR t0, vI l2]) (st := []) (Q' := fun r h' => r = .inr a35 ∧ h' = u36) (pc := 97) d_P_operate_97 cw_P_374_15 y_Paint_perform c31 rfl (Nat.le_of_ble_eq_true rfl) (Nat.le_of_ble_eq_true rfl) (w_Paint_perform (d := D + d + 4) (Q := fun r h' => r = .inr a35 ∧ h' = u36) ⟨rfl, rfl⟩ u t4 t3 t2 t1 t0 l2 e34) (fun v h' z => nomatch z.1) (fun a h' z => ?_)
      obtain ⟨z1, z2⟩ := z
      subst h'
      cases z1
      cases h
      exact x_thOut (xno rfl) hQ
    refine c_invu (c := 15) (d := D + d + 12) (av := [vR t3, vR t2, vR t1, vR t0, vI l2]) (st := []) (Q' := fun r h' => r = .inl none ∧ h' = u32) (pc := 97) d_P_operate_97 cw_P_374_15 y_Paint_perform c31 rfl (Nat.le_of_ble_eq_true rfl) (Nat.le_of_ble_eq_true rfl) (w_Paint_perform (d := D + d + 4) (Q := fun r h' => r = .inl none ∧ h' = u32) ⟨rfl, rfl⟩ u t4 t3 t2 t1 t0 l2 e34) (fun v h' z => ?_) (fun a h' z => nomatch z.1)
    obtain ⟨z1, z2⟩ := z
    subst h'
    cases z1
    show xW sc m_P_operate (D + d + 13) Q (u32) 100 [none, none, some (vI l2), none] []
    cases h
    exact x_vret (pc := 100) d_P_operate_100 rfl hQ
  rw [if_neg c31] at h
  cases h
def f_P_operate_b61 (rc : rcE) (sc : xSc)  (l0 : Option Nat) (l1 : Option Nat) (l2 : Int32) (t0 : Option Nat) (u : xH) : Option ((Unit ⊕ Nat) × xH) := (gR sc u 0 0 l0).bind fun v1 => (gI sc u 19 3 l1).bind fun v3 => (aR sc u v1 v3).bind fun v5 => (gI sc u 19 2 l1).bind fun v7 => (if v7 ≤ (1 : Int32) then f_P_operate_b96 rc sc l2 t0 t0 l1 l0 v5 u else (gI sc u 19 2 l1).bind fun v10 => (if xis sc u 0 l0 = true then (f_P_at sc u l0 (v10 - (2 : Int32))).bind fun v13 => f_P_operate_b96 rc sc l2 v13 t0 l1 l0 v5 u else none))
theorem w_P_operate_b61 {rc : rcE} {D : Nat} {sc : xSc} {d : Nat} {Q : xR → xH → Prop} {oZ : Unit ⊕ Nat} {hZ : xH} (hrc : rcEOK sc D rc)  (hQ : Q (cvU oZ) hZ) (l0 : Option Nat) (l1 : Option Nat) (l2 : Int32) (t0 : Option Nat) (u : xH) (h : f_P_operate_b61 rc sc  l0 l1 l2 t0 u = some (oZ, hZ)) : xW sc m_P_operate (D + d + 13) Q (u) 61 [some (vR l0), some (vR l1), some (vI l2), none] [vR t0] := by
  unfold f_P_operate_b61 at h
  refine x_astore_n (pc := 61) d_P_operate_61 (by decide) ?_
  show xW sc m_P_operate (D + d + 13) Q (u) 62 [some (vR l0), some (vR l1), some (vI l2), some (vR t0)] []
  refine x_aload_n (pc := 62) d_P_operate_62 rfl ?_
  obtain ⟨v1, e2, h⟩ := Option.bind_eq_some_iff.mp h
  refine c_getR (pc := 63) d_P_operate_63 l_P_27 e2 ?_
  refine x_aload_n (pc := 66) d_P_operate_66 rfl ?_
  obtain ⟨v3, e4, h⟩ := Option.bind_eq_some_iff.mp h
  refine c_getI (pc := 67) d_P_operate_67 l_P_371 e4 ?_
  obtain ⟨v5, e6, h⟩ := Option.bind_eq_some_iff.mp h
  refine c_aald (pc := 70) d_P_operate_70 e6 ?_
  refine x_aload_n (pc := 71) d_P_operate_71 rfl ?_
  refine x_aload_n (pc := 72) d_P_operate_72 rfl ?_
  refine x_aload_n (pc := 73) d_P_operate_73 rfl ?_
  refine x_aload_n (pc := 74) d_P_operate_74 rfl ?_
  obtain ⟨v7, e8, h⟩ := Option.bind_eq_some_iff.mp h
  refine c_getI (pc := 75) d_P_operate_75 l_P_368 e8 ?_
  refine x_iconst (v := (1 : Int32)) (pc := 78) d_P_operate_78 (by decide) ?_
  refine x_icmp_le (tgt := 95) (pc := 79) d_P_operate_79 (by decide) (fun c9 => ?_) (fun c9 => ?_)
  · rw [if_pos c9] at h
    refine x_aload_n (pc := 95) d_P_operate_95 rfl ?_
    exact x_wk (L' := [none, none, some (vI l2), none]) ⟨Or.inl rfl, Or.inl rfl, Or.inr rfl, Or.inl rfl, trivial⟩ (w_P_operate_b96 hrc hQ l2 t0 t0 l1 l0 v5 u h)
  · rw [if_neg c9] at h
    refine x_aload_n (pc := 82) d_P_operate_82 rfl ?_
    refine x_aload_n (pc := 83) d_P_operate_83 rfl ?_
    obtain ⟨v10, e11, h⟩ := Option.bind_eq_some_iff.mp h
    refine c_getI (pc := 84) d_P_operate_84 l_P_368 e11 ?_
    refine x_iconst (v := (2 : Int32)) (pc := 87) d_P_operate_87 (by decide) ?_
    refine x_isub (pc := 88) d_P_operate_88 ?_
    obtain ⟨c12, h⟩ := ite_some h
    obtain ⟨v13, e14, h⟩ := Option.bind_eq_some_iff.mp h
    refine c_invv (c := 0) (d := D + d + 12) (av := [vI (v10 - (2 : Int32))]) (st := [vR t0, vR l1, vR l0, vR v5]) (Q' := fun r h' => r = .inl (some (vR v13)) ∧ h' = u) (pc := 89) d_P_operate_89 cv_P_203 y_P_at c12 rfl (Nat.le_of_ble_eq_true rfl) (Nat.le_of_ble_eq_true rfl) (w_P_at (d := D + d + 12) (Q := fun r h' => r = .inl (some (vR v13)) ∧ h' = u) ⟨rfl, rfl⟩ l0 (v10 - (2 : Int32)) e14) (fun v h' z => ?_) (fun a h' z => nomatch z.1)
    obtain ⟨z1, z2⟩ := z
    subst h'
    cases z1
    show xW sc m_P_operate (D + d + 13) Q (u) 92 [some (vR l0), some (vR l1), some (vI l2), some (vR t0)] [vR v13, vR t0, vR l1, vR l0, vR v5]
    refine x_goto (tgt := 96) (pc := 92) d_P_operate_92 (by decide) ?_
    exact x_wk (L' := [none, none, some (vI l2), none]) ⟨Or.inl rfl, Or.inl rfl, Or.inr rfl, Or.inl rfl, trivial⟩ (w_P_operate_b96 hrc hQ l2 v13 t0 l1 l0 v5 u h)
def f_P_operate_b36 (rc : rcE) (sc : xSc)  (l0 : Option Nat) (l1 : Option Nat) (l2 : Int32) (t0 : Int32) (t1 : Option Nat) (u : xH) : Option ((Unit ⊕ Nat) × xH) := (if xis sc u 0 t1 = true then tB (f_P_need sc u t1 t0 (1 : Int32)) (fun v3 u2 => (gI sc u2 19 2 l1).bind fun v7 => (if v7 = 0 then f_P_operate_b61 rc sc l0 l1 l2 none u2 else (gI sc u2 19 2 l1).bind fun v10 => (if xis sc u2 0 l0 = true then (f_P_at sc u2 l0 (v10 - (1 : Int32))).bind fun v13 => f_P_operate_b61 rc sc l0 l1 l2 v13 u2 else none))) (fun a5 u6 => some (.inr a5, u6)) else none)
theorem w_P_operate_b36 {rc : rcE} {D : Nat} {sc : xSc} {d : Nat} {Q : xR → xH → Prop} {oZ : Unit ⊕ Nat} {hZ : xH} (hrc : rcEOK sc D rc)  (hQ : Q (cvU oZ) hZ) (l0 : Option Nat) (l1 : Option Nat) (l2 : Int32) (t0 : Int32) (t1 : Option Nat) (u : xH) (h : f_P_operate_b36 rc sc  l0 l1 l2 t0 t1 u = some (oZ, hZ)) : xW sc m_P_operate (D + d + 13) Q (u) 36 [some (vR l0), some (vR l1), some (vI l2), none] [vI t0, vR t1] := by
  unfold f_P_operate_b36 at h
  refine x_iconst (v := (1 : Int32)) (pc := 36) d_P_operate_36 (by decide) ?_
  obtain ⟨c1, h⟩ := ite_some h
  rcases tB_s h with ⟨a5, u6, e4, h⟩ | ⟨v3, u2, e4, h⟩
  · refine c_invv (c := 0) (d := D + d + 12) (av := [vI t0, vI (1 : Int32)]) (st := []) (Q' := fun r h' => r = .inr a5 ∧ h' = u6) (pc := 37) d_P_operate_37 cv_P_170 y_P_need c1 rfl (Nat.le_of_ble_eq_true rfl) (Nat.le_of_ble_eq_true rfl) (w_P_need (d := D + d + 6) (Q := fun r h' => r = .inr a5 ∧ h' = u6) ⟨rfl, rfl⟩ u t1 t0 (1 : Int32) e4) (fun v h' z => nomatch z.1) (fun a h' z => ?_)
    obtain ⟨z1, z2⟩ := z
    subst h'
    cases z1
    cases h
    exact x_thOut (xno rfl) hQ
  refine c_invv (c := 0) (d := D + d + 12) (av := [vI t0, vI (1 : Int32)]) (st := []) (Q' := fun r h' => r = .inl none ∧ h' = u2) (pc := 37) d_P_operate_37 cv_P_170 y_P_need c1 rfl (Nat.le_of_ble_eq_true rfl) (Nat.le_of_ble_eq_true rfl) (w_P_need (d := D + d + 6) (Q := fun r h' => r = .inl none ∧ h' = u2) ⟨rfl, rfl⟩ u t1 t0 (1 : Int32) e4) (fun v h' z => ?_) (fun a h' z => nomatch z.1)
  obtain ⟨z1, z2⟩ := z
  subst h'
  cases z1
  show xW sc m_P_operate (D + d + 13) Q (u2) 40 [some (vR l0), some (vR l1), some (vI l2), none] []
  refine x_aload_n (pc := 40) d_P_operate_40 rfl ?_
  obtain ⟨v7, e8, h⟩ := Option.bind_eq_some_iff.mp h
  refine c_getI (pc := 41) d_P_operate_41 l_P_368 e8 ?_
  refine x_if_ne (tgt := 51) (pc := 44) d_P_operate_44 (by decide) (fun c9 => ?_) (fun c9 => ?_)
  · rw [if_neg c9] at h
    refine x_aload_n (pc := 51) d_P_operate_51 rfl ?_
    refine x_aload_n (pc := 52) d_P_operate_52 rfl ?_
    obtain ⟨v10, e11, h⟩ := Option.bind_eq_some_iff.mp h
    refine c_getI (pc := 53) d_P_operate_53 l_P_368 e11 ?_
    refine x_iconst (v := (1 : Int32)) (pc := 56) d_P_operate_56 (by decide) ?_
    refine x_isub (pc := 57) d_P_operate_57 ?_
    obtain ⟨c12, h⟩ := ite_some h
    obtain ⟨v13, e14, h⟩ := Option.bind_eq_some_iff.mp h
    refine c_invv (c := 0) (d := D + d + 12) (av := [vI (v10 - (1 : Int32))]) (st := []) (Q' := fun r h' => r = .inl (some (vR v13)) ∧ h' = u2) (pc := 58) d_P_operate_58 cv_P_203 y_P_at c12 rfl (Nat.le_of_ble_eq_true rfl) (Nat.le_of_ble_eq_true rfl) (w_P_at (d := D + d + 12) (Q := fun r h' => r = .inl (some (vR v13)) ∧ h' = u2) ⟨rfl, rfl⟩ l0 (v10 - (1 : Int32)) e14) (fun v h' z => ?_) (fun a h' z => nomatch z.1)
    obtain ⟨z1, z2⟩ := z
    subst h'
    cases z1
    show xW sc m_P_operate (D + d + 13) Q (u2) 61 [some (vR l0), some (vR l1), some (vI l2), none] [vR v13]
    exact w_P_operate_b61 hrc hQ l0 l1 l2 v13 u2 h
  · rw [if_pos c9] at h
    refine x_null (pc := 47) d_P_operate_47 ?_
    refine x_goto (tgt := 61) (pc := 48) d_P_operate_48 (by decide) ?_
    exact w_P_operate_b61 hrc hQ l0 l1 l2 none u2 h
def f_P_operate_b10 (rc : rcE) (sc : xSc)  (l0 : Option Nat) (l1 : Option Nat) (l2 : Int32) (t0 : Int32) (t1 : Option Nat) (u : xH) : Option ((Unit ⊕ Nat) × xH) := (if xis sc u 0 t1 = true then tB (f_P_need sc u t1 t0 (5 : Int32)) (fun v3 u2 => (if l1 = none then some (.inl (), u2) else (gI sc u2 0 9 l0).bind fun v8 => (gI sc u2 19 2 l1).bind fun v10 => (if v8 < v10 then f_P_operate_b36 rc sc l0 l1 l2 (0 : Int32) l0 u2 else f_P_operate_b36 rc sc l0 l1 l2 (1 : Int32) l0 u2))) (fun a5 u6 => some (.inr a5, u6)) else none)
theorem w_P_operate_b10 {rc : rcE} {D : Nat} {sc : xSc} {d : Nat} {Q : xR → xH → Prop} {oZ : Unit ⊕ Nat} {hZ : xH} (hrc : rcEOK sc D rc)  (hQ : Q (cvU oZ) hZ) (l0 : Option Nat) (l1 : Option Nat) (l2 : Int32) (t0 : Int32) (t1 : Option Nat) (u : xH) (h : f_P_operate_b10 rc sc  l0 l1 l2 t0 t1 u = some (oZ, hZ)) : xW sc m_P_operate (D + d + 13) Q (u) 10 [some (vR l0), some (vR l1), some (vI l2), none] [vI t0, vR t1] := by
  unfold f_P_operate_b10 at h
  refine x_iconst (v := (5 : Int32)) (pc := 10) d_P_operate_10 (by decide) ?_
  obtain ⟨c1, h⟩ := ite_some h
  rcases tB_s h with ⟨a5, u6, e4, h⟩ | ⟨v3, u2, e4, h⟩
  · refine c_invv (c := 0) (d := D + d + 12) (av := [vI t0, vI (5 : Int32)]) (st := []) (Q' := fun r h' => r = .inr a5 ∧ h' = u6) (pc := 11) d_P_operate_11 cv_P_170 y_P_need c1 rfl (Nat.le_of_ble_eq_true rfl) (Nat.le_of_ble_eq_true rfl) (w_P_need (d := D + d + 6) (Q := fun r h' => r = .inr a5 ∧ h' = u6) ⟨rfl, rfl⟩ u t1 t0 (5 : Int32) e4) (fun v h' z => nomatch z.1) (fun a h' z => ?_)
    obtain ⟨z1, z2⟩ := z
    subst h'
    cases z1
    cases h
    exact x_thOut (xno rfl) hQ
  refine c_invv (c := 0) (d := D + d + 12) (av := [vI t0, vI (5 : Int32)]) (st := []) (Q' := fun r h' => r = .inl none ∧ h' = u2) (pc := 11) d_P_operate_11 cv_P_170 y_P_need c1 rfl (Nat.le_of_ble_eq_true rfl) (Nat.le_of_ble_eq_true rfl) (w_P_need (d := D + d + 6) (Q := fun r h' => r = .inl none ∧ h' = u2) ⟨rfl, rfl⟩ u t1 t0 (5 : Int32) e4) (fun v h' z => ?_) (fun a h' z => nomatch z.1)
  obtain ⟨z1, z2⟩ := z
  subst h'
  cases z1
  show xW sc m_P_operate (D + d + 13) Q (u2) 14 [some (vR l0), some (vR l1), some (vI l2), none] []
  refine x_aload_n (pc := 14) d_P_operate_14 rfl ?_
  refine c_ifnonnull (tgt := 19) (pc := 15) d_P_operate_15 (by decide) (fun c7 => ?_) (fun c7 => ?_)
  · rw [if_neg c7] at h
    refine x_aload_n (pc := 19) d_P_operate_19 rfl ?_
    refine x_aload_n (pc := 20) d_P_operate_20 rfl ?_
    obtain ⟨v8, e9, h⟩ := Option.bind_eq_some_iff.mp h
    refine c_getI (pc := 21) d_P_operate_21 l_P_174 e9 ?_
    refine x_aload_n (pc := 24) d_P_operate_24 rfl ?_
    obtain ⟨v10, e11, h⟩ := Option.bind_eq_some_iff.mp h
    refine c_getI (pc := 25) d_P_operate_25 l_P_368 e11 ?_
    refine x_icmp_lt (tgt := 35) (pc := 28) d_P_operate_28 (by decide) (fun c12 => ?_) (fun c12 => ?_)
    · rw [if_pos c12] at h
      refine x_iconst (v := (0 : Int32)) (pc := 35) d_P_operate_35 (by decide) ?_
      exact w_P_operate_b36 hrc hQ l0 l1 l2 (0 : Int32) l0 u2 h
    · rw [if_neg c12] at h
      refine x_iconst (v := (1 : Int32)) (pc := 31) d_P_operate_31 (by decide) ?_
      refine x_goto (tgt := 36) (pc := 32) d_P_operate_32 (by decide) ?_
      exact w_P_operate_b36 hrc hQ l0 l1 l2 (1 : Int32) l0 u2 h
  · rw [if_pos c7] at h
    cases h
    exact x_vret (pc := 18) d_P_operate_18 rfl hQ
def f_P_operate (rc : rcE) (sc : xSc) (u : xH) (a0 : Option Nat) (a1 : Option Nat) (a2 : Int32) : Option ((Unit ⊕ Nat) × xH) := (if a1 = none then f_P_operate_b10 rc sc a0 a1 a2 (0 : Int32) a0 u else f_P_operate_b10 rc sc a0 a1 a2 (1 : Int32) a0 u)
theorem w_P_operate {rc : rcE} {D : Nat} {sc : xSc} {d : Nat} {Q : xR → xH → Prop} {oZ : Unit ⊕ Nat} {hZ : xH} (hrc : rcEOK sc D rc) (hQ : Q (cvU oZ) hZ) (u : xH) (a0 : Option Nat) (a1 : Option Nat) (a2 : Int32) (h : f_P_operate rc sc u a0 a1 a2 = some (oZ, hZ)) : xW sc m_P_operate (D + d + 13) Q (u) 0 (xent [vR a0, vR a1, vI a2] m_P_operate.2.2.1) [] := by
  show xW sc m_P_operate (D + d + 13) Q (u) 0 [some (vR a0), some (vR a1), some (vI a2), none] []
  unfold f_P_operate at h
  refine x_aload_n (pc := 0) d_P_operate_0 rfl ?_
  refine x_aload_n (pc := 1) d_P_operate_1 rfl ?_
  refine c_ifnull (tgt := 9) (pc := 2) d_P_operate_2 (by decide) (fun c1 => ?_) (fun c1 => ?_)
  · rw [if_pos c1] at h
    refine x_iconst (v := (0 : Int32)) (pc := 9) d_P_operate_9 (by decide) ?_
    exact w_P_operate_b10 hrc hQ a0 a1 a2 (0 : Int32) a0 u h
  · rw [if_neg c1] at h
    refine x_iconst (v := (1 : Int32)) (pc := 5) d_P_operate_5 (by decide) ?_
    refine x_goto (tgt := 10) (pc := 6) d_P_operate_6 (by decide) ?_
    exact w_P_operate_b10 hrc hQ a0 a1 a2 (1 : Int32) a0 u h
