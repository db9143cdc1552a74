def f_M_putEntry_b77  (l4 : Int32) (l5 : Int32) (s : MT) : Option (Int32 × MT) := (f_M_move s l5 ((mI 4 s) - (1 : Int32))).bind fun s2 => some ((0 : Int32), sI 4 ((mI 4 s2) - l4) s2)
theorem w_M_putEntry_b77 {sc : xSc} {d : Nat} {Q : xR → xH → Prop} {R : xH} {sZ : MT} {rZ : Int32}  (hQ : Q (.inl (some (vI rZ))) (mH sZ R)) (l4 : Int32) (l5 : Int32) (s : MT) (h : f_M_putEntry_b77  l4 l5 s = some (rZ, sZ)) : xW sc m_M_putEntry (d + 2) Q (mH s R) 77 [some (vA 373), none, none, none, some (vI l4), some (vI l5)] [] := by
  unfold f_M_putEntry_b77 at h
  refine x_aload_n (pc := 77) d_M_putEntry_77 rfl ?_
  refine x_iload (pc := 78) d_M_putEntry_78 rfl ?_
  refine x_aload_n (pc := 80) d_M_putEntry_80 rfl ?_
  refine x_getf (c := 1) (k := 4) (v := vI (mI 4 s)) (pc := 81) d_M_putEntry_81 l_M_247 (xm_at s R) rfl ?_
  refine x_iconst (v := (1 : Int32)) (pc := 84) d_M_putEntry_84 (by decide) ?_
  refine x_isub (pc := 85) d_M_putEntry_85 ?_
  obtain ⟨s2, e1, h⟩ := Option.bind_eq_some_iff.mp h
  refine x_invv (c := 1) (av := [vI l5, vI ((mI 4 s) - (1 : Int32))]) (st := []) (pc := 86) d_M_putEntry_86 cv_M_254 y_M_move (xm_at s R) rfl (Nat.le_of_ble_eq_true rfl) (Nat.le_of_ble_eq_true rfl) (w_M_move (d := d + 1) (Q := fun r h' => r = .inl none ∧ h' = mH s2 R) (R := R) ⟨rfl, rfl⟩ s l5 ((mI 4 s) - (1 : Int32)) e1) (fun v h' z => ?_) (fun a h' z => nomatch z.1)
  obtain ⟨z1, z2⟩ := z
  subst z2
  cases z1
  show xW sc m_M_putEntry (d + 2) Q (mH s2 R) 89 [some (vA 373), none, none, none, some (vI l4), some (vI l5)] []
  refine x_aload_n (pc := 89) d_M_putEntry_89 rfl ?_
  refine x_dup (pc := 90) d_M_putEntry_90 rfl ?_
  refine x_getf (c := 1) (k := 4) (v := vI (mI 4 s2)) (pc := 91) d_M_putEntry_91 l_M_247 (xm_at s2 R) rfl ?_
  refine x_iload (pc := 94) d_M_putEntry_94 rfl ?_
  refine x_isub (pc := 96) d_M_putEntry_96 ?_
  refine xm_p4 (pc := 97) d_M_putEntry_97 l_M_247 ?_
  refine x_iconst (v := (0 : Int32)) (pc := 100) d_M_putEntry_100 (by decide) ?_
  cases h
  exact x_iret (ty := .int) (pc := 101) d_M_putEntry_101 rfl (rfl) hQ
def f_M_putEntry_b32  (l1 : Int32) (l2 : Int64) (l4 : Int32) (l5 : Int32) (s : MT) : Option (Int32 × MT) := (if l5 = (-1 : Int32) then (f_M_base l1).bind fun v2 => (if xin l1 28 = true then (if xin ((((250 : Int32) + v2) + (mA 7 s l1.toNatClampNeg)) - (250 : Int32)) 320 = true then (if xin l1 28 = true then (if xin l1 28 = true then f_M_putEntry_b77 l4 (((250 : Int32) + v2) + (mA 7 s l1.toNatClampNeg)) (sA 7 (va_up (mA 7 (sL 6 (va_up (mL 6 s) ((((250 : Int32) + v2) + (mA 7 s l1.toNatClampNeg)) - (250 : Int32)).toNatClampNeg l2) s)) l1.toNatClampNeg ((mA 7 (sL 6 (va_up (mL 6 s) ((((250 : Int32) + v2) + (mA 7 s l1.toNatClampNeg)) - (250 : Int32)).toNatClampNeg l2) s) l1.toNatClampNeg) + (1 : Int32))) (sL 6 (va_up (mL 6 s) ((((250 : Int32) + v2) + (mA 7 s l1.toNatClampNeg)) - (250 : Int32)).toNatClampNeg l2) s)) else none) else none) else none) else none) else f_M_putEntry_b77 l4 l5 s)
theorem w_M_putEntry_b32 {sc : xSc} {d : Nat} {Q : xR → xH → Prop} {R : xH} {sZ : MT} {rZ : Int32}  (hQ : Q (.inl (some (vI rZ))) (mH sZ R)) (l1 : Int32) (l2 : Int64) (l4 : Int32) (l5 : Int32) (s : MT) (h : f_M_putEntry_b32  l1 l2 l4 l5 s = some (rZ, sZ)) : xW sc m_M_putEntry (d + 2) Q (mH s R) 32 [some (vA 373), some (vI l1), some (vL l2), none, some (vI l4), some (vI l5)] [] := by
  unfold f_M_putEntry_b32 at h
  refine x_iload (pc := 32) d_M_putEntry_32 rfl ?_
  refine x_iconst (v := (-1 : Int32)) (pc := 34) d_M_putEntry_34 (by decide) ?_
  refine x_icmp_ne (tgt := 77) (pc := 35) d_M_putEntry_35 (by decide) (fun c1 => ?_) (fun c1 => ?_)
  · rw [if_neg c1] at h
    exact x_wk (L' := [some (vA 373), none, none, none, some (vI l4), some (vI l5)]) ⟨Or.inr rfl, Or.inl rfl, Or.inl rfl, Or.inl rfl, Or.inr rfl, Or.inr rfl, trivial⟩ (w_M_putEntry_b77 hQ l4 l5 s h)
  · rw [if_pos c1] at h
    refine x_sipush (v := (250 : Int32)) (pc := 38) d_M_putEntry_38 (by decide) ?_
    refine x_iload_n (pc := 41) d_M_putEntry_41 rfl ?_
    obtain ⟨v2, e3, h⟩ := Option.bind_eq_some_iff.mp h
    refine x_invs (av := [vI l1]) (st := [vI (250 : Int32)]) (pc := 42) d_M_putEntry_42 cs_M_516 y_M_base rfl (Nat.le_of_ble_eq_true rfl) (Nat.le_of_ble_eq_true rfl) (w_M_base (d := d + 1) (Q := fun r h' => r = .inl (some (vI v2)) ∧ h' = mH s R) (hh := mH s R) ⟨rfl, rfl⟩ l1 e3) (fun v h' z => ?_) (fun a h' z => nomatch z.1)
    obtain ⟨z1, z2⟩ := z
    subst z2
    cases z1
    show xW sc m_M_putEntry (d + 2) Q (mH s R) 45 [some (vA 373), some (vI l1), some (vL l2), none, some (vI l4), some (vI l5)] [vI v2, vI (250 : Int32)]
    refine x_iadd (pc := 45) d_M_putEntry_45 ?_
    refine x_aload_n (pc := 46) d_M_putEntry_46 rfl ?_
    refine x_getf (c := 1) (k := 7) (v := vA 378) (pc := 47) d_M_putEntry_47 l_M_24 (xm_at s R) rfl ?_
    refine x_iload_n (pc := 50) d_M_putEntry_50 rfl ?_
    obtain ⟨c4, h⟩ := ite_some h
    refine x_iald (pc := 51) d_M_putEntry_51 (xm_a7 s R) (xin_vp c4) ?_
    refine x_iadd (pc := 52) d_M_putEntry_52 ?_
    refine x_istore (pc := 53) d_M_putEntry_53 (by decide) ?_
    show xW sc m_M_putEntry (d + 2) Q (mH s R) 55 [some (vA 373), some (vI l1), some (vL l2), none, some (vI l4), some (vI (((250 : Int32) + v2) + (mA 7 s l1.toNatClampNeg)))] []
    refine x_aload_n (pc := 55) d_M_putEntry_55 rfl ?_
    refine x_getf (c := 1) (k := 6) (v := vA 377) (pc := 56) d_M_putEntry_56 l_M_21 (xm_at s R) rfl ?_
    refine x_iload (pc := 59) d_M_putEntry_59 rfl ?_
    refine x_sipush (v := (250 : Int32)) (pc := 61) d_M_putEntry_61 (by decide) ?_
    refine x_isub (pc := 64) d_M_putEntry_64 ?_
    refine x_lload_n (pc := 65) d_M_putEntry_65 rfl ?_
    obtain ⟨c5, h⟩ := ite_some h
    refine xm_s6 (pc := 66) d_M_putEntry_66 c5 ?_
    refine x_aload_n (pc := 67) d_M_putEntry_67 rfl ?_
    refine x_getf (c := 1) (k := 7) (v := vA 378) (pc := 68) d_M_putEntry_68 l_M_24 (xm_at (sL 6 (va_up (mL 6 s) ((((250 : Int32) + v2) + (mA 7 s l1.toNatClampNeg)) - (250 : Int32)).toNatClampNeg l2) s) R) rfl ?_
    refine x_iload_n (pc := 71) d_M_putEntry_71 rfl ?_
    refine x_dup2_11 (pc := 72) d_M_putEntry_72 rfl rfl ?_
    obtain ⟨c6, h⟩ := ite_some h
    refine x_iald (pc := 73) d_M_putEntry_73 (xm_a7 (sL 6 (va_up (mL 6 s) ((((250 : Int32) + v2) + (mA 7 s l1.toNatClampNeg)) - (250 : Int32)).toNatClampNeg l2) s) R) (xin_vp c6) ?_
    refine x_iconst (v := (1 : Int32)) (pc := 74) d_M_putEntry_74 (by decide) ?_
    refine x_iadd (pc := 75) d_M_putEntry_75 ?_
    obtain ⟨c7, h⟩ := ite_some h
    refine xm_s7 (pc := 76) d_M_putEntry_76 c7 ?_
    exact x_wk (L' := [some (vA 373), none, none, none, some (vI l4), some (vI (((250 : Int32) + v2) + (mA 7 s l1.toNatClampNeg)))]) ⟨Or.inr rfl, Or.inl rfl, Or.inl rfl, Or.inl rfl, Or.inr rfl, Or.inr rfl, trivial⟩ (w_M_putEntry_b77 hQ l4 (((250 : Int32) + v2) + (mA 7 s l1.toNatClampNeg)) (sA 7 (va_up (mA 7 (sL 6 (va_up (mL 6 s) ((((250 : Int32) + v2) + (mA 7 s l1.toNatClampNeg)) - (250 : Int32)).toNatClampNeg l2) s)) l1.toNatClampNeg ((mA 7 (sL 6 (va_up (mL 6 s) ((((250 : Int32) + v2) + (mA 7 s l1.toNatClampNeg)) - (250 : Int32)).toNatClampNeg l2) s) l1.toNatClampNeg) + (1 : Int32))) (sL 6 (va_up (mL 6 s) ((((250 : Int32) + v2) + (mA 7 s l1.toNatClampNeg)) - (250 : Int32)).toNatClampNeg l2) s)) h)
def f_M_putEntry (s : MT) (a1 : Int32) (a2 : Int64) (a3 : Int32) : Option (Int32 × MT) := (f_M_entry s a1 a2).bind fun (v3, s2) => (if v3 = (-1 : Int32) then (if xin a1 28 = true then (if xin a1 28 = true then (if (mA 7 s2 a1.toNatClampNeg) = (mA 8 s2 a1.toNatClampNeg) then some ((8 : Int32), s2) else f_M_putEntry_b32 a1 a2 a3 v3 s2) else none) else none) else f_M_putEntry_b32 a1 a2 a3 v3 s2)
theorem w_M_putEntry {sc : xSc} {d : Nat} {Q : xR → xH → Prop} {R : xH} {sZ : MT} {rZ : Int32} (hQ : Q (.inl (some (vI rZ))) (mH sZ R)) (s : MT) (a1 : Int32) (a2 : Int64) (a3 : Int32) (h : f_M_putEntry s a1 a2 a3 = some (rZ, sZ)) : xW sc m_M_putEntry (d + 2) Q (mH s R) 0 (xent [vA 373, vI a1, vL a2, vI a3] m_M_putEntry.2.2.1) [] := by
  show xW sc m_M_putEntry (d + 2) Q (mH s R) 0 [some (vA 373), some (vI a1), some (vL a2), none, some (vI a3), none] []
  unfold f_M_putEntry at h
  refine x_aload_n (pc := 0) d_M_putEntry_0 rfl ?_
  refine x_iload_n (pc := 1) d_M_putEntry_1 rfl ?_
  refine x_lload_n (pc := 2) d_M_putEntry_2 rfl ?_
  obtain ⟨⟨v3, s2⟩, e1, h⟩ := Option.bind_eq_some_iff.mp h
  dsimp only at h
  refine x_invv (c := 1) (av := [vI a1, vL a2]) (st := []) (pc := 3) d_M_putEntry_3 cv_M_362 y_M_entry (xm_at s R) rfl (Nat.le_of_ble_eq_true rfl) (Nat.le_of_ble_eq_true rfl) (w_M_entry (d := d + 0) (Q := fun r h' => r = .inl (some (vI v3)) ∧ h' = mH s2 R) (R := R) ⟨rfl, rfl⟩ s a1 a2 e1) (fun v h' z => ?_) (fun a h' z => nomatch z.1)
  obtain ⟨z1, z2⟩ := z
  subst z2
  cases z1
  show xW sc m_M_putEntry (d + 2) Q (mH s2 R) 6 [some (vA 373), some (vI a1), some (vL a2), none, some (vI a3), none] [vI v3]
  refine x_istore (pc := 6) d_M_putEntry_6 (by decide) ?_
  show xW sc m_M_putEntry (d + 2) Q (mH s2 R) 8 [some (vA 373), some (vI a1), some (vL a2), none, some (vI a3), some (vI v3)] []
  refine x_iload (pc := 8) d_M_putEntry_8 rfl ?_
  refine x_iconst (v := (-1 : Int32)) (pc := 10) d_M_putEntry_10 (by decide) ?_
  refine x_icmp_ne (tgt := 32) (pc := 11) d_M_putEntry_11 (by decide) (fun c5 => ?_) (fun c5 => ?_)
  · rw [if_neg c5] at h
    exact w_M_putEntry_b32 hQ a1 a2 a3 v3 s2 h
  · rw [if_pos c5] at h
    refine x_aload_n (pc := 14) d_M_putEntry_14 rfl ?_
    refine x_getf (c := 1) (k := 7) (v := vA 378) (pc := 15) d_M_putEntry_15 l_M_24 (xm_at s2 R) rfl ?_
    refine x_iload_n (pc := 18) d_M_putEntry_18 rfl ?_
    obtain ⟨c6, h⟩ := ite_some h
    refine x_iald (pc := 19) d_M_putEntry_19 (xm_a7 s2 R) (xin_vp c6) ?_
    refine x_aload_n (pc := 20) d_M_putEntry_20 rfl ?_
    refine x_getf (c := 1) (k := 8) (v := vA 379) (pc := 21) d_M_putEntry_21 l_M_27 (xm_at s2 R) rfl ?_
    refine x_iload_n (pc := 24) d_M_putEntry_24 rfl ?_
    obtain ⟨c7, h⟩ := ite_some h
    refine x_iald (pc := 25) d_M_putEntry_25 (xm_a8 s2 R) (xin_vp c7) ?_
    refine x_icmp_ne (tgt := 32) (pc := 26) d_M_putEntry_26 (by decide) (fun c8 => ?_) (fun c8 => ?_)
    · rw [if_neg c8] at h
      exact w_M_putEntry_b32 hQ a1 a2 a3 v3 s2 h
    · rw [if_pos c8] at h
      refine x_bipush (v := (8 : Int32)) (pc := 29) d_M_putEntry_29 (by decide) ?_
      cases h
      exact x_iret (ty := .int) (pc := 31) d_M_putEntry_31 rfl (rfl) hQ
def f_M_readNumber_b227  (l6 : Int32) (t0 : UInt64) (t1 : Int32) (s : MT) : Option (Int32 × MT) := (if xin t1 1300 = true then some ((0 : Int32), sI 25 ((mI 25 (sD 3 (va_up (mD 3 s) t1.toNatClampNeg t0) s)) + (l6 + (1 : Int32))) (sD 3 (va_up (mD 3 s) t1.toNatClampNeg t0) s)) else none)
theorem w_M_readNumber_b227 {sc : xSc} {d : Nat} {Q : xR → xH → Prop} {R : xH} {sZ : MT} {rZ : Int32}  (hQ : Q (.inl (some (vI rZ))) (mH sZ R)) (l6 : Int32) (t0 : UInt64) (t1 : Int32) (s : MT) (h : f_M_readNumber_b227  l6 t0 t1 s = some (rZ, sZ)) : xW sc m_M_readNumber (d + 2) Q (mH s R) 227 [some (vA 373), none, none, none, none, none, some (vI l6), none, none, none, none] [vD t0, vI t1, vA 376] := by
  unfold f_M_readNumber_b227 at h
  obtain ⟨c1, h⟩ := ite_some h
  refine xm_s3 (pc := 227) d_M_readNumber_227 c1 ?_
  refine x_aload_n (pc := 228) d_M_readNumber_228 rfl ?_
  refine x_dup (pc := 229) d_M_readNumber_229 rfl ?_
  refine x_getf (c := 1) (k := 25) (v := vI (mI 25 (sD 3 (va_up (mD 3 s) t1.toNatClampNeg t0) s))) (pc := 230) d_M_readNumber_230 l_M_281 (xm_at (sD 3 (va_up (mD 3 s) t1.toNatClampNeg t0) s) R) rfl ?_
  refine x_iload (pc := 233) d_M_readNumber_233 rfl ?_
  refine x_iconst (v := (1 : Int32)) (pc := 235) d_M_readNumber_235 (by decide) ?_
  refine x_iadd (pc := 236) d_M_readNumber_236 ?_
  refine x_iadd (pc := 237) d_M_readNumber_237 ?_
  refine xm_p25 (pc := 238) d_M_readNumber_238 l_M_281 ?_
  refine x_iconst (v := (0 : Int32)) (pc := 241) d_M_readNumber_241 (by decide) ?_
  cases h
  exact x_iret (ty := .int) (pc := 242) d_M_readNumber_242 rfl (rfl) hQ
def f_M_readNumber_b176  (l1 : Int32) (l4 : Int64) (l6 : Int32) (t0 : UInt64) (s : MT) : Option (Int32 × MT) := (f_M_whole s ((mI 25 s) + (1 : Int32)) l6).bind fun (v3, s2) => (if xn64 (FP.ddiv (FP.l2d v3) t0) = true then (if xn64 (FP.dadd (FP.l2d l4) (FP.ddiv (FP.l2d v3) t0)) = true then (f_M_set s2 (40 : Int32) (1 : Int32) (0 : Int64)).bind fun s8 => (if l1 = 0 then f_M_readNumber_b227 l6 (FP.dadd (FP.l2d l4) (FP.ddiv (FP.l2d v3) t0)) (40 : Int32) s8 else (if xn64 (FP.dsub FP.dconst0 (FP.dadd (FP.l2d l4) (FP.ddiv (FP.l2d v3) t0))) = true then f_M_readNumber_b227 l6 (FP.dsub FP.dconst0 (FP.dadd (FP.l2d l4) (FP.ddiv (FP.l2d v3) t0))) (40 : Int32) s8 else none)) else none) else none)
theorem w_M_readNumber_b176 {sc : xSc} {d : Nat} {Q : xR → xH → Prop} {R : xH} {sZ : MT} {rZ : Int32}  (hQ : Q (.inl (some (vI rZ))) (mH sZ R)) (l1 : Int32) (l4 : Int64) (l6 : Int32) (t0 : UInt64) (s : MT) (h : f_M_readNumber_b176  l1 l4 l6 t0 s = some (rZ, sZ)) : xW sc m_M_readNumber (d + 2) Q (mH s R) 176 [some (vA 373), some (vI l1), none, none, some (vL l4), none, some (vI l6), none, none, none, none] [vD t0] := by
  unfold f_M_readNumber_b176 at h
  refine x_dstore (pc := 176) d_M_readNumber_176 (by decide) ?_
  show xW sc m_M_readNumber (d + 2) Q (mH s R) 178 [some (vA 373), some (vI l1), none, none, some (vL l4), none, some (vI l6), some (vD t0), none, none, none] []
  refine x_lload (pc := 178) d_M_readNumber_178 rfl ?_
  refine x_l2d (pc := 180) d_M_readNumber_180 ?_
  refine x_aload_n (pc := 181) d_M_readNumber_181 rfl ?_
  refine x_aload_n (pc := 182) d_M_readNumber_182 rfl ?_
  refine x_getf (c := 1) (k := 25) (v := vI (mI 25 s)) (pc := 183) d_M_readNumber_183 l_M_281 (xm_at s R) rfl ?_
  refine x_iconst (v := (1 : Int32)) (pc := 186) d_M_readNumber_186 (by decide) ?_
  refine x_iadd (pc := 187) d_M_readNumber_187 ?_
  refine x_iload (pc := 188) d_M_readNumber_188 rfl ?_
  obtain ⟨⟨v3, s2⟩, e1, h⟩ := Option.bind_eq_some_iff.mp h
  dsimp only at h
  refine x_invv (c := 1) (av := [vI ((mI 25 s) + (1 : Int32)), vI l6]) (st := [vD (FP.l2d l4)]) (pc := 190) d_M_readNumber_190 cv_M_288 y_M_whole (xm_at s R) rfl (Nat.le_of_ble_eq_true rfl) (Nat.le_of_ble_eq_true rfl) (w_M_whole (d := d + 1) (Q := fun r h' => r = .inl (some (vL v3)) ∧ h' = mH s2 R) (R := R) ⟨rfl, rfl⟩ s ((mI 25 s) + (1 : Int32)) l6 e1) (fun v h' z => ?_) (fun a h' z => nomatch z.1)
  obtain ⟨z1, z2⟩ := z
  subst z2
  cases z1
  show xW sc m_M_readNumber (d + 2) Q (mH s2 R) 193 [some (vA 373), some (vI l1), none, none, some (vL l4), none, some (vI l6), some (vD t0), none, none, none] [vL v3, vD (FP.l2d l4)]
  refine x_l2d (pc := 193) d_M_readNumber_193 ?_
  refine x_dload (pc := 194) d_M_readNumber_194 rfl ?_
  obtain ⟨c5, h⟩ := ite_some h
  refine x_ddiv (pc := 196) d_M_readNumber_196 (xn64_v c5) ?_
  obtain ⟨c6, h⟩ := ite_some h
  refine x_dadd (pc := 197) d_M_readNumber_197 (xn64_v c6) ?_
  refine x_dstore (pc := 198) d_M_readNumber_198 (by decide) ?_
  show xW sc m_M_readNumber (d + 2) Q (mH s2 R) 200 [some (vA 373), some (vI l1), none, none, some (vL l4), none, some (vI l6), some (vD t0), none, some (vD (FP.dadd (FP.l2d l4) (FP.ddiv (FP.l2d v3) t0))), none] []
  refine x_aload_n (pc := 200) d_M_readNumber_200 rfl ?_
  refine x_bipush (v := (40 : Int32)) (pc := 201) d_M_readNumber_201 (by decide) ?_
  refine x_iconst (v := (1 : Int32)) (pc := 203) d_M_readNumber_203 (by decide) ?_
  refine x_lconst (v := (0 : Int64)) (pc := 204) d_M_readNumber_204 (by decide) ?_
  obtain ⟨s8, e7, h⟩ := Option.bind_eq_some_iff.mp h
  refine x_invv (c := 1) (av := [vI (40 : Int32), vI (1 : Int32), vL (0 : Int64)]) (st := []) (pc := 205) d_M_readNumber_205 cv_M_250 y_M_set (xm_at s2 R) rfl (Nat.le_of_ble_eq_true rfl) (Nat.le_of_ble_eq_true rfl) (w_M_set (d := d + 1) (Q := fun r h' => r = .inl none ∧ h' = mH s8 R) (R := R) ⟨rfl, rfl⟩ s2 (40 : Int32) (1 : Int32) (0 : Int64) e7) (fun v h' z => ?_) (fun a h' z => nomatch z.1)
  obtain ⟨z1, z2⟩ := z
  subst z2
  cases z1
  show xW sc m_M_readNumber (d + 2) Q (mH s8 R) 208 [some (vA 373), some (vI l1), none, none, some (vL l4), none, some (vI l6), some (vD t0), none, some (vD (FP.dadd (FP.l2d l4) (FP.ddiv (FP.l2d v3) t0))), none] []
  refine x_aload_n (pc := 208) d_M_readNumber_208 rfl ?_
  refine x_getf (c := 1) (k := 3) (v := vA 376) (pc := 209) d_M_readNumber_209 l_M_17 (xm_at s8 R) rfl ?_
  refine x_bipush (v := (40 : Int32)) (pc := 212) d_M_readNumber_212 (by decide) ?_
  refine x_iload_n (pc := 214) d_M_readNumber_214 rfl ?_
  refine x_if_eq (tgt := 225) (pc := 215) d_M_readNumber_215 (by decide) (fun c9 => ?_) (fun c9 => ?_)
  · rw [if_pos c9] at h
    refine x_dload (pc := 225) d_M_readNumber_225 rfl ?_
    exact x_wk (L' := [some (vA 373), none, none, none, none, none, some (vI l6), none, none, none, none]) ⟨Or.inr rfl, Or.inl rfl, Or.inl rfl, Or.inl rfl, Or.inl rfl, Or.inl rfl, Or.inr rfl, Or.inl rfl, Or.inl rfl, Or.inl rfl, Or.inl rfl, trivial⟩ (w_M_readNumber_b227 hQ l6 (FP.dadd (FP.l2d l4) (FP.ddiv (FP.l2d v3) t0)) (40 : Int32) s8 h)
  · rw [if_neg c9] at h
    refine x_dconst0 (pc := 218) d_M_readNumber_218 ?_
    refine x_dload (pc := 219) d_M_readNumber_219 rfl ?_
    obtain ⟨c10, h⟩ := ite_some h
    refine x_dsub (pc := 221) d_M_readNumber_221 (xn64_v c10) ?_
    refine x_goto (tgt := 227) (pc := 222) d_M_readNumber_222 (by decide) ?_
    exact x_wk (L' := [some (vA 373), none, none, none, none, none, some (vI l6), none, none, none, none]) ⟨Or.inr rfl, Or.inl rfl, Or.inl rfl, Or.inl rfl, Or.inl rfl, Or.inl rfl, Or.inr rfl, Or.inl rfl, Or.inl rfl, Or.inl rfl, Or.inl rfl, trivial⟩ (w_M_readNumber_b227 hQ l6 (FP.dsub FP.dconst0 (FP.dadd (FP.l2d l4) (FP.ddiv (FP.l2d v3) t0))) (40 : Int32) s8 h)
def f_M_readNumber_b132  (t0 : Int64) (t1 : Int32) (t2 : Int32) (s : MT) : Option (Int32 × MT) := (f_M_set s t2 t1 t0).bind fun s2 => some ((0 : Int32), s2)
theorem w_M_readNumber_b132 {sc : xSc} {d : Nat} {Q : xR → xH → Prop} {R : xH} {sZ : MT} {rZ : Int32}  (hQ : Q (.inl (some (vI rZ))) (mH sZ R)) (t0 : Int64) (t1 : Int32) (t2 : Int32) (s : MT) (h : f_M_readNumber_b132  t0 t1 t2 s = some (rZ, sZ)) : xW sc m_M_readNumber (d + 2) Q (mH s R) 132 [none, none, none, none, none, none, none, none, none, none, none] [vL t0, vI t1, vI t2, vA 373] := by
  unfold f_M_readNumber_b132 at h
  obtain ⟨s2, e1, h⟩ := Option.bind_eq_some_iff.mp h
  refine x_invv (c := 1) (av := [vI t2, vI t1, vL t0]) (st := []) (pc := 132) d_M_readNumber_132 cv_M_250 y_M_set (xm_at s R) rfl (Nat.le_of_ble_eq_true rfl) (Nat.le_of_ble_eq_true rfl) (w_M_set (d := d + 1) (Q := fun r h' => r = .inl none ∧ h' = mH s2 R) (R := R) ⟨rfl, rfl⟩ s t2 t1 t0 e1) (fun v h' z => ?_) (fun a h' z => nomatch z.1)
  obtain ⟨z1, z2⟩ := z
  subst z2
  cases z1
  show xW sc m_M_readNumber (d + 2) Q (mH s2 R) 135 [none, none, none, none, none, none, none, none, none, none, none] []
  refine x_iconst (v := (0 : Int32)) (pc := 135) d_M_readNumber_135 (by decide) ?_
  cases h
  exact x_iret (ty := .int) (pc := 136) d_M_readNumber_136 rfl (rfl) hQ
def f_M_readNumber_b100  (l1 : Int32) (l4 : Int64) (t0 : Int32) (s : MT) : Option (Int32 × MT) := (if t0 ≤ (4 : Int32) then (if t0 = 0 then (if l1 = 0 then f_M_readNumber_b132 l4 (0 : Int32) (40 : Int32) s else f_M_readNumber_b132 (-l4) (0 : Int32) (40 : Int32) s) else (if t0 = (1 : Int32) then f_M_readNumber_b176 l1 l4 t0 (4621819117588971520 : UInt64) s else (if t0 = (2 : Int32) then f_M_readNumber_b176 l1 l4 t0 (4636737291354636288 : UInt64) s else (if t0 = (3 : Int32) then f_M_readNumber_b176 l1 l4 t0 (4652007308841189376 : UInt64) s else f_M_readNumber_b176 l1 l4 t0 (4666723172467343360 : UInt64) s)))) else some ((15 : Int32), s))
theorem w_M_readNumber_b100 {sc : xSc} {d : Nat} {Q : xR → xH → Prop} {R : xH} {sZ : MT} {rZ : Int32}  (hQ : Q (.inl (some (vI rZ))) (mH sZ R)) (l1 : Int32) (l4 : Int64) (t0 : Int32) (s : MT) (h : f_M_readNumber_b100  l1 l4 t0 s = some (rZ, sZ)) : xW sc m_M_readNumber (d + 2) Q (mH s R) 100 [some (vA 373), some (vI l1), none, none, some (vL l4), none, none, none, none, none, none] [vI t0] := by
  unfold f_M_readNumber_b100 at h
  refine x_istore (pc := 100) d_M_readNumber_100 (by decide) ?_
  show xW sc m_M_readNumber (d + 2) Q (mH s R) 102 [some (vA 373), some (vI l1), none, none, some (vL l4), none, some (vI t0), none, none, none, none] []
  refine x_iload (pc := 102) d_M_readNumber_102 rfl ?_
  refine x_iconst (v := (4 : Int32)) (pc := 104) d_M_readNumber_104 (by decide) ?_
  refine x_icmp_le (tgt := 111) (pc := 105) d_M_readNumber_105 (by decide) (fun c1 => ?_) (fun c1 => ?_)
  · rw [if_pos c1] at h
    refine x_iload (pc := 111) d_M_readNumber_111 rfl ?_
    refine x_if_ne (tgt := 137) (pc := 113) d_M_readNumber_113 (by decide) (fun c2 => ?_) (fun c2 => ?_)
    · rw [if_neg c2] at h
      refine x_iload (pc := 137) d_M_readNumber_137 rfl ?_
      refine x_iconst (v := (1 : Int32)) (pc := 139) d_M_readNumber_139 (by decide) ?_
      refine x_icmp_ne (tgt := 149) (pc := 140) d_M_readNumber_140 (by decide) (fun c3 => ?_) (fun c3 => ?_)
      · rw [if_neg c3] at h
        refine x_iload (pc := 149) d_M_readNumber_149 rfl ?_
        refine x_iconst (v := (2 : Int32)) (pc := 151) d_M_readNumber_151 (by decide) ?_
        refine x_icmp_ne (tgt := 161) (pc := 152) d_M_readNumber_152 (by decide) (fun c4 => ?_) (fun c4 => ?_)
        · rw [if_neg c4] at h
          refine x_iload (pc := 161) d_M_readNumber_161 rfl ?_
          refine x_iconst (v := (3 : Int32)) (pc := 163) d_M_readNumber_163 (by decide) ?_
          refine x_icmp_ne (tgt := 173) (pc := 164) d_M_readNumber_164 (by decide) (fun c5 => ?_) (fun c5 => ?_)
          · rw [if_neg c5] at h
            refine x_ldc2d (v := (4666723172467343360 : UInt64)) (pc := 173) d_M_readNumber_173 c_M_302 ?_
            exact w_M_readNumber_b176 hQ l1 l4 t0 (4666723172467343360 : UInt64) s h
          · rw [if_pos c5] at h
            refine x_ldc2d (v := (4652007308841189376 : UInt64)) (pc := 167) d_M_readNumber_167 c_M_300 ?_
            refine x_goto (tgt := 176) (pc := 170) d_M_readNumber_170 (by decide) ?_
            exact w_M_readNumber_b176 hQ l1 l4 t0 (4652007308841189376 : UInt64) s h
        · rw [if_pos c4] at h
          refine x_ldc2d (v := (4636737291354636288 : UInt64)) (pc := 155) d_M_readNumber_155 c_M_298 ?_
          refine x_goto (tgt := 176) (pc := 158) d_M_readNumber_158 (by decide) ?_
          exact w_M_readNumber_b176 hQ l1 l4 t0 (4636737291354636288 : UInt64) s h
      · rw [if_pos c3] at h
        refine x_ldc2d (v := (4621819117588971520 : UInt64)) (pc := 143) d_M_readNumber_143 c_M_296 ?_
        refine x_goto (tgt := 176) (pc := 146) d_M_readNumber_146 (by decide) ?_
        exact w_M_readNumber_b176 hQ l1 l4 t0 (4621819117588971520 : UInt64) s h
    · rw [if_pos c2] at h
      refine x_aload_n (pc := 116) d_M_readNumber_116 rfl ?_
      refine x_bipush (v := (40 : Int32)) (pc := 117) d_M_readNumber_117 (by decide) ?_
      refine x_iconst (v := (0 : Int32)) (pc := 119) d_M_readNumber_119 (by decide) ?_
      refine x_iload_n (pc := 120) d_M_readNumber_120 rfl ?_
      refine x_if_eq (tgt := 130) (pc := 121) d_M_readNumber_121 (by decide) (fun c6 => ?_) (fun c6 => ?_)
      · rw [if_pos c6] at h
        refine x_lload (pc := 130) d_M_readNumber_130 rfl ?_
        exact x_wk (L' := [none, none, none, none, none, none, none, none, none, none, none]) ⟨Or.inl rfl, Or.inl rfl, Or.inl rfl, Or.inl rfl, Or.inl rfl, Or.inl rfl, Or.inl rfl, Or.inl rfl, Or.inl rfl, Or.inl rfl, Or.inl rfl, trivial⟩ (w_M_readNumber_b132 hQ l4 (0 : Int32) (40 : Int32) s h)
      · rw [if_neg c6] at h
        refine x_lload (pc := 124) d_M_readNumber_124 rfl ?_
        refine x_lneg (pc := 126) d_M_readNumber_126 ?_
        refine x_goto (tgt := 132) (pc := 127) d_M_readNumber_127 (by decide) ?_
        exact x_wk (L' := [none, none, none, none, none, none, none, none, none, none, none]) ⟨Or.inl rfl, Or.inl rfl, Or.inl rfl, Or.inl rfl, Or.inl rfl, Or.inl rfl, Or.inl rfl, Or.inl rfl, Or.inl rfl, Or.inl rfl, Or.inl rfl, trivial⟩ (w_M_readNumber_b132 hQ (-l4) (0 : Int32) (40 : Int32) s h)
  · rw [if_neg c1] at h
    refine x_bipush (v := (15 : Int32)) (pc := 108) d_M_readNumber_108 (by decide) ?_
    cases h
    exact x_iret (ty := .int) (pc := 110) d_M_readNumber_110 rfl (rfl) hQ
def f_M_readNumber_b55  (s : MT) : Option (Int32 × MT) := some ((15 : Int32), s)
theorem w_M_readNumber_b55 {sc : xSc} {d : Nat} {Q : xR → xH → Prop} {R : xH} {sZ : MT} {rZ : Int32}  (hQ : Q (.inl (some (vI rZ))) (mH sZ R)) (s : MT) (h : f_M_readNumber_b55  s = some (rZ, sZ)) : xW sc m_M_readNumber (d + 2) Q (mH s R) 55 [none, none, none, none, none, none, none, none, none, none, none] [] := by
  unfold f_M_readNumber_b55 at h
  refine x_bipush (v := (15 : Int32)) (pc := 55) d_M_readNumber_55 (by decide) ?_
  cases h
  exact x_iret (ty := .int) (pc := 57) d_M_readNumber_57 rfl (rfl) hQ
def f_M_readNumber_b37  (l1 : Int32) (t0 : Int32) (s : MT) : Option (Int32 × MT) := (f_M_digits s t0).bind fun (v3, s2) => (if v3 < (1 : Int32) then f_M_readNumber_b55 s2 else (if v3 ≤ (9 : Int32) then (f_M_whole s2 t0 v3).bind fun (v9, s8) => (f_M_look (sI 25 (t0 + v3) s8) (mI 25 (sI 25 (t0 + v3) s8))).bind fun (v13, s12) => (if v13 = (46 : Int32) then (f_M_digits s12 ((mI 25 s12) + (1 : Int32))).bind fun (v18, s17) => f_M_readNumber_b100 l1 v9 v18 s17 else f_M_readNumber_b100 l1 v9 (0 : Int32) s12) else f_M_readNumber_b55 s2))
theorem w_M_readNumber_b37 {sc : xSc} {d : Nat} {Q : xR → xH → Prop} {R : xH} {sZ : MT} {rZ : Int32}  (hQ : Q (.inl (some (vI rZ))) (mH sZ R)) (l1 : Int32) (t0 : Int32) (s : MT) (h : f_M_readNumber_b37  l1 t0 s = some (rZ, sZ)) : xW sc m_M_readNumber (d + 2) Q (mH s R) 37 [some (vA 373), some (vI l1), none, none, none, none, none, none, none, none, none] [vI t0] := by
  unfold f_M_readNumber_b37 at h
  refine x_istore_n (pc := 37) d_M_readNumber_37 (by decide) ?_
  show xW sc m_M_readNumber (d + 2) Q (mH s R) 38 [some (vA 373), some (vI l1), some (vI t0), none, none, none, none, none, none, none, none] []
  refine x_aload_n (pc := 38) d_M_readNumber_38 rfl ?_
  refine x_iload_n (pc := 39) d_M_readNumber_39 rfl ?_
  obtain ⟨⟨v3, s2⟩, e1, h⟩ := Option.bind_eq_some_iff.mp h
  dsimp only at h
  refine x_invv (c := 1) (av := [vI t0]) (st := []) (pc := 40) d_M_readNumber_40 cv_M_284 y_M_digits (xm_at s R) rfl (Nat.le_of_ble_eq_true rfl) (Nat.le_of_ble_eq_true rfl) (w_M_digits (d := d + 0) (Q := fun r h' => r = .inl (some (vI v3)) ∧ h' = mH s2 R) (R := R) ⟨rfl, rfl⟩ s t0 e1) (fun v h' z => ?_) (fun a h' z => nomatch z.1)
  obtain ⟨z1, z2⟩ := z
  subst z2
  cases z1
  show xW sc m_M_readNumber (d + 2) Q (mH s2 R) 43 [some (vA 373), some (vI l1), some (vI t0), none, none, none, none, none, none, none, none] [vI v3]
  refine x_istore_n (pc := 43) d_M_readNumber_43 (by decide) ?_
  show xW sc m_M_readNumber (d + 2) Q (mH s2 R) 44 [some (vA 373), some (vI l1), some (vI t0), some (vI v3), none, none, none, none, none, none, none] []
  refine x_iload_n (pc := 44) d_M_readNumber_44 rfl ?_
  refine x_iconst (v := (1 : Int32)) (pc := 45) d_M_readNumber_45 (by decide) ?_
  refine x_icmp_lt (tgt := 55) (pc := 46) d_M_readNumber_46 (by decide) (fun c5 => ?_) (fun c5 => ?_)
  · rw [if_pos c5] at h
    exact x_wk (L' := [none, none, none, none, none, none, none, none, none, none, none]) ⟨Or.inl rfl, Or.inl rfl, Or.inl rfl, Or.inl rfl, Or.inl rfl, Or.inl rfl, Or.inl rfl, Or.inl rfl, Or.inl rfl, Or.inl rfl, Or.inl rfl, trivial⟩ (w_M_readNumber_b55 hQ s2 h)
  · rw [if_neg c5] at h
    refine x_iload_n (pc := 49) d_M_readNumber_49 rfl ?_
    refine x_bipush (v := (9 : Int32)) (pc := 50) d_M_readNumber_50 (by decide) ?_
    refine x_icmp_le (tgt := 58) (pc := 52) d_M_readNumber_52 (by decide) (fun c6 => ?_) (fun c6 => ?_)
    · rw [if_pos c6] at h
      refine x_aload_n (pc := 58) d_M_readNumber_58 rfl ?_
      refine x_iload_n (pc := 59) d_M_readNumber_59 rfl ?_
      refine x_iload_n (pc := 60) d_M_readNumber_60 rfl ?_
      obtain ⟨⟨v9, s8⟩, e7, h⟩ := Option.bind_eq_some_iff.mp h
      dsimp only at h
      refine x_invv (c := 1) (av := [vI t0, vI v3]) (st := []) (pc := 61) d_M_readNumber_61 cv_M_288 y_M_whole (xm_at s2 R) rfl (Nat.le_of_ble_eq_true rfl) (Nat.le_of_ble_eq_true rfl) (w_M_whole (d := d + 1) (Q := fun r h' => r = .inl (some (vL v9)) ∧ h' = mH s8 R) (R := R) ⟨rfl, rfl⟩ s2 t0 v3 e7) (fun v h' z => ?_) (fun a h' z => nomatch z.1)
      obtain ⟨z1, z2⟩ := z
      subst z2
      cases z1
      show xW sc m_M_readNumber (d + 2) Q (mH s8 R) 64 [some (vA 373), some (vI l1), some (vI t0), some (vI v3), none, none, none, none, none, none, none] [vL v9]
      refine x_lstore (pc := 64) d_M_readNumber_64 (by decide) ?_
      show xW sc m_M_readNumber (d + 2) Q (mH s8 R) 66 [some (vA 373), some (vI l1), some (vI t0), some (vI v3), some (vL v9), none, none, none, none, none, none] []
      refine x_aload_n (pc := 66) d_M_readNumber_66 rfl ?_
      refine x_iload_n (pc := 67) d_M_readNumber_67 rfl ?_
      refine x_iload_n (pc := 68) d_M_readNumber_68 rfl ?_
      refine x_iadd (pc := 69) d_M_readNumber_69 ?_
      refine xm_p25 (pc := 70) d_M_readNumber_70 l_M_281 ?_
      refine x_aload_n (pc := 73) d_M_readNumber_73 rfl ?_
      refine x_aload_n (pc := 74) d_M_readNumber_74 rfl ?_
      refine x_getf (c := 1) (k := 25) (v := vI (mI 25 (sI 25 (t0 + v3) s8))) (pc := 75) d_M_readNumber_75 l_M_281 (xm_at (sI 25 (t0 + v3) s8) R) rfl ?_
      obtain ⟨⟨v13, s12⟩, e11, h⟩ := Option.bind_eq_some_iff.mp h
      dsimp only at h
      refine x_invv (c := 1) (av := [vI (mI 25 (sI 25 (t0 + v3) s8))]) (st := []) (pc := 78) d_M_readNumber_78 cv_M_292 y_M_look (xm_at (sI 25 (t0 + v3) s8) R) rfl (Nat.le_of_ble_eq_true rfl) (Nat.le_of_ble_eq_true rfl) (w_M_look (d := d + 1) (Q := fun r h' => r = .inl (some (vI v13)) ∧ h' = mH s12 R) (R := R) ⟨rfl, rfl⟩ (sI 25 (t0 + v3) s8) (mI 25 (sI 25 (t0 + v3) s8)) e11) (fun v h' z => ?_) (fun a h' z => nomatch z.1)
      obtain ⟨z1, z2⟩ := z
      subst z2
      cases z1
      show xW sc m_M_readNumber (d + 2) Q (mH s12 R) 81 [some (vA 373), some (vI l1), some (vI t0), some (vI v3), some (vL v9), none, none, none, none, none, none] [vI v13]
      refine x_bipush (v := (46 : Int32)) (pc := 81) d_M_readNumber_81 (by decide) ?_
      refine x_icmp_ne (tgt := 99) (pc := 83) d_M_readNumber_83 (by decide) (fun c15 => ?_) (fun c15 => ?_)
      · rw [if_neg c15] at h
        refine x_iconst (v := (0 : Int32)) (pc := 99) d_M_readNumber_99 (by decide) ?_
        exact x_wk (L' := [some (vA 373), some (vI l1), none, none, some (vL v9), none, none, none, none, none, none]) ⟨Or.inr rfl, Or.inr rfl, Or.inl rfl, Or.inl rfl, Or.inr rfl, Or.inl rfl, Or.inl rfl, Or.inl rfl, Or.inl rfl, Or.inl rfl, Or.inl rfl, trivial⟩ (w_M_readNumber_b100 hQ l1 v9 (0 : Int32) s12 h)
      · rw [if_pos c15] at h
        refine x_aload_n (pc := 86) d_M_readNumber_86 rfl ?_
        refine x_aload_n (pc := 87) d_M_readNumber_87 rfl ?_
        refine x_getf (c := 1) (k := 25) (v := vI (mI 25 s12)) (pc := 88) d_M_readNumber_88 l_M_281 (xm_at s12 R) rfl ?_
        refine x_iconst (v := (1 : Int32)) (pc := 91) d_M_readNumber_91 (by decide) ?_
        refine x_iadd (pc := 92) d_M_readNumber_92 ?_
        obtain ⟨⟨v18, s17⟩, e16, h⟩ := Option.bind_eq_some_iff.mp h
        dsimp only at h
        refine x_invv (c := 1) (av := [vI ((mI 25 s12) + (1 : Int32))]) (st := []) (pc := 93) d_M_readNumber_93 cv_M_284 y_M_digits (xm_at s12 R) rfl (Nat.le_of_ble_eq_true rfl) (Nat.le_of_ble_eq_true rfl) (w_M_digits (d := d + 0) (Q := fun r h' => r = .inl (some (vI v18)) ∧ h' = mH s17 R) (R := R) ⟨rfl, rfl⟩ s12 ((mI 25 s12) + (1 : Int32)) e16) (fun v h' z => ?_) (fun a h' z => nomatch z.1)
        obtain ⟨z1, z2⟩ := z
        subst z2
        cases z1
        show xW sc m_M_readNumber (d + 2) Q (mH s17 R) 96 [some (vA 373), some (vI l1), some (vI t0), some (vI v3), some (vL v9), none, none, none, none, none, none] [vI v18]
        refine x_goto (tgt := 100) (pc := 96) d_M_readNumber_96 (by decide) ?_
        exact x_wk (L' := [some (vA 373), some (vI l1), none, none, some (vL v9), none, none, none, none, none, none]) ⟨Or.inr rfl, Or.inr rfl, Or.inl rfl, Or.inl rfl, Or.inr rfl, Or.inl rfl, Or.inl rfl, Or.inl rfl, Or.inl rfl, Or.inl rfl, Or.inl rfl, trivial⟩ (w_M_readNumber_b100 hQ l1 v9 v18 s17 h)
    · rw [if_neg c6] at h
      exact x_wk (L' := [none, none, none, none, none, none, none, none, none, none, none]) ⟨Or.inl rfl, Or.inl rfl, Or.inl rfl, Or.inl rfl, Or.inl rfl, Or.inl rfl, Or.inl rfl, Or.inl rfl, Or.inl rfl, Or.inl rfl, Or.inl rfl, trivial⟩ (w_M_readNumber_b55 hQ s2 h)
def f_M_readNumber_b19  (t0 : Int32) (s : MT) : Option (Int32 × MT) := (if t0 = 0 then f_M_readNumber_b37 t0 (mI 25 s) s else f_M_readNumber_b37 t0 ((mI 25 s) + (1 : Int32)) s)
theorem w_M_readNumber_b19 {sc : xSc} {d : Nat} {Q : xR → xH → Prop} {R : xH} {sZ : MT} {rZ : Int32}  (hQ : Q (.inl (some (vI rZ))) (mH sZ R)) (t0 : Int32) (s : MT) (h : f_M_readNumber_b19  t0 s = some (rZ, sZ)) : xW sc m_M_readNumber (d + 2) Q (mH s R) 19 [some (vA 373), none, none, none, none, none, none, none, none, none, none] [vI t0] := by
  unfold f_M_readNumber_b19 at h
  refine x_istore_n (pc := 19) d_M_readNumber_19 (by decide) ?_
  show xW sc m_M_readNumber (d + 2) Q (mH s R) 20 [some (vA 373), some (vI t0), none, none, none, none, none, none, none, none, none] []
  refine x_iload_n (pc := 20) d_M_readNumber_20 rfl ?_
  refine x_if_eq (tgt := 33) (pc := 21) d_M_readNumber_21 (by decide) (fun c1 => ?_) (fun c1 => ?_)
  · rw [if_pos c1] at h
    refine x_aload_n (pc := 33) d_M_readNumber_33 rfl ?_
    refine x_getf (c := 1) (k := 25) (v := vI (mI 25 s)) (pc := 34) d_M_readNumber_34 l_M_281 (xm_at s R) rfl ?_
    exact w_M_readNumber_b37 hQ t0 (mI 25 s) s h
  · rw [if_neg c1] at h
    refine x_aload_n (pc := 24) d_M_readNumber_24 rfl ?_
    refine x_getf (c := 1) (k := 25) (v := vI (mI 25 s)) (pc := 25) d_M_readNumber_25 l_M_281 (xm_at s R) rfl ?_
    refine x_iconst (v := (1 : Int32)) (pc := 28) d_M_readNumber_28 (by decide) ?_
    refine x_iadd (pc := 29) d_M_readNumber_29 ?_
    refine x_goto (tgt := 37) (pc := 30) d_M_readNumber_30 (by decide) ?_
    exact w_M_readNumber_b37 hQ t0 ((mI 25 s) + (1 : Int32)) s h
def f_M_readNumber (s : MT) : Option (Int32 × MT) := (if xin (mI 25 s) 120 = true then (if (mA 23 s (mI 25 s).toNatClampNeg) = (45 : Int32) then f_M_readNumber_b19 (1 : Int32) s else f_M_readNumber_b19 (0 : Int32) s) else none)
theorem w_M_readNumber {sc : xSc} {d : Nat} {Q : xR → xH → Prop} {R : xH} {sZ : MT} {rZ : Int32} (hQ : Q (.inl (some (vI rZ))) (mH sZ R)) (s : MT) (h : f_M_readNumber s = some (rZ, sZ)) : xW sc m_M_readNumber (d + 2) Q (mH s R) 0 (xent [vA 373] m_M_readNumber.2.2.1) [] := by
  show xW sc m_M_readNumber (d + 2) Q (mH s R) 0 [some (vA 373), none, none, none, none, none, none, none, none, none, none] []
  unfold f_M_readNumber at h
  refine x_aload_n (pc := 0) d_M_readNumber_0 rfl ?_
  refine x_getf (c := 1) (k := 23) (v := vA 389) (pc := 1) d_M_readNumber_1 l_M_61 (xm_at s R) rfl ?_
  refine x_aload_n (pc := 4) d_M_readNumber_4 rfl ?_
  refine x_getf (c := 1) (k := 25) (v := vI (mI 25 s)) (pc := 5) d_M_readNumber_5 l_M_281 (xm_at s R) rfl ?_
  obtain ⟨c1, h⟩ := ite_some h
  refine x_cald (pc := 8) d_M_readNumber_8 (xm_a23 s R) (xin_vp c1) ?_
  refine x_bipush (v := (45 : Int32)) (pc := 9) d_M_readNumber_9 (by decide) ?_
  refine x_icmp_ne (tgt := 18) (pc := 11) d_M_readNumber_11 (by decide) (fun c2 => ?_) (fun c2 => ?_)
  · rw [if_neg c2] at h
    refine x_iconst (v := (0 : Int32)) (pc := 18) d_M_readNumber_18 (by decide) ?_
    exact w_M_readNumber_b19 hQ (0 : Int32) s h
  · rw [if_pos c2] at h
    refine x_iconst (v := (1 : Int32)) (pc := 14) d_M_readNumber_14 (by decide) ?_
    refine x_goto (tgt := 19) (pc := 15) d_M_readNumber_15 (by decide) ?_
    exact w_M_readNumber_b19 hQ (1 : Int32) s h
def f_M_restore_b211 (k143 : Int32 → Int32 → Int32 → MT → Option (Int32 × MT)) (l1 : Int32) (l3 : Int32) (t0 : Int32) (s : MT) : Option (Int32 × MT) := k143 l1 t0 (l3 + Int32.ofInt 1) s
theorem w_M_restore_b211 {sc : xSc} {d : Nat} {Q : xR → xH → Prop} {R : xH} {sZ : MT} {rZ : Int32} (k143 : Int32 → Int32 → Int32 → MT → Option (Int32 × MT)) (hk143 : ∀ (l1 : Int32) (l2 : Int32) (l3 : Int32) (s : MT), k143 l1 l2 l3 s = some (rZ, sZ) → xW sc m_M_restore (d + 2) Q (mH s R) 143 [some (vA 373), some (vI l1), some (vI l2), some (vI l3)] []) (hQ : Q (.inl (some (vI rZ))) (mH sZ R)) (l1 : Int32) (l3 : Int32) (t0 : Int32) (s : MT) (h : f_M_restore_b211 k143 l1 l3 t0 s = some (rZ, sZ)) : xW sc m_M_restore (d + 2) Q (mH s R) 211 [some (vA 373), some (vI l1), none, some (vI l3)] [vI t0] := by
  unfold f_M_restore_b211 at h
  refine x_istore_n (pc := 211) d_M_restore_211 (by decide) ?_
  show xW sc m_M_restore (d + 2) Q (mH s R) 212 [some (vA 373), some (vI l1), some (vI t0), some (vI l3)] []
  refine x_iinc (pc := 212) d_M_restore_212 rfl (by decide) ?_
  show xW sc m_M_restore (d + 2) Q (mH s R) 215 [some (vA 373), some (vI l1), some (vI t0), some (vI (l3 + Int32.ofInt 1))] []
  refine x_goto (tgt := 143) (pc := 215) d_M_restore_215 (by decide) ?_
  exact hk143 l1 t0 (l3 + Int32.ofInt 1) s h
def f_M_restore_b210 (k143 : Int32 → Int32 → Int32 → MT → Option (Int32 × MT)) (l1 : Int32) (l3 : Int32) (s : MT) : Option (Int32 × MT) := f_M_restore_b211 k143 l1 l3 (0 : Int32) s
theorem w_M_restore_b210 {sc : xSc} {d : Nat} {Q : xR → xH → Prop} {R : xH} {sZ : MT} {rZ : Int32} (k143 : Int32 → Int32 → Int32 → MT → Option (Int32 × MT)) (hk143 : ∀ (l1 : Int32) (l2 : Int32) (l3 : Int32) (s : MT), k143 l1 l2 l3 s = some (rZ, sZ) → xW sc m_M_restore (d + 2) Q (mH s R) 143 [some (vA 373), some (vI l1), some (vI l2), some (vI l3)] []) (hQ : Q (.inl (some (vI rZ))) (mH sZ R)) (l1 : Int32) (l3 : Int32) (s : MT) (h : f_M_restore_b210 k143 l1 l3 s = some (rZ, sZ)) : xW sc m_M_restore (d + 2) Q (mH s R) 210 [some (vA 373), some (vI l1), none, some (vI l3)] [] := by
  unfold f_M_restore_b210 at h
  refine x_iconst (v := (0 : Int32)) (pc := 210) d_M_restore_210 (by decide) ?_
  exact w_M_restore_b211 k143 hk143 hQ l1 l3 (0 : Int32) s h
def f_M_restore_b206 (k143 : Int32 → Int32 → Int32 → MT → Option (Int32 × MT)) (l1 : Int32) (l3 : Int32) (s : MT) : Option (Int32 × MT) := f_M_restore_b211 k143 l1 l3 (1 : Int32) s
theorem w_M_restore_b206 {sc : xSc} {d : Nat} {Q : xR → xH → Prop} {R : xH} {sZ : MT} {rZ : Int32} (k143 : Int32 → Int32 → Int32 → MT → Option (Int32 × MT)) (hk143 : ∀ (l1 : Int32) (l2 : Int32) (l3 : Int32) (s : MT), k143 l1 l2 l3 s = some (rZ, sZ) → xW sc m_M_restore (d + 2) Q (mH s R) 143 [some (vA 373), some (vI l1), some (vI l2), some (vI l3)] []) (hQ : Q (.inl (some (vI rZ))) (mH sZ R)) (l1 : Int32) (l3 : Int32) (s : MT) (h : f_M_restore_b206 k143 l1 l3 s = some (rZ, sZ)) : xW sc m_M_restore (d + 2) Q (mH s R) 206 [some (vA 373), some (vI l1), none, some (vI l3)] [] := by
  unfold f_M_restore_b206 at h
  refine x_iconst (v := (1 : Int32)) (pc := 206) d_M_restore_206 (by decide) ?_
  refine x_goto (tgt := 211) (pc := 207) d_M_restore_207 (by decide) ?_
  exact w_M_restore_b211 k143 hk143 hQ l1 l3 (1 : Int32) s h
def f_M_restore_b180 (k143 : Int32 → Int32 → Int32 → MT → Option (Int32 × MT)) (l1 : Int32) (l3 : Int32) (s : MT) : Option (Int32 × MT) := (if xin l3 560 = true then (if (mA 17 s l3.toNatClampNeg) = (6 : Int32) then (if xin l3 560 = true then (f_M_isNewer s (5 : Int32) (mL 22 s l3.toNatClampNeg) l1).bind fun (v6, s5) => (if v6 = 0 then f_M_restore_b210 k143 l1 l3 s5 else f_M_restore_b206 k143 l1 l3 s5) else none) else f_M_restore_b210 k143 l1 l3 s) else none)
theorem w_M_restore_b180 {sc : xSc} {d : Nat} {Q : xR → xH → Prop} {R : xH} {sZ : MT} {rZ : Int32} (k143 : Int32 → Int32 → Int32 → MT → Option (Int32 × MT)) (hk143 : ∀ (l1 : Int32) (l2 : Int32) (l3 : Int32) (s : MT), k143 l1 l2 l3 s = some (rZ, sZ) → xW sc m_M_restore (d + 2) Q (mH s R) 143 [some (vA 373), some (vI l1), some (vI l2), some (vI l3)] []) (hQ : Q (.inl (some (vI rZ))) (mH sZ R)) (l1 : Int32) (l3 : Int32) (s : MT) (h : f_M_restore_b180 k143 l1 l3 s = some (rZ, sZ)) : xW sc m_M_restore (d + 2) Q (mH s R) 180 [some (vA 373), some (vI l1), none, some (vI l3)] [] := by
  unfold f_M_restore_b180 at h
  refine x_aload_n (pc := 180) d_M_restore_180 rfl ?_
  refine x_getf (c := 1) (k := 17) (v := vA 383) (pc := 181) d_M_restore_181 l_M_43 (xm_at s R) rfl ?_
  refine x_iload_n (pc := 184) d_M_restore_184 rfl ?_
  obtain ⟨c1, h⟩ := ite_some h
  refine x_iald (pc := 185) d_M_restore_185 (xm_a17 s R) (xin_vp c1) ?_
  refine x_bipush (v := (6 : Int32)) (pc := 186) d_M_restore_186 (by decide) ?_
  refine x_icmp_ne (tgt := 210) (pc := 188) d_M_restore_188 (by decide) (fun c2 => ?_) (fun c2 => ?_)
  · rw [if_neg c2] at h
    exact w_M_restore_b210 k143 hk143 hQ l1 l3 s h
  · rw [if_pos c2] at h
    refine x_aload_n (pc := 191) d_M_restore_191 rfl ?_
    refine x_iconst (v := (5 : Int32)) (pc := 192) d_M_restore_192 (by decide) ?_
    refine x_aload_n (pc := 193) d_M_restore_193 rfl ?_
    refine x_getf (c := 1) (k := 22) (v := vA 388) (pc := 194) d_M_restore_194 l_M_58 (xm_at s R) rfl ?_
    refine x_iload_n (pc := 197) d_M_restore_197 rfl ?_
    obtain ⟨c3, h⟩ := ite_some h
    refine x_lald (pc := 198) d_M_restore_198 (xm_a22 s R) (xin_vp c3) ?_
    refine x_iload_n (pc := 199) d_M_restore_199 rfl ?_
    obtain ⟨⟨v6, s5⟩, e4, h⟩ := Option.bind_eq_some_iff.mp h
    dsimp only at h
    refine x_invv (c := 1) (av := [vI (5 : Int32), vL (mL 22 s l3.toNatClampNeg), vI l1]) (st := []) (pc := 200) d_M_restore_200 cv_M_543 y_M_isNewer (xm_at s R) rfl (Nat.le_of_ble_eq_true rfl) (Nat.le_of_ble_eq_true rfl) (w_M_isNewer (d := d + 0) (Q := fun r h' => r = .inl (some (vI v6)) ∧ h' = mH s5 R) (R := R) ⟨rfl, rfl⟩ s (5 : Int32) (mL 22 s l3.toNatClampNeg) l1 e4) (fun v h' z => ?_) (fun a h' z => nomatch z.1)
    obtain ⟨z1, z2⟩ := z
    subst z2
    cases z1
    show xW sc m_M_restore (d + 2) Q (mH s5 R) 203 [some (vA 373), some (vI l1), none, some (vI l3)] [vI v6]
    refine x_if_eq (tgt := 210) (pc := 203) d_M_restore_203 (by decide) (fun c8 => ?_) (fun c8 => ?_)
    · rw [if_pos c8] at h
      exact w_M_restore_b210 k143 hk143 hQ l1 l3 s5 h
    · rw [if_neg c8] at h
      exact w_M_restore_b206 k143 hk143 hQ l1 l3 s5 h
def f_M_restore_b143  : Nat → Int32 → Int32 → Int32 → MT → Option (Int32 × MT)
  | 0, _, _, _, _ => none
  | n + 1, l1, l2, l3, s => (if (mI 15 s) ≤ l3 then (if l2 = 0 then (if xin l1 3 = true then (f_M_copyAll (sI 5 (mA 14 (sI 12 l1 (sI 4 ((mI 4 s) - (1 : Int32)) s)) l1.toNatClampNeg) (sI 12 l1 (sI 4 ((mI 4 s) - (1 : Int32)) s))) (0 : Int32) (l1 + (1 : Int32))).bind fun s5 => some ((0 : Int32), s5) else none) else some ((10 : Int32), s)) else (if l2 = 0 then (if xin l3 560 = true then (if (mA 17 s l3.toNatClampNeg) = (1 : Int32) then (if xin l3 560 = true then (f_M_isNewer s (5 : Int32) (mL 18 s l3.toNatClampNeg) l1).bind fun (v12, s11) => (if v12 = 0 then f_M_restore_b180 (f_M_restore_b143 n) l1 l3 s11 else f_M_restore_b206 (f_M_restore_b143 n) l1 l3 s11) else none) else f_M_restore_b180 (f_M_restore_b143 n) l1 l3 s) else none) else f_M_restore_b206 (f_M_restore_b143 n) l1 l3 s))
theorem w_M_restore_b143 {sc : xSc} {d : Nat} {Q : xR → xH → Prop} {R : xH} {sZ : MT} {rZ : Int32}  (hQ : Q (.inl (some (vI rZ))) (mH sZ R)) : ∀ (n : Nat) (l1 : Int32) (l2 : Int32) (l3 : Int32) (s : MT), f_M_restore_b143  n l1 l2 l3 s = some (rZ, sZ) → xW sc m_M_restore (d + 2) Q (mH s R) 143 [some (vA 373), some (vI l1), some (vI l2), some (vI l3)] [] := by
  intro n
  induction n with
  | zero =>
    intro l1 l2 l3 s h
    cases h
  | succ n hk143 =>
    intro l1 l2 l3 s h
    unfold f_M_restore_b143 at h
    refine x_iload_n (pc := 143) d_M_restore_143 rfl ?_
    refine x_aload_n (pc := 144) d_M_restore_144 rfl ?_
    refine x_getf (c := 1) (k := 15) (v := vI (mI 15 s)) (pc := 145) d_M_restore_145 l_M_346 (xm_at s R) rfl ?_
    refine x_icmp_ge (tgt := 218) (pc := 148) d_M_restore_148 (by decide) (fun c1 => ?_) (fun c1 => ?_)
    · rw [if_pos c1] at h
      refine x_iload_n (pc := 218) d_M_restore_218 rfl ?_
      refine x_if_eq (tgt := 225) (pc := 219) d_M_restore_219 (by decide) (fun c2 => ?_) (fun c2 => ?_)
      · rw [if_pos c2] at h
        refine x_aload_n (pc := 225) d_M_restore_225 rfl ?_
        refine x_dup (pc := 226) d_M_restore_226 rfl ?_
        refine x_getf (c := 1) (k := 4) (v := vI (mI 4 s)) (pc := 227) d_M_restore_227 l_M_247 (xm_at s R) rfl ?_
        refine x_iconst (v := (1 : Int32)) (pc := 230) d_M_restore_230 (by decide) ?_
        refine x_isub (pc := 231) d_M_restore_231 ?_
        refine xm_p4 (pc := 232) d_M_restore_232 l_M_247 ?_
        refine x_aload_n (pc := 235) d_M_restore_235 rfl ?_
        refine x_iload_n (pc := 236) d_M_restore_236 rfl ?_
        refine xm_p12 (pc := 237) d_M_restore_237 l_M_534 ?_
        refine x_aload_n (pc := 240) d_M_restore_240 rfl ?_
        refine x_aload_n (pc := 241) d_M_restore_241 rfl ?_
        refine x_getf (c := 1) (k := 14) (v := vA 382) (pc := 242) d_M_restore_242 l_M_40 (xm_at (sI 12 l1 (sI 4 ((mI 4 s) - (1 : Int32)) s)) R) rfl ?_
        refine x_iload_n (pc := 245) d_M_restore_245 rfl ?_
        obtain ⟨c3, h⟩ := ite_some h
        refine x_iald (pc := 246) d_M_restore_246 (xm_a14 (sI 12 l1 (sI 4 ((mI 4 s) - (1 : Int32)) s)) R) (xin_vp c3) ?_
        refine xm_p5 (pc := 247) d_M_restore_247 l_M_325 ?_
        refine x_aload_n (pc := 250) d_M_restore_250 rfl ?_
        refine x_iconst (v := (0 : Int32)) (pc := 251) d_M_restore_251 (by decide) ?_
        refine x_iload_n (pc := 252) d_M_restore_252 rfl ?_
        refine x_iconst (v := (1 : Int32)) (pc := 253) d_M_restore_253 (by decide) ?_
        refine x_iadd (pc := 254) d_M_restore_254 ?_
        obtain ⟨s5, e4, h⟩ := Option.bind_eq_some_iff.mp h
        refine x_invv (c := 1) (av := [vI (0 : Int32), vI (l1 + (1 : Int32))]) (st := []) (pc := 255) d_M_restore_255 cv_M_540 y_M_copyAll (xm_at (sI 5 (mA 14 (sI 12 l1 (sI 4 ((mI 4 s) - (1 : Int32)) s)) l1.toNatClampNeg) (sI 12 l1 (sI 4 ((mI 4 s) - (1 : Int32)) s))) R) rfl (Nat.le_of_ble_eq_true rfl) (Nat.le_of_ble_eq_true rfl) (w_M_copyAll (d := d + 0) (Q := fun r h' => r = .inl none ∧ h' = mH s5 R) (R := R) ⟨rfl, rfl⟩ (sI 5 (mA 14 (sI 12 l1 (sI 4 ((mI 4 s) - (1 : Int32)) s)) l1.toNatClampNeg) (sI 12 l1 (sI 4 ((mI 4 s) - (1 : Int32)) s))) (0 : Int32) (l1 + (1 : Int32)) e4) (fun v h' z => ?_) (fun a h' z => nomatch z.1)
        obtain ⟨z1, z2⟩ := z
        subst z2
        cases z1
        show xW sc m_M_restore (d + 2) Q (mH s5 R) 258 [some (vA 373), some (vI l1), some (vI l2), some (vI l3)] []
        refine x_iconst (v := (0 : Int32)) (pc := 258) d_M_restore_258 (by decide) ?_
        cases h
        exact x_iret (ty := .int) (pc := 259) d_M_restore_259 rfl (rfl) hQ
      · rw [if_neg c2] at h
        refine x_bipush (v := (10 : Int32)) (pc := 222) d_M_restore_222 (by decide) ?_
        cases h
        exact x_iret (ty := .int) (pc := 224) d_M_restore_224 rfl (rfl) hQ
    · rw [if_neg c1] at h
      refine x_iload_n (pc := 151) d_M_restore_151 rfl ?_
      refine x_if_ne (tgt := 206) (pc := 152) d_M_restore_152 (by decide) (fun c6 => ?_) (fun c6 => ?_)
      · rw [if_neg c6] at h
        exact x_wk (L' := [some (vA 373), some (vI l1), none, some (vI l3)]) ⟨Or.inr rfl, Or.inr rfl, Or.inl rfl, Or.inr rfl, trivial⟩ (w_M_restore_b206 (f_M_restore_b143 n) hk143 hQ l1 l3 s h)
      · rw [if_pos c6] at h
        refine x_aload_n (pc := 155) d_M_restore_155 rfl ?_
        refine x_getf (c := 1) (k := 17) (v := vA 383) (pc := 156) d_M_restore_156 l_M_43 (xm_at s R) rfl ?_
        refine x_iload_n (pc := 159) d_M_restore_159 rfl ?_
        obtain ⟨c7, h⟩ := ite_some h
        refine x_iald (pc := 160) d_M_restore_160 (xm_a17 s R) (xin_vp c7) ?_
        refine x_iconst (v := (1 : Int32)) (pc := 161) d_M_restore_161 (by decide) ?_
        refine x_icmp_ne (tgt := 180) (pc := 162) d_M_restore_162 (by decide) (fun c8 => ?_) (fun c8 => ?_)
        · rw [if_neg c8] at h
          exact x_wk (L' := [some (vA 373), some (vI l1), none, some (vI l3)]) ⟨Or.inr rfl, Or.inr rfl, Or.inl rfl, Or.inr rfl, trivial⟩ (w_M_restore_b180 (f_M_restore_b143 n) hk143 hQ l1 l3 s h)
        · rw [if_pos c8] at h
          refine x_aload_n (pc := 165) d_M_restore_165 rfl ?_
          refine x_iconst (v := (5 : Int32)) (pc := 166) d_M_restore_166 (by decide) ?_
          refine x_aload_n (pc := 167) d_M_restore_167 rfl ?_
          refine x_getf (c := 1) (k := 18) (v := vA 384) (pc := 168) d_M_restore_168 l_M_46 (xm_at s R) rfl ?_
          refine x_iload_n (pc := 171) d_M_restore_171 rfl ?_
          obtain ⟨c9, h⟩ := ite_some h
          refine x_lald (pc := 172) d_M_restore_172 (xm_a18 s R) (xin_vp c9) ?_
          refine x_iload_n (pc := 173) d_M_restore_173 rfl ?_
          obtain ⟨⟨v12, s11⟩, e10, h⟩ := Option.bind_eq_some_iff.mp h
          dsimp only at h
          refine x_invv (c := 1) (av := [vI (5 : Int32), vL (mL 18 s l3.toNatClampNeg), vI l1]) (st := []) (pc := 174) d_M_restore_174 cv_M_543 y_M_isNewer (xm_at s R) rfl (Nat.le_of_ble_eq_true rfl) (Nat.le_of_ble_eq_true rfl) (w_M_isNewer (d := d + 0) (Q := fun r h' => r = .inl (some (vI v12)) ∧ h' = mH s11 R) (R := R) ⟨rfl, rfl⟩ s (5 : Int32) (mL 18 s l3.toNatClampNeg) l1 e10) (fun v h' z => ?_) (fun a h' z => nomatch z.1)
          obtain ⟨z1, z2⟩ := z
          subst z2
          cases z1
          show xW sc m_M_restore (d + 2) Q (mH s11 R) 177 [some (vA 373), some (vI l1), some (vI l2), some (vI l3)] [vI v12]
          refine x_if_ne (tgt := 206) (pc := 177) d_M_restore_177 (by decide) (fun c14 => ?_) (fun c14 => ?_)
          · rw [if_neg c14] at h
            exact x_wk (L' := [some (vA 373), some (vI l1), none, some (vI l3)]) ⟨Or.inr rfl, Or.inr rfl, Or.inl rfl, Or.inr rfl, trivial⟩ (w_M_restore_b206 (f_M_restore_b143 n) hk143 hQ l1 l3 s11 h)
          · rw [if_pos c14] at h
            exact x_wk (L' := [some (vA 373), some (vI l1), none, some (vI l3)]) ⟨Or.inr rfl, Or.inr rfl, Or.inl rfl, Or.inr rfl, trivial⟩ (w_M_restore_b180 (f_M_restore_b143 n) hk143 hQ l1 l3 s11 h)
def f_M_restore_b134 (k100 : Int32 → Int32 → Int32 → MT → Option (Int32 × MT)) (l1 : Int32) (l3 : Int32) (t0 : Int32) (s : MT) : Option (Int32 × MT) := k100 l1 t0 (l3 + Int32.ofInt 1) s
theorem w_M_restore_b134 {sc : xSc} {d : Nat} {Q : xR → xH → Prop} {R : xH} {sZ : MT} {rZ : Int32} (k100 : Int32 → Int32 → Int32 → MT → Option (Int32 × MT)) (hk100 : ∀ (l1 : Int32) (l2 : Int32) (l3 : Int32) (s : MT), k100 l1 l2 l3 s = some (rZ, sZ) → xW sc m_M_restore (d + 2) Q (mH s R) 100 [some (vA 373), some (vI l1), some (vI l2), some (vI l3)] []) (hQ : Q (.inl (some (vI rZ))) (mH sZ R)) (l1 : Int32) (l3 : Int32) (t0 : Int32) (s : MT) (h : f_M_restore_b134 k100 l1 l3 t0 s = some (rZ, sZ)) : xW sc m_M_restore (d + 2) Q (mH s R) 134 [some (vA 373), some (vI l1), none, some (vI l3)] [vI t0] := by
  unfold f_M_restore_b134 at h
  refine x_istore_n (pc := 134) d_M_restore_134 (by decide) ?_
  show xW sc m_M_restore (d + 2) Q (mH s R) 135 [some (vA 373), some (vI l1), some (vI t0), some (vI l3)] []
  refine x_iinc (pc := 135) d_M_restore_135 rfl (by decide) ?_
  show xW sc m_M_restore (d + 2) Q (mH s R) 138 [some (vA 373), some (vI l1), some (vI t0), some (vI (l3 + Int32.ofInt 1))] []
  refine x_goto (tgt := 100) (pc := 138) d_M_restore_138 (by decide) ?_
  exact hk100 l1 t0 (l3 + Int32.ofInt 1) s h
def f_M_restore_b129 (k100 : Int32 → Int32 → Int32 → MT → Option (Int32 × MT)) (l1 : Int32) (l3 : Int32) (s : MT) : Option (Int32 × MT) := f_M_restore_b134 k100 l1 l3 (1 : Int32) s
theorem w_M_restore_b129 {sc : xSc} {d : Nat} {Q : xR → xH → Prop} {R : xH} {sZ : MT} {rZ : Int32} (k100 : Int32 → Int32 → Int32 → MT → Option (Int32 × MT)) (hk100 : ∀ (l1 : Int32) (l2 : Int32) (l3 : Int32) (s : MT), k100 l1 l2 l3 s = some (rZ, sZ) → xW sc m_M_restore (d + 2) Q (mH s R) 100 [some (vA 373), some (vI l1), some (vI l2), some (vI l3)] []) (hQ : Q (.inl (some (vI rZ))) (mH sZ R)) (l1 : Int32) (l3 : Int32) (s : MT) (h : f_M_restore_b129 k100 l1 l3 s = some (rZ, sZ)) : xW sc m_M_restore (d + 2) Q (mH s R) 129 [some (vA 373), some (vI l1), none, some (vI l3)] [] := by
  unfold f_M_restore_b129 at h
  refine x_iconst (v := (1 : Int32)) (pc := 129) d_M_restore_129 (by decide) ?_
  refine x_goto (tgt := 134) (pc := 130) d_M_restore_130 (by decide) ?_
  exact w_M_restore_b134 k100 hk100 hQ l1 l3 (1 : Int32) s h
def f_M_restore_b100  : Nat → Int32 → Int32 → Int32 → MT → Option (Int32 × MT)
  | 0, _, _, _, _ => none
  | n + 1, l1, l2, l3, s => (if (mI 10 s) ≤ l3 then f_M_restore_b143 mF l1 l2 (0 : Int32) s else (if l2 = 0 then (if xin l3 6 = true then (f_M_isNewer s (6 : Int32) ((mA 9 s l3.toNatClampNeg).toInt64) l1).bind fun (v6, s5) => (if v6 = 0 then f_M_restore_b134 (f_M_restore_b100 n) l1 l3 (0 : Int32) s5 else f_M_restore_b129 (f_M_restore_b100 n) l1 l3 s5) else none) else f_M_restore_b129 (f_M_restore_b100 n) l1 l3 s))
theorem w_M_restore_b100 {sc : xSc} {d : Nat} {Q : xR → xH → Prop} {R : xH} {sZ : MT} {rZ : Int32}  (hQ : Q (.inl (some (vI rZ))) (mH sZ R)) : ∀ (n : Nat) (l1 : Int32) (l2 : Int32) (l3 : Int32) (s : MT), f_M_restore_b100  n l1 l2 l3 s = some (rZ, sZ) → xW sc m_M_restore (d + 2) Q (mH s R) 100 [some (vA 373), some (vI l1), some (vI l2), some (vI l3)] [] := by
  intro n
  induction n with
  | zero =>
    intro l1 l2 l3 s h
    cases h
  | succ n hk100 =>
    intro l1 l2 l3 s h
    unfold f_M_restore_b100 at h
    refine x_iload_n (pc := 100) d_M_restore_100 rfl ?_
    refine x_aload_n (pc := 101) d_M_restore_101 rfl ?_
    refine x_getf (c := 1) (k := 10) (v := vI (mI 10 s)) (pc := 102) d_M_restore_102 l_M_33 (xm_at s R) rfl ?_
    refine x_icmp_ge (tgt := 141) (pc := 105) d_M_restore_105 (by decide) (fun c1 => ?_) (fun c1 => ?_)
    · rw [if_pos c1] at h
      refine x_iconst (v := (0 : Int32)) (pc := 141) d_M_restore_141 (by decide) ?_
      refine x_istore_n (pc := 142) d_M_restore_142 (by decide) ?_
      show xW sc m_M_restore (d + 2) Q (mH s R) 143 [some (vA 373), some (vI l1), some (vI l2), some (vI (0 : Int32))] []
      exact w_M_restore_b143 hQ mF l1 l2 (0 : Int32) s h
    · rw [if_neg c1] at h
      refine x_iload_n (pc := 108) d_M_restore_108 rfl ?_
      refine x_if_ne (tgt := 129) (pc := 109) d_M_restore_109 (by decide) (fun c2 => ?_) (fun c2 => ?_)
      · rw [if_neg c2] at h
        exact x_wk (L' := [some (vA 373), some (vI l1), none, some (vI l3)]) ⟨Or.inr rfl, Or.inr rfl, Or.inl rfl, Or.inr rfl, trivial⟩ (w_M_restore_b129 (f_M_restore_b100 n) hk100 hQ l1 l3 s h)
      · rw [if_pos c2] at h
        refine x_aload_n (pc := 112) d_M_restore_112 rfl ?_
        refine x_bipush (v := (6 : Int32)) (pc := 113) d_M_restore_113 (by decide) ?_
        refine x_aload_n (pc := 115) d_M_restore_115 rfl ?_
        refine x_getf (c := 1) (k := 9) (v := vA 380) (pc := 116) d_M_restore_116 l_M_30 (xm_at s R) rfl ?_
        refine x_iload_n (pc := 119) d_M_restore_119 rfl ?_
        obtain ⟨c3, h⟩ := ite_some h
        refine x_iald (pc := 120) d_M_restore_120 (xm_a9 s R) (xin_vp c3) ?_
        refine x_i2l (pc := 121) d_M_restore_121 ?_
        refine x_iload_n (pc := 122) d_M_restore_122 rfl ?_
        obtain ⟨⟨v6, s5⟩, e4, h⟩ := Option.bind_eq_some_iff.mp h
        dsimp only at h
        refine x_invv (c := 1) (av := [vI (6 : Int32), vL ((mA 9 s l3.toNatClampNeg).toInt64), vI l1]) (st := []) (pc := 123) d_M_restore_123 cv_M_543 y_M_isNewer (xm_at s R) rfl (Nat.le_of_ble_eq_true rfl) (Nat.le_of_ble_eq_true rfl) (w_M_isNewer (d := d + 0) (Q := fun r h' => r = .inl (some (vI v6)) ∧ h' = mH s5 R) (R := R) ⟨rfl, rfl⟩ s (6 : Int32) ((mA 9 s l3.toNatClampNeg).toInt64) l1 e4) (fun v h' z => ?_) (fun a h' z => nomatch z.1)
        obtain ⟨z1, z2⟩ := z
        subst z2
        cases z1
        show xW sc m_M_restore (d + 2) Q (mH s5 R) 126 [some (vA 373), some (vI l1), some (vI l2), some (vI l3)] [vI v6]
        refine x_if_eq (tgt := 133) (pc := 126) d_M_restore_126 (by decide) (fun c8 => ?_) (fun c8 => ?_)
        · rw [if_pos c8] at h
          refine x_iconst (v := (0 : Int32)) (pc := 133) d_M_restore_133 (by decide) ?_
          exact x_wk (L' := [some (vA 373), some (vI l1), none, some (vI l3)]) ⟨Or.inr rfl, Or.inr rfl, Or.inl rfl, Or.inr rfl, trivial⟩ (w_M_restore_b134 (f_M_restore_b100 n) hk100 hQ l1 l3 (0 : Int32) s5 h)
        · rw [if_neg c8] at h
          exact x_wk (L' := [some (vA 373), some (vI l1), none, some (vI l3)]) ⟨Or.inr rfl, Or.inr rfl, Or.inl rfl, Or.inr rfl, trivial⟩ (w_M_restore_b129 (f_M_restore_b100 n) hk100 hQ l1 l3 s5 h)
def f_M_restore_b91 (k53 : Int32 → Int32 → Int32 → MT → Option (Int32 × MT)) (l1 : Int32) (l3 : Int32) (t0 : Int32) (s : MT) : Option (Int32 × MT) := k53 l1 t0 (l3 + Int32.ofInt 1) s
theorem w_M_restore_b91 {sc : xSc} {d : Nat} {Q : xR → xH → Prop} {R : xH} {sZ : MT} {rZ : Int32} (k53 : Int32 → Int32 → Int32 → MT → Option (Int32 × MT)) (hk53 : ∀ (l1 : Int32) (l2 : Int32) (l3 : Int32) (s : MT), k53 l1 l2 l3 s = some (rZ, sZ) → xW sc m_M_restore (d + 2) Q (mH s R) 53 [some (vA 373), some (vI l1), some (vI l2), some (vI l3)] []) (hQ : Q (.inl (some (vI rZ))) (mH sZ R)) (l1 : Int32) (l3 : Int32) (t0 : Int32) (s : MT) (h : f_M_restore_b91 k53 l1 l3 t0 s = some (rZ, sZ)) : xW sc m_M_restore (d + 2) Q (mH s R) 91 [some (vA 373), some (vI l1), none, some (vI l3)] [vI t0] := by
  unfold f_M_restore_b91 at h
  refine x_istore_n (pc := 91) d_M_restore_91 (by decide) ?_
  show xW sc m_M_restore (d + 2) Q (mH s R) 92 [some (vA 373), some (vI l1), some (vI t0), some (vI l3)] []
  refine x_iinc (pc := 92) d_M_restore_92 rfl (by decide) ?_
  show xW sc m_M_restore (d + 2) Q (mH s R) 95 [some (vA 373), some (vI l1), some (vI t0), some (vI (l3 + Int32.ofInt 1))] []
  refine x_goto (tgt := 53) (pc := 95) d_M_restore_95 (by decide) ?_
  exact hk53 l1 t0 (l3 + Int32.ofInt 1) s h
def f_M_restore_b86 (k53 : Int32 → Int32 → Int32 → MT → Option (Int32 × MT)) (l1 : Int32) (l3 : Int32) (s : MT) : Option (Int32 × MT) := f_M_restore_b91 k53 l1 l3 (1 : Int32) s
theorem w_M_restore_b86 {sc : xSc} {d : Nat} {Q : xR → xH → Prop} {R : xH} {sZ : MT} {rZ : Int32} (k53 : Int32 → Int32 → Int32 → MT → Option (Int32 × MT)) (hk53 : ∀ (l1 : Int32) (l2 : Int32) (l3 : Int32) (s : MT), k53 l1 l2 l3 s = some (rZ, sZ) → xW sc m_M_restore (d + 2) Q (mH s R) 53 [some (vA 373), some (vI l1), some (vI l2), some (vI l3)] []) (hQ : Q (.inl (some (vI rZ))) (mH sZ R)) (l1 : Int32) (l3 : Int32) (s : MT) (h : f_M_restore_b86 k53 l1 l3 s = some (rZ, sZ)) : xW sc m_M_restore (d + 2) Q (mH s R) 86 [some (vA 373), some (vI l1), none, some (vI l3)] [] := by
  unfold f_M_restore_b86 at h
  refine x_iconst (v := (1 : Int32)) (pc := 86) d_M_restore_86 (by decide) ?_
  refine x_goto (tgt := 91) (pc := 87) d_M_restore_87 (by decide) ?_
  exact w_M_restore_b91 k53 hk53 hQ l1 l3 (1 : Int32) s h
def f_M_restore_b53  : Nat → Int32 → Int32 → Int32 → MT → Option (Int32 × MT)
  | 0, _, _, _, _ => none
  | n + 1, l1, l2, l3, s => (if ((mI 4 s) - (1 : Int32)) ≤ l3 then f_M_restore_b100 mF l1 l2 (0 : Int32) s else (if l2 = 0 then (f_M_kindOf s l3).bind fun (v5, s4) => (if xin l3 1300 = true then (f_M_isNewer s4 v5 (mL 2 s4 l3.toNatClampNeg) l1).bind fun (v10, s9) => (if v10 = 0 then f_M_restore_b91 (f_M_restore_b53 n) l1 l3 (0 : Int32) s9 else f_M_restore_b86 (f_M_restore_b53 n) l1 l3 s9) else none) else f_M_restore_b86 (f_M_restore_b53 n) l1 l3 s))
theorem w_M_restore_b53 {sc : xSc} {d : Nat} {Q : xR → xH → Prop} {R : xH} {sZ : MT} {rZ : Int32}  (hQ : Q (.inl (some (vI rZ))) (mH sZ R)) : ∀ (n : Nat) (l1 : Int32) (l2 : Int32) (l3 : Int32) (s : MT), f_M_restore_b53  n l1 l2 l3 s = some (rZ, sZ) → xW sc m_M_restore (d + 2) Q (mH s R) 53 [some (vA 373), some (vI l1), some (vI l2), some (vI l3)] [] := by
  intro n
  induction n with
  | zero =>
    intro l1 l2 l3 s h
    cases h
  | succ n hk53 =>
    intro l1 l2 l3 s h
    unfold f_M_restore_b53 at h
    refine x_iload_n (pc := 53) d_M_restore_53 rfl ?_
    refine x_aload_n (pc := 54) d_M_restore_54 rfl ?_
    refine x_getf (c := 1) (k := 4) (v := vI (mI 4 s)) (pc := 55) d_M_restore_55 l_M_247 (xm_at s R) rfl ?_
    refine x_iconst (v := (1 : Int32)) (pc := 58) d_M_restore_58 (by decide) ?_
    refine x_isub (pc := 59) d_M_restore_59 ?_
    refine x_icmp_ge (tgt := 98) (pc := 60) d_M_restore_60 (by decide) (fun c1 => ?_) (fun c1 => ?_)
    · rw [if_pos c1] at h
      refine x_iconst (v := (0 : Int32)) (pc := 98) d_M_restore_98 (by decide) ?_
      refine x_istore_n (pc := 99) d_M_restore_99 (by decide) ?_
      show xW sc m_M_restore (d + 2) Q (mH s R) 100 [some (vA 373), some (vI l1), some (vI l2), some (vI (0 : Int32))] []
      exact w_M_restore_b100 hQ mF l1 l2 (0 : Int32) s h
    · rw [if_neg c1] at h
      refine x_iload_n (pc := 63) d_M_restore_63 rfl ?_
      refine x_if_ne (tgt := 86) (pc := 64) d_M_restore_64 (by decide) (fun c2 => ?_) (fun c2 => ?_)
      · rw [if_neg c2] at h
        exact x_wk (L' := [some (vA 373), some (vI l1), none, some (vI l3)]) ⟨Or.inr rfl, Or.inr rfl, Or.inl rfl, Or.inr rfl, trivial⟩ (w_M_restore_b86 (f_M_restore_b53 n) hk53 hQ l1 l3 s h)
      · rw [if_pos c2] at h
        refine x_aload_n (pc := 67) d_M_restore_67 rfl ?_
        refine x_aload_n (pc := 68) d_M_restore_68 rfl ?_
        refine x_iload_n (pc := 69) d_M_restore_69 rfl ?_
        obtain ⟨⟨v5, s4⟩, e3, h⟩ := Option.bind_eq_some_iff.mp h
        dsimp only at h
        refine x_invv (c := 1) (av := [vI l3]) (st := [vA 373]) (pc := 70) d_M_restore_70 cv_M_421 y_M_kindOf (xm_at s R) rfl (Nat.le_of_ble_eq_true rfl) (Nat.le_of_ble_eq_true rfl) (w_M_kindOf (d := d + 1) (Q := fun r h' => r = .inl (some (vI v5)) ∧ h' = mH s4 R) (R := R) ⟨rfl, rfl⟩ s l3 e3) (fun v h' z => ?_) (fun a h' z => nomatch z.1)
        obtain ⟨z1, z2⟩ := z
        subst z2
        cases z1
        show xW sc m_M_restore (d + 2) Q (mH s4 R) 73 [some (vA 373), some (vI l1), some (vI l2), some (vI l3)] [vI v5, vA 373]
        refine x_aload_n (pc := 73) d_M_restore_73 rfl ?_
        refine x_getf (c := 1) (k := 2) (v := vA 375) (pc := 74) d_M_restore_74 l_M_13 (xm_at s4 R) rfl ?_
        refine x_iload_n (pc := 77) d_M_restore_77 rfl ?_
        obtain ⟨c7, h⟩ := ite_some h
        refine x_lald (pc := 78) d_M_restore_78 (xm_a2 s4 R) (xin_vp c7) ?_
        refine x_iload_n (pc := 79) d_M_restore_79 rfl ?_
        obtain ⟨⟨v10, s9⟩, e8, h⟩ := Option.bind_eq_some_iff.mp h
        dsimp only at h
        refine x_invv (c := 1) (av := [vI v5, vL (mL 2 s4 l3.toNatClampNeg), vI l1]) (st := []) (pc := 80) d_M_restore_80 cv_M_543 y_M_isNewer (xm_at s4 R) rfl (Nat.le_of_ble_eq_true rfl) (Nat.le_of_ble_eq_true rfl) (w_M_isNewer (d := d + 0) (Q := fun r h' => r = .inl (some (vI v10)) ∧ h' = mH s9 R) (R := R) ⟨rfl, rfl⟩ s4 v5 (mL 2 s4 l3.toNatClampNeg) l1 e8) (fun v h' z => ?_) (fun a h' z => nomatch z.1)
        obtain ⟨z1, z2⟩ := z
        subst z2
        cases z1
        show xW sc m_M_restore (d + 2) Q (mH s9 R) 83 [some (vA 373), some (vI l1), some (vI l2), some (vI l3)] [vI v10]
        refine x_if_eq (tgt := 90) (pc := 83) d_M_restore_83 (by decide) (fun c12 => ?_) (fun c12 => ?_)
        · rw [if_pos c12] at h
          refine x_iconst (v := (0 : Int32)) (pc := 90) d_M_restore_90 (by decide) ?_
          exact x_wk (L' := [some (vA 373), some (vI l1), none, some (vI l3)]) ⟨Or.inr rfl, Or.inr rfl, Or.inl rfl, Or.inr rfl, trivial⟩ (w_M_restore_b91 (f_M_restore_b53 n) hk53 hQ l1 l3 (0 : Int32) s9 h)
        · rw [if_neg c12] at h
          exact x_wk (L' := [some (vA 373), some (vI l1), none, some (vI l3)]) ⟨Or.inr rfl, Or.inr rfl, Or.inl rfl, Or.inr rfl, trivial⟩ (w_M_restore_b86 (f_M_restore_b53 n) hk53 hQ l1 l3 s9 h)
def f_M_restore_b38  (l1 : Int32) (s : MT) : Option (Int32 × MT) := (if l1 = (mI 12 s) then some ((10 : Int32), s) else f_M_restore_b53 mF l1 (0 : Int32) (0 : Int32) s)
theorem w_M_restore_b38 {sc : xSc} {d : Nat} {Q : xR → xH → Prop} {R : xH} {sZ : MT} {rZ : Int32}  (hQ : Q (.inl (some (vI rZ))) (mH sZ R)) (l1 : Int32) (s : MT) (h : f_M_restore_b38  l1 s = some (rZ, sZ)) : xW sc m_M_restore (d + 2) Q (mH s R) 38 [some (vA 373), some (vI l1), none, none] [] := by
  unfold f_M_restore_b38 at h
  refine x_iload_n (pc := 38) d_M_restore_38 rfl ?_
  refine x_aload_n (pc := 39) d_M_restore_39 rfl ?_
  refine x_getf (c := 1) (k := 12) (v := vI (mI 12 s)) (pc := 40) d_M_restore_40 l_M_534 (xm_at s R) rfl ?_
  refine x_icmp_ne (tgt := 49) (pc := 43) d_M_restore_43 (by decide) (fun c1 => ?_) (fun c1 => ?_)
  · rw [if_neg c1] at h
    refine x_iconst (v := (0 : Int32)) (pc := 49) d_M_restore_49 (by decide) ?_
    refine x_istore_n (pc := 50) d_M_restore_50 (by decide) ?_
    show xW sc m_M_restore (d + 2) Q (mH s R) 51 [some (vA 373), some (vI l1), some (vI (0 : Int32)), none] []
    refine x_iconst (v := (0 : Int32)) (pc := 51) d_M_restore_51 (by decide) ?_
    refine x_istore_n (pc := 52) d_M_restore_52 (by decide) ?_
    show xW sc m_M_restore (d + 2) Q (mH s R) 53 [some (vA 373), some (vI l1), some (vI (0 : Int32)), some (vI (0 : Int32))] []
    exact w_M_restore_b53 hQ mF l1 (0 : Int32) (0 : Int32) s h
  · rw [if_pos c1] at h
    refine x_bipush (v := (10 : Int32)) (pc := 46) d_M_restore_46 (by decide) ?_
    cases h
    exact x_iret (ty := .int) (pc := 48) d_M_restore_48 rfl (rfl) hQ
def f_M_restore_b2  : Nat → Int32 → MT → Option (Int32 × MT)
  | 0, _, _ => none
  | n + 1, l1, s => (if (mI 12 s) ≤ l1 then f_M_restore_b38 l1 s else (if xin l1 3 = true then (if xin ((mI 4 s) - (1 : Int32)) 1300 = true then (if (lg_cmp ((mA 13 s l1.toNatClampNeg).toInt64) (mL 2 s ((mI 4 s) - (1 : Int32)).toNatClampNeg)) = 0 then f_M_restore_b38 l1 s else (f_M_restore_b2 n) (l1 + Int32.ofInt 1) s) else none) else none))
theorem w_M_restore_b2 {sc : xSc} {d : Nat} {Q : xR → xH → Prop} {R : xH} {sZ : MT} {rZ : Int32}  (hQ : Q (.inl (some (vI rZ))) (mH sZ R)) : ∀ (n : Nat) (l1 : Int32) (s : MT), f_M_restore_b2  n l1 s = some (rZ, sZ) → xW sc m_M_restore (d + 2) Q (mH s R) 2 [some (vA 373), some (vI l1), none, none] [] := by
  intro n
  induction n with
  | zero =>
    intro l1 s h
    cases h
  | succ n hk2 =>
    intro l1 s h
    unfold f_M_restore_b2 at h
    refine x_iload_n (pc := 2) d_M_restore_2 rfl ?_
    refine x_aload_n (pc := 3) d_M_restore_3 rfl ?_
    refine x_getf (c := 1) (k := 12) (v := vI (mI 12 s)) (pc := 4) d_M_restore_4 l_M_534 (xm_at s R) rfl ?_
    refine x_icmp_ge (tgt := 38) (pc := 7) d_M_restore_7 (by decide) (fun c1 => ?_) (fun c1 => ?_)
    · rw [if_pos c1] at h
      exact w_M_restore_b38 hQ l1 s h
    · rw [if_neg c1] at h
      refine x_aload_n (pc := 10) d_M_restore_10 rfl ?_
      refine x_getf (c := 1) (k := 13) (v := vA 381) (pc := 11) d_M_restore_11 l_M_37 (xm_at s R) rfl ?_
      refine x_iload_n (pc := 14) d_M_restore_14 rfl ?_
      obtain ⟨c2, h⟩ := ite_some h
      refine x_iald (pc := 15) d_M_restore_15 (xm_a13 s R) (xin_vp c2) ?_
      refine x_i2l (pc := 16) d_M_restore_16 ?_
      refine x_aload_n (pc := 17) d_M_restore_17 rfl ?_
      refine x_getf (c := 1) (k := 2) (v := vA 375) (pc := 18) d_M_restore_18 l_M_13 (xm_at s R) rfl ?_
      refine x_aload_n (pc := 21) d_M_restore_21 rfl ?_
      refine x_getf (c := 1) (k := 4) (v := vI (mI 4 s)) (pc := 22) d_M_restore_22 l_M_247 (xm_at s R) rfl ?_
      refine x_iconst (v := (1 : Int32)) (pc := 25) d_M_restore_25 (by decide) ?_
      refine x_isub (pc := 26) d_M_restore_26 ?_
      obtain ⟨c3, h⟩ := ite_some h
      refine x_lald (pc := 27) d_M_restore_27 (xm_a2 s R) (xin_vp c3) ?_
      refine x_lcmp (pc := 28) d_M_restore_28 ?_
      refine x_if_eq (tgt := 38) (pc := 29) d_M_restore_29 (by decide) (fun c4 => ?_) (fun c4 => ?_)
      · rw [if_pos c4] at h
        exact w_M_restore_b38 hQ l1 s h
      · rw [if_neg c4] at h
        refine x_iinc (pc := 32) d_M_restore_32 rfl (by decide) ?_
        show xW sc m_M_restore (d + 2) Q (mH s R) 35 [some (vA 373), some (vI (l1 + Int32.ofInt 1)), none, none] []
        refine x_goto (tgt := 2) (pc := 35) d_M_restore_35 (by decide) ?_
        exact hk2 (l1 + Int32.ofInt 1) s h
def f_M_restore (s : MT) : Option (Int32 × MT) := f_M_restore_b2 mF (0 : Int32) s
theorem w_M_restore {sc : xSc} {d : Nat} {Q : xR → xH → Prop} {R : xH} {sZ : MT} {rZ : Int32} (hQ : Q (.inl (some (vI rZ))) (mH sZ R)) (s : MT) (h : f_M_restore s = some (rZ, sZ)) : xW sc m_M_restore (d + 2) Q (mH s R) 0 (xent [vA 373] m_M_restore.2.2.1) [] := by
  show xW sc m_M_restore (d + 2) Q (mH s R) 0 [some (vA 373), none, none, none] []
  unfold f_M_restore at h
  refine x_iconst (v := (0 : Int32)) (pc := 0) d_M_restore_0 (by decide) ?_
  refine x_istore_n (pc := 1) d_M_restore_1 (by decide) ?_
  show xW sc m_M_restore (d + 2) Q (mH s R) 2 [some (vA 373), some (vI (0 : Int32)), none, none] []
  exact w_M_restore_b2 hQ mF (0 : Int32) s h
def f_M_save (s : MT) : Option (Int32 × MT) := (if (mI 12 s) = (3 : Int32) then some ((7 : Int32), s) else (if (mI 4 s) = (40 : Int32) then some ((2 : Int32), s) else (if xin (mI 12 (sI 11 ((mI 11 s) + (1 : Int32)) s)) 3 = true then (if xin (mI 12 (sA 13 (va_up (mA 13 (sI 11 ((mI 11 s) + (1 : Int32)) s)) (mI 12 (sI 11 ((mI 11 s) + (1 : Int32)) s)).toNatClampNeg (mI 11 (sI 11 ((mI 11 s) + (1 : Int32)) s))) (sI 11 ((mI 11 s) + (1 : Int32)) s))) 3 = true then (f_M_copyAll (sI 12 ((mI 12 (sA 14 (va_up (mA 14 (sA 13 (va_up (mA 13 (sI 11 ((mI 11 s) + (1 : Int32)) s)) (mI 12 (sI 11 ((mI 11 s) + (1 : Int32)) s)).toNatClampNeg (mI 11 (sI 11 ((mI 11 s) + (1 : Int32)) s))) (sI 11 ((mI 11 s) + (1 : Int32)) s))) (mI 12 (sA 13 (va_up (mA 13 (sI 11 ((mI 11 s) + (1 : Int32)) s)) (mI 12 (sI 11 ((mI 11 s) + (1 : Int32)) s)).toNatClampNeg (mI 11 (sI 11 ((mI 11 s) + (1 : Int32)) s))) (sI 11 ((mI 11 s) + (1 : Int32)) s))).toNatClampNeg (mI 5 (sA 13 (va_up (mA 13 (sI 11 ((mI 11 s) + (1 : Int32)) s)) (mI 12 (sI 11 ((mI 11 s) + (1 : Int32)) s)).toNatClampNeg (mI 11 (sI 11 ((mI 11 s) + (1 : Int32)) s))) (sI 11 ((mI 11 s) + (1 : Int32)) s)))) (sA 13 (va_up (mA 13 (sI 11 ((mI 11 s) + (1 : Int32)) s)) (mI 12 (sI 11 ((mI 11 s) + (1 : Int32)) s)).toNatClampNeg (mI 11 (sI 11 ((mI 11 s) + (1 : Int32)) s))) (sI 11 ((mI 11 s) + (1 : Int32)) s)))) + (1 : Int32)) (sA 14 (va_up (mA 14 (sA 13 (va_up (mA 13 (sI 11 ((mI 11 s) + (1 : Int32)) s)) (mI 12 (sI 11 ((mI 11 s) + (1 : Int32)) s)).toNatClampNeg (mI 11 (sI 11 ((mI 11 s) + (1 : Int32)) s))) (sI 11 ((mI 11 s) + (1 : Int32)) s))) (mI 12 (sA 13 (va_up (mA 13 (sI 11 ((mI 11 s) + (1 : Int32)) s)) (mI 12 (sI 11 ((mI 11 s) + (1 : Int32)) s)).toNatClampNeg (mI 11 (sI 11 ((mI 11 s) + (1 : Int32)) s))) (sI 11 ((mI 11 s) + (1 : Int32)) s))).toNatClampNeg (mI 5 (sA 13 (va_up (mA 13 (sI 11 ((mI 11 s) + (1 : Int32)) s)) (mI 12 (sI 11 ((mI 11 s) + (1 : Int32)) s)).toNatClampNeg (mI 11 (sI 11 ((mI 11 s) + (1 : Int32)) s))) (sI 11 ((mI 11 s) + (1 : Int32)) s)))) (sA 13 (va_up (mA 13 (sI 11 ((mI 11 s) + (1 : Int32)) s)) (mI 12 (sI 11 ((mI 11 s) + (1 : Int32)) s)).toNatClampNeg (mI 11 (sI 11 ((mI 11 s) + (1 : Int32)) s))) (sI 11 ((mI 11 s) + (1 : Int32)) s)))) (mI 12 (sI 12 ((mI 12 (sA 14 (va_up (mA 14 (sA 13 (va_up (mA 13 (sI 11 ((mI 11 s) + (1 : Int32)) s)) (mI 12 (sI 11 ((mI 11 s) + (1 : Int32)) s)).toNatClampNeg (mI 11 (sI 11 ((mI 11 s) + (1 : Int32)) s))) (sI 11 ((mI 11 s) + (1 : Int32)) s))) (mI 12 (sA 13 (va_up (mA 13 (sI 11 ((mI 11 s) + (1 : Int32)) s)) (mI 12 (sI 11 ((mI 11 s) + (1 : Int32)) s)).toNatClampNeg (mI 11 (sI 11 ((mI 11 s) + (1 : Int32)) s))) (sI 11 ((mI 11 s) + (1 : Int32)) s))).toNatClampNeg (mI 5 (sA 13 (va_up (mA 13 (sI 11 ((mI 11 s) + (1 : Int32)) s)) (mI 12 (sI 11 ((mI 11 s) + (1 : Int32)) s)).toNatClampNeg (mI 11 (sI 11 ((mI 11 s) + (1 : Int32)) s))) (sI 11 ((mI 11 s) + (1 : Int32)) s)))) (sA 13 (va_up (mA 13 (sI 11 ((mI 11 s) + (1 : Int32)) s)) (mI 12 (sI 11 ((mI 11 s) + (1 : Int32)) s)).toNatClampNeg (mI 11 (sI 11 ((mI 11 s) + (1 : Int32)) s))) (sI 11 ((mI 11 s) + (1 : Int32)) s)))) + (1 : Int32)) (sA 14 (va_up (mA 14 (sA 13 (va_up (mA 13 (sI 11 ((mI 11 s) + (1 : Int32)) s)) (mI 12 (sI 11 ((mI 11 s) + (1 : Int32)) s)).toNatClampNeg (mI 11 (sI 11 ((mI 11 s) + (1 : Int32)) s))) (sI 11 ((mI 11 s) + (1 : Int32)) s))) (mI 12 (sA 13 (va_up (mA 13 (sI 11 ((mI 11 s) + (1 : Int32)) s)) (mI 12 (sI 11 ((mI 11 s) + (1 : Int32)) s)).toNatClampNeg (mI 11 (sI 11 ((mI 11 s) + (1 : Int32)) s))) (sI 11 ((mI 11 s) + (1 : Int32)) s))).toNatClampNeg (mI 5 (sA 13 (va_up (mA 13 (sI 11 ((mI 11 s) + (1 : Int32)) s)) (mI 12 (sI 11 ((mI 11 s) + (1 : Int32)) s)).toNatClampNeg (mI 11 (sI 11 ((mI 11 s) + (1 : Int32)) s))) (sI 11 ((mI 11 s) + (1 : Int32)) s)))) (sA 13 (va_up (mA 13 (sI 11 ((mI 11 s) + (1 : Int32)) s)) (mI 12 (sI 11 ((mI 11 s) + (1 : Int32)) s)).toNatClampNeg (mI 11 (sI 11 ((mI 11 s) + (1 : Int32)) s))) (sI 11 ((mI 11 s) + (1 : Int32)) s))))) (0 : Int32)).bind fun s6 => (f_M_push s6 (7 : Int32) ((mI 11 s6).toInt64)).bind fun (v9, s8) => some (v9, s8) else none) else none)))
theorem w_M_save {sc : xSc} {d : Nat} {Q : xR → xH → Prop} {R : xH} {sZ : MT} {rZ : Int32} (hQ : Q (.inl (some (vI rZ))) (mH sZ R)) (s : MT) (h : f_M_save s = some (rZ, sZ)) : xW sc m_M_save (d + 2) Q (mH s R) 0 (xent [vA 373] m_M_save.2.2.1) [] := by
  show xW sc m_M_save (d + 2) Q (mH s R) 0 [some (vA 373)] []
  unfold f_M_save at h
  refine x_aload_n (pc := 0) d_M_save_0 rfl ?_
  refine x_getf (c := 1) (k := 12) (v := vI (mI 12 s)) (pc := 1) d_M_save_1 l_M_534 (xm_at s R) rfl ?_
  refine x_iconst (v := (3 : Int32)) (pc := 4) d_M_save_4 (by decide) ?_
  refine x_icmp_ne (tgt := 11) (pc := 5) d_M_save_5 (by decide) (fun c1 => ?_) (fun c1 => ?_)
  · rw [if_neg c1] at h
    refine x_aload_n (pc := 11) d_M_save_11 rfl ?_
    refine x_getf (c := 1) (k := 4) (v := vI (mI 4 s)) (pc := 12) d_M_save_12 l_M_247 (xm_at s R) rfl ?_
    refine x_bipush (v := (40 : Int32)) (pc := 15) d_M_save_15 (by decide) ?_
    refine x_icmp_ne (tgt := 22) (pc := 17) d_M_save_17 (by decide) (fun c2 => ?_) (fun c2 => ?_)
    · rw [if_neg c2] at h
      refine x_aload_n (pc := 22) d_M_save_22 rfl ?_
      refine x_dup (pc := 23) d_M_save_23 rfl ?_
      refine x_getf (c := 1) (k := 11) (v := vI (mI 11 s)) (pc := 24) d_M_save_24 l_M_537 (xm_at s R) rfl ?_
      refine x_iconst (v := (1 : Int32)) (pc := 27) d_M_save_27 (by decide) ?_
      refine x_iadd (pc := 28) d_M_save_28 ?_
      refine xm_p11 (pc := 29) d_M_save_29 l_M_537 ?_
      refine x_aload_n (pc := 32) d_M_save_32 rfl ?_
      refine x_getf (c := 1) (k := 13) (v := vA 381) (pc := 33) d_M_save_33 l_M_37 (xm_at (sI 11 ((mI 11 s) + (1 : Int32)) s) R) rfl ?_
      refine x_aload_n (pc := 36) d_M_save_36 rfl ?_
      refine x_getf (c := 1) (k := 12) (v := vI (mI 12 (sI 11 ((mI 11 s) + (1 : Int32)) s))) (pc := 37) d_M_save_37 l_M_534 (xm_at (sI 11 ((mI 11 s) + (1 : Int32)) s) R) rfl ?_
      refine x_aload_n (pc := 40) d_M_save_40 rfl ?_
      refine x_getf (c := 1) (k := 11) (v := vI (mI 11 (sI 11 ((mI 11 s) + (1 : Int32)) s))) (pc := 41) d_M_save_41 l_M_537 (xm_at (sI 11 ((mI 11 s) + (1 : Int32)) s) R) rfl ?_
      obtain ⟨c3, h⟩ := ite_some h
      refine xm_s13 (pc := 44) d_M_save_44 c3 ?_
      refine x_aload_n (pc := 45) d_M_save_45 rfl ?_
      refine x_getf (c := 1) (k := 14) (v := vA 382) (pc := 46) d_M_save_46 l_M_40 (xm_at (sA 13 (va_up (mA 13 (sI 11 ((mI 11 s) + (1 : Int32)) s)) (mI 12 (sI 11 ((mI 11 s) + (1 : Int32)) s)).toNatClampNeg (mI 11 (sI 11 ((mI 11 s) + (1 : Int32)) s))) (sI 11 ((mI 11 s) + (1 : Int32)) s)) R) rfl ?_
      refine x_aload_n (pc := 49) d_M_save_49 rfl ?_
      refine x_getf (c := 1) (k := 12) (v := vI (mI 12 (sA 13 (va_up (mA 13 (sI 11 ((mI 11 s) + (1 : Int32)) s)) (mI 12 (sI 11 ((mI 11 s) + (1 : Int32)) s)).toNatClampNeg (mI 11 (sI 11 ((mI 11 s) + (1 : Int32)) s))) (sI 11 ((mI 11 s) + (1 : Int32)) s)))) (pc := 50) d_M_save_50 l_M_534 (xm_at (sA 13 (va_up (mA 13 (sI 11 ((mI 11 s) + (1 : Int32)) s)) (mI 12 (sI 11 ((mI 11 s) + (1 : Int32)) s)).toNatClampNeg (mI 11 (sI 11 ((mI 11 s) + (1 : Int32)) s))) (sI 11 ((mI 11 s) + (1 : Int32)) s)) R) rfl ?_
      refine x_aload_n (pc := 53) d_M_save_53 rfl ?_
      refine x_getf (c := 1) (k := 5) (v := vI (mI 5 (sA 13 (va_up (mA 13 (sI 11 ((mI 11 s) + (1 : Int32)) s)) (mI 12 (sI 11 ((mI 11 s) + (1 : Int32)) s)).toNatClampNeg (mI 11 (sI 11 ((mI 11 s) + (1 : Int32)) s))) (sI 11 ((mI 11 s) + (1 : Int32)) s)))) (pc := 54) d_M_save_54 l_M_325 (xm_at (sA 13 (va_up (mA 13 (sI 11 ((mI 11 s) + (1 : Int32)) s)) (mI 12 (sI 11 ((mI 11 s) + (1 : Int32)) s)).toNatClampNeg (mI 11 (sI 11 ((mI 11 s) + (1 : Int32)) s))) (sI 11 ((mI 11 s) + (1 : Int32)) s)) R) rfl ?_
      obtain ⟨c4, h⟩ := ite_some h
      refine xm_s14 (pc := 57) d_M_save_57 c4 ?_
      refine x_aload_n (pc := 58) d_M_save_58 rfl ?_
      refine x_dup (pc := 59) d_M_save_59 rfl ?_
      refine x_getf (c := 1) (k := 12) (v := vI (mI 12 (sA 14 (va_up (mA 14 (sA 13 (va_up (mA 13 (sI 11 ((mI 11 s) + (1 : Int32)) s)) (mI 12 (sI 11 ((mI 11 s) + (1 : Int32)) s)).toNatClampNeg (mI 11 (sI 11 ((mI 11 s) + (1 : Int32)) s))) (sI 11 ((mI 11 s) + (1 : Int32)) s))) (mI 12 (sA 13 (va_up (mA 13 (sI 11 ((mI 11 s) + (1 : Int32)) s)) (mI 12 (sI 11 ((mI 11 s) + (1 : Int32)) s)).toNatClampNeg (mI 11 (sI 11 ((mI 11 s) + (1 : Int32)) s))) (sI 11 ((mI 11 s) + (1 : Int32)) s))).toNatClampNeg (mI 5 (sA 13 (va_up (mA 13 (sI 11 ((mI 11 s) + (1 : Int32)) s)) (mI 12 (sI 11 ((mI 11 s) + (1 : Int32)) s)).toNatClampNeg (mI 11 (sI 11 ((mI 11 s) + (1 : Int32)) s))) (sI 11 ((mI 11 s) + (1 : Int32)) s)))) (sA 13 (va_up (mA 13 (sI 11 ((mI 11 s) + (1 : Int32)) s)) (mI 12 (sI 11 ((mI 11 s) + (1 : Int32)) s)).toNatClampNeg (mI 11 (sI 11 ((mI 11 s) + (1 : Int32)) s))) (sI 11 ((mI 11 s) + (1 : Int32)) s))))) (pc := 60) d_M_save_60 l_M_534 (xm_at (sA 14 (va_up (mA 14 (sA 13 (va_up (mA 13 (sI 11 ((mI 11 s) + (1 : Int32)) s)) (mI 12 (sI 11 ((mI 11 s) + (1 : Int32)) s)).toNatClampNeg (mI 11 (sI 11 ((mI 11 s) + (1 : Int32)) s))) (sI 11 ((mI 11 s) + (1 : Int32)) s))) (mI 12 (sA 13 (va_up (mA 13 (sI 11 ((mI 11 s) + (1 : Int32)) s)) (mI 12 (sI 11 ((mI 11 s) + (1 : Int32)) s)).toNatClampNeg (mI 11 (sI 11 ((mI 11 s) + (1 : Int32)) s))) (sI 11 ((mI 11 s) + (1 : Int32)) s))).toNatClampNeg (mI 5 (sA 13 (va_up (mA 13 (sI 11 ((mI 11 s) + (1 : Int32)) s)) (mI 12 (sI 11 ((mI 11 s) + (1 : Int32)) s)).toNatClampNeg (mI 11 (sI 11 ((mI 11 s) + (1 : Int32)) s))) (sI 11 ((mI 11 s) + (1 : Int32)) s)))) (sA 13 (va_up (mA 13 (sI 11 ((mI 11 s) + (1 : Int32)) s)) (mI 12 (sI 11 ((mI 11 s) + (1 : Int32)) s)).toNatClampNeg (mI 11 (sI 11 ((mI 11 s) + (1 : Int32)) s))) (sI 11 ((mI 11 s) + (1 : Int32)) s))) R) rfl ?_
      refine x_iconst (v := (1 : Int32)) (pc := 63) d_M_save_63 (by decide) ?_
      refine x_iadd (pc := 64) d_M_save_64 ?_
      refine xm_p12 (pc := 65) d_M_save_65 l_M_534 ?_
      refine x_aload_n (pc := 68) d_M_save_68 rfl ?_
      refine x_aload_n (pc := 69) d_M_save_69 rfl ?_
      refine x_getf (c := 1) (k := 12) (v := vI (mI 12 (sI 12 ((mI 12 (sA 14 (va_up (mA 14 (sA 13 (va_up (mA 13 (sI 11 ((mI 11 s) + (1 : Int32)) s)) (mI 12 (sI 11 ((mI 11 s) + (1 : Int32)) s)).toNatClampNeg (mI 11 (sI 11 ((mI 11 s) + (1 : Int32)) s))) (sI 11 ((mI 11 s) + (1 : Int32)) s))) (mI 12 (sA 13 (va_up (mA 13 (sI 11 ((mI 11 s) + (1 : Int32)) s)) (mI 12 (sI 11 ((mI 11 s) + (1 : Int32)) s)).toNatClampNeg (mI 11 (sI 11 ((mI 11 s) + (1 : Int32)) s))) (sI 11 ((mI 11 s) + (1 : Int32)) s))).toNatClampNeg (mI 5 (sA 13 (va_up (mA 13 (sI 11 ((mI 11 s) + (1 : Int32)) s)) (mI 12 (sI 11 ((mI 11 s) + (1 : Int32)) s)).toNatClampNeg (mI 11 (sI 11 ((mI 11 s) + (1 : Int32)) s))) (sI 11 ((mI 11 s) + (1 : Int32)) s)))) (sA 13 (va_up (mA 13 (sI 11 ((mI 11 s) + (1 : Int32)) s)) (mI 12 (sI 11 ((mI 11 s) + (1 : Int32)) s)).toNatClampNeg (mI 11 (sI 11 ((mI 11 s) + (1 : Int32)) s))) (sI 11 ((mI 11 s) + (1 : Int32)) s)))) + (1 : Int32)) (sA 14 (va_up (mA 14 (sA 13 (va_up (mA 13 (sI 11 ((mI 11 s) + (1 : Int32)) s)) (mI 12 (sI 11 ((mI 11 s) + (1 : Int32)) s)).toNatClampNeg (mI 11 (sI 11 ((mI 11 s) + (1 : Int32)) s))) (sI 11 ((mI 11 s) + (1 : Int32)) s))) (mI 12 (sA 13 (va_up (mA 13 (sI 11 ((mI 11 s) + (1 : Int32)) s)) (mI 12 (sI 11 ((mI 11 s) + (1 : Int32)) s)).toNatClampNeg (mI 11 (sI 11 ((mI 11 s) + (1 : Int32)) s))) (sI 11 ((mI 11 s) + (1 : Int32)) s))).toNatClampNeg (mI 5 (sA 13 (va_up (mA 13 (sI 11 ((mI 11 s) + (1 : Int32)) s)) (mI 12 (sI 11 ((mI 11 s) + (1 : Int32)) s)).toNatClampNeg (mI 11 (sI 11 ((mI 11 s) + (1 : Int32)) s))) (sI 11 ((mI 11 s) + (1 : Int32)) s)))) (sA 13 (va_up (mA 13 (sI 11 ((mI 11 s) + (1 : Int32)) s)) (mI 12 (sI 11 ((mI 11 s) + (1 : Int32)) s)).toNatClampNeg (mI 11 (sI 11 ((mI 11 s) + (1 : Int32)) s))) (sI 11 ((mI 11 s) + (1 : Int32)) s)))))) (pc := 70) d_M_save_70 l_M_534 (xm_at (sI 12 ((mI 12 (sA 14 (va_up (mA 14 (sA 13 (va_up (mA 13 (sI 11 ((mI 11 s) + (1 : Int32)) s)) (mI 12 (sI 11 ((mI 11 s) + (1 : Int32)) s)).toNatClampNeg (mI 11 (sI 11 ((mI 11 s) + (1 : Int32)) s))) (sI 11 ((mI 11 s) + (1 : Int32)) s))) (mI 12 (sA 13 (va_up (mA 13 (sI 11 ((mI 11 s) + (1 : Int32)) s)) (mI 12 (sI 11 ((mI 11 s) + (1 : Int32)) s)).toNatClampNeg (mI 11 (sI 11 ((mI 11 s) + (1 : Int32)) s))) (sI 11 ((mI 11 s) + (1 : Int32)) s))).toNatClampNeg (mI 5 (sA 13 (va_up (mA 13 (sI 11 ((mI 11 s) + (1 : Int32)) s)) (mI 12 (sI 11 ((mI 11 s) + (1 : Int32)) s)).toNatClampNeg (mI 11 (sI 11 ((mI 11 s) + (1 : Int32)) s))) (sI 11 ((mI 11 s) + (1 : Int32)) s)))) (sA 13 (va_up (mA 13 (sI 11 ((mI 11 s) + (1 : Int32)) s)) (mI 12 (sI 11 ((mI 11 s) + (1 : Int32)) s)).toNatClampNeg (mI 11 (sI 11 ((mI 11 s) + (1 : Int32)) s))) (sI 11 ((mI 11 s) + (1 : Int32)) s)))) + (1 : Int32)) (sA 14 (va_up (mA 14 (sA 13 (va_up (mA 13 (sI 11 ((mI 11 s) + (1 : Int32)) s)) (mI 12 (sI 11 ((mI 11 s) + (1 : Int32)) s)).toNatClampNeg (mI 11 (sI 11 ((mI 11 s) + (1 : Int32)) s))) (sI 11 ((mI 11 s) + (1 : Int32)) s))) (mI 12 (sA 13 (va_up (mA 13 (sI 11 ((mI 11 s) + (1 : Int32)) s)) (mI 12 (sI 11 ((mI 11 s) + (1 : Int32)) s)).toNatClampNeg (mI 11 (sI 11 ((mI 11 s) + (1 : Int32)) s))) (sI 11 ((mI 11 s) + (1 : Int32)) s))).toNatClampNeg (mI 5 (sA 13 (va_up (mA 13 (sI 11 ((mI 11 s) + (1 : Int32)) s)) (mI 12 (sI 11 ((mI 11 s) + (1 : Int32)) s)).toNatClampNeg (mI 11 (sI 11 ((mI 11 s) + (1 : Int32)) s))) (sI 11 ((mI 11 s) + (1 : Int32)) s)))) (sA 13 (va_up (mA 13 (sI 11 ((mI 11 s) + (1 : Int32)) s)) (mI 12 (sI 11 ((mI 11 s) + (1 : Int32)) s)).toNatClampNeg (mI 11 (sI 11 ((mI 11 s) + (1 : Int32)) s))) (sI 11 ((mI 11 s) + (1 : Int32)) s)))) R) rfl ?_
      refine x_iconst (v := (0 : Int32)) (pc := 73) d_M_save_73 (by decide) ?_
      obtain ⟨s6, e5, h⟩ := Option.bind_eq_some_iff.mp h
      refine x_invv (c := 1) (av := [vI (mI 12 (sI 12 ((mI 12 (sA 14 (va_up (mA 14 (sA 13 (va_up (mA 13 (sI 11 ((mI 11 s) + (1 : Int32)) s)) (mI 12 (sI 11 ((mI 11 s) + (1 : Int32)) s)).toNatClampNeg (mI 11 (sI 11 ((mI 11 s) + (1 : Int32)) s))) (sI 11 ((mI 11 s) + (1 : Int32)) s))) (mI 12 (sA 13 (va_up (mA 13 (sI 11 ((mI 11 s) + (1 : Int32)) s)) (mI 12 (sI 11 ((mI 11 s) + (1 : Int32)) s)).toNatClampNeg (mI 11 (sI 11 ((mI 11 s) + (1 : Int32)) s))) (sI 11 ((mI 11 s) + (1 : Int32)) s))).toNatClampNeg (mI 5 (sA 13 (va_up (mA 13 (sI 11 ((mI 11 s) + (1 : Int32)) s)) (mI 12 (sI 11 ((mI 11 s) + (1 : Int32)) s)).toNatClampNeg (mI 11 (sI 11 ((mI 11 s) + (1 : Int32)) s))) (sI 11 ((mI 11 s) + (1 : Int32)) s)))) (sA 13 (va_up (mA 13 (sI 11 ((mI 11 s) + (1 : Int32)) s)) (mI 12 (sI 11 ((mI 11 s) + (1 : Int32)) s)).toNatClampNeg (mI 11 (sI 11 ((mI 11 s) + (1 : Int32)) s))) (sI 11 ((mI 11 s) + (1 : Int32)) s)))) + (1 : Int32)) (sA 14 (va_up (mA 14 (sA 13 (va_up (mA 13 (sI 11 ((mI 11 s) + (1 : Int32)) s)) (mI 12 (sI 11 ((mI 11 s) + (1 : Int32)) s)).toNatClampNeg (mI 11 (sI 11 ((mI 11 s) + (1 : Int32)) s))) (sI 11 ((mI 11 s) + (1 : Int32)) s))) (mI 12 (sA 13 (va_up (mA 13 (sI 11 ((mI 11 s) + (1 : Int32)) s)) (mI 12 (sI 11 ((mI 11 s) + (1 : Int32)) s)).toNatClampNeg (mI 11 (sI 11 ((mI 11 s) + (1 : Int32)) s))) (sI 11 ((mI 11 s) + (1 : Int32)) s))).toNatClampNeg (mI 5 (sA 13 (va_up (mA 13 (sI 11 ((mI 11 s) + (1 : Int32)) s)) (mI 12 (sI 11 ((mI 11 s) + (1 : Int32)) s)).toNatClampNeg (mI 11 (sI 11 ((mI 11 s) + (1 : Int32)) s))) (sI 11 ((mI 11 s) + (1 : Int32)) s)))) (sA 13 (va_up (mA 13 (sI 11 ((mI 11 s) + (1 : Int32)) s)) (mI 12 (sI 11 ((mI 11 s) + (1 : Int32)) s)).toNatClampNeg (mI 11 (sI 11 ((mI 11 s) + (1 : Int32)) s))) (sI 11 ((mI 11 s) + (1 : Int32)) s))))), vI (0 : Int32)]) (st := []) (pc := 74) d_M_save_74 cv_M_540 y_M_copyAll (xm_at (sI 12 ((mI 12 (sA 14 (va_up (mA 14 (sA 13 (va_up (mA 13 (sI 11 ((mI 11 s) + (1 : Int32)) s)) (mI 12 (sI 11 ((mI 11 s) + (1 : Int32)) s)).toNatClampNeg (mI 11 (sI 11 ((mI 11 s) + (1 : Int32)) s))) (sI 11 ((mI 11 s) + (1 : Int32)) s))) (mI 12 (sA 13 (va_up (mA 13 (sI 11 ((mI 11 s) + (1 : Int32)) s)) (mI 12 (sI 11 ((mI 11 s) + (1 : Int32)) s)).toNatClampNeg (mI 11 (sI 11 ((mI 11 s) + (1 : Int32)) s))) (sI 11 ((mI 11 s) + (1 : Int32)) s))).toNatClampNeg (mI 5 (sA 13 (va_up (mA 13 (sI 11 ((mI 11 s) + (1 : Int32)) s)) (mI 12 (sI 11 ((mI 11 s) + (1 : Int32)) s)).toNatClampNeg (mI 11 (sI 11 ((mI 11 s) + (1 : Int32)) s))) (sI 11 ((mI 11 s) + (1 : Int32)) s)))) (sA 13 (va_up (mA 13 (sI 11 ((mI 11 s) + (1 : Int32)) s)) (mI 12 (sI 11 ((mI 11 s) + (1 : Int32)) s)).toNatClampNeg (mI 11 (sI 11 ((mI 11 s) + (1 : Int32)) s))) (sI 11 ((mI 11 s) + (1 : Int32)) s)))) + (1 : Int32)) (sA 14 (va_up (mA 14 (sA 13 (va_up (mA 13 (sI 11 ((mI 11 s) + (1 : Int32)) s)) (mI 12 (sI 11 ((mI 11 s) + (1 : Int32)) s)).toNatClampNeg (mI 11 (sI 11 ((mI 11 s) + (1 : Int32)) s))) (sI 11 ((mI 11 s) + (1 : Int32)) s))) (mI 12 (sA 13 (va_up (mA 13 (sI 11 ((mI 11 s) + (1 : Int32)) s)) (mI 12 (sI 11 ((mI 11 s) + (1 : Int32)) s)).toNatClampNeg (mI 11 (sI 11 ((mI 11 s) + (1 : Int32)) s))) (sI 11 ((mI 11 s) + (1 : Int32)) s))).toNatClampNeg (mI 5 (sA 13 (va_up (mA 13 (sI 11 ((mI 11 s) + (1 : Int32)) s)) (mI 12 (sI 11 ((mI 11 s) + (1 : Int32)) s)).toNatClampNeg (mI 11 (sI 11 ((mI 11 s) + (1 : Int32)) s))) (sI 11 ((mI 11 s) + (1 : Int32)) s)))) (sA 13 (va_up (mA 13 (sI 11 ((mI 11 s) + (1 : Int32)) s)) (mI 12 (sI 11 ((mI 11 s) + (1 : Int32)) s)).toNatClampNeg (mI 11 (sI 11 ((mI 11 s) + (1 : Int32)) s))) (sI 11 ((mI 11 s) + (1 : Int32)) s)))) R) rfl (Nat.le_of_ble_eq_true rfl) (Nat.le_of_ble_eq_true rfl) (w_M_copyAll (d := d + 0) (Q := fun r h' => r = .inl none ∧ h' = mH s6 R) (R := R) ⟨rfl, rfl⟩ (sI 12 ((mI 12 (sA 14 (va_up (mA 14 (sA 13 (va_up (mA 13 (sI 11 ((mI 11 s) + (1 : Int32)) s)) (mI 12 (sI 11 ((mI 11 s) + (1 : Int32)) s)).toNatClampNeg (mI 11 (sI 11 ((mI 11 s) + (1 : Int32)) s))) (sI 11 ((mI 11 s) + (1 : Int32)) s))) (mI 12 (sA 13 (va_up (mA 13 (sI 11 ((mI 11 s) + (1 : Int32)) s)) (mI 12 (sI 11 ((mI 11 s) + (1 : Int32)) s)).toNatClampNeg (mI 11 (sI 11 ((mI 11 s) + (1 : Int32)) s))) (sI 11 ((mI 11 s) + (1 : Int32)) s))).toNatClampNeg (mI 5 (sA 13 (va_up (mA 13 (sI 11 ((mI 11 s) + (1 : Int32)) s)) (mI 12 (sI 11 ((mI 11 s) + (1 : Int32)) s)).toNatClampNeg (mI 11 (sI 11 ((mI 11 s) + (1 : Int32)) s))) (sI 11 ((mI 11 s) + (1 : Int32)) s)))) (sA 13 (va_up (mA 13 (sI 11 ((mI 11 s) + (1 : Int32)) s)) (mI 12 (sI 11 ((mI 11 s) + (1 : Int32)) s)).toNatClampNeg (mI 11 (sI 11 ((mI 11 s) + (1 : Int32)) s))) (sI 11 ((mI 11 s) + (1 : Int32)) s)))) + (1 : Int32)) (sA 14 (va_up (mA 14 (sA 13 (va_up (mA 13 (sI 11 ((mI 11 s) + (1 : Int32)) s)) (mI 12 (sI 11 ((mI 11 s) + (1 : Int32)) s)).toNatClampNeg (mI 11 (sI 11 ((mI 11 s) + (1 : Int32)) s))) (sI 11 ((mI 11 s) + (1 : Int32)) s))) (mI 12 (sA 13 (va_up (mA 13 (sI 11 ((mI 11 s) + (1 : Int32)) s)) (mI 12 (sI 11 ((mI 11 s) + (1 : Int32)) s)).toNatClampNeg (mI 11 (sI 11 ((mI 11 s) + (1 : Int32)) s))) (sI 11 ((mI 11 s) + (1 : Int32)) s))).toNatClampNeg (mI 5 (sA 13 (va_up (mA 13 (sI 11 ((mI 11 s) + (1 : Int32)) s)) (mI 12 (sI 11 ((mI 11 s) + (1 : Int32)) s)).toNatClampNeg (mI 11 (sI 11 ((mI 11 s) + (1 : Int32)) s))) (sI 11 ((mI 11 s) + (1 : Int32)) s)))) (sA 13 (va_up (mA 13 (sI 11 ((mI 11 s) + (1 : Int32)) s)) (mI 12 (sI 11 ((mI 11 s) + (1 : Int32)) s)).toNatClampNeg (mI 11 (sI 11 ((mI 11 s) + (1 : Int32)) s))) (sI 11 ((mI 11 s) + (1 : Int32)) s)))) (mI 12 (sI 12 ((mI 12 (sA 14 (va_up (mA 14 (sA 13 (va_up (mA 13 (sI 11 ((mI 11 s) + (1 : Int32)) s)) (mI 12 (sI 11 ((mI 11 s) + (1 : Int32)) s)).toNatClampNeg (mI 11 (sI 11 ((mI 11 s) + (1 : Int32)) s))) (sI 11 ((mI 11 s) + (1 : Int32)) s))) (mI 12 (sA 13 (va_up (mA 13 (sI 11 ((mI 11 s) + (1 : Int32)) s)) (mI 12 (sI 11 ((mI 11 s) + (1 : Int32)) s)).toNatClampNeg (mI 11 (sI 11 ((mI 11 s) + (1 : Int32)) s))) (sI 11 ((mI 11 s) + (1 : Int32)) s))).toNatClampNeg (mI 5 (sA 13 (va_up (mA 13 (sI 11 ((mI 11 s) + (1 : Int32)) s)) (mI 12 (sI 11 ((mI 11 s) + (1 : Int32)) s)).toNatClampNeg (mI 11 (sI 11 ((mI 11 s) + (1 : Int32)) s))) (sI 11 ((mI 11 s) + (1 : Int32)) s)))) (sA 13 (va_up (mA 13 (sI 11 ((mI 11 s) + (1 : Int32)) s)) (mI 12 (sI 11 ((mI 11 s) + (1 : Int32)) s)).toNatClampNeg (mI 11 (sI 11 ((mI 11 s) + (1 : Int32)) s))) (sI 11 ((mI 11 s) + (1 : Int32)) s)))) + (1 : Int32)) (sA 14 (va_up (mA 14 (sA 13 (va_up (mA 13 (sI 11 ((mI 11 s) + (1 : Int32)) s)) (mI 12 (sI 11 ((mI 11 s) + (1 : Int32)) s)).toNatClampNeg (mI 11 (sI 11 ((mI 11 s) + (1 : Int32)) s))) (sI 11 ((mI 11 s) + (1 : Int32)) s))) (mI 12 (sA 13 (va_up (mA 13 (sI 11 ((mI 11 s) + (1 : Int32)) s)) (mI 12 (sI 11 ((mI 11 s) + (1 : Int32)) s)).toNatClampNeg (mI 11 (sI 11 ((mI 11 s) + (1 : Int32)) s))) (sI 11 ((mI 11 s) + (1 : Int32)) s))).toNatClampNeg (mI 5 (sA 13 (va_up (mA 13 (sI 11 ((mI 11 s) + (1 : Int32)) s)) (mI 12 (sI 11 ((mI 11 s) + (1 : Int32)) s)).toNatClampNeg (mI 11 (sI 11 ((mI 11 s) + (1 : Int32)) s))) (sI 11 ((mI 11 s) + (1 : Int32)) s)))) (sA 13 (va_up (mA 13 (sI 11 ((mI 11 s) + (1 : Int32)) s)) (mI 12 (sI 11 ((mI 11 s) + (1 : Int32)) s)).toNatClampNeg (mI 11 (sI 11 ((mI 11 s) + (1 : Int32)) s))) (sI 11 ((mI 11 s) + (1 : Int32)) s))))) (0 : Int32) e5) (fun v h' z => ?_) (fun a h' z => nomatch z.1)
      obtain ⟨z1, z2⟩ := z
      subst z2
      cases z1
      show xW sc m_M_save (d + 2) Q (mH s6 R) 77 [some (vA 373)] []
      refine x_aload_n (pc := 77) d_M_save_77 rfl ?_
      refine x_bipush (v := (7 : Int32)) (pc := 78) d_M_save_78 (by decide) ?_
      refine x_aload_n (pc := 80) d_M_save_80 rfl ?_
      refine x_getf (c := 1) (k := 11) (v := vI (mI 11 s6)) (pc := 81) d_M_save_81 l_M_537 (xm_at s6 R) rfl ?_
      refine x_i2l (pc := 84) d_M_save_84 ?_
      obtain ⟨⟨v9, s8⟩, e7, h⟩ := Option.bind_eq_some_iff.mp h
      dsimp only at h
      refine x_invv (c := 1) (av := [vI (7 : Int32), vL ((mI 11 s6).toInt64)]) (st := []) (pc := 85) d_M_save_85 cv_M_388 y_M_push (xm_at s6 R) rfl (Nat.le_of_ble_eq_true rfl) (Nat.le_of_ble_eq_true rfl) (w_M_push (d := d + 0) (Q := fun r h' => r = .inl (some (vI v9)) ∧ h' = mH s8 R) (R := R) ⟨rfl, rfl⟩ s6 (7 : Int32) ((mI 11 s6).toInt64) e7) (fun v h' z => ?_) (fun a h' z => nomatch z.1)
      obtain ⟨z1, z2⟩ := z
      subst z2
      cases z1
      show xW sc m_M_save (d + 2) Q (mH s8 R) 88 [some (vA 373)] [vI v9]
      cases h
      exact x_iret (ty := .int) (pc := 88) d_M_save_88 rfl (rfl) hQ
    · rw [if_pos c2] at h
      refine x_iconst (v := (2 : Int32)) (pc := 20) d_M_save_20 (by decide) ?_
      cases h
      exact x_iret (ty := .int) (pc := 21) d_M_save_21 rfl (rfl) hQ
  · rw [if_pos c1] at h
    refine x_bipush (v := (7 : Int32)) (pc := 8) d_M_save_8 (by decide) ?_
    cases h
    exact x_iret (ty := .int) (pc := 10) d_M_save_10 rfl (rfl) hQ
def f_M_toMark_b51  (l2 : Int32) (s : MT) : Option (Int32 × MT) := some ((0 : Int32), sI 4 l2 s)
theorem w_M_toMark_b51 {sc : xSc} {d : Nat} {Q : xR → xH → Prop} {R : xH} {sZ : MT} {rZ : Int32}  (hQ : Q (.inl (some (vI rZ))) (mH sZ R)) (l2 : Int32) (s : MT) (h : f_M_toMark_b51  l2 s = some (rZ, sZ)) : xW sc m_M_toMark (d + 2) Q (mH s R) 51 [some (vA 373), none, some (vI l2), none] [] := by
  unfold f_M_toMark_b51 at h
  refine x_aload_n (pc := 51) d_M_toMark_51 rfl ?_
  refine x_iload_n (pc := 52) d_M_toMark_52 rfl ?_
  refine xm_p4 (pc := 53) d_M_toMark_53 l_M_247 ?_
  refine x_iconst (v := (0 : Int32)) (pc := 56) d_M_toMark_56 (by decide) ?_
  cases h
  exact x_iret (ty := .int) (pc := 57) d_M_toMark_57 rfl (rfl) hQ
def f_M_toMark (s : MT) (a1 : Int32) : Option (Int32 × MT) := (f_M_topMark s).bind fun (v3, s2) => (if 0 ≤ v3 then (if a1 = (71 : Int32) then (f_M_newArray s2 (v3 + (1 : Int32)) (((mI 4 s2) - (1 : Int32)) - v3) (5 : Int32)).bind fun (v9, s8) => (if v9 = 0 then (f_M_move s8 v3 (40 : Int32)).bind fun s13 => f_M_toMark_b51 (v3 + Int32.ofInt 1) s13 else some (v9, s8)) else f_M_toMark_b51 v3 s2) else some ((9 : Int32), s2))
theorem w_M_toMark {sc : xSc} {d : Nat} {Q : xR → xH → Prop} {R : xH} {sZ : MT} {rZ : Int32} (hQ : Q (.inl (some (vI rZ))) (mH sZ R)) (s : MT) (a1 : Int32) (h : f_M_toMark s a1 = some (rZ, sZ)) : xW sc m_M_toMark (d + 2) Q (mH s R) 0 (xent [vA 373, vI a1] m_M_toMark.2.2.1) [] := by
  show xW sc m_M_toMark (d + 2) Q (mH s R) 0 [some (vA 373), some (vI a1), none, none] []
  unfold f_M_toMark at h
  refine x_aload_n (pc := 0) d_M_toMark_0 rfl ?_
  obtain ⟨⟨v3, s2⟩, e1, h⟩ := Option.bind_eq_some_iff.mp h
  dsimp only at h
  refine x_invv (c := 1) (av := []) (st := []) (pc := 1) d_M_toMark_1 cv_M_470 y_M_topMark (xm_at s R) rfl (Nat.le_of_ble_eq_true rfl) (Nat.le_of_ble_eq_true rfl) (w_M_topMark (d := d + 1) (Q := fun r h' => r = .inl (some (vI v3)) ∧ h' = mH s2 R) (R := R) ⟨rfl, rfl⟩ s  e1) (fun v h' z => ?_) (fun a h' z => nomatch z.1)
  obtain ⟨z1, z2⟩ := z
  subst z2
  cases z1
  show xW sc m_M_toMark (d + 2) Q (mH s2 R) 4 [some (vA 373), some (vI a1), none, none] [vI v3]
  refine x_istore_n (pc := 4) d_M_toMark_4 (by decide) ?_
  show xW sc m_M_toMark (d + 2) Q (mH s2 R) 5 [some (vA 373), some (vI a1), some (vI v3), none] []
  refine x_iload_n (pc := 5) d_M_toMark_5 rfl ?_
  refine x_if_ge (tgt := 12) (pc := 6) d_M_toMark_6 (by decide) (fun c5 => ?_) (fun c5 => ?_)
  · rw [if_pos c5] at h
    refine x_iload_n (pc := 12) d_M_toMark_12 rfl ?_
    refine x_bipush (v := (71 : Int32)) (pc := 13) d_M_toMark_13 (by decide) ?_
    refine x_icmp_ne (tgt := 51) (pc := 15) d_M_toMark_15 (by decide) (fun c6 => ?_) (fun c6 => ?_)
    · rw [if_neg c6] at h
      exact x_wk (L' := [some (vA 373), none, some (vI v3), none]) ⟨Or.inr rfl, Or.inl rfl, Or.inr rfl, Or.inl rfl, trivial⟩ (w_M_toMark_b51 hQ v3 s2 h)
    · rw [if_pos c6] at h
      refine x_aload_n (pc := 18) d_M_toMark_18 rfl ?_
      refine x_iload_n (pc := 19) d_M_toMark_19 rfl ?_
      refine x_iconst (v := (1 : Int32)) (pc := 20) d_M_toMark_20 (by decide) ?_
      refine x_iadd (pc := 21) d_M_toMark_21 ?_
      refine x_aload_n (pc := 22) d_M_toMark_22 rfl ?_
      refine x_getf (c := 1) (k := 4) (v := vI (mI 4 s2)) (pc := 23) d_M_toMark_23 l_M_247 (xm_at s2 R) rfl ?_
      refine x_iconst (v := (1 : Int32)) (pc := 26) d_M_toMark_26 (by decide) ?_
      refine x_isub (pc := 27) d_M_toMark_27 ?_
      refine x_iload_n (pc := 28) d_M_toMark_28 rfl ?_
      refine x_isub (pc := 29) d_M_toMark_29 ?_
      refine x_iconst (v := (5 : Int32)) (pc := 30) d_M_toMark_30 (by decide) ?_
      obtain ⟨⟨v9, s8⟩, e7, h⟩ := Option.bind_eq_some_iff.mp h
      dsimp only at h
      refine x_invv (c := 1) (av := [vI (v3 + (1 : Int32)), vI (((mI 4 s2) - (1 : Int32)) - v3), vI (5 : Int32)]) (st := []) (pc := 31) d_M_toMark_31 cv_M_336 y_M_newArray (xm_at s2 R) rfl (Nat.le_of_ble_eq_true rfl) (Nat.le_of_ble_eq_true rfl) (w_M_newArray (d := d + 0) (Q := fun r h' => r = .inl (some (vI v9)) ∧ h' = mH s8 R) (R := R) ⟨rfl, rfl⟩ s2 (v3 + (1 : Int32)) (((mI 4 s2) - (1 : Int32)) - v3) (5 : Int32) e7) (fun v h' z => ?_) (fun a h' z => nomatch z.1)
      obtain ⟨z1, z2⟩ := z
      subst z2
      cases z1
      show xW sc m_M_toMark (d + 2) Q (mH s8 R) 34 [some (vA 373), some (vI a1), some (vI v3), none] [vI v9]
      refine x_istore_n (pc := 34) d_M_toMark_34 (by decide) ?_
      show xW sc m_M_toMark (d + 2) Q (mH s8 R) 35 [some (vA 373), some (vI a1), some (vI v3), some (vI v9)] []
      refine x_iload_n (pc := 35) d_M_toMark_35 rfl ?_
      refine x_if_eq (tgt := 41) (pc := 36) d_M_toMark_36 (by decide) (fun c11 => ?_) (fun c11 => ?_)
      · rw [if_pos c11] at h
        refine x_aload_n (pc := 41) d_M_toMark_41 rfl ?_
        refine x_iload_n (pc := 42) d_M_toMark_42 rfl ?_
        refine x_bipush (v := (40 : Int32)) (pc := 43) d_M_toMark_43 (by decide) ?_
        obtain ⟨s13, e12, h⟩ := Option.bind_eq_some_iff.mp h
        refine x_invv (c := 1) (av := [vI v3, vI (40 : Int32)]) (st := []) (pc := 45) d_M_toMark_45 cv_M_254 y_M_move (xm_at s8 R) rfl (Nat.le_of_ble_eq_true rfl) (Nat.le_of_ble_eq_true rfl) (w_M_move (d := d + 1) (Q := fun r h' => r = .inl none ∧ h' = mH s13 R) (R := R) ⟨rfl, rfl⟩ s8 v3 (40 : Int32) e12) (fun v h' z => ?_) (fun a h' z => nomatch z.1)
        obtain ⟨z1, z2⟩ := z
        subst z2
        cases z1
        show xW sc m_M_toMark (d + 2) Q (mH s13 R) 48 [some (vA 373), some (vI a1), some (vI v3), some (vI v9)] []
        refine x_iinc (pc := 48) d_M_toMark_48 rfl (by decide) ?_
        show xW sc m_M_toMark (d + 2) Q (mH s13 R) 51 [some (vA 373), some (vI a1), some (vI (v3 + Int32.ofInt 1)), some (vI v9)] []
        exact x_wk (L' := [some (vA 373), none, some (vI (v3 + Int32.ofInt 1)), none]) ⟨Or.inr rfl, Or.inl rfl, Or.inr rfl, Or.inl rfl, trivial⟩ (w_M_toMark_b51 hQ (v3 + Int32.ofInt 1) s13 h)
      · rw [if_neg c11] at h
        refine x_iload_n (pc := 39) d_M_toMark_39 rfl ?_
        cases h
        exact x_iret (ty := .int) (pc := 40) d_M_toMark_40 rfl (rfl) hQ
  · rw [if_neg c5] at h
    refine x_bipush (v := (9 : Int32)) (pc := 9) d_M_toMark_9 (by decide) ?_
    cases h
    exact x_iret (ty := .int) (pc := 11) d_M_toMark_11 rfl (rfl) hQ
def f_M_zeros_b27  : Nat → Int64 → Int32 → MT → Option (Int32 × MT)
  | 0, _, _, _ => none
  | n + 1, l1, l3, s => (if 0 ≤ (lg_cmp l3.toInt64 l1) then (f_M_give s (1 : Int32) (5 : Int32) (((mI 5 s).toInt64) + ((1024 : Int64) * l1))).bind fun (v4, s3) => some ((0 : Int32), sI 5 ((mI 5 s3) + l1.toInt32) s3) else (f_M_set s (((50 : Int32) + (mI 5 s)) + l3) (0 : Int32) (0 : Int64)).bind fun s7 => (f_M_zeros_b27 n) l1 (l3 + Int32.ofInt 1) s7)
theorem w_M_zeros_b27 {sc : xSc} {d : Nat} {Q : xR → xH → Prop} {R : xH} {sZ : MT} {rZ : Int32}  (hQ : Q (.inl (some (vI rZ))) (mH sZ R)) : ∀ (n : Nat) (l1 : Int64) (l3 : Int32) (s : MT), f_M_zeros_b27  n l1 l3 s = some (rZ, sZ) → xW sc m_M_zeros (d + 2) Q (mH s R) 27 [some (vA 373), some (vL l1), none, some (vI l3)] [] := by
  intro n
  induction n with
  | zero =>
    intro l1 l3 s h
    cases h
  | succ n hk27 =>
    intro l1 l3 s h
    unfold f_M_zeros_b27 at h
    refine x_iload_n (pc := 27) d_M_zeros_27 rfl ?_
    refine x_i2l (pc := 28) d_M_zeros_28 ?_
    refine x_lload_n (pc := 29) d_M_zeros_29 rfl ?_
    refine x_lcmp (pc := 30) d_M_zeros_30 ?_
    refine x_if_ge (tgt := 55) (pc := 31) d_M_zeros_31 (by decide) (fun c1 => ?_) (fun c1 => ?_)
    · rw [if_pos c1] at h
      refine x_aload_n (pc := 55) d_M_zeros_55 rfl ?_
      refine x_iconst (v := (1 : Int32)) (pc := 56) d_M_zeros_56 (by decide) ?_
      refine x_iconst (v := (5 : Int32)) (pc := 57) d_M_zeros_57 (by decide) ?_
      refine x_aload_n (pc := 58) d_M_zeros_58 rfl ?_
      refine x_getf (c := 1) (k := 5) (v := vI (mI 5 s)) (pc := 59) d_M_zeros_59 l_M_325 (xm_at s R) rfl ?_
      refine x_i2l (pc := 62) d_M_zeros_62 ?_
      refine x_ldc2 (v := (1024 : Int64)) (pc := 63) d_M_zeros_63 c_M_328 ?_
      refine x_lload_n (pc := 66) d_M_zeros_66 rfl ?_
      refine x_lmul (pc := 67) d_M_zeros_67 ?_
      refine x_ladd (pc := 68) d_M_zeros_68 ?_
      obtain ⟨⟨v4, s3⟩, e2, h⟩ := Option.bind_eq_some_iff.mp h
      dsimp only at h
      refine x_invv (c := 1) (av := [vI (1 : Int32), vI (5 : Int32), vL (((mI 5 s).toInt64) + ((1024 : Int64) * l1))]) (st := []) (pc := 69) d_M_zeros_69 cv_M_262 y_M_give (xm_at s R) rfl (Nat.le_of_ble_eq_true rfl) (Nat.le_of_ble_eq_true rfl) (w_M_give (d := d + 0) (Q := fun r h' => r = .inl (some (vI v4)) ∧ h' = mH s3 R) (R := R) ⟨rfl, rfl⟩ s (1 : Int32) (5 : Int32) (((mI 5 s).toInt64) + ((1024 : Int64) * l1)) e2) (fun v h' z => ?_) (fun a h' z => nomatch z.1)
      obtain ⟨z1, z2⟩ := z
      subst z2
      cases z1
      show xW sc m_M_zeros (d + 2) Q (mH s3 R) 72 [some (vA 373), some (vL l1), none, some (vI l3)] [vI v4]
      refine x_pop (pc := 72) d_M_zeros_72 rfl ?_
      refine x_aload_n (pc := 73) d_M_zeros_73 rfl ?_
      refine x_dup (pc := 74) d_M_zeros_74 rfl ?_
      refine x_getf (c := 1) (k := 5) (v := vI (mI 5 s3)) (pc := 75) d_M_zeros_75 l_M_325 (xm_at s3 R) rfl ?_
      refine x_lload_n (pc := 78) d_M_zeros_78 rfl ?_
      refine x_l2i (pc := 79) d_M_zeros_79 ?_
      refine x_iadd (pc := 80) d_M_zeros_80 ?_
      refine xm_p5 (pc := 81) d_M_zeros_81 l_M_325 ?_
      refine x_iconst (v := (0 : Int32)) (pc := 84) d_M_zeros_84 (by decide) ?_
      cases h
      exact x_iret (ty := .int) (pc := 85) d_M_zeros_85 rfl (rfl) hQ
    · rw [if_neg c1] at h
      refine x_aload_n (pc := 34) d_M_zeros_34 rfl ?_
      refine x_bipush (v := (50 : Int32)) (pc := 35) d_M_zeros_35 (by decide) ?_
      refine x_aload_n (pc := 37) d_M_zeros_37 rfl ?_
      refine x_getf (c := 1) (k := 5) (v := vI (mI 5 s)) (pc := 38) d_M_zeros_38 l_M_325 (xm_at s R) rfl ?_
      refine x_iadd (pc := 41) d_M_zeros_41 ?_
      refine x_iload_n (pc := 42) d_M_zeros_42 rfl ?_
      refine x_iadd (pc := 43) d_M_zeros_43 ?_
      refine x_iconst (v := (0 : Int32)) (pc := 44) d_M_zeros_44 (by decide) ?_
      refine x_lconst (v := (0 : Int64)) (pc := 45) d_M_zeros_45 (by decide) ?_
      obtain ⟨s7, e6, h⟩ := Option.bind_eq_some_iff.mp h
      refine x_invv (c := 1) (av := [vI (((50 : Int32) + (mI 5 s)) + l3), vI (0 : Int32), vL (0 : Int64)]) (st := []) (pc := 46) d_M_zeros_46 cv_M_250 y_M_set (xm_at s R) rfl (Nat.le_of_ble_eq_true rfl) (Nat.le_of_ble_eq_true rfl) (w_M_set (d := d + 1) (Q := fun r h' => r = .inl none ∧ h' = mH s7 R) (R := R) ⟨rfl, rfl⟩ s (((50 : Int32) + (mI 5 s)) + l3) (0 : Int32) (0 : Int64) e6) (fun v h' z => ?_) (fun a h' z => nomatch z.1)
      obtain ⟨z1, z2⟩ := z
      subst z2
      cases z1
      show xW sc m_M_zeros (d + 2) Q (mH s7 R) 49 [some (vA 373), some (vL l1), none, some (vI l3)] []
      refine x_iinc (pc := 49) d_M_zeros_49 rfl (by decide) ?_
      show xW sc m_M_zeros (d + 2) Q (mH s7 R) 52 [some (vA 373), some (vL l1), none, some (vI (l3 + Int32.ofInt 1))] []
      refine x_goto (tgt := 27) (pc := 52) d_M_zeros_52 (by decide) ?_
      exact hk27 l1 (l3 + Int32.ofInt 1) s7 h
def f_M_zeros (s : MT) (a1 : Int64) : Option (Int32 × MT) := (if 0 ≤ (lg_cmp a1 (0 : Int64)) then (if (lg_cmp a1 (((160 : Int32) - (mI 5 s)).toInt64)) ≤ 0 then f_M_zeros_b27 mF a1 (0 : Int32) s else some ((7 : Int32), s)) else some ((4 : Int32), s))
theorem w_M_zeros {sc : xSc} {d : Nat} {Q : xR → xH → Prop} {R : xH} {sZ : MT} {rZ : Int32} (hQ : Q (.inl (some (vI rZ))) (mH sZ R)) (s : MT) (a1 : Int64) (h : f_M_zeros s a1 = some (rZ, sZ)) : xW sc m_M_zeros (d + 2) Q (mH s R) 0 (xent [vA 373, vL a1] m_M_zeros.2.2.1) [] := by
  show xW sc m_M_zeros (d + 2) Q (mH s R) 0 [some (vA 373), some (vL a1), none, none] []
  unfold f_M_zeros at h
  refine x_lload_n (pc := 0) d_M_zeros_0 rfl ?_
  refine x_lconst (v := (0 : Int64)) (pc := 1) d_M_zeros_1 (by decide) ?_
  refine x_lcmp (pc := 2) d_M_zeros_2 ?_
  refine x_if_ge (tgt := 8) (pc := 3) d_M_zeros_3 (by decide) (fun c1 => ?_) (fun c1 => ?_)
  · rw [if_pos c1] at h
    refine x_lload_n (pc := 8) d_M_zeros_8 rfl ?_
    refine x_sipush (v := (160 : Int32)) (pc := 9) d_M_zeros_9 (by decide) ?_
    refine x_aload_n (pc := 12) d_M_zeros_12 rfl ?_
    refine x_getf (c := 1) (k := 5) (v := vI (mI 5 s)) (pc := 13) d_M_zeros_13 l_M_325 (xm_at s R) rfl ?_
    refine x_isub (pc := 16) d_M_zeros_16 ?_
    refine x_i2l (pc := 17) d_M_zeros_17 ?_
    refine x_lcmp (pc := 18) d_M_zeros_18 ?_
    refine x_if_le (tgt := 25) (pc := 19) d_M_zeros_19 (by decide) (fun c2 => ?_) (fun c2 => ?_)
    · rw [if_pos c2] at h
      refine x_iconst (v := (0 : Int32)) (pc := 25) d_M_zeros_25 (by decide) ?_
      refine x_istore_n (pc := 26) d_M_zeros_26 (by decide) ?_
      show xW sc m_M_zeros (d + 2) Q (mH s R) 27 [some (vA 373), some (vL a1), none, some (vI (0 : Int32))] []
      exact w_M_zeros_b27 hQ mF a1 (0 : Int32) s h
    · rw [if_neg c2] at h
      refine x_bipush (v := (7 : Int32)) (pc := 22) d_M_zeros_22 (by decide) ?_
      cases h
      exact x_iret (ty := .int) (pc := 24) d_M_zeros_24 rfl (rfl) hQ
  · rw [if_neg c1] at h
    refine x_iconst (v := (4 : Int32)) (pc := 6) d_M_zeros_6 (by decide) ?_
    cases h
    exact x_iret (ty := .int) (pc := 7) d_M_zeros_7 rfl (rfl) hQ
def f_M_arrayOperator_b145  (t0 : Int32) (s : MT) : Option (Int32 × MT) := some (t0, s)
theorem w_M_arrayOperator_b145 {sc : xSc} {d : Nat} {Q : xR → xH → Prop} {R : xH} {sZ : MT} {rZ : Int32}  (hQ : Q (.inl (some (vI rZ))) (mH sZ R)) (t0 : Int32) (s : MT) (h : f_M_arrayOperator_b145  t0 s = some (rZ, sZ)) : xW sc m_M_arrayOperator (d + 3) Q (mH s R) 145 [none, none, none] [vI t0] := by
  unfold f_M_arrayOperator_b145 at h
  cases h
  exact x_iret (ty := .int) (pc := 145) d_M_arrayOperator_145 rfl (rfl) hQ
def f_M_arrayOperator_b93  (t0 : Int64) (t1 : Int32) (t2 : Int32) (s : MT) : Option (Int32 × MT) := (f_M_give s t2 t1 t0).bind fun (v3, s2) => some (v3, s2)
theorem w_M_arrayOperator_b93 {sc : xSc} {d : Nat} {Q : xR → xH → Prop} {R : xH} {sZ : MT} {rZ : Int32}  (hQ : Q (.inl (some (vI rZ))) (mH sZ R)) (t0 : Int64) (t1 : Int32) (t2 : Int32) (s : MT) (h : f_M_arrayOperator_b93  t0 t1 t2 s = some (rZ, sZ)) : xW sc m_M_arrayOperator (d + 3) Q (mH s R) 93 [none, none, none] [vL t0, vI t1, vI t2, vA 373] := by
  unfold f_M_arrayOperator_b93 at h
  obtain ⟨⟨v3, s2⟩, e1, h⟩ := Option.bind_eq_some_iff.mp h
  dsimp only at h
  refine x_invv (c := 1) (av := [vI t2, vI t1, vL t0]) (st := []) (pc := 93) d_M_arrayOperator_93 cv_M_262 y_M_give (xm_at s R) rfl (Nat.le_of_ble_eq_true rfl) (Nat.le_of_ble_eq_true rfl) (w_M_give (d := d + 1) (Q := fun r h' => r = .inl (some (vI v3)) ∧ h' = mH s2 R) (R := R) ⟨rfl, rfl⟩ s t2 t1 t0 e1) (fun v h' z => ?_) (fun a h' z => nomatch z.1)
  obtain ⟨z1, z2⟩ := z
  subst z2
  cases z1
  show xW sc m_M_arrayOperator (d + 3) Q (mH s2 R) 96 [none, none, none] [vI v3]
  cases h
  exact x_iret (ty := .int) (pc := 96) d_M_arrayOperator_96 rfl (rfl) hQ
def f_M_arrayOperator (s : MT) (a1 : Int32) : Option (Int32 × MT) := (if a1 = (37 : Int32) then (if xin ((mI 4 s) - (1 : Int32)) 1300 = true then (f_M_zeros s (mL 2 s ((mI 4 s) - (1 : Int32)).toNatClampNeg)).bind fun (v5, s4) => some (v5, s4) else none) else (if a1 = (38 : Int32) then (f_M_kindOf s ((mI 4 s) - (1 : Int32))).bind fun (v10, s9) => (if v10 = (5 : Int32) then (if xin ((mI 4 s) - (1 : Int32)) 1300 = true then (f_M_count (mL 2 s9 ((mI 4 s) - (1 : Int32)).toNatClampNeg)).bind fun v16 => f_M_arrayOperator_b93 v16.toInt64 (0 : Int32) (1 : Int32) s9 else none) else (if xin ((mI 4 s) - (1 : Int32)) 1300 = true then (if xin ((mL 2 s9 ((mI 4 s) - (1 : Int32)).toNatClampNeg).toInt32) 28 = true then f_M_arrayOperator_b93 ((mA 7 s9 ((mL 2 s9 ((mI 4 s) - (1 : Int32)).toNatClampNeg).toInt32).toNatClampNeg).toInt64) (0 : Int32) (1 : Int32) s9 else none) else none)) else (if a1 = (39 : Int32) then (f_M_get s ((mI 4 s) - (1 : Int32))).bind fun (v21, s20) => some (v21, s20) else (if a1 = (40 : Int32) then (f_M_kindOf s (((mI 4 s) - (1 : Int32)) - (2 : Int32))).bind fun (v26, s25) => (if v26 = (6 : Int32) then (if xin (((mI 4 s) - (1 : Int32)) - (2 : Int32)) 1300 = true then (if xin (((mI 4 s) - (1 : Int32)) - (1 : Int32)) 1300 = true then (f_M_putEntry s25 ((mL 2 s25 (((mI 4 s) - (1 : Int32)) - (2 : Int32)).toNatClampNeg).toInt32) (mL 2 s25 (((mI 4 s) - (1 : Int32)) - (1 : Int32)).toNatClampNeg) (3 : Int32)).bind fun (v37, s36) => f_M_arrayOperator_b145 v37 s36 else none) else none) else (f_M_putCell s25 ((mI 4 s) - (1 : Int32))).bind fun (v31, s30) => f_M_arrayOperator_b145 v31 s30) else (if a1 = (41 : Int32) then (if xin (((mI 4 s) - (1 : Int32)) - (2 : Int32)) 1300 = true then (if xin (((mI 4 s) - (1 : Int32)) - (1 : Int32)) 1300 = true then (if xin ((mI 4 s) - (1 : Int32)) 1300 = true then (f_M_part s (mL 2 s (((mI 4 s) - (1 : Int32)) - (2 : Int32)).toNatClampNeg) (mL 2 s (((mI 4 s) - (1 : Int32)) - (1 : Int32)).toNatClampNeg) (mL 2 s ((mI 4 s) - (1 : Int32)).toNatClampNeg)).bind fun (v45, s44) => some (v45, s44) else none) else none) else none) else (if xin ((mI 4 s) - (1 : Int32)) 1300 = true then (f_M_load s (mL 2 s ((mI 4 s) - (1 : Int32)).toNatClampNeg)).bind fun (v50, s49) => some (v50, s49) else none))))))
theorem w_M_arrayOperator {sc : xSc} {d : Nat} {Q : xR → xH → Prop} {R : xH} {sZ : MT} {rZ : Int32} (hQ : Q (.inl (some (vI rZ))) (mH sZ R)) (s : MT) (a1 : Int32) (h : f_M_arrayOperator s a1 = some (rZ, sZ)) : xW sc m_M_arrayOperator (d + 3) Q (mH s R) 0 (xent [vA 373, vI a1] m_M_arrayOperator.2.2.1) [] := by
  show xW sc m_M_arrayOperator (d + 3) Q (mH s R) 0 [some (vA 373), some (vI a1), none] []
  unfold f_M_arrayOperator at h
  refine x_aload_n (pc := 0) d_M_arrayOperator_0 rfl ?_
  refine x_getf (c := 1) (k := 4) (v := vI (mI 4 s)) (pc := 1) d_M_arrayOperator_1 l_M_247 (xm_at s R) rfl ?_
  refine x_iconst (v := (1 : Int32)) (pc := 4) d_M_arrayOperator_4 (by decide) ?_
  refine x_isub (pc := 5) d_M_arrayOperator_5 ?_
  refine x_istore_n (pc := 6) d_M_arrayOperator_6 (by decide) ?_
  show xW sc m_M_arrayOperator (d + 3) Q (mH s R) 7 [some (vA 373), some (vI a1), some (vI ((mI 4 s) - (1 : Int32)))] []
  refine x_iload_n (pc := 7) d_M_arrayOperator_7 rfl ?_
  by_cases c1 : a1 = (37 : Int32)
  · rw [if_pos c1] at h
    refine x_tableIn (off := 36) (tgt := 44) (pc := 8) d_M_arrayOperator_8 (by rw [c1]; decide) (by rw [c1]; decide) (by rw [c1]; decide) (by decide) ?_
    refine x_aload_n (pc := 44) d_M_arrayOperator_44 rfl ?_
    refine x_aload_n (pc := 45) d_M_arrayOperator_45 rfl ?_
    refine x_getf (c := 1) (k := 2) (v := vA 375) (pc := 46) d_M_arrayOperator_46 l_M_13 (xm_at s R) rfl ?_
    refine x_iload_n (pc := 49) d_M_arrayOperator_49 rfl ?_
    obtain ⟨c2, h⟩ := ite_some h
    refine x_lald (pc := 50) d_M_arrayOperator_50 (xm_a2 s R) (xin_vp c2) ?_
    obtain ⟨⟨v5, s4⟩, e3, h⟩ := Option.bind_eq_some_iff.mp h
    dsimp only at h
    refine x_invv (c := 1) (av := [vL (mL 2 s ((mI 4 s) - (1 : Int32)).toNatClampNeg)]) (st := []) (pc := 51) d_M_arrayOperator_51 cv_M_497 y_M_zeros (xm_at s R) rfl (Nat.le_of_ble_eq_true rfl) (Nat.le_of_ble_eq_true rfl) (w_M_zeros (d := d + 0) (Q := fun r h' => r = .inl (some (vI v5)) ∧ h' = mH s4 R) (R := R) ⟨rfl, rfl⟩ s (mL 2 s ((mI 4 s) - (1 : Int32)).toNatClampNeg) e3) (fun v h' z => ?_) (fun a h' z => nomatch z.1)
    obtain ⟨z1, z2⟩ := z
    subst z2
    cases z1
    show xW sc m_M_arrayOperator (d + 3) Q (mH s4 R) 54 [some (vA 373), some (vI a1), some (vI ((mI 4 s) - (1 : Int32)))] [vI v5]
    cases h
    exact x_iret (ty := .int) (pc := 54) d_M_arrayOperator_54 rfl (rfl) hQ
  rw [if_neg c1] at h
  by_cases c7 : a1 = (38 : Int32)
  · rw [if_pos c7] at h
    refine x_tableIn (off := 47) (tgt := 55) (pc := 8) d_M_arrayOperator_8 (by rw [c7]; decide) (by rw [c7]; decide) (by rw [c7]; decide) (by decide) ?_
    refine x_aload_n (pc := 55) d_M_arrayOperator_55 rfl ?_
    refine x_iconst (v := (1 : Int32)) (pc := 56) d_M_arrayOperator_56 (by decide) ?_
    refine x_iconst (v := (0 : Int32)) (pc := 57) d_M_arrayOperator_57 (by decide) ?_
    refine x_aload_n (pc := 58) d_M_arrayOperator_58 rfl ?_
    refine x_iload_n (pc := 59) d_M_arrayOperator_59 rfl ?_
    obtain ⟨⟨v10, s9⟩, e8, h⟩ := Option.bind_eq_some_iff.mp h
    dsimp only at h
    refine x_invv (c := 1) (av := [vI ((mI 4 s) - (1 : Int32))]) (st := [vI (0 : Int32), vI (1 : Int32), vA 373]) (pc := 60) d_M_arrayOperator_60 cv_M_421 y_M_kindOf (xm_at s R) rfl (Nat.le_of_ble_eq_true rfl) (Nat.le_of_ble_eq_true rfl) (w_M_kindOf (d := d + 2) (Q := fun r h' => r = .inl (some (vI v10)) ∧ h' = mH s9 R) (R := R) ⟨rfl, rfl⟩ s ((mI 4 s) - (1 : Int32)) e8) (fun v h' z => ?_) (fun a h' z => nomatch z.1)
    obtain ⟨z1, z2⟩ := z
    subst z2
    cases z1
    show xW sc m_M_arrayOperator (d + 3) Q (mH s9 R) 63 [some (vA 373), some (vI a1), some (vI ((mI 4 s) - (1 : Int32)))] [vI v10, vI (0 : Int32), vI (1 : Int32), vA 373]
    refine x_iconst (v := (5 : Int32)) (pc := 63) d_M_arrayOperator_63 (by decide) ?_
    refine x_icmp_ne (tgt := 80) (pc := 64) d_M_arrayOperator_64 (by decide) (fun c12 => ?_) (fun c12 => ?_)
    · rw [if_neg c12] at h
      refine x_aload_n (pc := 80) d_M_arrayOperator_80 rfl ?_
      refine x_getf (c := 1) (k := 7) (v := vA 378) (pc := 81) d_M_arrayOperator_81 l_M_24 (xm_at s9 R) rfl ?_
      refine x_aload_n (pc := 84) d_M_arrayOperator_84 rfl ?_
      refine x_getf (c := 1) (k := 2) (v := vA 375) (pc := 85) d_M_arrayOperator_85 l_M_13 (xm_at s9 R) rfl ?_
      refine x_iload_n (pc := 88) d_M_arrayOperator_88 rfl ?_
      obtain ⟨c13, h⟩ := ite_some h
      refine x_lald (pc := 89) d_M_arrayOperator_89 (xm_a2 s9 R) (xin_vp c13) ?_
      refine x_l2i (pc := 90) d_M_arrayOperator_90 ?_
      obtain ⟨c14, h⟩ := ite_some h
      refine x_iald (pc := 91) d_M_arrayOperator_91 (xm_a7 s9 R) (xin_vp c14) ?_
      refine x_i2l (pc := 92) d_M_arrayOperator_92 ?_
      exact x_wk (L' := [none, none, none]) ⟨Or.inl rfl, Or.inl rfl, Or.inl rfl, trivial⟩ (w_M_arrayOperator_b93 hQ ((mA 7 s9 ((mL 2 s9 ((mI 4 s) - (1 : Int32)).toNatClampNeg).toInt32).toNatClampNeg).toInt64) (0 : Int32) (1 : Int32) s9 h)
    · rw [if_pos c12] at h
      refine x_aload_n (pc := 67) d_M_arrayOperator_67 rfl ?_
      refine x_getf (c := 1) (k := 2) (v := vA 375) (pc := 68) d_M_arrayOperator_68 l_M_13 (xm_at s9 R) rfl ?_
      refine x_iload_n (pc := 71) d_M_arrayOperator_71 rfl ?_
      obtain ⟨c15, h⟩ := ite_some h
      refine x_lald (pc := 72) d_M_arrayOperator_72 (xm_a2 s9 R) (xin_vp c15) ?_
      obtain ⟨v16, e17, h⟩ := Option.bind_eq_some_iff.mp h
      refine x_invs (av := [vL (mL 2 s9 ((mI 4 s) - (1 : Int32)).toNatClampNeg)]) (st := [vI (0 : Int32), vI (1 : Int32), vA 373]) (pc := 73) d_M_arrayOperator_73 cs_M_391 y_M_count rfl (Nat.le_of_ble_eq_true rfl) (Nat.le_of_ble_eq_true rfl) (w_M_count (d := d + 2) (Q := fun r h' => r = .inl (some (vI v16)) ∧ h' = mH s9 R) (hh := mH s9 R) ⟨rfl, rfl⟩ (mL 2 s9 ((mI 4 s) - (1 : Int32)).toNatClampNeg) e17) (fun v h' z => ?_) (fun a h' z => nomatch z.1)
      obtain ⟨z1, z2⟩ := z
      subst z2
      cases z1
      show xW sc m_M_arrayOperator (d + 3) Q (mH s9 R) 76 [some (vA 373), some (vI a1), some (vI ((mI 4 s) - (1 : Int32)))] [vI v16, vI (0 : Int32), vI (1 : Int32), vA 373]
      refine x_i2l (pc := 76) d_M_arrayOperator_76 ?_
      refine x_goto (tgt := 93) (pc := 77) d_M_arrayOperator_77 (by decide) ?_
      exact x_wk (L' := [none, none, none]) ⟨Or.inl rfl, Or.inl rfl, Or.inl rfl, trivial⟩ (w_M_arrayOperator_b93 hQ v16.toInt64 (0 : Int32) (1 : Int32) s9 h)
  rw [if_neg c7] at h
  by_cases c18 : a1 = (39 : Int32)
  · rw [if_pos c18] at h
    refine x_tableIn (off := 89) (tgt := 97) (pc := 8) d_M_arrayOperator_8 (by rw [c18]; decide) (by rw [c18]; decide) (by rw [c18]; decide) (by decide) ?_
    refine x_aload_n (pc := 97) d_M_arrayOperator_97 rfl ?_
    refine x_iload_n (pc := 98) d_M_arrayOperator_98 rfl ?_
    obtain ⟨⟨v21, s20⟩, e19, h⟩ := Option.bind_eq_some_iff.mp h
    dsimp only at h
    refine x_invv (c := 1) (av := [vI ((mI 4 s) - (1 : Int32))]) (st := []) (pc := 99) d_M_arrayOperator_99 cv_M_500 y_M_get (xm_at s R) rfl (Nat.le_of_ble_eq_true rfl) (Nat.le_of_ble_eq_true rfl) (w_M_get (d := d + 0) (Q := fun r h' => r = .inl (some (vI v21)) ∧ h' = mH s20 R) (R := R) ⟨rfl, rfl⟩ s ((mI 4 s) - (1 : Int32)) e19) (fun v h' z => ?_) (fun a h' z => nomatch z.1)
    obtain ⟨z1, z2⟩ := z
    subst z2
    cases z1
    show xW sc m_M_arrayOperator (d + 3) Q (mH s20 R) 102 [some (vA 373), some (vI a1), some (vI ((mI 4 s) - (1 : Int32)))] [vI v21]
    cases h
    exact x_iret (ty := .int) (pc := 102) d_M_arrayOperator_102 rfl (rfl) hQ
  rw [if_neg c18] at h
  by_cases c23 : a1 = (40 : Int32)
  · rw [if_pos c23] at h
    refine x_tableIn (off := 95) (tgt := 103) (pc := 8) d_M_arrayOperator_8 (by rw [c23]; decide) (by rw [c23]; decide) (by rw [c23]; decide) (by decide) ?_
    refine x_aload_n (pc := 103) d_M_arrayOperator_103 rfl ?_
    refine x_iload_n (pc := 104) d_M_arrayOperator_104 rfl ?_
    refine x_iconst (v := (2 : Int32)) (pc := 105) d_M_arrayOperator_105 (by decide) ?_
    refine x_isub (pc := 106) d_M_arrayOperator_106 ?_
    obtain ⟨⟨v26, s25⟩, e24, h⟩ := Option.bind_eq_some_iff.mp h
    dsimp only at h
    refine x_invv (c := 1) (av := [vI (((mI 4 s) - (1 : Int32)) - (2 : Int32))]) (st := []) (pc := 107) d_M_arrayOperator_107 cv_M_421 y_M_kindOf (xm_at s R) rfl (Nat.le_of_ble_eq_true rfl) (Nat.le_of_ble_eq_true rfl) (w_M_kindOf (d := d + 2) (Q := fun r h' => r = .inl (some (vI v26)) ∧ h' = mH s25 R) (R := R) ⟨rfl, rfl⟩ s (((mI 4 s) - (1 : Int32)) - (2 : Int32)) e24) (fun v h' z => ?_) (fun a h' z => nomatch z.1)
    obtain ⟨z1, z2⟩ := z
    subst z2
    cases z1
    show xW sc m_M_arrayOperator (d + 3) Q (mH s25 R) 110 [some (vA 373), some (vI a1), some (vI ((mI 4 s) - (1 : Int32)))] [vI v26]
    refine x_bipush (v := (6 : Int32)) (pc := 110) d_M_arrayOperator_110 (by decide) ?_
    refine x_icmp_ne (tgt := 140) (pc := 112) d_M_arrayOperator_112 (by decide) (fun c28 => ?_) (fun c28 => ?_)
    · rw [if_neg c28] at h
      refine x_aload_n (pc := 140) d_M_arrayOperator_140 rfl ?_
      refine x_iload_n (pc := 141) d_M_arrayOperator_141 rfl ?_
      obtain ⟨⟨v31, s30⟩, e29, h⟩ := Option.bind_eq_some_iff.mp h
      dsimp only at h
      refine x_invv (c := 1) (av := [vI ((mI 4 s) - (1 : Int32))]) (st := []) (pc := 142) d_M_arrayOperator_142 cv_M_507 y_M_putCell (xm_at s25 R) rfl (Nat.le_of_ble_eq_true rfl) (Nat.le_of_ble_eq_true rfl) (w_M_putCell (d := d + 1) (Q := fun r h' => r = .inl (some (vI v31)) ∧ h' = mH s30 R) (R := R) ⟨rfl, rfl⟩ s25 ((mI 4 s) - (1 : Int32)) e29) (fun v h' z => ?_) (fun a h' z => nomatch z.1)
      obtain ⟨z1, z2⟩ := z
      subst z2
      cases z1
      show xW sc m_M_arrayOperator (d + 3) Q (mH s30 R) 145 [some (vA 373), some (vI a1), some (vI ((mI 4 s) - (1 : Int32)))] [vI v31]
      exact x_wk (L' := [none, none, none]) ⟨Or.inl rfl, Or.inl rfl, Or.inl rfl, trivial⟩ (w_M_arrayOperator_b145 hQ v31 s30 h)
    · rw [if_pos c28] at h
      refine x_aload_n (pc := 115) d_M_arrayOperator_115 rfl ?_
      refine x_aload_n (pc := 116) d_M_arrayOperator_116 rfl ?_
      refine x_getf (c := 1) (k := 2) (v := vA 375) (pc := 117) d_M_arrayOperator_117 l_M_13 (xm_at s25 R) rfl ?_
      refine x_iload_n (pc := 120) d_M_arrayOperator_120 rfl ?_
      refine x_iconst (v := (2 : Int32)) (pc := 121) d_M_arrayOperator_121 (by decide) ?_
      refine x_isub (pc := 122) d_M_arrayOperator_122 ?_
      obtain ⟨c33, h⟩ := ite_some h
      refine x_lald (pc := 123) d_M_arrayOperator_123 (xm_a2 s25 R) (xin_vp c33) ?_
      refine x_l2i (pc := 124) d_M_arrayOperator_124 ?_
      refine x_aload_n (pc := 125) d_M_arrayOperator_125 rfl ?_
      refine x_getf (c := 1) (k := 2) (v := vA 375) (pc := 126) d_M_arrayOperator_126 l_M_13 (xm_at s25 R) rfl ?_
      refine x_iload_n (pc := 129) d_M_arrayOperator_129 rfl ?_
      refine x_iconst (v := (1 : Int32)) (pc := 130) d_M_arrayOperator_130 (by decide) ?_
      refine x_isub (pc := 131) d_M_arrayOperator_131 ?_
      obtain ⟨c34, h⟩ := ite_some h
      refine x_lald (pc := 132) d_M_arrayOperator_132 (xm_a2 s25 R) (xin_vp c34) ?_
      refine x_iconst (v := (3 : Int32)) (pc := 133) d_M_arrayOperator_133 (by decide) ?_
      obtain ⟨⟨v37, s36⟩, e35, h⟩ := Option.bind_eq_some_iff.mp h
      dsimp only at h
      refine x_invv (c := 1) (av := [vI ((mL 2 s25 (((mI 4 s) - (1 : Int32)) - (2 : Int32)).toNatClampNeg).toInt32), vL (mL 2 s25 (((mI 4 s) - (1 : Int32)) - (1 : Int32)).toNatClampNeg), vI (3 : Int32)]) (st := []) (pc := 134) d_M_arrayOperator_134 cv_M_503 y_M_putEntry (xm_at s25 R) rfl (Nat.le_of_ble_eq_true rfl) (Nat.le_of_ble_eq_true rfl) (w_M_putEntry (d := d + 0) (Q := fun r h' => r = .inl (some (vI v37)) ∧ h' = mH s36 R) (R := R) ⟨rfl, rfl⟩ s25 ((mL 2 s25 (((mI 4 s) - (1 : Int32)) - (2 : Int32)).toNatClampNeg).toInt32) (mL 2 s25 (((mI 4 s) - (1 : Int32)) - (1 : Int32)).toNatClampNeg) (3 : Int32) e35) (fun v h' z => ?_) (fun a h' z => nomatch z.1)
      obtain ⟨z1, z2⟩ := z
      subst z2
      cases z1
      show xW sc m_M_arrayOperator (d + 3) Q (mH s36 R) 137 [some (vA 373), some (vI a1), some (vI ((mI 4 s) - (1 : Int32)))] [vI v37]
      refine x_goto (tgt := 145) (pc := 137) d_M_arrayOperator_137 (by decide) ?_
      exact x_wk (L' := [none, none, none]) ⟨Or.inl rfl, Or.inl rfl, Or.inl rfl, trivial⟩ (w_M_arrayOperator_b145 hQ v37 s36 h)
  rw [if_neg c23] at h
  by_cases c39 : a1 = (41 : Int32)
  · rw [if_pos c39] at h
    refine x_tableIn (off := 138) (tgt := 146) (pc := 8) d_M_arrayOperator_8 (by rw [c39]; decide) (by rw [c39]; decide) (by rw [c39]; decide) (by decide) ?_
    refine x_aload_n (pc := 146) d_M_arrayOperator_146 rfl ?_
    refine x_aload_n (pc := 147) d_M_arrayOperator_147 rfl ?_
    refine x_getf (c := 1) (k := 2) (v := vA 375) (pc := 148) d_M_arrayOperator_148 l_M_13 (xm_at s R) rfl ?_
    refine x_iload_n (pc := 151) d_M_arrayOperator_151 rfl ?_
    refine x_iconst (v := (2 : Int32)) (pc := 152) d_M_arrayOperator_152 (by decide) ?_
    refine x_isub (pc := 153) d_M_arrayOperator_153 ?_
    obtain ⟨c40, h⟩ := ite_some h
    refine x_lald (pc := 154) d_M_arrayOperator_154 (xm_a2 s R) (xin_vp c40) ?_
    refine x_aload_n (pc := 155) d_M_arrayOperator_155 rfl ?_
    refine x_getf (c := 1) (k := 2) (v := vA 375) (pc := 156) d_M_arrayOperator_156 l_M_13 (xm_at s R) rfl ?_
    refine x_iload_n (pc := 159) d_M_arrayOperator_159 rfl ?_
    refine x_iconst (v := (1 : Int32)) (pc := 160) d_M_arrayOperator_160 (by decide) ?_
    refine x_isub (pc := 161) d_M_arrayOperator_161 ?_
    obtain ⟨c41, h⟩ := ite_some h
    refine x_lald (pc := 162) d_M_arrayOperator_162 (xm_a2 s R) (xin_vp c41) ?_
    refine x_aload_n (pc := 163) d_M_arrayOperator_163 rfl ?_
    refine x_getf (c := 1) (k := 2) (v := vA 375) (pc := 164) d_M_arrayOperator_164 l_M_13 (xm_at s R) rfl ?_
    refine x_iload_n (pc := 167) d_M_arrayOperator_167 rfl ?_
    obtain ⟨c42, h⟩ := ite_some h
    refine x_lald (pc := 168) d_M_arrayOperator_168 (xm_a2 s R) (xin_vp c42) ?_
    obtain ⟨⟨v45, s44⟩, e43, h⟩ := Option.bind_eq_some_iff.mp h
    dsimp only at h
    refine x_invv (c := 1) (av := [vL (mL 2 s (((mI 4 s) - (1 : Int32)) - (2 : Int32)).toNatClampNeg), vL (mL 2 s (((mI 4 s) - (1 : Int32)) - (1 : Int32)).toNatClampNeg), vL (mL 2 s ((mI 4 s) - (1 : Int32)).toNatClampNeg)]) (st := []) (pc := 169) d_M_arrayOperator_169 cv_M_510 y_M_part (xm_at s R) rfl (Nat.le_of_ble_eq_true rfl) (Nat.le_of_ble_eq_true rfl) (w_M_part (d := d + 0) (Q := fun r h' => r = .inl (some (vI v45)) ∧ h' = mH s44 R) (R := R) ⟨rfl, rfl⟩ s (mL 2 s (((mI 4 s) - (1 : Int32)) - (2 : Int32)).toNatClampNeg) (mL 2 s (((mI 4 s) - (1 : Int32)) - (1 : Int32)).toNatClampNeg) (mL 2 s ((mI 4 s) - (1 : Int32)).toNatClampNeg) e43) (fun v h' z => ?_) (fun a h' z => nomatch z.1)
    obtain ⟨z1, z2⟩ := z
    subst z2
    cases z1
    show xW sc m_M_arrayOperator (d + 3) Q (mH s44 R) 172 [some (vA 373), some (vI a1), some (vI ((mI 4 s) - (1 : Int32)))] [vI v45]
    cases h
    exact x_iret (ty := .int) (pc := 172) d_M_arrayOperator_172 rfl (rfl) hQ
  rw [if_neg c39] at h
  refine x_tableOut (tgt := 173) (pc := 8) d_M_arrayOperator_8 (by have q0 := lv_neT c1 (a := 37) (by decide); have q1 := lv_neT c7 (a := 38) (by decide); have q2 := lv_neT c18 (a := 39) (by decide); have q3 := lv_neT c23 (a := 40) (by decide); have q4 := lv_neT c39 (a := 41) (by decide); omega) (by decide) ?_
  refine x_aload_n (pc := 173) d_M_arrayOperator_173 rfl ?_
  refine x_aload_n (pc := 174) d_M_arrayOperator_174 rfl ?_
  refine x_getf (c := 1) (k := 2) (v := vA 375) (pc := 175) d_M_arrayOperator_175 l_M_13 (xm_at s R) rfl ?_
  refine x_iload_n (pc := 178) d_M_arrayOperator_178 rfl ?_
  obtain ⟨c47, h⟩ := ite_some h
  refine x_lald (pc := 179) d_M_arrayOperator_179 (xm_a2 s R) (xin_vp c47) ?_
  obtain ⟨⟨v50, s49⟩, e48, h⟩ := Option.bind_eq_some_iff.mp h
  dsimp only at h
  refine x_invv (c := 1) (av := [vL (mL 2 s ((mI 4 s) - (1 : Int32)).toNatClampNeg)]) (st := []) (pc := 180) d_M_arrayOperator_180 cv_M_513 y_M_load (xm_at s R) rfl (Nat.le_of_ble_eq_true rfl) (Nat.le_of_ble_eq_true rfl) (w_M_load (d := d + 1) (Q := fun r h' => r = .inl (some (vI v50)) ∧ h' = mH s49 R) (R := R) ⟨rfl, rfl⟩ s (mL 2 s ((mI 4 s) - (1 : Int32)).toNatClampNeg) e48) (fun v h' z => ?_) (fun a h' z => nomatch z.1)
  obtain ⟨z1, z2⟩ := z
  subst z2
  cases z1
  show xW sc m_M_arrayOperator (d + 3) Q (mH s49 R) 183 [some (vA 373), some (vI a1), some (vI ((mI 4 s) - (1 : Int32)))] [vI v50]
  cases h
  exact x_iret (ty := .int) (pc := 183) d_M_arrayOperator_183 rfl (rfl) hQ
def f_M_control_b98  (t0 : Int32) (s : MT) : Option (Int32 × MT) := some (t0, s)
theorem w_M_control_b98 {sc : xSc} {d : Nat} {Q : xR → xH → Prop} {R : xH} {sZ : MT} {rZ : Int32}  (hQ : Q (.inl (some (vI rZ))) (mH sZ R)) (t0 : Int32) (s : MT) (h : f_M_control_b98  t0 s = some (rZ, sZ)) : xW sc m_M_control (d + 3) Q (mH s R) 98 [none, none] [vI t0] := by
  unfold f_M_control_b98 at h
  cases h
  exact x_iret (ty := .int) (pc := 98) d_M_control_98 rfl (rfl) hQ
def f_M_control (s : MT) (a1 : Int32) : Option (Int32 × MT) := (if a1 = (57 : Int32) then (f_M_exit s).bind fun (v4, s3) => some (v4, s3) else (if a1 = (58 : Int32) then some ((14 : Int32), s) else (if a1 = (59 : Int32) then (f_M_move (sI 4 ((mI 4 s) - (1 : Int32)) s) (40 : Int32) (mI 4 (sI 4 ((mI 4 s) - (1 : Int32)) s))).bind fun s9 => (f_M_frame s9 (7 : Int32) (0 : Int64)).bind fun s11 => (f_M_isProcedure s11 (40 : Int32)).bind fun (v14, s13) => (if v14 = 0 then (f_M_again s13).bind fun (v19, s18) => f_M_control_b98 v19 s18 else (if xin (40 : Int32) 1300 = true then (f_M_runArray s13 (mL 2 s13 (40 : Int32).toNatClampNeg)).bind fun (v24, s23) => f_M_control_b98 v24 s23 else none)) else (if a1 = (60 : Int32) then (f_M_push s (0 : Int32) ((mI 33 s).toInt64)).bind fun (v29, s28) => some (v29, s28) else (if a1 = (61 : Int32) then (f_M_save s).bind fun (v34, s33) => some (v34, s33) else (f_M_restore s).bind fun (v38, s37) => some (v38, s37))))))
theorem w_M_control {sc : xSc} {d : Nat} {Q : xR → xH → Prop} {R : xH} {sZ : MT} {rZ : Int32} (hQ : Q (.inl (some (vI rZ))) (mH sZ R)) (s : MT) (a1 : Int32) (h : f_M_control s a1 = some (rZ, sZ)) : xW sc m_M_control (d + 3) Q (mH s R) 0 (xent [vA 373, vI a1] m_M_control.2.2.1) [] := by
  show xW sc m_M_control (d + 3) Q (mH s R) 0 [some (vA 373), some (vI a1)] []
  unfold f_M_control at h
  refine x_iload_n (pc := 0) d_M_control_0 rfl ?_
  by_cases c1 : a1 = (57 : Int32)
  · rw [if_pos c1] at h
    refine x_tableIn (off := 35) (tgt := 36) (pc := 1) d_M_control_1 (by rw [c1]; decide) (by rw [c1]; decide) (by rw [c1]; decide) (by decide) ?_
    refine x_aload_n (pc := 36) d_M_control_36 rfl ?_
    obtain ⟨⟨v4, s3⟩, e2, h⟩ := Option.bind_eq_some_iff.mp h
    dsimp only at h
    refine x_invv (c := 1) (av := []) (st := []) (pc := 37) d_M_control_37 cv_M_525 y_M_exit (xm_at s R) rfl (Nat.le_of_ble_eq_true rfl) (Nat.le_of_ble_eq_true rfl) (w_M_exit (d := d + 1) (Q := fun r h' => r = .inl (some (vI v4)) ∧ h' = mH s3 R) (R := R) ⟨rfl, rfl⟩ s  e2) (fun v h' z => ?_) (fun a h' z => nomatch z.1)
    obtain ⟨z1, z2⟩ := z
    subst z2
    cases z1
    show xW sc m_M_control (d + 3) Q (mH s3 R) 40 [some (vA 373), some (vI a1)] [vI v4]
    cases h
    exact x_iret (ty := .int) (pc := 40) d_M_control_40 rfl (rfl) hQ
  rw [if_neg c1] at h
  by_cases c6 : a1 = (58 : Int32)
  · rw [if_pos c6] at h
    refine x_tableIn (off := 40) (tgt := 41) (pc := 1) d_M_control_1 (by rw [c6]; decide) (by rw [c6]; decide) (by rw [c6]; decide) (by decide) ?_
    refine x_bipush (v := (14 : Int32)) (pc := 41) d_M_control_41 (by decide) ?_
    cases h
    exact x_iret (ty := .int) (pc := 43) d_M_control_43 rfl (rfl) hQ
  rw [if_neg c6] at h
  by_cases c7 : a1 = (59 : Int32)
  · rw [if_pos c7] at h
    refine x_tableIn (off := 43) (tgt := 44) (pc := 1) d_M_control_1 (by rw [c7]; decide) (by rw [c7]; decide) (by rw [c7]; decide) (by decide) ?_
    refine x_aload_n (pc := 44) d_M_control_44 rfl ?_
    refine x_dup (pc := 45) d_M_control_45 rfl ?_
    refine x_getf (c := 1) (k := 4) (v := vI (mI 4 s)) (pc := 46) d_M_control_46 l_M_247 (xm_at s R) rfl ?_
    refine x_iconst (v := (1 : Int32)) (pc := 49) d_M_control_49 (by decide) ?_
    refine x_isub (pc := 50) d_M_control_50 ?_
    refine xm_p4 (pc := 51) d_M_control_51 l_M_247 ?_
    refine x_aload_n (pc := 54) d_M_control_54 rfl ?_
    refine x_bipush (v := (40 : Int32)) (pc := 55) d_M_control_55 (by decide) ?_
    refine x_aload_n (pc := 57) d_M_control_57 rfl ?_
    refine x_getf (c := 1) (k := 4) (v := vI (mI 4 (sI 4 ((mI 4 s) - (1 : Int32)) s))) (pc := 58) d_M_control_58 l_M_247 (xm_at (sI 4 ((mI 4 s) - (1 : Int32)) s) R) rfl ?_
    obtain ⟨s9, e8, h⟩ := Option.bind_eq_some_iff.mp h
    refine x_invv (c := 1) (av := [vI (40 : Int32), vI (mI 4 (sI 4 ((mI 4 s) - (1 : Int32)) s))]) (st := []) (pc := 61) d_M_control_61 cv_M_254 y_M_move (xm_at (sI 4 ((mI 4 s) - (1 : Int32)) s) R) rfl (Nat.le_of_ble_eq_true rfl) (Nat.le_of_ble_eq_true rfl) (w_M_move (d := d + 2) (Q := fun r h' => r = .inl none ∧ h' = mH s9 R) (R := R) ⟨rfl, rfl⟩ (sI 4 ((mI 4 s) - (1 : Int32)) s) (40 : Int32) (mI 4 (sI 4 ((mI 4 s) - (1 : Int32)) s)) e8) (fun v h' z => ?_) (fun a h' z => nomatch z.1)
    obtain ⟨z1, z2⟩ := z
    subst z2
    cases z1
    show xW sc m_M_control (d + 3) Q (mH s9 R) 64 [some (vA 373), some (vI a1)] []
    refine x_aload_n (pc := 64) d_M_control_64 rfl ?_
    refine x_bipush (v := (7 : Int32)) (pc := 65) d_M_control_65 (by decide) ?_
    refine x_lconst (v := (0 : Int64)) (pc := 67) d_M_control_67 (by decide) ?_
    obtain ⟨s11, e10, h⟩ := Option.bind_eq_some_iff.mp h
    refine x_invv (c := 1) (av := [vI (7 : Int32), vL (0 : Int64)]) (st := []) (pc := 68) d_M_control_68 cv_M_352 y_M_frame (xm_at s9 R) rfl (Nat.le_of_ble_eq_true rfl) (Nat.le_of_ble_eq_true rfl) (w_M_frame (d := d + 2) (Q := fun r h' => r = .inl none ∧ h' = mH s11 R) (R := R) ⟨rfl, rfl⟩ s9 (7 : Int32) (0 : Int64) e10) (fun v h' z => ?_) (fun a h' z => nomatch z.1)
    obtain ⟨z1, z2⟩ := z
    subst z2
    cases z1
    show xW sc m_M_control (d + 3) Q (mH s11 R) 71 [some (vA 373), some (vI a1)] []
    refine x_aload_n (pc := 71) d_M_control_71 rfl ?_
    refine x_bipush (v := (40 : Int32)) (pc := 72) d_M_control_72 (by decide) ?_
    obtain ⟨⟨v14, s13⟩, e12, h⟩ := Option.bind_eq_some_iff.mp h
    dsimp only at h
    refine x_invv (c := 1) (av := [vI (40 : Int32)]) (st := []) (pc := 74) d_M_control_74 cv_M_378 y_M_isProcedure (xm_at s11 R) rfl (Nat.le_of_ble_eq_true rfl) (Nat.le_of_ble_eq_true rfl) (w_M_isProcedure (d := d + 2) (Q := fun r h' => r = .inl (some (vI v14)) ∧ h' = mH s13 R) (R := R) ⟨rfl, rfl⟩ s11 (40 : Int32) e12) (fun v h' z => ?_) (fun a h' z => nomatch z.1)
    obtain ⟨z1, z2⟩ := z
    subst z2
    cases z1
    show xW sc m_M_control (d + 3) Q (mH s13 R) 77 [some (vA 373), some (vI a1)] [vI v14]
    refine x_if_eq (tgt := 94) (pc := 77) d_M_control_77 (by decide) (fun c16 => ?_) (fun c16 => ?_)
    · rw [if_pos c16] at h
      refine x_aload_n (pc := 94) d_M_control_94 rfl ?_
      obtain ⟨⟨v19, s18⟩, e17, h⟩ := Option.bind_eq_some_iff.mp h
      dsimp only at h
      refine x_invv (c := 1) (av := []) (st := []) (pc := 95) d_M_control_95 cv_M_522 y_M_again (xm_at s13 R) rfl (Nat.le_of_ble_eq_true rfl) (Nat.le_of_ble_eq_true rfl) (w_M_again (d := d + 1) (Q := fun r h' => r = .inl (some (vI v19)) ∧ h' = mH s18 R) (R := R) ⟨rfl, rfl⟩ s13  e17) (fun v h' z => ?_) (fun a h' z => nomatch z.1)
      obtain ⟨z1, z2⟩ := z
      subst z2
      cases z1
      show xW sc m_M_control (d + 3) Q (mH s18 R) 98 [some (vA 373), some (vI a1)] [vI v19]
      exact x_wk (L' := [none, none]) ⟨Or.inl rfl, Or.inl rfl, trivial⟩ (w_M_control_b98 hQ v19 s18 h)
    · rw [if_neg c16] at h
      refine x_aload_n (pc := 80) d_M_control_80 rfl ?_
      refine x_aload_n (pc := 81) d_M_control_81 rfl ?_
      refine x_getf (c := 1) (k := 2) (v := vA 375) (pc := 82) d_M_control_82 l_M_13 (xm_at s13 R) rfl ?_
      refine x_bipush (v := (40 : Int32)) (pc := 85) d_M_control_85 (by decide) ?_
      obtain ⟨c21, h⟩ := ite_some h
      refine x_lald (pc := 87) d_M_control_87 (xm_a2 s13 R) (xin_vp c21) ?_
      obtain ⟨⟨v24, s23⟩, e22, h⟩ := Option.bind_eq_some_iff.mp h
      dsimp only at h
      refine x_invv (c := 1) (av := [vL (mL 2 s13 (40 : Int32).toNatClampNeg)]) (st := []) (pc := 88) d_M_control_88 cv_M_382 y_M_runArray (xm_at s13 R) rfl (Nat.le_of_ble_eq_true rfl) (Nat.le_of_ble_eq_true rfl) (w_M_runArray (d := d + 1) (Q := fun r h' => r = .inl (some (vI v24)) ∧ h' = mH s23 R) (R := R) ⟨rfl, rfl⟩ s13 (mL 2 s13 (40 : Int32).toNatClampNeg) e22) (fun v h' z => ?_) (fun a h' z => nomatch z.1)
      obtain ⟨z1, z2⟩ := z
      subst z2
      cases z1
      show xW sc m_M_control (d + 3) Q (mH s23 R) 91 [some (vA 373), some (vI a1)] [vI v24]
      refine x_goto (tgt := 98) (pc := 91) d_M_control_91 (by decide) ?_
      exact x_wk (L' := [none, none]) ⟨Or.inl rfl, Or.inl rfl, trivial⟩ (w_M_control_b98 hQ v24 s23 h)
  rw [if_neg c7] at h
  by_cases c26 : a1 = (60 : Int32)
  · rw [if_pos c26] at h
    refine x_tableIn (off := 98) (tgt := 99) (pc := 1) d_M_control_1 (by rw [c26]; decide) (by rw [c26]; decide) (by rw [c26]; decide) (by decide) ?_
    refine x_aload_n (pc := 99) d_M_control_99 rfl ?_
    refine x_iconst (v := (0 : Int32)) (pc := 100) d_M_control_100 (by decide) ?_
    refine x_aload_n (pc := 101) d_M_control_101 rfl ?_
    refine x_getf (c := 1) (k := 33) (v := vI (mI 33 s)) (pc := 102) d_M_control_102 l_M_402 (xm_at s R) rfl ?_
    refine x_i2l (pc := 105) d_M_control_105 ?_
    obtain ⟨⟨v29, s28⟩, e27, h⟩ := Option.bind_eq_some_iff.mp h
    dsimp only at h
    refine x_invv (c := 1) (av := [vI (0 : Int32), vL ((mI 33 s).toInt64)]) (st := []) (pc := 106) d_M_control_106 cv_M_388 y_M_push (xm_at s R) rfl (Nat.le_of_ble_eq_true rfl) (Nat.le_of_ble_eq_true rfl) (w_M_push (d := d + 1) (Q := fun r h' => r = .inl (some (vI v29)) ∧ h' = mH s28 R) (R := R) ⟨rfl, rfl⟩ s (0 : Int32) ((mI 33 s).toInt64) e27) (fun v h' z => ?_) (fun a h' z => nomatch z.1)
    obtain ⟨z1, z2⟩ := z
    subst z2
    cases z1
    show xW sc m_M_control (d + 3) Q (mH s28 R) 109 [some (vA 373), some (vI a1)] [vI v29]
    cases h
    exact x_iret (ty := .int) (pc := 109) d_M_control_109 rfl (rfl) hQ
  rw [if_neg c26] at h
  by_cases c31 : a1 = (61 : Int32)
  · rw [if_pos c31] at h
    refine x_tableIn (off := 109) (tgt := 110) (pc := 1) d_M_control_1 (by rw [c31]; decide) (by rw [c31]; decide) (by rw [c31]; decide) (by decide) ?_
    refine x_aload_n (pc := 110) d_M_control_110 rfl ?_
    obtain ⟨⟨v34, s33⟩, e32, h⟩ := Option.bind_eq_some_iff.mp h
    dsimp only at h
    refine x_invv (c := 1) (av := []) (st := []) (pc := 111) d_M_control_111 cv_M_528 y_M_save (xm_at s R) rfl (Nat.le_of_ble_eq_true rfl) (Nat.le_of_ble_eq_true rfl) (w_M_save (d := d + 0) (Q := fun r h' => r = .inl (some (vI v34)) ∧ h' = mH s33 R) (R := R) ⟨rfl, rfl⟩ s  e32) (fun v h' z => ?_) (fun a h' z => nomatch z.1)
    obtain ⟨z1, z2⟩ := z
    subst z2
    cases z1
    show xW sc m_M_control (d + 3) Q (mH s33 R) 114 [some (vA 373), some (vI a1)] [vI v34]
    cases h
    exact x_iret (ty := .int) (pc := 114) d_M_control_114 rfl (rfl) hQ
  rw [if_neg c31] at h
  refine x_tableOut (tgt := 115) (pc := 1) d_M_control_1 (by have q0 := lv_neT c1 (a := 57) (by decide); have q1 := lv_neT c6 (a := 58) (by decide); have q2 := lv_neT c7 (a := 59) (by decide); have q3 := lv_neT c26 (a := 60) (by decide); have q4 := lv_neT c31 (a := 61) (by decide); omega) (by decide) ?_
  refine x_aload_n (pc := 115) d_M_control_115 rfl ?_
  obtain ⟨⟨v38, s37⟩, e36, h⟩ := Option.bind_eq_some_iff.mp h
  dsimp only at h
  refine x_invv (c := 1) (av := []) (st := []) (pc := 116) d_M_control_116 cv_M_531 y_M_restore (xm_at s R) rfl (Nat.le_of_ble_eq_true rfl) (Nat.le_of_ble_eq_true rfl) (w_M_restore (d := d + 0) (Q := fun r h' => r = .inl (some (vI v38)) ∧ h' = mH s37 R) (R := R) ⟨rfl, rfl⟩ s  e36) (fun v h' z => ?_) (fun a h' z => nomatch z.1)
  obtain ⟨z1, z2⟩ := z
  subst z2
  cases z1
  show xW sc m_M_control (d + 3) Q (mH s37 R) 119 [some (vA 373), some (vI a1)] [vI v38]
  cases h
  exact x_iret (ty := .int) (pc := 119) d_M_control_119 rfl (rfl) hQ
def f_M_dictOperator_b214  (t0 : Int64) (t1 : Int32) (t2 : Int32) (s : MT) : Option (Int32 × MT) := (f_M_give s t2 t1 t0).bind fun (v3, s2) => some (v3, s2)
theorem w_M_dictOperator_b214 {sc : xSc} {d : Nat} {Q : xR → xH → Prop} {R : xH} {sZ : MT} {rZ : Int32}  (hQ : Q (.inl (some (vI rZ))) (mH sZ R)) (t0 : Int64) (t1 : Int32) (t2 : Int32) (s : MT) (h : f_M_dictOperator_b214  t0 t1 t2 s = some (rZ, sZ)) : xW sc m_M_dictOperator (d + 3) Q (mH s R) 214 [none, none, none, none] [vL t0, vI t1, vI t2, vA 373] := by
  unfold f_M_dictOperator_b214 at h
  obtain ⟨⟨v3, s2⟩, e1, h⟩ := Option.bind_eq_some_iff.mp h
  dsimp only at h
  refine x_invv (c := 1) (av := [vI t2, vI t1, vL t0]) (st := []) (pc := 214) d_M_dictOperator_214 cv_M_262 y_M_give (xm_at s R) rfl (Nat.le_of_ble_eq_true rfl) (Nat.le_of_ble_eq_true rfl) (w_M_give (d := d + 1) (Q := fun r h' => r = .inl (some (vI v3)) ∧ h' = mH s2 R) (R := R) ⟨rfl, rfl⟩ s t2 t1 t0 e1) (fun v h' z => ?_) (fun a h' z => nomatch z.1)
  obtain ⟨z1, z2⟩ := z
  subst z2
  cases z1
  show xW sc m_M_dictOperator (d + 3) Q (mH s2 R) 217 [none, none, none, none] [vI v3]
  cases h
  exact x_iret (ty := .int) (pc := 217) d_M_dictOperator_217 rfl (rfl) hQ
def f_M_dictOperator (s : MT) (a1 : Int32) : Option (Int32 × MT) := (if a1 = (43 : Int32) then (if xin ((mI 4 s) - (1 : Int32)) 1300 = true then (f_M_newDict s (mL 2 s ((mI 4 s) - (1 : Int32)).toNatClampNeg)).bind fun (v5, s4) => some (v5, s4) else none) else (if a1 = (44 : Int32) then (if (mI 10 s) = (6 : Int32) then some ((7 : Int32), s) else (if xin ((mI 4 s) - (1 : Int32)) 1300 = true then (if xin (mI 10 s) 6 = true then some ((0 : Int32), sI 4 ((mI 4 (sI 10 ((mI 10 (sA 9 (va_up (mA 9 s) (mI 10 s).toNatClampNeg ((mL 2 s ((mI 4 s) - (1 : Int32)).toNatClampNeg).toInt32)) s)) + (1 : Int32)) (sA 9 (va_up (mA 9 s) (mI 10 s).toNatClampNeg ((mL 2 s ((mI 4 s) - (1 : Int32)).toNatClampNeg).toInt32)) s))) - (1 : Int32)) (sI 10 ((mI 10 (sA 9 (va_up (mA 9 s) (mI 10 s).toNatClampNeg ((mL 2 s ((mI 4 s) - (1 : Int32)).toNatClampNeg).toInt32)) s)) + (1 : Int32)) (sA 9 (va_up (mA 9 s) (mI 10 s).toNatClampNeg ((mL 2 s ((mI 4 s) - (1 : Int32)).toNatClampNeg).toInt32)) s))) else none) else none)) else (if a1 = (45 : Int32) then (if (mI 10 s) = (1 : Int32) then some ((9 : Int32), s) else some ((0 : Int32), sI 10 ((mI 10 s) - (1 : Int32)) s)) else (if a1 = (46 : Int32) then (if xin ((mI 10 s) - (1 : Int32)) 6 = true then (if xin (((mI 4 s) - (1 : Int32)) - (1 : Int32)) 1300 = true then (f_M_putEntry s (mA 9 s ((mI 10 s) - (1 : Int32)).toNatClampNeg) (mL 2 s (((mI 4 s) - (1 : Int32)) - (1 : Int32)).toNatClampNeg) (2 : Int32)).bind fun (v18, s17) => some (v18, s17) else none) else none) else (if a1 = (47 : Int32) then (if xin ((mI 4 s) - (1 : Int32)) 1300 = true then (f_M_found s (mL 2 s ((mI 4 s) - (1 : Int32)).toNatClampNeg)).bind fun (v24, s23) => (if v24 = (-1 : Int32) then some ((5 : Int32), s23) else (f_M_move s23 ((mI 4 s) - (1 : Int32)) v24).bind fun s28 => some ((0 : Int32), s28)) else none) else (if a1 = (48 : Int32) then (if xin (((mI 4 s) - (1 : Int32)) - (1 : Int32)) 1300 = true then (if xin ((mI 4 s) - (1 : Int32)) 1300 = true then (f_M_entry s ((mL 2 s (((mI 4 s) - (1 : Int32)) - (1 : Int32)).toNatClampNeg).toInt32) (mL 2 s ((mI 4 s) - (1 : Int32)).toNatClampNeg)).bind fun (v34, s33) => (if v34 = (-1 : Int32) then f_M_dictOperator_b214 (0 : Int64) (2 : Int32) (2 : Int32) s33 else f_M_dictOperator_b214 (1 : Int64) (2 : Int32) (2 : Int32) s33) else none) else none) else (if xin ((mI 10 s) - (1 : Int32)) 6 = true then (f_M_push s (6 : Int32) ((mA 9 s ((mI 10 s) - (1 : Int32)).toNatClampNeg).toInt64)).bind fun (v40, s39) => some (v40, s39) else none)))))))
theorem w_M_dictOperator {sc : xSc} {d : Nat} {Q : xR → xH → Prop} {R : xH} {sZ : MT} {rZ : Int32} (hQ : Q (.inl (some (vI rZ))) (mH sZ R)) (s : MT) (a1 : Int32) (h : f_M_dictOperator s a1 = some (rZ, sZ)) : xW sc m_M_dictOperator (d + 3) Q (mH s R) 0 (xent [vA 373, vI a1] m_M_dictOperator.2.2.1) [] := by
  show xW sc m_M_dictOperator (d + 3) Q (mH s R) 0 [some (vA 373), some (vI a1), none, none] []
  unfold f_M_dictOperator at h
  refine x_aload_n (pc := 0) d_M_dictOperator_0 rfl ?_
  refine x_getf (c := 1) (k := 4) (v := vI (mI 4 s)) (pc := 1) d_M_dictOperator_1 l_M_247 (xm_at s R) rfl ?_
  refine x_iconst (v := (1 : Int32)) (pc := 4) d_M_dictOperator_4 (by decide) ?_
  refine x_isub (pc := 5) d_M_dictOperator_5 ?_
  refine x_istore_n (pc := 6) d_M_dictOperator_6 (by decide) ?_
  show xW sc m_M_dictOperator (d + 3) Q (mH s R) 7 [some (vA 373), some (vI a1), some (vI ((mI 4 s) - (1 : Int32))), none] []
  refine x_iload_n (pc := 7) d_M_dictOperator_7 rfl ?_
  by_cases c1 : a1 = (43 : Int32)
  · rw [if_pos c1] at h
    refine x_tableIn (off := 40) (tgt := 48) (pc := 8) d_M_dictOperator_8 (by rw [c1]; decide) (by rw [c1]; decide) (by rw [c1]; decide) (by decide) ?_
    refine x_aload_n (pc := 48) d_M_dictOperator_48 rfl ?_
    refine x_aload_n (pc := 49) d_M_dictOperator_49 rfl ?_
    refine x_getf (c := 1) (k := 2) (v := vA 375) (pc := 50) d_M_dictOperator_50 l_M_13 (xm_at s R) rfl ?_
    refine x_iload_n (pc := 53) d_M_dictOperator_53 rfl ?_
    obtain ⟨c2, h⟩ := ite_some h
    refine x_lald (pc := 54) d_M_dictOperator_54 (xm_a2 s R) (xin_vp c2) ?_
    obtain ⟨⟨v5, s4⟩, e3, h⟩ := Option.bind_eq_some_iff.mp h
    dsimp only at h
    refine x_invv (c := 1) (av := [vL (mL 2 s ((mI 4 s) - (1 : Int32)).toNatClampNeg)]) (st := []) (pc := 55) d_M_dictOperator_55 cv_M_519 y_M_newDict (xm_at s R) rfl (Nat.le_of_ble_eq_true rfl) (Nat.le_of_ble_eq_true rfl) (w_M_newDict (d := d + 0) (Q := fun r h' => r = .inl (some (vI v5)) ∧ h' = mH s4 R) (R := R) ⟨rfl, rfl⟩ s (mL 2 s ((mI 4 s) - (1 : Int32)).toNatClampNeg) e3) (fun v h' z => ?_) (fun a h' z => nomatch z.1)
    obtain ⟨z1, z2⟩ := z
    subst z2
    cases z1
    show xW sc m_M_dictOperator (d + 3) Q (mH s4 R) 58 [some (vA 373), some (vI a1), some (vI ((mI 4 s) - (1 : Int32))), none] [vI v5]
    cases h
    exact x_iret (ty := .int) (pc := 58) d_M_dictOperator_58 rfl (rfl) hQ
  rw [if_neg c1] at h
  by_cases c7 : a1 = (44 : Int32)
  · rw [if_pos c7] at h
    refine x_tableIn (off := 51) (tgt := 59) (pc := 8) d_M_dictOperator_8 (by rw [c7]; decide) (by rw [c7]; decide) (by rw [c7]; decide) (by decide) ?_
    refine x_aload_n (pc := 59) d_M_dictOperator_59 rfl ?_
    refine x_getf (c := 1) (k := 10) (v := vI (mI 10 s)) (pc := 60) d_M_dictOperator_60 l_M_33 (xm_at s R) rfl ?_
    refine x_bipush (v := (6 : Int32)) (pc := 63) d_M_dictOperator_63 (by decide) ?_
    refine x_icmp_ne (tgt := 71) (pc := 65) d_M_dictOperator_65 (by decide) (fun c8 => ?_) (fun c8 => ?_)
    · rw [if_neg c8] at h
      refine x_aload_n (pc := 71) d_M_dictOperator_71 rfl ?_
      refine x_getf (c := 1) (k := 9) (v := vA 380) (pc := 72) d_M_dictOperator_72 l_M_30 (xm_at s R) rfl ?_
      refine x_aload_n (pc := 75) d_M_dictOperator_75 rfl ?_
      refine x_getf (c := 1) (k := 10) (v := vI (mI 10 s)) (pc := 76) d_M_dictOperator_76 l_M_33 (xm_at s R) rfl ?_
      refine x_aload_n (pc := 79) d_M_dictOperator_79 rfl ?_
      refine x_getf (c := 1) (k := 2) (v := vA 375) (pc := 80) d_M_dictOperator_80 l_M_13 (xm_at s R) rfl ?_
      refine x_iload_n (pc := 83) d_M_dictOperator_83 rfl ?_
      obtain ⟨c9, h⟩ := ite_some h
      refine x_lald (pc := 84) d_M_dictOperator_84 (xm_a2 s R) (xin_vp c9) ?_
      refine x_l2i (pc := 85) d_M_dictOperator_85 ?_
      obtain ⟨c10, h⟩ := ite_some h
      refine xm_s9 (pc := 86) d_M_dictOperator_86 c10 ?_
      refine x_aload_n (pc := 87) d_M_dictOperator_87 rfl ?_
      refine x_dup (pc := 88) d_M_dictOperator_88 rfl ?_
      refine x_getf (c := 1) (k := 10) (v := vI (mI 10 (sA 9 (va_up (mA 9 s) (mI 10 s).toNatClampNeg ((mL 2 s ((mI 4 s) - (1 : Int32)).toNatClampNeg).toInt32)) s))) (pc := 89) d_M_dictOperator_89 l_M_33 (xm_at (sA 9 (va_up (mA 9 s) (mI 10 s).toNatClampNeg ((mL 2 s ((mI 4 s) - (1 : Int32)).toNatClampNeg).toInt32)) s) R) rfl ?_
      refine x_iconst (v := (1 : Int32)) (pc := 92) d_M_dictOperator_92 (by decide) ?_
      refine x_iadd (pc := 93) d_M_dictOperator_93 ?_
      refine xm_p10 (pc := 94) d_M_dictOperator_94 l_M_33 ?_
      refine x_aload_n (pc := 97) d_M_dictOperator_97 rfl ?_
      refine x_dup (pc := 98) d_M_dictOperator_98 rfl ?_
      refine x_getf (c := 1) (k := 4) (v := vI (mI 4 (sI 10 ((mI 10 (sA 9 (va_up (mA 9 s) (mI 10 s).toNatClampNeg ((mL 2 s ((mI 4 s) - (1 : Int32)).toNatClampNeg).toInt32)) s)) + (1 : Int32)) (sA 9 (va_up (mA 9 s) (mI 10 s).toNatClampNeg ((mL 2 s ((mI 4 s) - (1 : Int32)).toNatClampNeg).toInt32)) s)))) (pc := 99) d_M_dictOperator_99 l_M_247 (xm_at (sI 10 ((mI 10 (sA 9 (va_up (mA 9 s) (mI 10 s).toNatClampNeg ((mL 2 s ((mI 4 s) - (1 : Int32)).toNatClampNeg).toInt32)) s)) + (1 : Int32)) (sA 9 (va_up (mA 9 s) (mI 10 s).toNatClampNeg ((mL 2 s ((mI 4 s) - (1 : Int32)).toNatClampNeg).toInt32)) s)) R) rfl ?_
      refine x_iconst (v := (1 : Int32)) (pc := 102) d_M_dictOperator_102 (by decide) ?_
      refine x_isub (pc := 103) d_M_dictOperator_103 ?_
      refine xm_p4 (pc := 104) d_M_dictOperator_104 l_M_247 ?_
      refine x_iconst (v := (0 : Int32)) (pc := 107) d_M_dictOperator_107 (by decide) ?_
      cases h
      exact x_iret (ty := .int) (pc := 108) d_M_dictOperator_108 rfl (rfl) hQ
    · rw [if_pos c8] at h
      refine x_bipush (v := (7 : Int32)) (pc := 68) d_M_dictOperator_68 (by decide) ?_
      cases h
      exact x_iret (ty := .int) (pc := 70) d_M_dictOperator_70 rfl (rfl) hQ
  rw [if_neg c7] at h
  by_cases c11 : a1 = (45 : Int32)
  · rw [if_pos c11] at h
    refine x_tableIn (off := 101) (tgt := 109) (pc := 8) d_M_dictOperator_8 (by rw [c11]; decide) (by rw [c11]; decide) (by rw [c11]; decide) (by decide) ?_
    refine x_aload_n (pc := 109) d_M_dictOperator_109 rfl ?_
    refine x_getf (c := 1) (k := 10) (v := vI (mI 10 s)) (pc := 110) d_M_dictOperator_110 l_M_33 (xm_at s R) rfl ?_
    refine x_iconst (v := (1 : Int32)) (pc := 113) d_M_dictOperator_113 (by decide) ?_
    refine x_icmp_ne (tgt := 120) (pc := 114) d_M_dictOperator_114 (by decide) (fun c12 => ?_) (fun c12 => ?_)
    · rw [if_neg c12] at h
      refine x_aload_n (pc := 120) d_M_dictOperator_120 rfl ?_
      refine x_dup (pc := 121) d_M_dictOperator_121 rfl ?_
      refine x_getf (c := 1) (k := 10) (v := vI (mI 10 s)) (pc := 122) d_M_dictOperator_122 l_M_33 (xm_at s R) rfl ?_
      refine x_iconst (v := (1 : Int32)) (pc := 125) d_M_dictOperator_125 (by decide) ?_
      refine x_isub (pc := 126) d_M_dictOperator_126 ?_
      refine xm_p10 (pc := 127) d_M_dictOperator_127 l_M_33 ?_
      refine x_iconst (v := (0 : Int32)) (pc := 130) d_M_dictOperator_130 (by decide) ?_
      cases h
      exact x_iret (ty := .int) (pc := 131) d_M_dictOperator_131 rfl (rfl) hQ
    · rw [if_pos c12] at h
      refine x_bipush (v := (9 : Int32)) (pc := 117) d_M_dictOperator_117 (by decide) ?_
      cases h
      exact x_iret (ty := .int) (pc := 119) d_M_dictOperator_119 rfl (rfl) hQ
  rw [if_neg c11] at h
  by_cases c13 : a1 = (46 : Int32)
  · rw [if_pos c13] at h
    refine x_tableIn (off := 124) (tgt := 132) (pc := 8) d_M_dictOperator_8 (by rw [c13]; decide) (by rw [c13]; decide) (by rw [c13]; decide) (by decide) ?_
    refine x_aload_n (pc := 132) d_M_dictOperator_132 rfl ?_
    refine x_aload_n (pc := 133) d_M_dictOperator_133 rfl ?_
    refine x_getf (c := 1) (k := 9) (v := vA 380) (pc := 134) d_M_dictOperator_134 l_M_30 (xm_at s R) rfl ?_
    refine x_aload_n (pc := 137) d_M_dictOperator_137 rfl ?_
    refine x_getf (c := 1) (k := 10) (v := vI (mI 10 s)) (pc := 138) d_M_dictOperator_138 l_M_33 (xm_at s R) rfl ?_
    refine x_iconst (v := (1 : Int32)) (pc := 141) d_M_dictOperator_141 (by decide) ?_
    refine x_isub (pc := 142) d_M_dictOperator_142 ?_
    obtain ⟨c14, h⟩ := ite_some h
    refine x_iald (pc := 143) d_M_dictOperator_143 (xm_a9 s R) (xin_vp c14) ?_
    refine x_aload_n (pc := 144) d_M_dictOperator_144 rfl ?_
    refine x_getf (c := 1) (k := 2) (v := vA 375) (pc := 145) d_M_dictOperator_145 l_M_13 (xm_at s R) rfl ?_
    refine x_iload_n (pc := 148) d_M_dictOperator_148 rfl ?_
    refine x_iconst (v := (1 : Int32)) (pc := 149) d_M_dictOperator_149 (by decide) ?_
    refine x_isub (pc := 150) d_M_dictOperator_150 ?_
    obtain ⟨c15, h⟩ := ite_some h
    refine x_lald (pc := 151) d_M_dictOperator_151 (xm_a2 s R) (xin_vp c15) ?_
    refine x_iconst (v := (2 : Int32)) (pc := 152) d_M_dictOperator_152 (by decide) ?_
    obtain ⟨⟨v18, s17⟩, e16, h⟩ := Option.bind_eq_some_iff.mp h
    dsimp only at h
    refine x_invv (c := 1) (av := [vI (mA 9 s ((mI 10 s) - (1 : Int32)).toNatClampNeg), vL (mL 2 s (((mI 4 s) - (1 : Int32)) - (1 : Int32)).toNatClampNeg), vI (2 : Int32)]) (st := []) (pc := 153) d_M_dictOperator_153 cv_M_503 y_M_putEntry (xm_at s R) rfl (Nat.le_of_ble_eq_true rfl) (Nat.le_of_ble_eq_true rfl) (w_M_putEntry (d := d + 0) (Q := fun r h' => r = .inl (some (vI v18)) ∧ h' = mH s17 R) (R := R) ⟨rfl, rfl⟩ s (mA 9 s ((mI 10 s) - (1 : Int32)).toNatClampNeg) (mL 2 s (((mI 4 s) - (1 : Int32)) - (1 : Int32)).toNatClampNeg) (2 : Int32) e16) (fun v h' z => ?_) (fun a h' z => nomatch z.1)
    obtain ⟨z1, z2⟩ := z
    subst z2
    cases z1
    show xW sc m_M_dictOperator (d + 3) Q (mH s17 R) 156 [some (vA 373), some (vI a1), some (vI ((mI 4 s) - (1 : Int32))), none] [vI v18]
    cases h
    exact x_iret (ty := .int) (pc := 156) d_M_dictOperator_156 rfl (rfl) hQ
  rw [if_neg c13] at h
  by_cases c20 : a1 = (47 : Int32)
  · rw [if_pos c20] at h
    refine x_tableIn (off := 149) (tgt := 157) (pc := 8) d_M_dictOperator_8 (by rw [c20]; decide) (by rw [c20]; decide) (by rw [c20]; decide) (by decide) ?_
    refine x_aload_n (pc := 157) d_M_dictOperator_157 rfl ?_
    refine x_aload_n (pc := 158) d_M_dictOperator_158 rfl ?_
    refine x_getf (c := 1) (k := 2) (v := vA 375) (pc := 159) d_M_dictOperator_159 l_M_13 (xm_at s R) rfl ?_
    refine x_iload_n (pc := 162) d_M_dictOperator_162 rfl ?_
    obtain ⟨c21, h⟩ := ite_some h
    refine x_lald (pc := 163) d_M_dictOperator_163 (xm_a2 s R) (xin_vp c21) ?_
    obtain ⟨⟨v24, s23⟩, e22, h⟩ := Option.bind_eq_some_iff.mp h
    dsimp only at h
    refine x_invv (c := 1) (av := [vL (mL 2 s ((mI 4 s) - (1 : Int32)).toNatClampNeg)]) (st := []) (pc := 164) d_M_dictOperator_164 cv_M_372 y_M_found (xm_at s R) rfl (Nat.le_of_ble_eq_true rfl) (Nat.le_of_ble_eq_true rfl) (w_M_found (d := d + 0) (Q := fun r h' => r = .inl (some (vI v24)) ∧ h' = mH s23 R) (R := R) ⟨rfl, rfl⟩ s (mL 2 s ((mI 4 s) - (1 : Int32)).toNatClampNeg) e22) (fun v h' z => ?_) (fun a h' z => nomatch z.1)
    obtain ⟨z1, z2⟩ := z
    subst z2
    cases z1
    show xW sc m_M_dictOperator (d + 3) Q (mH s23 R) 167 [some (vA 373), some (vI a1), some (vI ((mI 4 s) - (1 : Int32))), none] [vI v24]
    refine x_istore_n (pc := 167) d_M_dictOperator_167 (by decide) ?_
    show xW sc m_M_dictOperator (d + 3) Q (mH s23 R) 168 [some (vA 373), some (vI a1), some (vI ((mI 4 s) - (1 : Int32))), some (vI v24)] []
    refine x_iload_n (pc := 168) d_M_dictOperator_168 rfl ?_
    refine x_iconst (v := (-1 : Int32)) (pc := 169) d_M_dictOperator_169 (by decide) ?_
    refine x_icmp_ne (tgt := 175) (pc := 170) d_M_dictOperator_170 (by decide) (fun c26 => ?_) (fun c26 => ?_)
    · rw [if_neg c26] at h
      refine x_aload_n (pc := 175) d_M_dictOperator_175 rfl ?_
      refine x_iload_n (pc := 176) d_M_dictOperator_176 rfl ?_
      refine x_iload_n (pc := 177) d_M_dictOperator_177 rfl ?_
      obtain ⟨s28, e27, h⟩ := Option.bind_eq_some_iff.mp h
      refine x_invv (c := 1) (av := [vI ((mI 4 s) - (1 : Int32)), vI v24]) (st := []) (pc := 178) d_M_dictOperator_178 cv_M_254 y_M_move (xm_at s23 R) rfl (Nat.le_of_ble_eq_true rfl) (Nat.le_of_ble_eq_true rfl) (w_M_move (d := d + 2) (Q := fun r h' => r = .inl none ∧ h' = mH s28 R) (R := R) ⟨rfl, rfl⟩ s23 ((mI 4 s) - (1 : Int32)) v24 e27) (fun v h' z => ?_) (fun a h' z => nomatch z.1)
      obtain ⟨z1, z2⟩ := z
      subst z2
      cases z1
      show xW sc m_M_dictOperator (d + 3) Q (mH s28 R) 181 [some (vA 373), some (vI a1), some (vI ((mI 4 s) - (1 : Int32))), some (vI v24)] []
      refine x_iconst (v := (0 : Int32)) (pc := 181) d_M_dictOperator_181 (by decide) ?_
      cases h
      exact x_iret (ty := .int) (pc := 182) d_M_dictOperator_182 rfl (rfl) hQ
    · rw [if_pos c26] at h
      refine x_iconst (v := (5 : Int32)) (pc := 173) d_M_dictOperator_173 (by decide) ?_
      cases h
      exact x_iret (ty := .int) (pc := 174) d_M_dictOperator_174 rfl (rfl) hQ
  rw [if_neg c20] at h
  by_cases c29 : a1 = (48 : Int32)
  · rw [if_pos c29] at h
    refine x_tableIn (off := 175) (tgt := 183) (pc := 8) d_M_dictOperator_8 (by rw [c29]; decide) (by rw [c29]; decide) (by rw [c29]; decide) (by decide) ?_
    refine x_aload_n (pc := 183) d_M_dictOperator_183 rfl ?_
    refine x_iconst (v := (2 : Int32)) (pc := 184) d_M_dictOperator_184 (by decide) ?_
    refine x_iconst (v := (2 : Int32)) (pc := 185) d_M_dictOperator_185 (by decide) ?_
    refine x_aload_n (pc := 186) d_M_dictOperator_186 rfl ?_
    refine x_aload_n (pc := 187) d_M_dictOperator_187 rfl ?_
    refine x_getf (c := 1) (k := 2) (v := vA 375) (pc := 188) d_M_dictOperator_188 l_M_13 (xm_at s R) rfl ?_
    refine x_iload_n (pc := 191) d_M_dictOperator_191 rfl ?_
    refine x_iconst (v := (1 : Int32)) (pc := 192) d_M_dictOperator_192 (by decide) ?_
    refine x_isub (pc := 193) d_M_dictOperator_193 ?_
    obtain ⟨c30, h⟩ := ite_some h
    refine x_lald (pc := 194) d_M_dictOperator_194 (xm_a2 s R) (xin_vp c30) ?_
    refine x_l2i (pc := 195) d_M_dictOperator_195 ?_
    refine x_aload_n (pc := 196) d_M_dictOperator_196 rfl ?_
    refine x_getf (c := 1) (k := 2) (v := vA 375) (pc := 197) d_M_dictOperator_197 l_M_13 (xm_at s R) rfl ?_
    refine x_iload_n (pc := 200) d_M_dictOperator_200 rfl ?_
    obtain ⟨c31, h⟩ := ite_some h
    refine x_lald (pc := 201) d_M_dictOperator_201 (xm_a2 s R) (xin_vp c31) ?_
    obtain ⟨⟨v34, s33⟩, e32, h⟩ := Option.bind_eq_some_iff.mp h
    dsimp only at h
    refine x_invv (c := 1) (av := [vI ((mL 2 s (((mI 4 s) - (1 : Int32)) - (1 : Int32)).toNatClampNeg).toInt32), vL (mL 2 s ((mI 4 s) - (1 : Int32)).toNatClampNeg)]) (st := [vI (2 : Int32), vI (2 : Int32), vA 373]) (pc := 202) d_M_dictOperator_202 cv_M_362 y_M_entry (xm_at s R) rfl (Nat.le_of_ble_eq_true rfl) (Nat.le_of_ble_eq_true rfl) (w_M_entry (d := d + 1) (Q := fun r h' => r = .inl (some (vI v34)) ∧ h' = mH s33 R) (R := R) ⟨rfl, rfl⟩ s ((mL 2 s (((mI 4 s) - (1 : Int32)) - (1 : Int32)).toNatClampNeg).toInt32) (mL 2 s ((mI 4 s) - (1 : Int32)).toNatClampNeg) e32) (fun v h' z => ?_) (fun a h' z => nomatch z.1)
    obtain ⟨z1, z2⟩ := z
    subst z2
    cases z1
    show xW sc m_M_dictOperator (d + 3) Q (mH s33 R) 205 [some (vA 373), some (vI a1), some (vI ((mI 4 s) - (1 : Int32))), none] [vI v34, vI (2 : Int32), vI (2 : Int32), vA 373]
    refine x_iconst (v := (-1 : Int32)) (pc := 205) d_M_dictOperator_205 (by decide) ?_
    refine x_icmp_ne (tgt := 213) (pc := 206) d_M_dictOperator_206 (by decide) (fun c36 => ?_) (fun c36 => ?_)
    · rw [if_neg c36] at h
      refine x_lconst (v := (1 : Int64)) (pc := 213) d_M_dictOperator_213 (by decide) ?_
      exact x_wk (L' := [none, none, none, none]) ⟨Or.inl rfl, Or.inl rfl, Or.inl rfl, Or.inl rfl, trivial⟩ (w_M_dictOperator_b214 hQ (1 : Int64) (2 : Int32) (2 : Int32) s33 h)
    · rw [if_pos c36] at h
      refine x_lconst (v := (0 : Int64)) (pc := 209) d_M_dictOperator_209 (by decide) ?_
      refine x_goto (tgt := 214) (pc := 210) d_M_dictOperator_210 (by decide) ?_
      exact x_wk (L' := [none, none, none, none]) ⟨Or.inl rfl, Or.inl rfl, Or.inl rfl, Or.inl rfl, trivial⟩ (w_M_dictOperator_b214 hQ (0 : Int64) (2 : Int32) (2 : Int32) s33 h)
  rw [if_neg c29] at h
  refine x_tableOut (tgt := 218) (pc := 8) d_M_dictOperator_8 (by have q0 := lv_neT c1 (a := 43) (by decide); have q1 := lv_neT c7 (a := 44) (by decide); have q2 := lv_neT c11 (a := 45) (by decide); have q3 := lv_neT c13 (a := 46) (by decide); have q4 := lv_neT c20 (a := 47) (by decide); have q5 := lv_neT c29 (a := 48) (by decide); omega) (by decide) ?_
  refine x_aload_n (pc := 218) d_M_dictOperator_218 rfl ?_
  refine x_bipush (v := (6 : Int32)) (pc := 219) d_M_dictOperator_219 (by decide) ?_
  refine x_aload_n (pc := 221) d_M_dictOperator_221 rfl ?_
  refine x_getf (c := 1) (k := 9) (v := vA 380) (pc := 222) d_M_dictOperator_222 l_M_30 (xm_at s R) rfl ?_
  refine x_aload_n (pc := 225) d_M_dictOperator_225 rfl ?_
  refine x_getf (c := 1) (k := 10) (v := vI (mI 10 s)) (pc := 226) d_M_dictOperator_226 l_M_33 (xm_at s R) rfl ?_
  refine x_iconst (v := (1 : Int32)) (pc := 229) d_M_dictOperator_229 (by decide) ?_
  refine x_isub (pc := 230) d_M_dictOperator_230 ?_
  obtain ⟨c37, h⟩ := ite_some h
  refine x_iald (pc := 231) d_M_dictOperator_231 (xm_a9 s R) (xin_vp c37) ?_
  refine x_i2l (pc := 232) d_M_dictOperator_232 ?_
  obtain ⟨⟨v40, s39⟩, e38, h⟩ := Option.bind_eq_some_iff.mp h
  dsimp only at h
  refine x_invv (c := 1) (av := [vI (6 : Int32), vL ((mA 9 s ((mI 10 s) - (1 : Int32)).toNatClampNeg).toInt64)]) (st := []) (pc := 233) d_M_dictOperator_233 cv_M_388 y_M_push (xm_at s R) rfl (Nat.le_of_ble_eq_true rfl) (Nat.le_of_ble_eq_true rfl) (w_M_push (d := d + 1) (Q := fun r h' => r = .inl (some (vI v40)) ∧ h' = mH s39 R) (R := R) ⟨rfl, rfl⟩ s (6 : Int32) ((mA 9 s ((mI 10 s) - (1 : Int32)).toNatClampNeg).toInt64) e38) (fun v h' z => ?_) (fun a h' z => nomatch z.1)
  obtain ⟨z1, z2⟩ := z
  subst z2
  cases z1
  show xW sc m_M_dictOperator (d + 3) Q (mH s39 R) 236 [some (vA 373), some (vI a1), some (vI ((mI 4 s) - (1 : Int32))), none] [vI v40]
  cases h
  exact x_iret (ty := .int) (pc := 236) d_M_dictOperator_236 rfl (rfl) hQ
def f_M_readSimple_b115  (t0 : Int64) (t1 : Int32) (t2 : Int32) (s : MT) : Option (Int32 × MT) := (f_M_set s t2 t1 t0).bind fun s2 => some ((0 : Int32), sI 25 ((mI 25 s2) + (1 : Int32)) s2)
theorem w_M_readSimple_b115 {sc : xSc} {d : Nat} {Q : xR → xH → Prop} {R : xH} {sZ : MT} {rZ : Int32}  (hQ : Q (.inl (some (vI rZ))) (mH sZ R)) (t0 : Int64) (t1 : Int32) (t2 : Int32) (s : MT) (h : f_M_readSimple_b115  t0 t1 t2 s = some (rZ, sZ)) : xW sc m_M_readSimple (d + 3) Q (mH s R) 115 [some (vA 373), none] [vL t0, vI t1, vI t2, vA 373] := by
  unfold f_M_readSimple_b115 at h
  obtain ⟨s2, e1, h⟩ := Option.bind_eq_some_iff.mp h
  refine x_invv (c := 1) (av := [vI t2, vI t1, vL t0]) (st := []) (pc := 115) d_M_readSimple_115 cv_M_250 y_M_set (xm_at s R) rfl (Nat.le_of_ble_eq_true rfl) (Nat.le_of_ble_eq_true rfl) (w_M_set (d := d + 2) (Q := fun r h' => r = .inl none ∧ h' = mH s2 R) (R := R) ⟨rfl, rfl⟩ s t2 t1 t0 e1) (fun v h' z => ?_) (fun a h' z => nomatch z.1)
  obtain ⟨z1, z2⟩ := z
  subst z2
  cases z1
  show xW sc m_M_readSimple (d + 3) Q (mH s2 R) 118 [some (vA 373), none] []
  refine x_aload_n (pc := 118) d_M_readSimple_118 rfl ?_
  refine x_dup (pc := 119) d_M_readSimple_119 rfl ?_
  refine x_getf (c := 1) (k := 25) (v := vI (mI 25 s2)) (pc := 120) d_M_readSimple_120 l_M_281 (xm_at s2 R) rfl ?_
  refine x_iconst (v := (1 : Int32)) (pc := 123) d_M_readSimple_123 (by decide) ?_
  refine x_iadd (pc := 124) d_M_readSimple_124 ?_
  refine xm_p25 (pc := 125) d_M_readSimple_125 l_M_281 ?_
  refine x_iconst (v := (0 : Int32)) (pc := 128) d_M_readSimple_128 (by decide) ?_
  cases h
  exact x_iret (ty := .int) (pc := 129) d_M_readSimple_129 rfl (rfl) hQ
def f_M_readSimple_b95  (l1 : Int32) (s : MT) : Option (Int32 × MT) := (if l1 = (91 : Int32) then f_M_readSimple_b115 (27 : Int64) (11 : Int32) (40 : Int32) s else f_M_readSimple_b115 (28 : Int64) (11 : Int32) (40 : Int32) s)
theorem w_M_readSimple_b95 {sc : xSc} {d : Nat} {Q : xR → xH → Prop} {R : xH} {sZ : MT} {rZ : Int32}  (hQ : Q (.inl (some (vI rZ))) (mH sZ R)) (l1 : Int32) (s : MT) (h : f_M_readSimple_b95  l1 s = some (rZ, sZ)) : xW sc m_M_readSimple (d + 3) Q (mH s R) 95 [some (vA 373), some (vI l1)] [] := by
  unfold f_M_readSimple_b95 at h
  refine x_aload_n (pc := 95) d_M_readSimple_95 rfl ?_
  refine x_bipush (v := (40 : Int32)) (pc := 96) d_M_readSimple_96 (by decide) ?_
  refine x_bipush (v := (11 : Int32)) (pc := 98) d_M_readSimple_98 (by decide) ?_
  refine x_iload_n (pc := 100) d_M_readSimple_100 rfl ?_
  refine x_bipush (v := (91 : Int32)) (pc := 101) d_M_readSimple_101 (by decide) ?_
  refine x_icmp_ne (tgt := 112) (pc := 103) d_M_readSimple_103 (by decide) (fun c1 => ?_) (fun c1 => ?_)
  · rw [if_neg c1] at h
    refine x_ldc2 (v := (28 : Int64)) (pc := 112) d_M_readSimple_112 c_M_316 ?_
    exact x_wk (L' := [some (vA 373), none]) ⟨Or.inr rfl, Or.inl rfl, trivial⟩ (w_M_readSimple_b115 hQ (28 : Int64) (11 : Int32) (40 : Int32) s h)
  · rw [if_pos c1] at h
    refine x_ldc2 (v := (27 : Int64)) (pc := 106) d_M_readSimple_106 c_M_314 ?_
    refine x_goto (tgt := 115) (pc := 109) d_M_readSimple_109 (by decide) ?_
    exact x_wk (L' := [some (vA 373), none]) ⟨Or.inr rfl, Or.inl rfl, trivial⟩ (w_M_readSimple_b115 hQ (27 : Int64) (11 : Int32) (40 : Int32) s h)
def f_M_readSimple_b80  (l1 : Int32) (s : MT) : Option (Int32 × MT) := (if l1 = (91 : Int32) then f_M_readSimple_b95 l1 s else (if l1 = (93 : Int32) then f_M_readSimple_b95 l1 s else some ((15 : Int32), s)))
theorem w_M_readSimple_b80 {sc : xSc} {d : Nat} {Q : xR → xH → Prop} {R : xH} {sZ : MT} {rZ : Int32}  (hQ : Q (.inl (some (vI rZ))) (mH sZ R)) (l1 : Int32) (s : MT) (h : f_M_readSimple_b80  l1 s = some (rZ, sZ)) : xW sc m_M_readSimple (d + 3) Q (mH s R) 80 [some (vA 373), some (vI l1)] [] := by
  unfold f_M_readSimple_b80 at h
  refine x_iload_n (pc := 80) d_M_readSimple_80 rfl ?_
  refine x_bipush (v := (91 : Int32)) (pc := 81) d_M_readSimple_81 (by decide) ?_
  refine x_icmp_eq (tgt := 95) (pc := 83) d_M_readSimple_83 (by decide) (fun c1 => ?_) (fun c1 => ?_)
  · rw [if_pos c1] at h
    exact w_M_readSimple_b95 hQ l1 s h
  · rw [if_neg c1] at h
    refine x_iload_n (pc := 86) d_M_readSimple_86 rfl ?_
    refine x_bipush (v := (93 : Int32)) (pc := 87) d_M_readSimple_87 (by decide) ?_
    refine x_icmp_eq (tgt := 95) (pc := 89) d_M_readSimple_89 (by decide) (fun c2 => ?_) (fun c2 => ?_)
    · rw [if_pos c2] at h
      exact w_M_readSimple_b95 hQ l1 s h
    · rw [if_neg c2] at h
      refine x_bipush (v := (15 : Int32)) (pc := 92) d_M_readSimple_92 (by decide) ?_
      cases h
      exact x_iret (ty := .int) (pc := 94) d_M_readSimple_94 rfl (rfl) hQ
def f_M_readSimple_b23  (s : MT) : Option (Int32 × MT) := (f_M_readNumber s).bind fun (v3, s2) => some (v3, s2)
theorem w_M_readSimple_b23 {sc : xSc} {d : Nat} {Q : xR → xH → Prop} {R : xH} {sZ : MT} {rZ : Int32}  (hQ : Q (.inl (some (vI rZ))) (mH sZ R)) (s : MT) (h : f_M_readSimple_b23  s = some (rZ, sZ)) : xW sc m_M_readSimple (d + 3) Q (mH s R) 23 [some (vA 373), none] [] := by
  unfold f_M_readSimple_b23 at h
  refine x_aload_n (pc := 23) d_M_readSimple_23 rfl ?_
  obtain ⟨⟨v3, s2⟩, e1, h⟩ := Option.bind_eq_some_iff.mp h
  dsimp only at h
  refine x_invv (c := 1) (av := []) (st := []) (pc := 24) d_M_readSimple_24 cv_M_318 y_M_readNumber (xm_at s R) rfl (Nat.le_of_ble_eq_true rfl) (Nat.le_of_ble_eq_true rfl) (w_M_readNumber (d := d + 0) (Q := fun r h' => r = .inl (some (vI v3)) ∧ h' = mH s2 R) (R := R) ⟨rfl, rfl⟩ s  e1) (fun v h' z => ?_) (fun a h' z => nomatch z.1)
  obtain ⟨z1, z2⟩ := z
  subst z2
  cases z1
  show xW sc m_M_readSimple (d + 3) Q (mH s2 R) 27 [some (vA 373), none] [vI v3]
  cases h
  exact x_iret (ty := .int) (pc := 27) d_M_readSimple_27 rfl (rfl) hQ
def f_M_readSimple (s : MT) : Option (Int32 × MT) := (if xin (mI 25 s) 120 = true then (f_M_isDigit (mA 23 s (mI 25 s).toNatClampNeg)).bind fun v2 => (if v2 = 0 then (if (mA 23 s (mI 25 s).toNatClampNeg) = (45 : Int32) then f_M_readSimple_b23 s else (f_M_isLetter (mA 23 s (mI 25 s).toNatClampNeg)).bind fun v6 => (if v6 = 0 then (if (mA 23 s (mI 25 s).toNatClampNeg) = (47 : Int32) then (f_M_look s ((mI 25 s) + (1 : Int32))).bind fun (v12, s11) => (f_M_isLetter v12).bind fun v14 => (if v14 = 0 then f_M_readSimple_b80 (mA 23 s (mI 25 s).toNatClampNeg) s11 else (f_M_readWord (sI 25 ((mI 25 s11) + (1 : Int32)) s11) (3 : Int32)).bind fun (v19, s18) => some (v19, s18)) else f_M_readSimple_b80 (mA 23 s (mI 25 s).toNatClampNeg) s) else (f_M_readWord s (11 : Int32)).bind fun (v23, s22) => some (v23, s22))) else f_M_readSimple_b23 s) else none)
theorem w_M_readSimple {sc : xSc} {d : Nat} {Q : xR → xH → Prop} {R : xH} {sZ : MT} {rZ : Int32} (hQ : Q (.inl (some (vI rZ))) (mH sZ R)) (s : MT) (h : f_M_readSimple s = some (rZ, sZ)) : xW sc m_M_readSimple (d + 3) Q (mH s R) 0 (xent [vA 373] m_M_readSimple.2.2.1) [] := by
  show xW sc m_M_readSimple (d + 3) Q (mH s R) 0 [some (vA 373), none] []
  unfold f_M_readSimple at h
  refine x_aload_n (pc := 0) d_M_readSimple_0 rfl ?_
  refine x_getf (c := 1) (k := 23) (v := vA 389) (pc := 1) d_M_readSimple_1 l_M_61 (xm_at s R) rfl ?_
  refine x_aload_n (pc := 4) d_M_readSimple_4 rfl ?_
  refine x_getf (c := 1) (k := 25) (v := vI (mI 25 s)) (pc := 5) d_M_readSimple_5 l_M_281 (xm_at s R) rfl ?_
  obtain ⟨c1, h⟩ := ite_some h
  refine x_cald (pc := 8) d_M_readSimple_8 (xm_a23 s R) (xin_vp c1) ?_
  refine x_istore_n (pc := 9) d_M_readSimple_9 (by decide) ?_
  show xW sc m_M_readSimple (d + 3) Q (mH s R) 10 [some (vA 373), some (vI (mA 23 s (mI 25 s).toNatClampNeg))] []
  refine x_iload_n (pc := 10) d_M_readSimple_10 rfl ?_
  obtain ⟨v2, e3, h⟩ := Option.bind_eq_some_iff.mp h
  refine x_invs (av := [vI (mA 23 s (mI 25 s).toNatClampNeg)]) (st := []) (pc := 11) d_M_readSimple_11 cs_M_273 y_M_isDigit rfl (Nat.le_of_ble_eq_true rfl) (Nat.le_of_ble_eq_true rfl) (w_M_isDigit (d := d + 2) (Q := fun r h' => r = .inl (some (vI v2)) ∧ h' = mH s R) (hh := mH s R) ⟨rfl, rfl⟩ (mA 23 s (mI 25 s).toNatClampNeg) e3) (fun v h' z => ?_) (fun a h' z => nomatch z.1)
  obtain ⟨z1, z2⟩ := z
  subst z2
  cases z1
  show xW sc m_M_readSimple (d + 3) Q (mH s R) 14 [some (vA 373), some (vI (mA 23 s (mI 25 s).toNatClampNeg))] [vI v2]
  refine x_if_ne (tgt := 23) (pc := 14) d_M_readSimple_14 (by decide) (fun c4 => ?_) (fun c4 => ?_)
  · rw [if_neg c4] at h
    exact x_wk (L' := [some (vA 373), none]) ⟨Or.inr rfl, Or.inl rfl, trivial⟩ (w_M_readSimple_b23 hQ s h)
  · rw [if_pos c4] at h
    refine x_iload_n (pc := 17) d_M_readSimple_17 rfl ?_
    refine x_bipush (v := (45 : Int32)) (pc := 18) d_M_readSimple_18 (by decide) ?_
    refine x_icmp_ne (tgt := 28) (pc := 20) d_M_readSimple_20 (by decide) (fun c5 => ?_) (fun c5 => ?_)
    · rw [if_neg c5] at h
      refine x_iload_n (pc := 28) d_M_readSimple_28 rfl ?_
      obtain ⟨v6, e7, h⟩ := Option.bind_eq_some_iff.mp h
      refine x_invs (av := [vI (mA 23 s (mI 25 s).toNatClampNeg)]) (st := []) (pc := 29) d_M_readSimple_29 cs_M_304 y_M_isLetter rfl (Nat.le_of_ble_eq_true rfl) (Nat.le_of_ble_eq_true rfl) (w_M_isLetter (d := d + 2) (Q := fun r h' => r = .inl (some (vI v6)) ∧ h' = mH s R) (hh := mH s R) ⟨rfl, rfl⟩ (mA 23 s (mI 25 s).toNatClampNeg) e7) (fun v h' z => ?_) (fun a h' z => nomatch z.1)
      obtain ⟨z1, z2⟩ := z
      subst z2
      cases z1
      show xW sc m_M_readSimple (d + 3) Q (mH s R) 32 [some (vA 373), some (vI (mA 23 s (mI 25 s).toNatClampNeg))] [vI v6]
      refine x_if_eq (tgt := 42) (pc := 32) d_M_readSimple_32 (by decide) (fun c8 => ?_) (fun c8 => ?_)
      · rw [if_pos c8] at h
        refine x_iload_n (pc := 42) d_M_readSimple_42 rfl ?_
        refine x_bipush (v := (47 : Int32)) (pc := 43) d_M_readSimple_43 (by decide) ?_
        refine x_icmp_ne (tgt := 80) (pc := 45) d_M_readSimple_45 (by decide) (fun c9 => ?_) (fun c9 => ?_)
        · rw [if_neg c9] at h
          exact w_M_readSimple_b80 hQ (mA 23 s (mI 25 s).toNatClampNeg) s h
        · rw [if_pos c9] at h
          refine x_aload_n (pc := 48) d_M_readSimple_48 rfl ?_
          refine x_aload_n (pc := 49) d_M_readSimple_49 rfl ?_
          refine x_getf (c := 1) (k := 25) (v := vI (mI 25 s)) (pc := 50) d_M_readSimple_50 l_M_281 (xm_at s R) rfl ?_
          refine x_iconst (v := (1 : Int32)) (pc := 53) d_M_readSimple_53 (by decide) ?_
          refine x_iadd (pc := 54) d_M_readSimple_54 ?_
          obtain ⟨⟨v12, s11⟩, e10, h⟩ := Option.bind_eq_some_iff.mp h
          dsimp only at h
          refine x_invv (c := 1) (av := [vI ((mI 25 s) + (1 : Int32))]) (st := []) (pc := 55) d_M_readSimple_55 cv_M_292 y_M_look (xm_at s R) rfl (Nat.le_of_ble_eq_true rfl) (Nat.le_of_ble_eq_true rfl) (w_M_look (d := d + 2) (Q := fun r h' => r = .inl (some (vI v12)) ∧ h' = mH s11 R) (R := R) ⟨rfl, rfl⟩ s ((mI 25 s) + (1 : Int32)) e10) (fun v h' z => ?_) (fun a h' z => nomatch z.1)
          obtain ⟨z1, z2⟩ := z
          subst z2
          cases z1
          show xW sc m_M_readSimple (d + 3) Q (mH s11 R) 58 [some (vA 373), some (vI (mA 23 s (mI 25 s).toNatClampNeg))] [vI v12]
          obtain ⟨v14, e15, h⟩ := Option.bind_eq_some_iff.mp h
          refine x_invs (av := [vI v12]) (st := []) (pc := 58) d_M_readSimple_58 cs_M_304 y_M_isLetter rfl (Nat.le_of_ble_eq_true rfl) (Nat.le_of_ble_eq_true rfl) (w_M_isLetter (d := d + 2) (Q := fun r h' => r = .inl (some (vI v14)) ∧ h' = mH s11 R) (hh := mH s11 R) ⟨rfl, rfl⟩ v12 e15) (fun v h' z => ?_) (fun a h' z => nomatch z.1)
          obtain ⟨z1, z2⟩ := z
          subst z2
          cases z1
          show xW sc m_M_readSimple (d + 3) Q (mH s11 R) 61 [some (vA 373), some (vI (mA 23 s (mI 25 s).toNatClampNeg))] [vI v14]
          refine x_if_eq (tgt := 80) (pc := 61) d_M_readSimple_61 (by decide) (fun c16 => ?_) (fun c16 => ?_)
          · rw [if_pos c16] at h
            exact w_M_readSimple_b80 hQ (mA 23 s (mI 25 s).toNatClampNeg) s11 h
          · rw [if_neg c16] at h
            refine x_aload_n (pc := 64) d_M_readSimple_64 rfl ?_
            refine x_dup (pc := 65) d_M_readSimple_65 rfl ?_
            refine x_getf (c := 1) (k := 25) (v := vI (mI 25 s11)) (pc := 66) d_M_readSimple_66 l_M_281 (xm_at s11 R) rfl ?_
            refine x_iconst (v := (1 : Int32)) (pc := 69) d_M_readSimple_69 (by decide) ?_
            refine x_iadd (pc := 70) d_M_readSimple_70 ?_
            refine xm_p25 (pc := 71) d_M_readSimple_71 l_M_281 ?_
            refine x_aload_n (pc := 74) d_M_readSimple_74 rfl ?_
            refine x_iconst (v := (3 : Int32)) (pc := 75) d_M_readSimple_75 (by decide) ?_
            obtain ⟨⟨v19, s18⟩, e17, h⟩ := Option.bind_eq_some_iff.mp h
            dsimp only at h
            refine x_invv (c := 1) (av := [vI (3 : Int32)]) (st := []) (pc := 76) d_M_readSimple_76 cv_M_322 y_M_readWord (xm_at (sI 25 ((mI 25 s11) + (1 : Int32)) s11) R) rfl (Nat.le_of_ble_eq_true rfl) (Nat.le_of_ble_eq_true rfl) (w_M_readWord (d := d + 1) (Q := fun r h' => r = .inl (some (vI v19)) ∧ h' = mH s18 R) (R := R) ⟨rfl, rfl⟩ (sI 25 ((mI 25 s11) + (1 : Int32)) s11) (3 : Int32) e17) (fun v h' z => ?_) (fun a h' z => nomatch z.1)
            obtain ⟨z1, z2⟩ := z
            subst z2
            cases z1
            show xW sc m_M_readSimple (d + 3) Q (mH s18 R) 79 [some (vA 373), some (vI (mA 23 s (mI 25 s).toNatClampNeg))] [vI v19]
            cases h
            exact x_iret (ty := .int) (pc := 79) d_M_readSimple_79 rfl (rfl) hQ
      · rw [if_neg c8] at h
        refine x_aload_n (pc := 35) d_M_readSimple_35 rfl ?_
        refine x_bipush (v := (11 : Int32)) (pc := 36) d_M_readSimple_36 (by decide) ?_
        obtain ⟨⟨v23, s22⟩, e21, h⟩ := Option.bind_eq_some_iff.mp h
        dsimp only at h
        refine x_invv (c := 1) (av := [vI (11 : Int32)]) (st := []) (pc := 38) d_M_readSimple_38 cv_M_322 y_M_readWord (xm_at s R) rfl (Nat.le_of_ble_eq_true rfl) (Nat.le_of_ble_eq_true rfl) (w_M_readWord (d := d + 1) (Q := fun r h' => r = .inl (some (vI v23)) ∧ h' = mH s22 R) (R := R) ⟨rfl, rfl⟩ s (11 : Int32) e21) (fun v h' z => ?_) (fun a h' z => nomatch z.1)
        obtain ⟨z1, z2⟩ := z
        subst z2
        cases z1
        show xW sc m_M_readSimple (d + 3) Q (mH s22 R) 41 [some (vA 373), some (vI (mA 23 s (mI 25 s).toNatClampNeg))] [vI v23]
        cases h
        exact x_iret (ty := .int) (pc := 41) d_M_readSimple_41 rfl (rfl) hQ
    · rw [if_pos c5] at h
      exact x_wk (L' := [some (vA 373), none]) ⟨Or.inr rfl, Or.inl rfl, trivial⟩ (w_M_readSimple_b23 hQ s h)
def f_M_single_b138  (t0 : Int32) (s : MT) : Option (Int32 × MT) := some (t0, s)
theorem w_M_single_b138 {sc : xSc} {d : Nat} {Q : xR → xH → Prop} {R : xH} {sZ : MT} {rZ : Int32}  (hQ : Q (.inl (some (vI rZ))) (mH sZ R)) (t0 : Int32) (s : MT) (h : f_M_single_b138  t0 s = some (rZ, sZ)) : xW sc m_M_single (d + 3) Q (mH s R) 138 [none, none, none, none, none, none, none] [vI t0] := by
  unfold f_M_single_b138 at h
  cases h
  exact x_iret (ty := .int) (pc := 138) d_M_single_138 rfl (rfl) hQ
def f_M_single_b51  (t0 : Int32) (s : MT) : Option (Int32 × MT) := some (t0, s)
theorem w_M_single_b51 {sc : xSc} {d : Nat} {Q : xR → xH → Prop} {R : xH} {sZ : MT} {rZ : Int32}  (hQ : Q (.inl (some (vI rZ))) (mH sZ R)) (t0 : Int32) (s : MT) (h : f_M_single_b51  t0 s = some (rZ, sZ)) : xW sc m_M_single (d + 3) Q (mH s R) 51 [none, none, none, none, none, none, none] [vI t0] := by
  unfold f_M_single_b51 at h
  cases h
  exact x_iret (ty := .int) (pc := 51) d_M_single_51 rfl (rfl) hQ
def f_M_single (s : MT) (a1 : Int32) : Option (Int32 × MT) := (f_M_numberAt s ((mI 4 s) - (1 : Int32))).bind fun (v3, s2) => (if a1 = (16 : Int32) then (if xin ((mI 4 s) - (1 : Int32)) 1300 = true then (if (mA 1 s2 ((mI 4 s) - (1 : Int32)).toNatClampNeg) = 0 then (if xin ((mI 4 s) - (1 : Int32)) 1300 = true then (f_M_giveExact s2 (1 : Int32) (-(mL 2 s2 ((mI 4 s) - (1 : Int32)).toNatClampNeg))).bind fun (v43, s42) => f_M_single_b51 v43 s42 else none) else (if xn64 (FP.dsub FP.dconst0 v3) = true then (f_M_giveReal s2 (1 : Int32) (FP.dsub FP.dconst0 v3)).bind fun (v38, s37) => f_M_single_b51 v38 s37 else none)) else none) else (if a1 = (20 : Int32) then (f_M_giveReal s2 (1 : Int32) v3).bind fun (v31, s30) => some (v31, s30) else (if xin ((mI 4 s) - (1 : Int32)) 1300 = true then (if (mA 1 s2 ((mI 4 s) - (1 : Int32)).toNatClampNeg) = 0 then some ((0 : Int32), s2) else (if a1 = (17 : Int32) then (f_M_below v3).bind fun v23 => (f_M_giveReal s2 (1 : Int32) v23).bind fun (v27, s26) => some (v27, s26) else (if a1 = (18 : Int32) then (if xn64 (FP.dadd v3 (4602678819172646912 : UInt64)) = true then (f_M_below (FP.dadd v3 (4602678819172646912 : UInt64))).bind fun v17 => (f_M_giveReal s2 (1 : Int32) v17).bind fun (v21, s20) => some (v21, s20) else none) else (if (lg_cmp (FP.d2l v3) (((FP.d2l v3).toInt32).toInt64)) = 0 then (f_M_give s2 (1 : Int32) (0 : Int32) (FP.d2l v3)).bind fun (v14, s13) => f_M_single_b138 v14 s13 else f_M_single_b138 (4 : Int32) s2)))) else none)))
theorem w_M_single {sc : xSc} {d : Nat} {Q : xR → xH → Prop} {R : xH} {sZ : MT} {rZ : Int32} (hQ : Q (.inl (some (vI rZ))) (mH sZ R)) (s : MT) (a1 : Int32) (h : f_M_single s a1 = some (rZ, sZ)) : xW sc m_M_single (d + 3) Q (mH s R) 0 (xent [vA 373, vI a1] m_M_single.2.2.1) [] := by
  show xW sc m_M_single (d + 3) Q (mH s R) 0 [some (vA 373), some (vI a1), none, none, none, none, none] []
  unfold f_M_single at h
  refine x_aload_n (pc := 0) d_M_single_0 rfl ?_
  refine x_getf (c := 1) (k := 4) (v := vI (mI 4 s)) (pc := 1) d_M_single_1 l_M_247 (xm_at s R) rfl ?_
  refine x_iconst (v := (1 : Int32)) (pc := 4) d_M_single_4 (by decide) ?_
  refine x_isub (pc := 5) d_M_single_5 ?_
  refine x_istore_n (pc := 6) d_M_single_6 (by decide) ?_
  show xW sc m_M_single (d + 3) Q (mH s R) 7 [some (vA 373), some (vI a1), some (vI ((mI 4 s) - (1 : Int32))), none, none, none, none] []
  refine x_aload_n (pc := 7) d_M_single_7 rfl ?_
  refine x_iload_n (pc := 8) d_M_single_8 rfl ?_
  obtain ⟨⟨v3, s2⟩, e1, h⟩ := Option.bind_eq_some_iff.mp h
  dsimp only at h
  refine x_invv (c := 1) (av := [vI ((mI 4 s) - (1 : Int32))]) (st := []) (pc := 9) d_M_single_9 cv_M_473 y_M_numberAt (xm_at s R) rfl (Nat.le_of_ble_eq_true rfl) (Nat.le_of_ble_eq_true rfl) (w_M_numberAt (d := d + 2) (Q := fun r h' => r = .inl (some (vD v3)) ∧ h' = mH s2 R) (R := R) ⟨rfl, rfl⟩ s ((mI 4 s) - (1 : Int32)) e1) (fun v h' z => ?_) (fun a h' z => nomatch z.1)
  obtain ⟨z1, z2⟩ := z
  subst z2
  cases z1
  show xW sc m_M_single (d + 3) Q (mH s2 R) 12 [some (vA 373), some (vI a1), some (vI ((mI 4 s) - (1 : Int32))), none, none, none, none] [vD v3]
  refine x_dstore_n (pc := 12) d_M_single_12 (by decide) ?_
  show xW sc m_M_single (d + 3) Q (mH s2 R) 13 [some (vA 373), some (vI a1), some (vI ((mI 4 s) - (1 : Int32))), some (vD v3), none, none, none] []
  refine x_iload_n (pc := 13) d_M_single_13 rfl ?_
  refine x_bipush (v := (16 : Int32)) (pc := 14) d_M_single_14 (by decide) ?_
  refine x_icmp_ne (tgt := 52) (pc := 16) d_M_single_16 (by decide) (fun c5 => ?_) (fun c5 => ?_)
  · rw [if_neg c5] at h
    refine x_iload_n (pc := 52) d_M_single_52 rfl ?_
    refine x_bipush (v := (20 : Int32)) (pc := 53) d_M_single_53 (by decide) ?_
    refine x_icmp_ne (tgt := 65) (pc := 55) d_M_single_55 (by decide) (fun c6 => ?_) (fun c6 => ?_)
    · rw [if_neg c6] at h
      refine x_aload_n (pc := 65) d_M_single_65 rfl ?_
      refine x_getf (c := 1) (k := 1) (v := vA 374) (pc := 66) d_M_single_66 l_M_7 (xm_at s2 R) rfl ?_
      refine x_iload_n (pc := 69) d_M_single_69 rfl ?_
      obtain ⟨c7, h⟩ := ite_some h
      refine x_iald (pc := 70) d_M_single_70 (xm_a1 s2 R) (xin_vp c7) ?_
      refine x_if_ne (tgt := 76) (pc := 71) d_M_single_71 (by decide) (fun c8 => ?_) (fun c8 => ?_)
      · rw [if_neg c8] at h
        refine x_iload_n (pc := 76) d_M_single_76 rfl ?_
        refine x_bipush (v := (17 : Int32)) (pc := 77) d_M_single_77 (by decide) ?_
        refine x_icmp_ne (tgt := 92) (pc := 79) d_M_single_79 (by decide) (fun c9 => ?_) (fun c9 => ?_)
        · rw [if_neg c9] at h
          refine x_iload_n (pc := 92) d_M_single_92 rfl ?_
          refine x_bipush (v := (18 : Int32)) (pc := 93) d_M_single_93 (by decide) ?_
          refine x_icmp_ne (tgt := 112) (pc := 95) d_M_single_95 (by decide) (fun c10 => ?_) (fun c10 => ?_)
          · rw [if_neg c10] at h
            refine x_dload_n (pc := 112) d_M_single_112 rfl ?_
            refine x_d2l (pc := 113) d_M_single_113 ?_
            refine x_lstore (pc := 114) d_M_single_114 (by decide) ?_
            show xW sc m_M_single (d + 3) Q (mH s2 R) 116 [some (vA 373), some (vI a1), some (vI ((mI 4 s) - (1 : Int32))), some (vD v3), none, some (vL (FP.d2l v3)), none] []
            refine x_lload (pc := 116) d_M_single_116 rfl ?_
            refine x_lload (pc := 118) d_M_single_118 rfl ?_
            refine x_l2i (pc := 120) d_M_single_120 ?_
            refine x_i2l (pc := 121) d_M_single_121 ?_
            refine x_lcmp (pc := 122) d_M_single_122 ?_
            refine x_if_ne (tgt := 137) (pc := 123) d_M_single_123 (by decide) (fun c11 => ?_) (fun c11 => ?_)
            · rw [if_neg c11] at h
              refine x_iconst (v := (4 : Int32)) (pc := 137) d_M_single_137 (by decide) ?_
              exact x_wk (L' := [none, none, none, none, none, none, none]) ⟨Or.inl rfl, Or.inl rfl, Or.inl rfl, Or.inl rfl, Or.inl rfl, Or.inl rfl, Or.inl rfl, trivial⟩ (w_M_single_b138 hQ (4 : Int32) s2 h)
            · rw [if_pos c11] at h
              refine x_aload_n (pc := 126) d_M_single_126 rfl ?_
              refine x_iconst (v := (1 : Int32)) (pc := 127) d_M_single_127 (by decide) ?_
              refine x_iconst (v := (0 : Int32)) (pc := 128) d_M_single_128 (by decide) ?_
              refine x_lload (pc := 129) d_M_single_129 rfl ?_
              obtain ⟨⟨v14, s13⟩, e12, h⟩ := Option.bind_eq_some_iff.mp h
              dsimp only at h
              refine x_invv (c := 1) (av := [vI (1 : Int32), vI (0 : Int32), vL (FP.d2l v3)]) (st := []) (pc := 131) d_M_single_131 cv_M_262 y_M_give (xm_at s2 R) rfl (Nat.le_of_ble_eq_true rfl) (Nat.le_of_ble_eq_true rfl) (w_M_give (d := d + 1) (Q := fun r h' => r = .inl (some (vI v14)) ∧ h' = mH s13 R) (R := R) ⟨rfl, rfl⟩ s2 (1 : Int32) (0 : Int32) (FP.d2l v3) e12) (fun v h' z => ?_) (fun a h' z => nomatch z.1)
              obtain ⟨z1, z2⟩ := z
              subst z2
              cases z1
              show xW sc m_M_single (d + 3) Q (mH s13 R) 134 [some (vA 373), some (vI a1), some (vI ((mI 4 s) - (1 : Int32))), some (vD v3), none, some (vL (FP.d2l v3)), none] [vI v14]
              refine x_goto (tgt := 138) (pc := 134) d_M_single_134 (by decide) ?_
              exact x_wk (L' := [none, none, none, none, none, none, none]) ⟨Or.inl rfl, Or.inl rfl, Or.inl rfl, Or.inl rfl, Or.inl rfl, Or.inl rfl, Or.inl rfl, trivial⟩ (w_M_single_b138 hQ v14 s13 h)
          · rw [if_pos c10] at h
            refine x_aload_n (pc := 98) d_M_single_98 rfl ?_
            refine x_iconst (v := (1 : Int32)) (pc := 99) d_M_single_99 (by decide) ?_
            refine x_dload_n (pc := 100) d_M_single_100 rfl ?_
            refine x_ldc2d (v := (4602678819172646912 : UInt64)) (pc := 101) d_M_single_101 c_M_484 ?_
            obtain ⟨c16, h⟩ := ite_some h
            refine x_dadd (pc := 104) d_M_single_104 (xn64_v c16) ?_
            obtain ⟨v17, e18, h⟩ := Option.bind_eq_some_iff.mp h
            refine x_invs (av := [vD (FP.dadd v3 (4602678819172646912 : UInt64))]) (st := [vI (1 : Int32), vA 373]) (pc := 105) d_M_single_105 cs_M_480 y_M_below rfl (Nat.le_of_ble_eq_true rfl) (Nat.le_of_ble_eq_true rfl) (w_M_below (d := d + 2) (Q := fun r h' => r = .inl (some (vD v17)) ∧ h' = mH s2 R) (hh := mH s2 R) ⟨rfl, rfl⟩ (FP.dadd v3 (4602678819172646912 : UInt64)) e18) (fun v h' z => ?_) (fun a h' z => nomatch z.1)
            obtain ⟨z1, z2⟩ := z
            subst z2
            cases z1
            show xW sc m_M_single (d + 3) Q (mH s2 R) 108 [some (vA 373), some (vI a1), some (vI ((mI 4 s) - (1 : Int32))), some (vD v3), none, none, none] [vD v17, vI (1 : Int32), vA 373]
            obtain ⟨⟨v21, s20⟩, e19, h⟩ := Option.bind_eq_some_iff.mp h
            dsimp only at h
            refine x_invv (c := 1) (av := [vI (1 : Int32), vD v17]) (st := []) (pc := 108) d_M_single_108 cv_M_266 y_M_giveReal (xm_at s2 R) rfl (Nat.le_of_ble_eq_true rfl) (Nat.le_of_ble_eq_true rfl) (w_M_giveReal (d := d + 1) (Q := fun r h' => r = .inl (some (vI v21)) ∧ h' = mH s20 R) (R := R) ⟨rfl, rfl⟩ s2 (1 : Int32) v17 e19) (fun v h' z => ?_) (fun a h' z => nomatch z.1)
            obtain ⟨z1, z2⟩ := z
            subst z2
            cases z1
            show xW sc m_M_single (d + 3) Q (mH s20 R) 111 [some (vA 373), some (vI a1), some (vI ((mI 4 s) - (1 : Int32))), some (vD v3), none, none, none] [vI v21]
            cases h
            exact x_iret (ty := .int) (pc := 111) d_M_single_111 rfl (rfl) hQ
        · rw [if_pos c9] at h
          refine x_aload_n (pc := 82) d_M_single_82 rfl ?_
          refine x_iconst (v := (1 : Int32)) (pc := 83) d_M_single_83 (by decide) ?_
          refine x_dload_n (pc := 84) d_M_single_84 rfl ?_
          obtain ⟨v23, e24, h⟩ := Option.bind_eq_some_iff.mp h
          refine x_invs (av := [vD v3]) (st := [vI (1 : Int32), vA 373]) (pc := 85) d_M_single_85 cs_M_480 y_M_below rfl (Nat.le_of_ble_eq_true rfl) (Nat.le_of_ble_eq_true rfl) (w_M_below (d := d + 2) (Q := fun r h' => r = .inl (some (vD v23)) ∧ h' = mH s2 R) (hh := mH s2 R) ⟨rfl, rfl⟩ v3 e24) (fun v h' z => ?_) (fun a h' z => nomatch z.1)
          obtain ⟨z1, z2⟩ := z
          subst z2
          cases z1
          show xW sc m_M_single (d + 3) Q (mH s2 R) 88 [some (vA 373), some (vI a1), some (vI ((mI 4 s) - (1 : Int32))), some (vD v3), none, none, none] [vD v23, vI (1 : Int32), vA 373]
          obtain ⟨⟨v27, s26⟩, e25, h⟩ := Option.bind_eq_some_iff.mp h
          dsimp only at h
          refine x_invv (c := 1) (av := [vI (1 : Int32), vD v23]) (st := []) (pc := 88) d_M_single_88 cv_M_266 y_M_giveReal (xm_at s2 R) rfl (Nat.le_of_ble_eq_true rfl) (Nat.le_of_ble_eq_true rfl) (w_M_giveReal (d := d + 1) (Q := fun r h' => r = .inl (some (vI v27)) ∧ h' = mH s26 R) (R := R) ⟨rfl, rfl⟩ s2 (1 : Int32) v23 e25) (fun v h' z => ?_) (fun a h' z => nomatch z.1)
          obtain ⟨z1, z2⟩ := z
          subst z2
          cases z1
          show xW sc m_M_single (d + 3) Q (mH s26 R) 91 [some (vA 373), some (vI a1), some (vI ((mI 4 s) - (1 : Int32))), some (vD v3), none, none, none] [vI v27]
          cases h
          exact x_iret (ty := .int) (pc := 91) d_M_single_91 rfl (rfl) hQ
      · rw [if_pos c8] at h
        refine x_iconst (v := (0 : Int32)) (pc := 74) d_M_single_74 (by decide) ?_
        cases h
        exact x_iret (ty := .int) (pc := 75) d_M_single_75 rfl (rfl) hQ
    · rw [if_pos c6] at h
      refine x_aload_n (pc := 58) d_M_single_58 rfl ?_
      refine x_iconst (v := (1 : Int32)) (pc := 59) d_M_single_59 (by decide) ?_
      refine x_dload_n (pc := 60) d_M_single_60 rfl ?_
      obtain ⟨⟨v31, s30⟩, e29, h⟩ := Option.bind_eq_some_iff.mp h
      dsimp only at h
      refine x_invv (c := 1) (av := [vI (1 : Int32), vD v3]) (st := []) (pc := 61) d_M_single_61 cv_M_266 y_M_giveReal (xm_at s2 R) rfl (Nat.le_of_ble_eq_true rfl) (Nat.le_of_ble_eq_true rfl) (w_M_giveReal (d := d + 1) (Q := fun r h' => r = .inl (some (vI v31)) ∧ h' = mH s30 R) (R := R) ⟨rfl, rfl⟩ s2 (1 : Int32) v3 e29) (fun v h' z => ?_) (fun a h' z => nomatch z.1)
      obtain ⟨z1, z2⟩ := z
      subst z2
      cases z1
      show xW sc m_M_single (d + 3) Q (mH s30 R) 64 [some (vA 373), some (vI a1), some (vI ((mI 4 s) - (1 : Int32))), some (vD v3), none, none, none] [vI v31]
      cases h
      exact x_iret (ty := .int) (pc := 64) d_M_single_64 rfl (rfl) hQ
  · rw [if_pos c5] at h
    refine x_aload_n (pc := 19) d_M_single_19 rfl ?_
    refine x_getf (c := 1) (k := 1) (v := vA 374) (pc := 20) d_M_single_20 l_M_7 (xm_at s2 R) rfl ?_
    refine x_iload_n (pc := 23) d_M_single_23 rfl ?_
    obtain ⟨c33, h⟩ := ite_some h
    refine x_iald (pc := 24) d_M_single_24 (xm_a1 s2 R) (xin_vp c33) ?_
    refine x_if_ne (tgt := 43) (pc := 25) d_M_single_25 (by decide) (fun c34 => ?_) (fun c34 => ?_)
    · rw [if_neg c34] at h
      refine x_aload_n (pc := 43) d_M_single_43 rfl ?_
      refine x_iconst (v := (1 : Int32)) (pc := 44) d_M_single_44 (by decide) ?_
      refine x_dconst0 (pc := 45) d_M_single_45 ?_
      refine x_dload_n (pc := 46) d_M_single_46 rfl ?_
      obtain ⟨c35, h⟩ := ite_some h
      refine x_dsub (pc := 47) d_M_single_47 (xn64_v c35) ?_
      obtain ⟨⟨v38, s37⟩, e36, h⟩ := Option.bind_eq_some_iff.mp h
      dsimp only at h
      refine x_invv (c := 1) (av := [vI (1 : Int32), vD (FP.dsub FP.dconst0 v3)]) (st := []) (pc := 48) d_M_single_48 cv_M_266 y_M_giveReal (xm_at s2 R) rfl (Nat.le_of_ble_eq_true rfl) (Nat.le_of_ble_eq_true rfl) (w_M_giveReal (d := d + 1) (Q := fun r h' => r = .inl (some (vI v38)) ∧ h' = mH s37 R) (R := R) ⟨rfl, rfl⟩ s2 (1 : Int32) (FP.dsub FP.dconst0 v3) e36) (fun v h' z => ?_) (fun a h' z => nomatch z.1)
      obtain ⟨z1, z2⟩ := z
      subst z2
      cases z1
      show xW sc m_M_single (d + 3) Q (mH s37 R) 51 [some (vA 373), some (vI a1), some (vI ((mI 4 s) - (1 : Int32))), some (vD v3), none, none, none] [vI v38]
      exact x_wk (L' := [none, none, none, none, none, none, none]) ⟨Or.inl rfl, Or.inl rfl, Or.inl rfl, Or.inl rfl, Or.inl rfl, Or.inl rfl, Or.inl rfl, trivial⟩ (w_M_single_b51 hQ v38 s37 h)
    · rw [if_pos c34] at h
      refine x_aload_n (pc := 28) d_M_single_28 rfl ?_
      refine x_iconst (v := (1 : Int32)) (pc := 29) d_M_single_29 (by decide) ?_
      refine x_aload_n (pc := 30) d_M_single_30 rfl ?_
      refine x_getf (c := 1) (k := 2) (v := vA 375) (pc := 31) d_M_single_31 l_M_13 (xm_at s2 R) rfl ?_
      refine x_iload_n (pc := 34) d_M_single_34 rfl ?_
      obtain ⟨c40, h⟩ := ite_some h
      refine x_lald (pc := 35) d_M_single_35 (xm_a2 s2 R) (xin_vp c40) ?_
      refine x_lneg (pc := 36) d_M_single_36 ?_
      obtain ⟨⟨v43, s42⟩, e41, h⟩ := Option.bind_eq_some_iff.mp h
      dsimp only at h
      refine x_invv (c := 1) (av := [vI (1 : Int32), vL (-(mL 2 s2 ((mI 4 s) - (1 : Int32)).toNatClampNeg))]) (st := []) (pc := 37) d_M_single_37 cv_M_477 y_M_giveExact (xm_at s2 R) rfl (Nat.le_of_ble_eq_true rfl) (Nat.le_of_ble_eq_true rfl) (w_M_giveExact (d := d + 0) (Q := fun r h' => r = .inl (some (vI v43)) ∧ h' = mH s42 R) (R := R) ⟨rfl, rfl⟩ s2 (1 : Int32) (-(mL 2 s2 ((mI 4 s) - (1 : Int32)).toNatClampNeg)) e41) (fun v h' z => ?_) (fun a h' z => nomatch z.1)
      obtain ⟨z1, z2⟩ := z
      subst z2
      cases z1
      show xW sc m_M_single (d + 3) Q (mH s42 R) 40 [some (vA 373), some (vI a1), some (vI ((mI 4 s) - (1 : Int32))), some (vD v3), none, none, none] [vI v43]
      refine x_goto (tgt := 51) (pc := 40) d_M_single_40 (by decide) ?_
      exact x_wk (L' := [none, none, none, none, none, none, none]) ⟨Or.inl rfl, Or.inl rfl, Or.inl rfl, Or.inl rfl, Or.inl rfl, Or.inl rfl, Or.inl rfl, trivial⟩ (w_M_single_b51 hQ v43 s42 h)
def f_M_stackOperator_b286  (s : MT) : Option (Int32 × MT) := (f_M_push s (4 : Int32) (0 : Int64)).bind fun (v3, s2) => some (v3, s2)
theorem w_M_stackOperator_b286 {sc : xSc} {d : Nat} {Q : xR → xH → Prop} {R : xH} {sZ : MT} {rZ : Int32}  (hQ : Q (.inl (some (vI rZ))) (mH sZ R)) (s : MT) (h : f_M_stackOperator_b286  s = some (rZ, sZ)) : xW sc m_M_stackOperator (d + 3) Q (mH s R) 286 [some (vA 373), none, none, none, none, none] [] := by
  unfold f_M_stackOperator_b286 at h
  refine x_aload_n (pc := 286) d_M_stackOperator_286 rfl ?_
  refine x_iconst (v := (4 : Int32)) (pc := 287) d_M_stackOperator_287 (by decide) ?_
  refine x_lconst (v := (0 : Int64)) (pc := 288) d_M_stackOperator_288 (by decide) ?_
  obtain ⟨⟨v3, s2⟩, e1, h⟩ := Option.bind_eq_some_iff.mp h
  dsimp only at h
  refine x_invv (c := 1) (av := [vI (4 : Int32), vL (0 : Int64)]) (st := []) (pc := 289) d_M_stackOperator_289 cv_M_388 y_M_push (xm_at s R) rfl (Nat.le_of_ble_eq_true rfl) (Nat.le_of_ble_eq_true rfl) (w_M_push (d := d + 1) (Q := fun r h' => r = .inl (some (vI v3)) ∧ h' = mH s2 R) (R := R) ⟨rfl, rfl⟩ s (4 : Int32) (0 : Int64) e1) (fun v h' z => ?_) (fun a h' z => nomatch z.1)
  obtain ⟨z1, z2⟩ := z
  subst z2
  cases z1
  show xW sc m_M_stackOperator (d + 3) Q (mH s2 R) 292 [some (vA 373), none, none, none, none, none] [vI v3]
  cases h
  exact x_iret (ty := .int) (pc := 292) d_M_stackOperator_292 rfl (rfl) hQ
def f_M_stackOperator_b239  (s : MT) : Option (Int32 × MT) := some ((4 : Int32), s)
theorem w_M_stackOperator_b239 {sc : xSc} {d : Nat} {Q : xR → xH → Prop} {R : xH} {sZ : MT} {rZ : Int32}  (hQ : Q (.inl (some (vI rZ))) (mH sZ R)) (s : MT) (h : f_M_stackOperator_b239  s = some (rZ, sZ)) : xW sc m_M_stackOperator (d + 3) Q (mH s R) 239 [none, none, none, none, none, none] [] := by
  unfold f_M_stackOperator_b239 at h
  refine x_iconst (v := (4 : Int32)) (pc := 239) d_M_stackOperator_239 (by decide) ?_
  cases h
  exact x_iret (ty := .int) (pc := 240) d_M_stackOperator_240 rfl (rfl) hQ
def f_M_stackOperator_b187  : Nat → Int32 → Int64 → Int32 → MT → Option (Int32 × MT)
  | 0, _, _, _, _ => none
  | n + 1, l2, l3, l5, s => (if 0 ≤ (lg_cmp l5.toInt64 l3) then some ((0 : Int32), sI 4 (l2 + l3.toInt32) s) else (f_M_move s (l2 + l5) ((l2 + l5) - l3.toInt32)).bind fun s3 => (f_M_stackOperator_b187 n) l2 l3 (l5 + Int32.ofInt 1) s3)
theorem w_M_stackOperator_b187 {sc : xSc} {d : Nat} {Q : xR → xH → Prop} {R : xH} {sZ : MT} {rZ : Int32}  (hQ : Q (.inl (some (vI rZ))) (mH sZ R)) : ∀ (n : Nat) (l2 : Int32) (l3 : Int64) (l5 : Int32) (s : MT), f_M_stackOperator_b187  n l2 l3 l5 s = some (rZ, sZ) → xW sc m_M_stackOperator (d + 3) Q (mH s R) 187 [some (vA 373), none, some (vI l2), some (vL l3), none, some (vI l5)] [] := by
  intro n
  induction n with
  | zero =>
    intro l2 l3 l5 s h
    cases h
  | succ n hk187 =>
    intro l2 l3 l5 s h
    unfold f_M_stackOperator_b187 at h
    refine x_iload (pc := 187) d_M_stackOperator_187 rfl ?_
    refine x_i2l (pc := 189) d_M_stackOperator_189 ?_
    refine x_lload_n (pc := 190) d_M_stackOperator_190 rfl ?_
    refine x_lcmp (pc := 191) d_M_stackOperator_191 ?_
    refine x_if_ge (tgt := 216) (pc := 192) d_M_stackOperator_192 (by decide) (fun c1 => ?_) (fun c1 => ?_)
    · rw [if_pos c1] at h
      refine x_aload_n (pc := 216) d_M_stackOperator_216 rfl ?_
      refine x_iload_n (pc := 217) d_M_stackOperator_217 rfl ?_
      refine x_lload_n (pc := 218) d_M_stackOperator_218 rfl ?_
      refine x_l2i (pc := 219) d_M_stackOperator_219 ?_
      refine x_iadd (pc := 220) d_M_stackOperator_220 ?_
      refine xm_p4 (pc := 221) d_M_stackOperator_221 l_M_247 ?_
      refine x_iconst (v := (0 : Int32)) (pc := 224) d_M_stackOperator_224 (by decide) ?_
      cases h
      exact x_iret (ty := .int) (pc := 225) d_M_stackOperator_225 rfl (rfl) hQ
    · rw [if_neg c1] at h
      refine x_aload_n (pc := 195) d_M_stackOperator_195 rfl ?_
      refine x_iload_n (pc := 196) d_M_stackOperator_196 rfl ?_
      refine x_iload (pc := 197) d_M_stackOperator_197 rfl ?_
      refine x_iadd (pc := 199) d_M_stackOperator_199 ?_
      refine x_iload_n (pc := 200) d_M_stackOperator_200 rfl ?_
      refine x_iload (pc := 201) d_M_stackOperator_201 rfl ?_
      refine x_iadd (pc := 203) d_M_stackOperator_203 ?_
      refine x_lload_n (pc := 204) d_M_stackOperator_204 rfl ?_
      refine x_l2i (pc := 205) d_M_stackOperator_205 ?_
      refine x_isub (pc := 206) d_M_stackOperator_206 ?_
      obtain ⟨s3, e2, h⟩ := Option.bind_eq_some_iff.mp h
      refine x_invv (c := 1) (av := [vI (l2 + l5), vI ((l2 + l5) - l3.toInt32)]) (st := []) (pc := 207) d_M_stackOperator_207 cv_M_254 y_M_move (xm_at s R) rfl (Nat.le_of_ble_eq_true rfl) (Nat.le_of_ble_eq_true rfl) (w_M_move (d := d + 2) (Q := fun r h' => r = .inl none ∧ h' = mH s3 R) (R := R) ⟨rfl, rfl⟩ s (l2 + l5) ((l2 + l5) - l3.toInt32) e2) (fun v h' z => ?_) (fun a h' z => nomatch z.1)
      obtain ⟨z1, z2⟩ := z
      subst z2
      cases z1
      show xW sc m_M_stackOperator (d + 3) Q (mH s3 R) 210 [some (vA 373), none, some (vI l2), some (vL l3), none, some (vI l5)] []
      refine x_iinc (pc := 210) d_M_stackOperator_210 rfl (by decide) ?_
      show xW sc m_M_stackOperator (d + 3) Q (mH s3 R) 213 [some (vA 373), none, some (vI l2), some (vL l3), none, some (vI (l5 + Int32.ofInt 1))] []
      refine x_goto (tgt := 187) (pc := 213) d_M_stackOperator_213 (by decide) ?_
      exact hk187 l2 l3 (l5 + Int32.ofInt 1) s3 h
def f_M_stackOperator_b169  (s : MT) : Option (Int32 × MT) := some ((4 : Int32), s)
theorem w_M_stackOperator_b169 {sc : xSc} {d : Nat} {Q : xR → xH → Prop} {R : xH} {sZ : MT} {rZ : Int32}  (hQ : Q (.inl (some (vI rZ))) (mH sZ R)) (s : MT) (h : f_M_stackOperator_b169  s = some (rZ, sZ)) : xW sc m_M_stackOperator (d + 3) Q (mH s R) 169 [none, none, none, none, none, none] [] := by
  unfold f_M_stackOperator_b169 at h
  refine x_iconst (v := (4 : Int32)) (pc := 169) d_M_stackOperator_169 (by decide) ?_
  cases h
  exact x_iret (ty := .int) (pc := 170) d_M_stackOperator_170 rfl (rfl) hQ
def f_M_stackOperator_b21  (l1 : Int32) (l2 : Int32) (t0 : Int64) (s : MT) : Option (Int32 × MT) := (if l1 = (0 : Int32) then some ((0 : Int32), sI 4 ((mI 4 s) - (1 : Int32)) s) else (if l1 = (1 : Int32) then (f_M_move s (41 : Int32) l2).bind fun s4 => (f_M_move s4 l2 (l2 - (1 : Int32))).bind fun s6 => (f_M_move s6 (l2 - (1 : Int32)) (41 : Int32)).bind fun s8 => some ((0 : Int32), s8) else (if l1 = (2 : Int32) then (f_M_pushValue s l2).bind fun (v12, s11) => some (v12, s11) else (if l1 = (3 : Int32) then (if (lg_cmp t0 (0 : Int64)) < 0 then f_M_stackOperator_b169 s else (if (lg_cmp t0 l2.toInt64) ≤ 0 then (if (lg_cmp (l2.toInt64 + t0) (40 : Int64)) ≤ 0 then f_M_stackOperator_b187 mF l2 t0 (0 : Int32) s else some ((2 : Int32), s)) else f_M_stackOperator_b169 s)) else (if l1 = (4 : Int32) then (if (lg_cmp t0 (0 : Int64)) < 0 then f_M_stackOperator_b239 s else (if (lg_cmp t0 l2.toInt64) < 0 then (f_M_move s l2 ((l2 - (1 : Int32)) - t0.toInt32)).bind fun s22 => some ((0 : Int32), s22) else f_M_stackOperator_b239 s)) else (if l1 = (5 : Int32) then (if xin (l2 - (1 : Int32)) 1300 = true then (f_M_roll s (mL 2 s (l2 - (1 : Int32)).toNatClampNeg) t0).bind fun (v27, s26) => some (v27, s26) else none) else (if l1 = (6 : Int32) then some ((0 : Int32), sI 4 (0 : Int32) s) else (if l1 = (7 : Int32) then (f_M_push s (0 : Int32) ((mI 4 s).toInt64)).bind fun (v33, s32) => some (v33, s32) else (if l1 = (8 : Int32) then f_M_stackOperator_b286 s else (if l1 = (70 : Int32) then f_M_stackOperator_b286 s else (f_M_toMark s l1).bind fun (v39, s38) => some (v39, s38)))))))))))
theorem w_M_stackOperator_b21 {sc : xSc} {d : Nat} {Q : xR → xH → Prop} {R : xH} {sZ : MT} {rZ : Int32}  (hQ : Q (.inl (some (vI rZ))) (mH sZ R)) (l1 : Int32) (l2 : Int32) (t0 : Int64) (s : MT) (h : f_M_stackOperator_b21  l1 l2 t0 s = some (rZ, sZ)) : xW sc m_M_stackOperator (d + 3) Q (mH s R) 21 [some (vA 373), some (vI l1), some (vI l2), none, none, none] [vL t0] := by
  unfold f_M_stackOperator_b21 at h
  refine x_lstore_n (pc := 21) d_M_stackOperator_21 (by decide) ?_
  show xW sc m_M_stackOperator (d + 3) Q (mH s R) 22 [some (vA 373), some (vI l1), some (vI l2), some (vL t0), none, none] []
  refine x_iload_n (pc := 22) d_M_stackOperator_22 rfl ?_
  by_cases c1 : l1 = (0 : Int32)
  · rw [if_pos c1] at h
    refine x_lookup (off := 89) (tgt := 112) (pc := 23) d_M_stackOperator_23 (by decide) (by rw [c1]; decide) (by decide) ?_
    refine x_aload_n (pc := 112) d_M_stackOperator_112 rfl ?_
    refine x_dup (pc := 113) d_M_stackOperator_113 rfl ?_
    refine x_getf (c := 1) (k := 4) (v := vI (mI 4 s)) (pc := 114) d_M_stackOperator_114 l_M_247 (xm_at s R) rfl ?_
    refine x_iconst (v := (1 : Int32)) (pc := 117) d_M_stackOperator_117 (by decide) ?_
    refine x_isub (pc := 118) d_M_stackOperator_118 ?_
    refine xm_p4 (pc := 119) d_M_stackOperator_119 l_M_247 ?_
    refine x_iconst (v := (0 : Int32)) (pc := 122) d_M_stackOperator_122 (by decide) ?_
    cases h
    exact x_iret (ty := .int) (pc := 123) d_M_stackOperator_123 rfl (rfl) hQ
  rw [if_neg c1] at h
  by_cases c2 : l1 = (1 : Int32)
  · rw [if_pos c2] at h
    refine x_lookup (off := 101) (tgt := 124) (pc := 23) d_M_stackOperator_23 (by decide) (by rw [c2]; decide) (by decide) ?_
    refine x_aload_n (pc := 124) d_M_stackOperator_124 rfl ?_
    refine x_bipush (v := (41 : Int32)) (pc := 125) d_M_stackOperator_125 (by decide) ?_
    refine x_iload_n (pc := 127) d_M_stackOperator_127 rfl ?_
    obtain ⟨s4, e3, h⟩ := Option.bind_eq_some_iff.mp h
    refine x_invv (c := 1) (av := [vI (41 : Int32), vI l2]) (st := []) (pc := 128) d_M_stackOperator_128 cv_M_254 y_M_move (xm_at s R) rfl (Nat.le_of_ble_eq_true rfl) (Nat.le_of_ble_eq_true rfl) (w_M_move (d := d + 2) (Q := fun r h' => r = .inl none ∧ h' = mH s4 R) (R := R) ⟨rfl, rfl⟩ s (41 : Int32) l2 e3) (fun v h' z => ?_) (fun a h' z => nomatch z.1)
    obtain ⟨z1, z2⟩ := z
    subst z2
    cases z1
    show xW sc m_M_stackOperator (d + 3) Q (mH s4 R) 131 [some (vA 373), some (vI l1), some (vI l2), some (vL t0), none, none] []
    refine x_aload_n (pc := 131) d_M_stackOperator_131 rfl ?_
    refine x_iload_n (pc := 132) d_M_stackOperator_132 rfl ?_
    refine x_iload_n (pc := 133) d_M_stackOperator_133 rfl ?_
    refine x_iconst (v := (1 : Int32)) (pc := 134) d_M_stackOperator_134 (by decide) ?_
    refine x_isub (pc := 135) d_M_stackOperator_135 ?_
    obtain ⟨s6, e5, h⟩ := Option.bind_eq_some_iff.mp h
    refine x_invv (c := 1) (av := [vI l2, vI (l2 - (1 : Int32))]) (st := []) (pc := 136) d_M_stackOperator_136 cv_M_254 y_M_move (xm_at s4 R) rfl (Nat.le_of_ble_eq_true rfl) (Nat.le_of_ble_eq_true rfl) (w_M_move (d := d + 2) (Q := fun r h' => r = .inl none ∧ h' = mH s6 R) (R := R) ⟨rfl, rfl⟩ s4 l2 (l2 - (1 : Int32)) e5) (fun v h' z => ?_) (fun a h' z => nomatch z.1)
    obtain ⟨z1, z2⟩ := z
    subst z2
    cases z1
    show xW sc m_M_stackOperator (d + 3) Q (mH s6 R) 139 [some (vA 373), some (vI l1), some (vI l2), some (vL t0), none, none] []
    refine x_aload_n (pc := 139) d_M_stackOperator_139 rfl ?_
    refine x_iload_n (pc := 140) d_M_stackOperator_140 rfl ?_
    refine x_iconst (v := (1 : Int32)) (pc := 141) d_M_stackOperator_141 (by decide) ?_
    refine x_isub (pc := 142) d_M_stackOperator_142 ?_
    refine x_bipush (v := (41 : Int32)) (pc := 143) d_M_stackOperator_143 (by decide) ?_
    obtain ⟨s8, e7, h⟩ := Option.bind_eq_some_iff.mp h
    refine x_invv (c := 1) (av := [vI (l2 - (1 : Int32)), vI (41 : Int32)]) (st := []) (pc := 145) d_M_stackOperator_145 cv_M_254 y_M_move (xm_at s6 R) rfl (Nat.le_of_ble_eq_true rfl) (Nat.le_of_ble_eq_true rfl) (w_M_move (d := d + 2) (Q := fun r h' => r = .inl none ∧ h' = mH s8 R) (R := R) ⟨rfl, rfl⟩ s6 (l2 - (1 : Int32)) (41 : Int32) e7) (fun v h' z => ?_) (fun a h' z => nomatch z.1)
    obtain ⟨z1, z2⟩ := z
    subst z2
    cases z1
    show xW sc m_M_stackOperator (d + 3) Q (mH s8 R) 148 [some (vA 373), some (vI l1), some (vI l2), some (vL t0), none, none] []
    refine x_iconst (v := (0 : Int32)) (pc := 148) d_M_stackOperator_148 (by decide) ?_
    cases h
    exact x_iret (ty := .int) (pc := 149) d_M_stackOperator_149 rfl (rfl) hQ
  rw [if_neg c2] at h
  by_cases c9 : l1 = (2 : Int32)
  · rw [if_pos c9] at h
    refine x_lookup (off := 127) (tgt := 150) (pc := 23) d_M_stackOperator_23 (by decide) (by rw [c9]; decide) (by decide) ?_
    refine x_aload_n (pc := 150) d_M_stackOperator_150 rfl ?_
    refine x_iload_n (pc := 151) d_M_stackOperator_151 rfl ?_
    obtain ⟨⟨v12, s11⟩, e10, h⟩ := Option.bind_eq_some_iff.mp h
    dsimp only at h
    refine x_invv (c := 1) (av := [vI l2]) (st := []) (pc := 152) d_M_stackOperator_152 cv_M_369 y_M_pushValue (xm_at s R) rfl (Nat.le_of_ble_eq_true rfl) (Nat.le_of_ble_eq_true rfl) (w_M_pushValue (d := d + 1) (Q := fun r h' => r = .inl (some (vI v12)) ∧ h' = mH s11 R) (R := R) ⟨rfl, rfl⟩ s l2 e10) (fun v h' z => ?_) (fun a h' z => nomatch z.1)
    obtain ⟨z1, z2⟩ := z
    subst z2
    cases z1
    show xW sc m_M_stackOperator (d + 3) Q (mH s11 R) 155 [some (vA 373), some (vI l1), some (vI l2), some (vL t0), none, none] [vI v12]
    cases h
    exact x_iret (ty := .int) (pc := 155) d_M_stackOperator_155 rfl (rfl) hQ
  rw [if_neg c9] at h
  by_cases c14 : l1 = (3 : Int32)
  · rw [if_pos c14] at h
    refine x_lookup (off := 133) (tgt := 156) (pc := 23) d_M_stackOperator_23 (by decide) (by rw [c14]; decide) (by decide) ?_
    refine x_lload_n (pc := 156) d_M_stackOperator_156 rfl ?_
    refine x_lconst (v := (0 : Int64)) (pc := 157) d_M_stackOperator_157 (by decide) ?_
    refine x_lcmp (pc := 158) d_M_stackOperator_158 ?_
    refine x_if_lt (tgt := 169) (pc := 159) d_M_stackOperator_159 (by decide) (fun c15 => ?_) (fun c15 => ?_)
    · rw [if_pos c15] at h
      exact x_wk (L' := [none, none, none, none, none, none]) ⟨Or.inl rfl, Or.inl rfl, Or.inl rfl, Or.inl rfl, Or.inl rfl, Or.inl rfl, trivial⟩ (w_M_stackOperator_b169 hQ s h)
    · rw [if_neg c15] at h
      refine x_lload_n (pc := 162) d_M_stackOperator_162 rfl ?_
      refine x_iload_n (pc := 163) d_M_stackOperator_163 rfl ?_
      refine x_i2l (pc := 164) d_M_stackOperator_164 ?_
      refine x_lcmp (pc := 165) d_M_stackOperator_165 ?_
      refine x_if_le (tgt := 171) (pc := 166) d_M_stackOperator_166 (by decide) (fun c16 => ?_) (fun c16 => ?_)
      · rw [if_pos c16] at h
        refine x_iload_n (pc := 171) d_M_stackOperator_171 rfl ?_
        refine x_i2l (pc := 172) d_M_stackOperator_172 ?_
        refine x_lload_n (pc := 173) d_M_stackOperator_173 rfl ?_
        refine x_ladd (pc := 174) d_M_stackOperator_174 ?_
        refine x_ldc2 (v := (40 : Int64)) (pc := 175) d_M_stackOperator_175 c_M_461 ?_
        refine x_lcmp (pc := 178) d_M_stackOperator_178 ?_
        refine x_if_le (tgt := 184) (pc := 179) d_M_stackOperator_179 (by decide) (fun c17 => ?_) (fun c17 => ?_)
        · rw [if_pos c17] at h
          refine x_iconst (v := (0 : Int32)) (pc := 184) d_M_stackOperator_184 (by decide) ?_
          refine x_istore (pc := 185) d_M_stackOperator_185 (by decide) ?_
          show xW sc m_M_stackOperator (d + 3) Q (mH s R) 187 [some (vA 373), some (vI l1), some (vI l2), some (vL t0), none, some (vI (0 : Int32))] []
          exact x_wk (L' := [some (vA 373), none, some (vI l2), some (vL t0), none, some (vI (0 : Int32))]) ⟨Or.inr rfl, Or.inl rfl, Or.inr rfl, Or.inr rfl, Or.inl rfl, Or.inr rfl, trivial⟩ (w_M_stackOperator_b187 hQ mF l2 t0 (0 : Int32) s h)
        · rw [if_neg c17] at h
          refine x_iconst (v := (2 : Int32)) (pc := 182) d_M_stackOperator_182 (by decide) ?_
          cases h
          exact x_iret (ty := .int) (pc := 183) d_M_stackOperator_183 rfl (rfl) hQ
      · rw [if_neg c16] at h
        exact x_wk (L' := [none, none, none, none, none, none]) ⟨Or.inl rfl, Or.inl rfl, Or.inl rfl, Or.inl rfl, Or.inl rfl, Or.inl rfl, trivial⟩ (w_M_stackOperator_b169 hQ s h)
  rw [if_neg c14] at h
  by_cases c18 : l1 = (4 : Int32)
  · rw [if_pos c18] at h
    refine x_lookup (off := 203) (tgt := 226) (pc := 23) d_M_stackOperator_23 (by decide) (by rw [c18]; decide) (by decide) ?_
    refine x_lload_n (pc := 226) d_M_stackOperator_226 rfl ?_
    refine x_lconst (v := (0 : Int64)) (pc := 227) d_M_stackOperator_227 (by decide) ?_
    refine x_lcmp (pc := 228) d_M_stackOperator_228 ?_
    refine x_if_lt (tgt := 239) (pc := 229) d_M_stackOperator_229 (by decide) (fun c19 => ?_) (fun c19 => ?_)
    · rw [if_pos c19] at h
      exact x_wk (L' := [none, none, none, none, none, none]) ⟨Or.inl rfl, Or.inl rfl, Or.inl rfl, Or.inl rfl, Or.inl rfl, Or.inl rfl, trivial⟩ (w_M_stackOperator_b239 hQ s h)
    · rw [if_neg c19] at h
      refine x_lload_n (pc := 232) d_M_stackOperator_232 rfl ?_
      refine x_iload_n (pc := 233) d_M_stackOperator_233 rfl ?_
      refine x_i2l (pc := 234) d_M_stackOperator_234 ?_
      refine x_lcmp (pc := 235) d_M_stackOperator_235 ?_
      refine x_if_lt (tgt := 241) (pc := 236) d_M_stackOperator_236 (by decide) (fun c20 => ?_) (fun c20 => ?_)
      · rw [if_pos c20] at h
        refine x_aload_n (pc := 241) d_M_stackOperator_241 rfl ?_
        refine x_iload_n (pc := 242) d_M_stackOperator_242 rfl ?_
        refine x_iload_n (pc := 243) d_M_stackOperator_243 rfl ?_
        refine x_iconst (v := (1 : Int32)) (pc := 244) d_M_stackOperator_244 (by decide) ?_
        refine x_isub (pc := 245) d_M_stackOperator_245 ?_
        refine x_lload_n (pc := 246) d_M_stackOperator_246 rfl ?_
        refine x_l2i (pc := 247) d_M_stackOperator_247 ?_
        refine x_isub (pc := 248) d_M_stackOperator_248 ?_
        obtain ⟨s22, e21, h⟩ := Option.bind_eq_some_iff.mp h
        refine x_invv (c := 1) (av := [vI l2, vI ((l2 - (1 : Int32)) - t0.toInt32)]) (st := []) (pc := 249) d_M_stackOperator_249 cv_M_254 y_M_move (xm_at s R) rfl (Nat.le_of_ble_eq_true rfl) (Nat.le_of_ble_eq_true rfl) (w_M_move (d := d + 2) (Q := fun r h' => r = .inl none ∧ h' = mH s22 R) (R := R) ⟨rfl, rfl⟩ s l2 ((l2 - (1 : Int32)) - t0.toInt32) e21) (fun v h' z => ?_) (fun a h' z => nomatch z.1)
        obtain ⟨z1, z2⟩ := z
        subst z2
        cases z1
        show xW sc m_M_stackOperator (d + 3) Q (mH s22 R) 252 [some (vA 373), some (vI l1), some (vI l2), some (vL t0), none, none] []
        refine x_iconst (v := (0 : Int32)) (pc := 252) d_M_stackOperator_252 (by decide) ?_
        cases h
        exact x_iret (ty := .int) (pc := 253) d_M_stackOperator_253 rfl (rfl) hQ
      · rw [if_neg c20] at h
        exact x_wk (L' := [none, none, none, none, none, none]) ⟨Or.inl rfl, Or.inl rfl, Or.inl rfl, Or.inl rfl, Or.inl rfl, Or.inl rfl, trivial⟩ (w_M_stackOperator_b239 hQ s h)
  rw [if_neg c18] at h
  by_cases c23 : l1 = (5 : Int32)
  · rw [if_pos c23] at h
    refine x_lookup (off := 231) (tgt := 254) (pc := 23) d_M_stackOperator_23 (by decide) (by rw [c23]; decide) (by decide) ?_
    refine x_aload_n (pc := 254) d_M_stackOperator_254 rfl ?_
    refine x_aload_n (pc := 255) d_M_stackOperator_255 rfl ?_
    refine x_getf (c := 1) (k := 2) (v := vA 375) (pc := 256) d_M_stackOperator_256 l_M_13 (xm_at s R) rfl ?_
    refine x_iload_n (pc := 259) d_M_stackOperator_259 rfl ?_
    refine x_iconst (v := (1 : Int32)) (pc := 260) d_M_stackOperator_260 (by decide) ?_
    refine x_isub (pc := 261) d_M_stackOperator_261 ?_
    obtain ⟨c24, h⟩ := ite_some h
    refine x_lald (pc := 262) d_M_stackOperator_262 (xm_a2 s R) (xin_vp c24) ?_
    refine x_lload_n (pc := 263) d_M_stackOperator_263 rfl ?_
    obtain ⟨⟨v27, s26⟩, e25, h⟩ := Option.bind_eq_some_iff.mp h
    dsimp only at h
    refine x_invv (c := 1) (av := [vL (mL 2 s (l2 - (1 : Int32)).toNatClampNeg), vL t0]) (st := []) (pc := 264) d_M_stackOperator_264 cv_M_463 y_M_roll (xm_at s R) rfl (Nat.le_of_ble_eq_true rfl) (Nat.le_of_ble_eq_true rfl) (w_M_roll (d := d + 1) (Q := fun r h' => r = .inl (some (vI v27)) ∧ h' = mH s26 R) (R := R) ⟨rfl, rfl⟩ s (mL 2 s (l2 - (1 : Int32)).toNatClampNeg) t0 e25) (fun v h' z => ?_) (fun a h' z => nomatch z.1)
    obtain ⟨z1, z2⟩ := z
    subst z2
    cases z1
    show xW sc m_M_stackOperator (d + 3) Q (mH s26 R) 267 [some (vA 373), some (vI l1), some (vI l2), some (vL t0), none, none] [vI v27]
    cases h
    exact x_iret (ty := .int) (pc := 267) d_M_stackOperator_267 rfl (rfl) hQ
  rw [if_neg c23] at h
  by_cases c29 : l1 = (6 : Int32)
  · rw [if_pos c29] at h
    refine x_lookup (off := 245) (tgt := 268) (pc := 23) d_M_stackOperator_23 (by decide) (by rw [c29]; decide) (by decide) ?_
    refine x_aload_n (pc := 268) d_M_stackOperator_268 rfl ?_
    refine x_iconst (v := (0 : Int32)) (pc := 269) d_M_stackOperator_269 (by decide) ?_
    refine xm_p4 (pc := 270) d_M_stackOperator_270 l_M_247 ?_
    refine x_iconst (v := (0 : Int32)) (pc := 273) d_M_stackOperator_273 (by decide) ?_
    cases h
    exact x_iret (ty := .int) (pc := 274) d_M_stackOperator_274 rfl (rfl) hQ
  rw [if_neg c29] at h
  by_cases c30 : l1 = (7 : Int32)
  · rw [if_pos c30] at h
    refine x_lookup (off := 252) (tgt := 275) (pc := 23) d_M_stackOperator_23 (by decide) (by rw [c30]; decide) (by decide) ?_
    refine x_aload_n (pc := 275) d_M_stackOperator_275 rfl ?_
    refine x_iconst (v := (0 : Int32)) (pc := 276) d_M_stackOperator_276 (by decide) ?_
    refine x_aload_n (pc := 277) d_M_stackOperator_277 rfl ?_
    refine x_getf (c := 1) (k := 4) (v := vI (mI 4 s)) (pc := 278) d_M_stackOperator_278 l_M_247 (xm_at s R) rfl ?_
    refine x_i2l (pc := 281) d_M_stackOperator_281 ?_
    obtain ⟨⟨v33, s32⟩, e31, h⟩ := Option.bind_eq_some_iff.mp h
    dsimp only at h
    refine x_invv (c := 1) (av := [vI (0 : Int32), vL ((mI 4 s).toInt64)]) (st := []) (pc := 282) d_M_stackOperator_282 cv_M_388 y_M_push (xm_at s R) rfl (Nat.le_of_ble_eq_true rfl) (Nat.le_of_ble_eq_true rfl) (w_M_push (d := d + 1) (Q := fun r h' => r = .inl (some (vI v33)) ∧ h' = mH s32 R) (R := R) ⟨rfl, rfl⟩ s (0 : Int32) ((mI 4 s).toInt64) e31) (fun v h' z => ?_) (fun a h' z => nomatch z.1)
    obtain ⟨z1, z2⟩ := z
    subst z2
    cases z1
    show xW sc m_M_stackOperator (d + 3) Q (mH s32 R) 285 [some (vA 373), some (vI l1), some (vI l2), some (vL t0), none, none] [vI v33]
    cases h
    exact x_iret (ty := .int) (pc := 285) d_M_stackOperator_285 rfl (rfl) hQ
  rw [if_neg c30] at h
  by_cases c35 : l1 = (8 : Int32)
  · rw [if_pos c35] at h
    refine x_lookup (off := 263) (tgt := 286) (pc := 23) d_M_stackOperator_23 (by decide) (by rw [c35]; decide) (by decide) ?_
    exact x_wk (L' := [some (vA 373), none, none, none, none, none]) ⟨Or.inr rfl, Or.inl rfl, Or.inl rfl, Or.inl rfl, Or.inl rfl, Or.inl rfl, trivial⟩ (w_M_stackOperator_b286 hQ s h)
  rw [if_neg c35] at h
  by_cases c36 : l1 = (70 : Int32)
  · rw [if_pos c36] at h
    refine x_lookup (off := 263) (tgt := 286) (pc := 23) d_M_stackOperator_23 (by decide) (by rw [c36]; decide) (by decide) ?_
    exact x_wk (L' := [some (vA 373), none, none, none, none, none]) ⟨Or.inr rfl, Or.inl rfl, Or.inl rfl, Or.inl rfl, Or.inl rfl, Or.inl rfl, trivial⟩ (w_M_stackOperator_b286 hQ s h)
  rw [if_neg c36] at h
  refine x_lookup (off := 270) (tgt := 293) (pc := 23) d_M_stackOperator_23 (by decide) (by show Op.lookupswitch.offset [(0, 89), (1, 101), (2, 127), (3, 133), (4, 203), (5, 231), (6, 245), (7, 252), (8, 263), (70, 263)] _ _ = _; rw [lv_osw c1 (by decide)]; rw [lv_osw c2 (by decide)]; rw [lv_osw c9 (by decide)]; rw [lv_osw c14 (by decide)]; rw [lv_osw c18 (by decide)]; rw [lv_osw c23 (by decide)]; rw [lv_osw c29 (by decide)]; rw [lv_osw c30 (by decide)]; rw [lv_osw c35 (by decide)]; rw [lv_osw c36 (by decide)]; rfl) (by decide) ?_
  refine x_aload_n (pc := 293) d_M_stackOperator_293 rfl ?_
  refine x_iload_n (pc := 294) d_M_stackOperator_294 rfl ?_
  obtain ⟨⟨v39, s38⟩, e37, h⟩ := Option.bind_eq_some_iff.mp h
  dsimp only at h
  refine x_invv (c := 1) (av := [vI l1]) (st := []) (pc := 295) d_M_stackOperator_295 cv_M_467 y_M_toMark (xm_at s R) rfl (Nat.le_of_ble_eq_true rfl) (Nat.le_of_ble_eq_true rfl) (w_M_toMark (d := d + 0) (Q := fun r h' => r = .inl (some (vI v39)) ∧ h' = mH s38 R) (R := R) ⟨rfl, rfl⟩ s l1 e37) (fun v h' z => ?_) (fun a h' z => nomatch z.1)
  obtain ⟨z1, z2⟩ := z
  subst z2
  cases z1
  show xW sc m_M_stackOperator (d + 3) Q (mH s38 R) 298 [some (vA 373), some (vI l1), some (vI l2), some (vL t0), none, none] [vI v39]
  cases h
  exact x_iret (ty := .int) (pc := 298) d_M_stackOperator_298 rfl (rfl) hQ
def f_M_stackOperator (s : MT) (a1 : Int32) : Option (Int32 × MT) := (if 0 ≤ ((mI 4 s) - (1 : Int32)) then (if xin ((mI 4 s) - (1 : Int32)) 1300 = true then f_M_stackOperator_b21 a1 ((mI 4 s) - (1 : Int32)) (mL 2 s ((mI 4 s) - (1 : Int32)).toNatClampNeg) s else none) else f_M_stackOperator_b21 a1 ((mI 4 s) - (1 : Int32)) (0 : Int64) s)
theorem w_M_stackOperator {sc : xSc} {d : Nat} {Q : xR → xH → Prop} {R : xH} {sZ : MT} {rZ : Int32} (hQ : Q (.inl (some (vI rZ))) (mH sZ R)) (s : MT) (a1 : Int32) (h : f_M_stackOperator s a1 = some (rZ, sZ)) : xW sc m_M_stackOperator (d + 3) Q (mH s R) 0 (xent [vA 373, vI a1] m_M_stackOperator.2.2.1) [] := by
  show xW sc m_M_stackOperator (d + 3) Q (mH s R) 0 [some (vA 373), some (vI a1), none, none, none, none] []
  unfold f_M_stackOperator at h
  refine x_aload_n (pc := 0) d_M_stackOperator_0 rfl ?_
  refine x_getf (c := 1) (k := 4) (v := vI (mI 4 s)) (pc := 1) d_M_stackOperator_1 l_M_247 (xm_at s R) rfl ?_
  refine x_iconst (v := (1 : Int32)) (pc := 4) d_M_stackOperator_4 (by decide) ?_
  refine x_isub (pc := 5) d_M_stackOperator_5 ?_
  refine x_istore_n (pc := 6) d_M_stackOperator_6 (by decide) ?_
  show xW sc m_M_stackOperator (d + 3) Q (mH s R) 7 [some (vA 373), some (vI a1), some (vI ((mI 4 s) - (1 : Int32))), none, none, none] []
  refine x_iload_n (pc := 7) d_M_stackOperator_7 rfl ?_
  refine x_if_ge (tgt := 15) (pc := 8) d_M_stackOperator_8 (by decide) (fun c1 => ?_) (fun c1 => ?_)
  · rw [if_pos c1] at h
    refine x_aload_n (pc := 15) d_M_stackOperator_15 rfl ?_
    refine x_getf (c := 1) (k := 2) (v := vA 375) (pc := 16) d_M_stackOperator_16 l_M_13 (xm_at s R) rfl ?_
    refine x_iload_n (pc := 19) d_M_stackOperator_19 rfl ?_
    obtain ⟨c2, h⟩ := ite_some h
    refine x_lald (pc := 20) d_M_stackOperator_20 (xm_a2 s R) (xin_vp c2) ?_
    exact w_M_stackOperator_b21 hQ a1 ((mI 4 s) - (1 : Int32)) (mL 2 s ((mI 4 s) - (1 : Int32)).toNatClampNeg) s h
  · rw [if_neg c1] at h
    refine x_lconst (v := (0 : Int64)) (pc := 11) d_M_stackOperator_11 (by decide) ?_
    refine x_goto (tgt := 21) (pc := 12) d_M_stackOperator_12 (by decide) ?_
    exact w_M_stackOperator_b21 hQ a1 ((mI 4 s) - (1 : Int32)) (0 : Int64) s h
def f_M_sum_b212  (t0 : UInt64) (t1 : Int32) (s : MT) : Option (Int32 × MT) := (f_M_giveReal s t1 t0).bind fun (v3, s2) => some (v3, s2)
theorem w_M_sum_b212 {sc : xSc} {d : Nat} {Q : xR → xH → Prop} {R : xH} {sZ : MT} {rZ : Int32}  (hQ : Q (.inl (some (vI rZ))) (mH sZ R)) (t0 : UInt64) (t1 : Int32) (s : MT) (h : f_M_sum_b212  t0 t1 s = some (rZ, sZ)) : xW sc m_M_sum (d + 3) Q (mH s R) 212 [none, none, none, none, none, none, none, none, none, none, none] [vD t0, vI t1, vA 373] := by
  unfold f_M_sum_b212 at h
  obtain ⟨⟨v3, s2⟩, e1, h⟩ := Option.bind_eq_some_iff.mp h
  dsimp only at h
  refine x_invv (c := 1) (av := [vI t1, vD t0]) (st := []) (pc := 212) d_M_sum_212 cv_M_266 y_M_giveReal (xm_at s R) rfl (Nat.le_of_ble_eq_true rfl) (Nat.le_of_ble_eq_true rfl) (w_M_giveReal (d := d + 1) (Q := fun r h' => r = .inl (some (vI v3)) ∧ h' = mH s2 R) (R := R) ⟨rfl, rfl⟩ s t1 t0 e1) (fun v h' z => ?_) (fun a h' z => nomatch z.1)
  obtain ⟨z1, z2⟩ := z
  subst z2
  cases z1
  show xW sc m_M_sum (d + 3) Q (mH s2 R) 215 [none, none, none, none, none, none, none, none, none, none, none] [vI v3]
  cases h
  exact x_iret (ty := .int) (pc := 215) d_M_sum_215 rfl (rfl) hQ
def f_M_sum_b177  (l1 : Int32) (l7 : UInt64) (l9 : UInt64) (s : MT) : Option (Int32 × MT) := (if l1 = (10 : Int32) then (if xn64 (FP.dadd l7 l9) = true then f_M_sum_b212 (FP.dadd l7 l9) (2 : Int32) s else none) else (if l1 = (11 : Int32) then (if xn64 (FP.dsub l7 l9) = true then f_M_sum_b212 (FP.dsub l7 l9) (2 : Int32) s else none) else (if xn64 (FP.dmul l7 l9) = true then f_M_sum_b212 (FP.dmul l7 l9) (2 : Int32) s else none)))
theorem w_M_sum_b177 {sc : xSc} {d : Nat} {Q : xR → xH → Prop} {R : xH} {sZ : MT} {rZ : Int32}  (hQ : Q (.inl (some (vI rZ))) (mH sZ R)) (l1 : Int32) (l7 : UInt64) (l9 : UInt64) (s : MT) (h : f_M_sum_b177  l1 l7 l9 s = some (rZ, sZ)) : xW sc m_M_sum (d + 3) Q (mH s R) 177 [some (vA 373), some (vI l1), none, none, none, none, none, some (vD l7), none, some (vD l9), none] [] := by
  unfold f_M_sum_b177 at h
  refine x_aload_n (pc := 177) d_M_sum_177 rfl ?_
  refine x_iconst (v := (2 : Int32)) (pc := 178) d_M_sum_178 (by decide) ?_
  refine x_iload_n (pc := 179) d_M_sum_179 rfl ?_
  refine x_bipush (v := (10 : Int32)) (pc := 180) d_M_sum_180 (by decide) ?_
  refine x_icmp_ne (tgt := 193) (pc := 182) d_M_sum_182 (by decide) (fun c1 => ?_) (fun c1 => ?_)
  · rw [if_neg c1] at h
    refine x_iload_n (pc := 193) d_M_sum_193 rfl ?_
    refine x_bipush (v := (11 : Int32)) (pc := 194) d_M_sum_194 (by decide) ?_
    refine x_icmp_ne (tgt := 207) (pc := 196) d_M_sum_196 (by decide) (fun c2 => ?_) (fun c2 => ?_)
    · rw [if_neg c2] at h
      refine x_dload (pc := 207) d_M_sum_207 rfl ?_
      refine x_dload (pc := 209) d_M_sum_209 rfl ?_
      obtain ⟨c3, h⟩ := ite_some h
      refine x_dmul (pc := 211) d_M_sum_211 (xn64_v c3) ?_
      exact x_wk (L' := [none, none, none, none, none, none, none, none, none, none, none]) ⟨Or.inl rfl, Or.inl rfl, Or.inl rfl, Or.inl rfl, Or.inl rfl, Or.inl rfl, Or.inl rfl, Or.inl rfl, Or.inl rfl, Or.inl rfl, Or.inl rfl, trivial⟩ (w_M_sum_b212 hQ (FP.dmul l7 l9) (2 : Int32) s h)
    · rw [if_pos c2] at h
      refine x_dload (pc := 199) d_M_sum_199 rfl ?_
      refine x_dload (pc := 201) d_M_sum_201 rfl ?_
      obtain ⟨c4, h⟩ := ite_some h
      refine x_dsub (pc := 203) d_M_sum_203 (xn64_v c4) ?_
      refine x_goto (tgt := 212) (pc := 204) d_M_sum_204 (by decide) ?_
      exact x_wk (L' := [none, none, none, none, none, none, none, none, none, none, none]) ⟨Or.inl rfl, Or.inl rfl, Or.inl rfl, Or.inl rfl, Or.inl rfl, Or.inl rfl, Or.inl rfl, Or.inl rfl, Or.inl rfl, Or.inl rfl, Or.inl rfl, trivial⟩ (w_M_sum_b212 hQ (FP.dsub l7 l9) (2 : Int32) s h)
  · rw [if_pos c1] at h
    refine x_dload (pc := 185) d_M_sum_185 rfl ?_
    refine x_dload (pc := 187) d_M_sum_187 rfl ?_
    obtain ⟨c5, h⟩ := ite_some h
    refine x_dadd (pc := 189) d_M_sum_189 (xn64_v c5) ?_
    refine x_goto (tgt := 212) (pc := 190) d_M_sum_190 (by decide) ?_
    exact x_wk (L' := [none, none, none, none, none, none, none, none, none, none, none]) ⟨Or.inl rfl, Or.inl rfl, Or.inl rfl, Or.inl rfl, Or.inl rfl, Or.inl rfl, Or.inl rfl, Or.inl rfl, Or.inl rfl, Or.inl rfl, Or.inl rfl, trivial⟩ (w_M_sum_b212 hQ (FP.dadd l7 l9) (2 : Int32) s h)
def f_M_sum_b173  (t0 : Int64) (t1 : Int32) (s : MT) : Option (Int32 × MT) := (f_M_giveExact s t1 t0).bind fun (v3, s2) => some (v3, s2)
theorem w_M_sum_b173 {sc : xSc} {d : Nat} {Q : xR → xH → Prop} {R : xH} {sZ : MT} {rZ : Int32}  (hQ : Q (.inl (some (vI rZ))) (mH sZ R)) (t0 : Int64) (t1 : Int32) (s : MT) (h : f_M_sum_b173  t0 t1 s = some (rZ, sZ)) : xW sc m_M_sum (d + 3) Q (mH s R) 173 [none, none, none, none, none, none, none, none, none, none, none] [vL t0, vI t1, vA 373] := by
  unfold f_M_sum_b173 at h
  obtain ⟨⟨v3, s2⟩, e1, h⟩ := Option.bind_eq_some_iff.mp h
  dsimp only at h
  refine x_invv (c := 1) (av := [vI t1, vL t0]) (st := []) (pc := 173) d_M_sum_173 cv_M_477 y_M_giveExact (xm_at s R) rfl (Nat.le_of_ble_eq_true rfl) (Nat.le_of_ble_eq_true rfl) (w_M_giveExact (d := d + 0) (Q := fun r h' => r = .inl (some (vI v3)) ∧ h' = mH s2 R) (R := R) ⟨rfl, rfl⟩ s t1 t0 e1) (fun v h' z => ?_) (fun a h' z => nomatch z.1)
  obtain ⟨z1, z2⟩ := z
  subst z2
  cases z1
  show xW sc m_M_sum (d + 3) Q (mH s2 R) 176 [none, none, none, none, none, none, none, none, none, none, none] [vI v3]
  cases h
  exact x_iret (ty := .int) (pc := 176) d_M_sum_176 rfl (rfl) hQ
def f_M_sum_b72  (l1 : Int32) (l2 : Int32) (l3 : Int64) (l5 : Int64) (l7 : UInt64) (l9 : UInt64) (s : MT) : Option (Int32 × MT) := (if l1 = (13 : Int32) then (if xn64 (FP.ddiv l7 l9) = true then (f_M_giveReal s (2 : Int32) (FP.ddiv l7 l9)).bind fun (v23, s22) => some (v23, s22) else none) else (if l1 = (14 : Int32) then (if l5 = 0 then none else (f_M_giveExact s (2 : Int32) (l3 / l5)).bind fun (v18, s17) => some (v18, s17)) else (if l1 = (15 : Int32) then (if l5 = 0 then none else (f_M_giveExact s (2 : Int32) (l3 - l3 / l5 * l5)).bind fun (v13, s12) => some (v13, s12)) else (if xin l2 1300 = true then (if (mA 1 s l2.toNatClampNeg) = 0 then (if xin (l2 - (1 : Int32)) 1300 = true then (if (mA 1 s (l2 - (1 : Int32)).toNatClampNeg) = 0 then (if l1 = (10 : Int32) then f_M_sum_b173 (l3 + l5) (2 : Int32) s else (if l1 = (11 : Int32) then f_M_sum_b173 (l3 - l5) (2 : Int32) s else f_M_sum_b173 (l3 * l5) (2 : Int32) s)) else f_M_sum_b177 l1 l7 l9 s) else none) else f_M_sum_b177 l1 l7 l9 s) else none))))
theorem w_M_sum_b72 {sc : xSc} {d : Nat} {Q : xR → xH → Prop} {R : xH} {sZ : MT} {rZ : Int32}  (hQ : Q (.inl (some (vI rZ))) (mH sZ R)) (l1 : Int32) (l2 : Int32) (l3 : Int64) (l5 : Int64) (l7 : UInt64) (l9 : UInt64) (s : MT) (h : f_M_sum_b72  l1 l2 l3 l5 l7 l9 s = some (rZ, sZ)) : xW sc m_M_sum (d + 3) Q (mH s R) 72 [some (vA 373), some (vI l1), some (vI l2), some (vL l3), none, some (vL l5), none, some (vD l7), none, some (vD l9), none] [] := by
  unfold f_M_sum_b72 at h
  refine x_iload_n (pc := 72) d_M_sum_72 rfl ?_
  refine x_bipush (v := (13 : Int32)) (pc := 73) d_M_sum_73 (by decide) ?_
  refine x_icmp_ne (tgt := 89) (pc := 75) d_M_sum_75 (by decide) (fun c1 => ?_) (fun c1 => ?_)
  · rw [if_neg c1] at h
    refine x_iload_n (pc := 89) d_M_sum_89 rfl ?_
    refine x_bipush (v := (14 : Int32)) (pc := 90) d_M_sum_90 (by decide) ?_
    refine x_icmp_ne (tgt := 105) (pc := 92) d_M_sum_92 (by decide) (fun c2 => ?_) (fun c2 => ?_)
    · rw [if_neg c2] at h
      refine x_iload_n (pc := 105) d_M_sum_105 rfl ?_
      refine x_bipush (v := (15 : Int32)) (pc := 106) d_M_sum_106 (by decide) ?_
      refine x_icmp_ne (tgt := 121) (pc := 108) d_M_sum_108 (by decide) (fun c3 => ?_) (fun c3 => ?_)
      · rw [if_neg c3] at h
        refine x_aload_n (pc := 121) d_M_sum_121 rfl ?_
        refine x_getf (c := 1) (k := 1) (v := vA 374) (pc := 122) d_M_sum_122 l_M_7 (xm_at s R) rfl ?_
        refine x_iload_n (pc := 125) d_M_sum_125 rfl ?_
        obtain ⟨c4, h⟩ := ite_some h
        refine x_iald (pc := 126) d_M_sum_126 (xm_a1 s R) (xin_vp c4) ?_
        refine x_if_ne (tgt := 177) (pc := 127) d_M_sum_127 (by decide) (fun c5 => ?_) (fun c5 => ?_)
        · rw [if_neg c5] at h
          exact x_wk (L' := [some (vA 373), some (vI l1), none, none, none, none, none, some (vD l7), none, some (vD l9), none]) ⟨Or.inr rfl, Or.inr rfl, Or.inl rfl, Or.inl rfl, Or.inl rfl, Or.inl rfl, Or.inl rfl, Or.inr rfl, Or.inl rfl, Or.inr rfl, Or.inl rfl, trivial⟩ (w_M_sum_b177 hQ l1 l7 l9 s h)
        · rw [if_pos c5] at h
          refine x_aload_n (pc := 130) d_M_sum_130 rfl ?_
          refine x_getf (c := 1) (k := 1) (v := vA 374) (pc := 131) d_M_sum_131 l_M_7 (xm_at s R) rfl ?_
          refine x_iload_n (pc := 134) d_M_sum_134 rfl ?_
          refine x_iconst (v := (1 : Int32)) (pc := 135) d_M_sum_135 (by decide) ?_
          refine x_isub (pc := 136) d_M_sum_136 ?_
          obtain ⟨c6, h⟩ := ite_some h
          refine x_iald (pc := 137) d_M_sum_137 (xm_a1 s R) (xin_vp c6) ?_
          refine x_if_ne (tgt := 177) (pc := 138) d_M_sum_138 (by decide) (fun c7 => ?_) (fun c7 => ?_)
          · rw [if_neg c7] at h
            exact x_wk (L' := [some (vA 373), some (vI l1), none, none, none, none, none, some (vD l7), none, some (vD l9), none]) ⟨Or.inr rfl, Or.inr rfl, Or.inl rfl, Or.inl rfl, Or.inl rfl, Or.inl rfl, Or.inl rfl, Or.inr rfl, Or.inl rfl, Or.inr rfl, Or.inl rfl, trivial⟩ (w_M_sum_b177 hQ l1 l7 l9 s h)
          · rw [if_pos c7] at h
            refine x_aload_n (pc := 141) d_M_sum_141 rfl ?_
            refine x_iconst (v := (2 : Int32)) (pc := 142) d_M_sum_142 (by decide) ?_
            refine x_iload_n (pc := 143) d_M_sum_143 rfl ?_
            refine x_bipush (v := (10 : Int32)) (pc := 144) d_M_sum_144 (by decide) ?_
            refine x_icmp_ne (tgt := 156) (pc := 146) d_M_sum_146 (by decide) (fun c8 => ?_) (fun c8 => ?_)
            · rw [if_neg c8] at h
              refine x_iload_n (pc := 156) d_M_sum_156 rfl ?_
              refine x_bipush (v := (11 : Int32)) (pc := 157) d_M_sum_157 (by decide) ?_
              refine x_icmp_ne (tgt := 169) (pc := 159) d_M_sum_159 (by decide) (fun c9 => ?_) (fun c9 => ?_)
              · rw [if_neg c9] at h
                refine x_lload_n (pc := 169) d_M_sum_169 rfl ?_
                refine x_lload (pc := 170) d_M_sum_170 rfl ?_
                refine x_lmul (pc := 172) d_M_sum_172 ?_
                exact x_wk (L' := [none, none, none, none, none, none, none, none, none, none, none]) ⟨Or.inl rfl, Or.inl rfl, Or.inl rfl, Or.inl rfl, Or.inl rfl, Or.inl rfl, Or.inl rfl, Or.inl rfl, Or.inl rfl, Or.inl rfl, Or.inl rfl, trivial⟩ (w_M_sum_b173 hQ (l3 * l5) (2 : Int32) s h)
              · rw [if_pos c9] at h
                refine x_lload_n (pc := 162) d_M_sum_162 rfl ?_
                refine x_lload (pc := 163) d_M_sum_163 rfl ?_
                refine x_lsub (pc := 165) d_M_sum_165 ?_
                refine x_goto (tgt := 173) (pc := 166) d_M_sum_166 (by decide) ?_
                exact x_wk (L' := [none, none, none, none, none, none, none, none, none, none, none]) ⟨Or.inl rfl, Or.inl rfl, Or.inl rfl, Or.inl rfl, Or.inl rfl, Or.inl rfl, Or.inl rfl, Or.inl rfl, Or.inl rfl, Or.inl rfl, Or.inl rfl, trivial⟩ (w_M_sum_b173 hQ (l3 - l5) (2 : Int32) s h)
            · rw [if_pos c8] at h
              refine x_lload_n (pc := 149) d_M_sum_149 rfl ?_
              refine x_lload (pc := 150) d_M_sum_150 rfl ?_
              refine x_ladd (pc := 152) d_M_sum_152 ?_
              refine x_goto (tgt := 173) (pc := 153) d_M_sum_153 (by decide) ?_
              exact x_wk (L' := [none, none, none, none, none, none, none, none, none, none, none]) ⟨Or.inl rfl, Or.inl rfl, Or.inl rfl, Or.inl rfl, Or.inl rfl, Or.inl rfl, Or.inl rfl, Or.inl rfl, Or.inl rfl, Or.inl rfl, Or.inl rfl, trivial⟩ (w_M_sum_b173 hQ (l3 + l5) (2 : Int32) s h)
      · rw [if_pos c3] at h
        refine x_aload_n (pc := 111) d_M_sum_111 rfl ?_
        refine x_iconst (v := (2 : Int32)) (pc := 112) d_M_sum_112 (by decide) ?_
        refine x_lload_n (pc := 113) d_M_sum_113 rfl ?_
        refine x_lload (pc := 114) d_M_sum_114 rfl ?_
        obtain ⟨c10, h⟩ := itn_some h
        refine x_lrem (pc := 116) d_M_sum_116 (c10) ?_
        obtain ⟨⟨v13, s12⟩, e11, h⟩ := Option.bind_eq_some_iff.mp h
        dsimp only at h
        refine x_invv (c := 1) (av := [vI (2 : Int32), vL (l3 - l3 / l5 * l5)]) (st := []) (pc := 117) d_M_sum_117 cv_M_477 y_M_giveExact (xm_at s R) rfl (Nat.le_of_ble_eq_true rfl) (Nat.le_of_ble_eq_true rfl) (w_M_giveExact (d := d + 0) (Q := fun r h' => r = .inl (some (vI v13)) ∧ h' = mH s12 R) (R := R) ⟨rfl, rfl⟩ s (2 : Int32) (l3 - l3 / l5 * l5) e11) (fun v h' z => ?_) (fun a h' z => nomatch z.1)
        obtain ⟨z1, z2⟩ := z
        subst z2
        cases z1
        show xW sc m_M_sum (d + 3) Q (mH s12 R) 120 [some (vA 373), some (vI l1), some (vI l2), some (vL l3), none, some (vL l5), none, some (vD l7), none, some (vD l9), none] [vI v13]
        cases h
        exact x_iret (ty := .int) (pc := 120) d_M_sum_120 rfl (rfl) hQ
    · rw [if_pos c2] at h
      refine x_aload_n (pc := 95) d_M_sum_95 rfl ?_
      refine x_iconst (v := (2 : Int32)) (pc := 96) d_M_sum_96 (by decide) ?_
      refine x_lload_n (pc := 97) d_M_sum_97 rfl ?_
      refine x_lload (pc := 98) d_M_sum_98 rfl ?_
      obtain ⟨c15, h⟩ := itn_some h
      refine x_ldiv (pc := 100) d_M_sum_100 (c15) ?_
      obtain ⟨⟨v18, s17⟩, e16, h⟩ := Option.bind_eq_some_iff.mp h
      dsimp only at h
      refine x_invv (c := 1) (av := [vI (2 : Int32), vL (l3 / l5)]) (st := []) (pc := 101) d_M_sum_101 cv_M_477 y_M_giveExact (xm_at s R) rfl (Nat.le_of_ble_eq_true rfl) (Nat.le_of_ble_eq_true rfl) (w_M_giveExact (d := d + 0) (Q := fun r h' => r = .inl (some (vI v18)) ∧ h' = mH s17 R) (R := R) ⟨rfl, rfl⟩ s (2 : Int32) (l3 / l5) e16) (fun v h' z => ?_) (fun a h' z => nomatch z.1)
      obtain ⟨z1, z2⟩ := z
      subst z2
      cases z1
      show xW sc m_M_sum (d + 3) Q (mH s17 R) 104 [some (vA 373), some (vI l1), some (vI l2), some (vL l3), none, some (vL l5), none, some (vD l7), none, some (vD l9), none] [vI v18]
      cases h
      exact x_iret (ty := .int) (pc := 104) d_M_sum_104 rfl (rfl) hQ
  · rw [if_pos c1] at h
    refine x_aload_n (pc := 78) d_M_sum_78 rfl ?_
    refine x_iconst (v := (2 : Int32)) (pc := 79) d_M_sum_79 (by decide) ?_
    refine x_dload (pc := 80) d_M_sum_80 rfl ?_
    refine x_dload (pc := 82) d_M_sum_82 rfl ?_
    obtain ⟨c20, h⟩ := ite_some h
    refine x_ddiv (pc := 84) d_M_sum_84 (xn64_v c20) ?_
    obtain ⟨⟨v23, s22⟩, e21, h⟩ := Option.bind_eq_some_iff.mp h
    dsimp only at h
    refine x_invv (c := 1) (av := [vI (2 : Int32), vD (FP.ddiv l7 l9)]) (st := []) (pc := 85) d_M_sum_85 cv_M_266 y_M_giveReal (xm_at s R) rfl (Nat.le_of_ble_eq_true rfl) (Nat.le_of_ble_eq_true rfl) (w_M_giveReal (d := d + 1) (Q := fun r h' => r = .inl (some (vI v23)) ∧ h' = mH s22 R) (R := R) ⟨rfl, rfl⟩ s (2 : Int32) (FP.ddiv l7 l9) e21) (fun v h' z => ?_) (fun a h' z => nomatch z.1)
    obtain ⟨z1, z2⟩ := z
    subst z2
    cases z1
    show xW sc m_M_sum (d + 3) Q (mH s22 R) 88 [some (vA 373), some (vI l1), some (vI l2), some (vL l3), none, some (vL l5), none, some (vD l7), none, some (vD l9), none] [vI v23]
    cases h
    exact x_iret (ty := .int) (pc := 88) d_M_sum_88 rfl (rfl) hQ
def f_M_sum_b69  (s : MT) : Option (Int32 × MT) := some ((6 : Int32), s)
theorem w_M_sum_b69 {sc : xSc} {d : Nat} {Q : xR → xH → Prop} {R : xH} {sZ : MT} {rZ : Int32}  (hQ : Q (.inl (some (vI rZ))) (mH sZ R)) (s : MT) (h : f_M_sum_b69  s = some (rZ, sZ)) : xW sc m_M_sum (d + 3) Q (mH s R) 69 [none, none, none, none, none, none, none, none, none, none, none] [] := by
  unfold f_M_sum_b69 at h
  refine x_bipush (v := (6 : Int32)) (pc := 69) d_M_sum_69 (by decide) ?_
  cases h
  exact x_iret (ty := .int) (pc := 71) d_M_sum_71 rfl (rfl) hQ
def f_M_sum (s : MT) (a1 : Int32) : Option (Int32 × MT) := (if xin (((mI 4 s) - (1 : Int32)) - (1 : Int32)) 1300 = true then (if xin ((mI 4 s) - (1 : Int32)) 1300 = true then (f_M_numberAt s (((mI 4 s) - (1 : Int32)) - (1 : Int32))).bind fun (v5, s4) => (f_M_numberAt s4 ((mI 4 s) - (1 : Int32))).bind fun (v9, s8) => (if a1 ≤ (12 : Int32) then f_M_sum_b72 a1 ((mI 4 s) - (1 : Int32)) (mL 2 s (((mI 4 s) - (1 : Int32)) - (1 : Int32)).toNatClampNeg) (mL 2 s ((mI 4 s) - (1 : Int32)).toNatClampNeg) v5 v9 s8 else (if a1 = (13 : Int32) then (if (Op.cmpValue (FP.dcmp v9 FP.dconst0) .l) = 0 then f_M_sum_b69 s8 else f_M_sum_b72 a1 ((mI 4 s) - (1 : Int32)) (mL 2 s (((mI 4 s) - (1 : Int32)) - (1 : Int32)).toNatClampNeg) (mL 2 s ((mI 4 s) - (1 : Int32)).toNatClampNeg) v5 v9 s8) else (if (lg_cmp (mL 2 s ((mI 4 s) - (1 : Int32)).toNatClampNeg) (0 : Int64)) = 0 then f_M_sum_b69 s8 else f_M_sum_b72 a1 ((mI 4 s) - (1 : Int32)) (mL 2 s (((mI 4 s) - (1 : Int32)) - (1 : Int32)).toNatClampNeg) (mL 2 s ((mI 4 s) - (1 : Int32)).toNatClampNeg) v5 v9 s8))) else none) else none)
theorem w_M_sum {sc : xSc} {d : Nat} {Q : xR → xH → Prop} {R : xH} {sZ : MT} {rZ : Int32} (hQ : Q (.inl (some (vI rZ))) (mH sZ R)) (s : MT) (a1 : Int32) (h : f_M_sum s a1 = some (rZ, sZ)) : xW sc m_M_sum (d + 3) Q (mH s R) 0 (xent [vA 373, vI a1] m_M_sum.2.2.1) [] := by
  show xW sc m_M_sum (d + 3) Q (mH s R) 0 [some (vA 373), some (vI a1), none, none, none, none, none, none, none, none, none] []
  unfold f_M_sum at h
  refine x_aload_n (pc := 0) d_M_sum_0 rfl ?_
  refine x_getf (c := 1) (k := 4) (v := vI (mI 4 s)) (pc := 1) d_M_sum_1 l_M_247 (xm_at s R) rfl ?_
  refine x_iconst (v := (1 : Int32)) (pc := 4) d_M_sum_4 (by decide) ?_
  refine x_isub (pc := 5) d_M_sum_5 ?_
  refine x_istore_n (pc := 6) d_M_sum_6 (by decide) ?_
  show xW sc m_M_sum (d + 3) Q (mH s R) 7 [some (vA 373), some (vI a1), some (vI ((mI 4 s) - (1 : Int32))), none, none, none, none, none, none, none, none] []
  refine x_aload_n (pc := 7) d_M_sum_7 rfl ?_
  refine x_getf (c := 1) (k := 2) (v := vA 375) (pc := 8) d_M_sum_8 l_M_13 (xm_at s R) rfl ?_
  refine x_iload_n (pc := 11) d_M_sum_11 rfl ?_
  refine x_iconst (v := (1 : Int32)) (pc := 12) d_M_sum_12 (by decide) ?_
  refine x_isub (pc := 13) d_M_sum_13 ?_
  obtain ⟨c1, h⟩ := ite_some h
  refine x_lald (pc := 14) d_M_sum_14 (xm_a2 s R) (xin_vp c1) ?_
  refine x_lstore_n (pc := 15) d_M_sum_15 (by decide) ?_
  show xW sc m_M_sum (d + 3) Q (mH s R) 16 [some (vA 373), some (vI a1), some (vI ((mI 4 s) - (1 : Int32))), some (vL (mL 2 s (((mI 4 s) - (1 : Int32)) - (1 : Int32)).toNatClampNeg)), none, none, none, none, none, none, none] []
  refine x_aload_n (pc := 16) d_M_sum_16 rfl ?_
  refine x_getf (c := 1) (k := 2) (v := vA 375) (pc := 17) d_M_sum_17 l_M_13 (xm_at s R) rfl ?_
  refine x_iload_n (pc := 20) d_M_sum_20 rfl ?_
  obtain ⟨c2, h⟩ := ite_some h
  refine x_lald (pc := 21) d_M_sum_21 (xm_a2 s R) (xin_vp c2) ?_
  refine x_lstore (pc := 22) d_M_sum_22 (by decide) ?_
  show xW sc m_M_sum (d + 3) Q (mH s R) 24 [some (vA 373), some (vI a1), some (vI ((mI 4 s) - (1 : Int32))), some (vL (mL 2 s (((mI 4 s) - (1 : Int32)) - (1 : Int32)).toNatClampNeg)), none, some (vL (mL 2 s ((mI 4 s) - (1 : Int32)).toNatClampNeg)), none, none, none, none, none] []
  refine x_aload_n (pc := 24) d_M_sum_24 rfl ?_
  refine x_iload_n (pc := 25) d_M_sum_25 rfl ?_
  refine x_iconst (v := (1 : Int32)) (pc := 26) d_M_sum_26 (by decide) ?_
  refine x_isub (pc := 27) d_M_sum_27 ?_
  obtain ⟨⟨v5, s4⟩, e3, h⟩ := Option.bind_eq_some_iff.mp h
  dsimp only at h
  refine x_invv (c := 1) (av := [vI (((mI 4 s) - (1 : Int32)) - (1 : Int32))]) (st := []) (pc := 28) d_M_sum_28 cv_M_473 y_M_numberAt (xm_at s R) rfl (Nat.le_of_ble_eq_true rfl) (Nat.le_of_ble_eq_true rfl) (w_M_numberAt (d := d + 2) (Q := fun r h' => r = .inl (some (vD v5)) ∧ h' = mH s4 R) (R := R) ⟨rfl, rfl⟩ s (((mI 4 s) - (1 : Int32)) - (1 : Int32)) e3) (fun v h' z => ?_) (fun a h' z => nomatch z.1)
  obtain ⟨z1, z2⟩ := z
  subst z2
  cases z1
  show xW sc m_M_sum (d + 3) Q (mH s4 R) 31 [some (vA 373), some (vI a1), some (vI ((mI 4 s) - (1 : Int32))), some (vL (mL 2 s (((mI 4 s) - (1 : Int32)) - (1 : Int32)).toNatClampNeg)), none, some (vL (mL 2 s ((mI 4 s) - (1 : Int32)).toNatClampNeg)), none, none, none, none, none] [vD v5]
  refine x_dstore (pc := 31) d_M_sum_31 (by decide) ?_
  show xW sc m_M_sum (d + 3) Q (mH s4 R) 33 [some (vA 373), some (vI a1), some (vI ((mI 4 s) - (1 : Int32))), some (vL (mL 2 s (((mI 4 s) - (1 : Int32)) - (1 : Int32)).toNatClampNeg)), none, some (vL (mL 2 s ((mI 4 s) - (1 : Int32)).toNatClampNeg)), none, some (vD v5), none, none, none] []
  refine x_aload_n (pc := 33) d_M_sum_33 rfl ?_
  refine x_iload_n (pc := 34) d_M_sum_34 rfl ?_
  obtain ⟨⟨v9, s8⟩, e7, h⟩ := Option.bind_eq_some_iff.mp h
  dsimp only at h
  refine x_invv (c := 1) (av := [vI ((mI 4 s) - (1 : Int32))]) (st := []) (pc := 35) d_M_sum_35 cv_M_473 y_M_numberAt (xm_at s4 R) rfl (Nat.le_of_ble_eq_true rfl) (Nat.le_of_ble_eq_true rfl) (w_M_numberAt (d := d + 2) (Q := fun r h' => r = .inl (some (vD v9)) ∧ h' = mH s8 R) (R := R) ⟨rfl, rfl⟩ s4 ((mI 4 s) - (1 : Int32)) e7) (fun v h' z => ?_) (fun a h' z => nomatch z.1)
  obtain ⟨z1, z2⟩ := z
  subst z2
  cases z1
  show xW sc m_M_sum (d + 3) Q (mH s8 R) 38 [some (vA 373), some (vI a1), some (vI ((mI 4 s) - (1 : Int32))), some (vL (mL 2 s (((mI 4 s) - (1 : Int32)) - (1 : Int32)).toNatClampNeg)), none, some (vL (mL 2 s ((mI 4 s) - (1 : Int32)).toNatClampNeg)), none, some (vD v5), none, none, none] [vD v9]
  refine x_dstore (pc := 38) d_M_sum_38 (by decide) ?_
  show xW sc m_M_sum (d + 3) Q (mH s8 R) 40 [some (vA 373), some (vI a1), some (vI ((mI 4 s) - (1 : Int32))), some (vL (mL 2 s (((mI 4 s) - (1 : Int32)) - (1 : Int32)).toNatClampNeg)), none, some (vL (mL 2 s ((mI 4 s) - (1 : Int32)).toNatClampNeg)), none, some (vD v5), none, some (vD v9), none] []
  refine x_iload_n (pc := 40) d_M_sum_40 rfl ?_
  refine x_bipush (v := (12 : Int32)) (pc := 41) d_M_sum_41 (by decide) ?_
  refine x_icmp_le (tgt := 72) (pc := 43) d_M_sum_43 (by decide) (fun c11 => ?_) (fun c11 => ?_)
  · rw [if_pos c11] at h
    exact w_M_sum_b72 hQ a1 ((mI 4 s) - (1 : Int32)) (mL 2 s (((mI 4 s) - (1 : Int32)) - (1 : Int32)).toNatClampNeg) (mL 2 s ((mI 4 s) - (1 : Int32)).toNatClampNeg) v5 v9 s8 h
  · rw [if_neg c11] at h
    refine x_iload_n (pc := 46) d_M_sum_46 rfl ?_
    refine x_bipush (v := (13 : Int32)) (pc := 47) d_M_sum_47 (by decide) ?_
    refine x_icmp_ne (tgt := 62) (pc := 49) d_M_sum_49 (by decide) (fun c12 => ?_) (fun c12 => ?_)
    · rw [if_neg c12] at h
      refine x_lload (pc := 62) d_M_sum_62 rfl ?_
      refine x_lconst (v := (0 : Int64)) (pc := 64) d_M_sum_64 (by decide) ?_
      refine x_lcmp (pc := 65) d_M_sum_65 ?_
      refine x_if_ne (tgt := 72) (pc := 66) d_M_sum_66 (by decide) (fun c13 => ?_) (fun c13 => ?_)
      · rw [if_neg c13] at h
        exact w_M_sum_b72 hQ a1 ((mI 4 s) - (1 : Int32)) (mL 2 s (((mI 4 s) - (1 : Int32)) - (1 : Int32)).toNatClampNeg) (mL 2 s ((mI 4 s) - (1 : Int32)).toNatClampNeg) v5 v9 s8 h
      · rw [if_pos c13] at h
        exact x_wk (L' := [none, none, none, none, none, none, none, none, none, none, none]) ⟨Or.inl rfl, Or.inl rfl, Or.inl rfl, Or.inl rfl, Or.inl rfl, Or.inl rfl, Or.inl rfl, Or.inl rfl, Or.inl rfl, Or.inl rfl, Or.inl rfl, trivial⟩ (w_M_sum_b69 hQ s8 h)
    · rw [if_pos c12] at h
      refine x_dload (pc := 52) d_M_sum_52 rfl ?_
      refine x_dconst0 (pc := 54) d_M_sum_54 ?_
      refine x_dcmp (pc := 55) d_M_sum_55 ?_
      refine x_if_ne (tgt := 72) (pc := 56) d_M_sum_56 (by decide) (fun c14 => ?_) (fun c14 => ?_)
      · rw [if_neg c14] at h
        exact w_M_sum_b72 hQ a1 ((mI 4 s) - (1 : Int32)) (mL 2 s (((mI 4 s) - (1 : Int32)) - (1 : Int32)).toNatClampNeg) (mL 2 s ((mI 4 s) - (1 : Int32)).toNatClampNeg) v5 v9 s8 h
      · rw [if_pos c14] at h
        refine x_goto (tgt := 69) (pc := 59) d_M_sum_59 (by decide) ?_
        exact x_wk (L' := [none, none, none, none, none, none, none, none, none, none, none]) ⟨Or.inl rfl, Or.inl rfl, Or.inl rfl, Or.inl rfl, Or.inl rfl, Or.inl rfl, Or.inl rfl, Or.inl rfl, Or.inl rfl, Or.inl rfl, Or.inl rfl, trivial⟩ (w_M_sum_b69 hQ s8 h)
def f_M_truth_b184  (t0 : Int64) (t1 : Int32) (t2 : Int32) (s : MT) : Option (Int32 × MT) := (f_M_give s t2 t1 t0).bind fun (v3, s2) => some (v3, s2)
theorem w_M_truth_b184 {sc : xSc} {d : Nat} {Q : xR → xH → Prop} {R : xH} {sZ : MT} {rZ : Int32}  (hQ : Q (.inl (some (vI rZ))) (mH sZ R)) (t0 : Int64) (t1 : Int32) (t2 : Int32) (s : MT) (h : f_M_truth_b184  t0 t1 t2 s = some (rZ, sZ)) : xW sc m_M_truth (d + 3) Q (mH s R) 184 [none, none, none, none, none, none, none, none] [vL t0, vI t1, vI t2, vA 373] := by
  unfold f_M_truth_b184 at h
  obtain ⟨⟨v3, s2⟩, e1, h⟩ := Option.bind_eq_some_iff.mp h
  dsimp only at h
  refine x_invv (c := 1) (av := [vI t2, vI t1, vL t0]) (st := []) (pc := 184) d_M_truth_184 cv_M_262 y_M_give (xm_at s R) rfl (Nat.le_of_ble_eq_true rfl) (Nat.le_of_ble_eq_true rfl) (w_M_give (d := d + 1) (Q := fun r h' => r = .inl (some (vI v3)) ∧ h' = mH s2 R) (R := R) ⟨rfl, rfl⟩ s t2 t1 t0 e1) (fun v h' z => ?_) (fun a h' z => nomatch z.1)
  obtain ⟨z1, z2⟩ := z
  subst z2
  cases z1
  show xW sc m_M_truth (d + 3) Q (mH s2 R) 187 [none, none, none, none, none, none, none, none] [vI v3]
  cases h
  exact x_iret (ty := .int) (pc := 187) d_M_truth_187 rfl (rfl) hQ
def f_M_truth_b169  (t0 : Int32) (s : MT) : Option (Int32 × MT) := (if t0 = 0 then f_M_truth_b184 (0 : Int64) (2 : Int32) (2 : Int32) s else f_M_truth_b184 (1 : Int64) (2 : Int32) (2 : Int32) s)
theorem w_M_truth_b169 {sc : xSc} {d : Nat} {Q : xR → xH → Prop} {R : xH} {sZ : MT} {rZ : Int32}  (hQ : Q (.inl (some (vI rZ))) (mH sZ R)) (t0 : Int32) (s : MT) (h : f_M_truth_b169  t0 s = some (rZ, sZ)) : xW sc m_M_truth (d + 3) Q (mH s R) 169 [some (vA 373), none, none, none, none, none, none, none] [vI t0] := by
  unfold f_M_truth_b169 at h
  refine x_istore (pc := 169) d_M_truth_169 (by decide) ?_
  show xW sc m_M_truth (d + 3) Q (mH s R) 171 [some (vA 373), none, none, none, none, none, none, some (vI t0)] []
  refine x_aload_n (pc := 171) d_M_truth_171 rfl ?_
  refine x_iconst (v := (2 : Int32)) (pc := 172) d_M_truth_172 (by decide) ?_
  refine x_iconst (v := (2 : Int32)) (pc := 173) d_M_truth_173 (by decide) ?_
  refine x_iload (pc := 174) d_M_truth_174 rfl ?_
  refine x_if_eq (tgt := 183) (pc := 176) d_M_truth_176 (by decide) (fun c1 => ?_) (fun c1 => ?_)
  · rw [if_pos c1] at h
    refine x_lconst (v := (0 : Int64)) (pc := 183) d_M_truth_183 (by decide) ?_
    exact x_wk (L' := [none, none, none, none, none, none, none, none]) ⟨Or.inl rfl, Or.inl rfl, Or.inl rfl, Or.inl rfl, Or.inl rfl, Or.inl rfl, Or.inl rfl, Or.inl rfl, trivial⟩ (w_M_truth_b184 hQ (0 : Int64) (2 : Int32) (2 : Int32) s h)
  · rw [if_neg c1] at h
    refine x_lconst (v := (1 : Int64)) (pc := 179) d_M_truth_179 (by decide) ?_
    refine x_goto (tgt := 184) (pc := 180) d_M_truth_180 (by decide) ?_
    exact x_wk (L' := [none, none, none, none, none, none, none, none]) ⟨Or.inl rfl, Or.inl rfl, Or.inl rfl, Or.inl rfl, Or.inl rfl, Or.inl rfl, Or.inl rfl, Or.inl rfl, trivial⟩ (w_M_truth_b184 hQ (1 : Int64) (2 : Int32) (2 : Int32) s h)
def f_M_truth_b83  (t0 : Int32) (t1 : Int32) (s : MT) : Option (Int32 × MT) := (if t1 = t0 then f_M_truth_b169 (1 : Int32) s else f_M_truth_b169 (0 : Int32) s)
theorem w_M_truth_b83 {sc : xSc} {d : Nat} {Q : xR → xH → Prop} {R : xH} {sZ : MT} {rZ : Int32}  (hQ : Q (.inl (some (vI rZ))) (mH sZ R)) (t0 : Int32) (t1 : Int32) (s : MT) (h : f_M_truth_b83  t0 t1 s = some (rZ, sZ)) : xW sc m_M_truth (d + 3) Q (mH s R) 83 [some (vA 373), none, none, none, none, none, none, none] [vI t0, vI t1] := by
  unfold f_M_truth_b83 at h
  refine x_icmp_ne (tgt := 90) (pc := 83) d_M_truth_83 (by decide) (fun c1 => ?_) (fun c1 => ?_)
  · rw [if_neg c1] at h
    refine x_iconst (v := (0 : Int32)) (pc := 90) d_M_truth_90 (by decide) ?_
    refine x_goto (tgt := 169) (pc := 91) d_M_truth_91 (by decide) ?_
    exact w_M_truth_b169 hQ (0 : Int32) s h
  · rw [if_pos c1] at h
    refine x_iconst (v := (1 : Int32)) (pc := 86) d_M_truth_86 (by decide) ?_
    refine x_goto (tgt := 169) (pc := 87) d_M_truth_87 (by decide) ?_
    exact w_M_truth_b169 hQ (1 : Int32) s h
def f_M_truth_b26  (t0 : Int64) (t1 : Int32) (s : MT) : Option (Int32 × MT) := (f_M_push s t1 t0).bind fun (v3, s2) => some (v3, s2)
theorem w_M_truth_b26 {sc : xSc} {d : Nat} {Q : xR → xH → Prop} {R : xH} {sZ : MT} {rZ : Int32}  (hQ : Q (.inl (some (vI rZ))) (mH sZ R)) (t0 : Int64) (t1 : Int32) (s : MT) (h : f_M_truth_b26  t0 t1 s = some (rZ, sZ)) : xW sc m_M_truth (d + 3) Q (mH s R) 26 [none, none, none, none, none, none, none, none] [vL t0, vI t1, vA 373] := by
  unfold f_M_truth_b26 at h
  obtain ⟨⟨v3, s2⟩, e1, h⟩ := Option.bind_eq_some_iff.mp h
  dsimp only at h
  refine x_invv (c := 1) (av := [vI t1, vL t0]) (st := []) (pc := 26) d_M_truth_26 cv_M_388 y_M_push (xm_at s R) rfl (Nat.le_of_ble_eq_true rfl) (Nat.le_of_ble_eq_true rfl) (w_M_push (d := d + 1) (Q := fun r h' => r = .inl (some (vI v3)) ∧ h' = mH s2 R) (R := R) ⟨rfl, rfl⟩ s t1 t0 e1) (fun v h' z => ?_) (fun a h' z => nomatch z.1)
  obtain ⟨z1, z2⟩ := z
  subst z2
  cases z1
  show xW sc m_M_truth (d + 3) Q (mH s2 R) 29 [none, none, none, none, none, none, none, none] [vI v3]
  cases h
  exact x_iret (ty := .int) (pc := 29) d_M_truth_29 rfl (rfl) hQ
def f_M_truth (s : MT) (a1 : Int32) : Option (Int32 × MT) := (if (23 : Int32) ≤ a1 then (if a1 ≤ (28 : Int32) then (f_M_numberAt s (((mI 4 s) - (1 : Int32)) - (1 : Int32))).bind fun (v5, s4) => (f_M_numberAt s4 ((mI 4 s) - (1 : Int32))).bind fun (v9, s8) => (if (25 : Int32) ≤ a1 then (if a1 = (25 : Int32) then (if (Op.cmpValue (FP.dcmp v5 v9) .l) ≤ 0 then f_M_truth_b169 (0 : Int32) s8 else f_M_truth_b169 (1 : Int32) s8) else (if a1 = (26 : Int32) then (if (Op.cmpValue (FP.dcmp v5 v9) .l) < 0 then f_M_truth_b169 (0 : Int32) s8 else f_M_truth_b169 (1 : Int32) s8) else (if a1 = (27 : Int32) then (if 0 ≤ (Op.cmpValue (FP.dcmp v5 v9) .g) then f_M_truth_b169 (0 : Int32) s8 else f_M_truth_b169 (1 : Int32) s8) else (if 0 < (Op.cmpValue (FP.dcmp v5 v9) .g) then f_M_truth_b169 (0 : Int32) s8 else f_M_truth_b169 (1 : Int32) s8)))) else (f_M_alike s8 (((mI 4 s) - (1 : Int32)) - (1 : Int32)) ((mI 4 s) - (1 : Int32))).bind fun (v21, s20) => (if a1 = (23 : Int32) then f_M_truth_b83 (1 : Int32) v21 s20 else f_M_truth_b83 (0 : Int32) v21 s20)) else (f_M_bits s a1 ((mI 4 s) - (1 : Int32))).bind fun (v26, s25) => some (v26, s25)) else (if a1 = (21 : Int32) then f_M_truth_b26 (1 : Int64) (2 : Int32) s else f_M_truth_b26 (0 : Int64) (2 : Int32) s))
theorem w_M_truth {sc : xSc} {d : Nat} {Q : xR → xH → Prop} {R : xH} {sZ : MT} {rZ : Int32} (hQ : Q (.inl (some (vI rZ))) (mH sZ R)) (s : MT) (a1 : Int32) (h : f_M_truth s a1 = some (rZ, sZ)) : xW sc m_M_truth (d + 3) Q (mH s R) 0 (xent [vA 373, vI a1] m_M_truth.2.2.1) [] := by
  show xW sc m_M_truth (d + 3) Q (mH s R) 0 [some (vA 373), some (vI a1), none, none, none, none, none, none] []
  unfold f_M_truth at h
  refine x_aload_n (pc := 0) d_M_truth_0 rfl ?_
  refine x_getf (c := 1) (k := 4) (v := vI (mI 4 s)) (pc := 1) d_M_truth_1 l_M_247 (xm_at s R) rfl ?_
  refine x_iconst (v := (1 : Int32)) (pc := 4) d_M_truth_4 (by decide) ?_
  refine x_isub (pc := 5) d_M_truth_5 ?_
  refine x_istore_n (pc := 6) d_M_truth_6 (by decide) ?_
  show xW sc m_M_truth (d + 3) Q (mH s R) 7 [some (vA 373), some (vI a1), some (vI ((mI 4 s) - (1 : Int32))), none, none, none, none, none] []
  refine x_iload_n (pc := 7) d_M_truth_7 rfl ?_
  refine x_bipush (v := (23 : Int32)) (pc := 8) d_M_truth_8 (by decide) ?_
  refine x_icmp_ge (tgt := 30) (pc := 10) d_M_truth_10 (by decide) (fun c1 => ?_) (fun c1 => ?_)
  · rw [if_pos c1] at h
    refine x_iload_n (pc := 30) d_M_truth_30 rfl ?_
    refine x_bipush (v := (28 : Int32)) (pc := 31) d_M_truth_31 (by decide) ?_
    refine x_icmp_le (tgt := 43) (pc := 33) d_M_truth_33 (by decide) (fun c2 => ?_) (fun c2 => ?_)
    · rw [if_pos c2] at h
      refine x_aload_n (pc := 43) d_M_truth_43 rfl ?_
      refine x_iload_n (pc := 44) d_M_truth_44 rfl ?_
      refine x_iconst (v := (1 : Int32)) (pc := 45) d_M_truth_45 (by decide) ?_
      refine x_isub (pc := 46) d_M_truth_46 ?_
      obtain ⟨⟨v5, s4⟩, e3, h⟩ := Option.bind_eq_some_iff.mp h
      dsimp only at h
      refine x_invv (c := 1) (av := [vI (((mI 4 s) - (1 : Int32)) - (1 : Int32))]) (st := []) (pc := 47) d_M_truth_47 cv_M_473 y_M_numberAt (xm_at s R) rfl (Nat.le_of_ble_eq_true rfl) (Nat.le_of_ble_eq_true rfl) (w_M_numberAt (d := d + 2) (Q := fun r h' => r = .inl (some (vD v5)) ∧ h' = mH s4 R) (R := R) ⟨rfl, rfl⟩ s (((mI 4 s) - (1 : Int32)) - (1 : Int32)) e3) (fun v h' z => ?_) (fun a h' z => nomatch z.1)
      obtain ⟨z1, z2⟩ := z
      subst z2
      cases z1
      show xW sc m_M_truth (d + 3) Q (mH s4 R) 50 [some (vA 373), some (vI a1), some (vI ((mI 4 s) - (1 : Int32))), none, none, none, none, none] [vD v5]
      refine x_dstore_n (pc := 50) d_M_truth_50 (by decide) ?_
      show xW sc m_M_truth (d + 3) Q (mH s4 R) 51 [some (vA 373), some (vI a1), some (vI ((mI 4 s) - (1 : Int32))), some (vD v5), none, none, none, none] []
      refine x_aload_n (pc := 51) d_M_truth_51 rfl ?_
      refine x_iload_n (pc := 52) d_M_truth_52 rfl ?_
      obtain ⟨⟨v9, s8⟩, e7, h⟩ := Option.bind_eq_some_iff.mp h
      dsimp only at h
      refine x_invv (c := 1) (av := [vI ((mI 4 s) - (1 : Int32))]) (st := []) (pc := 53) d_M_truth_53 cv_M_473 y_M_numberAt (xm_at s4 R) rfl (Nat.le_of_ble_eq_true rfl) (Nat.le_of_ble_eq_true rfl) (w_M_numberAt (d := d + 2) (Q := fun r h' => r = .inl (some (vD v9)) ∧ h' = mH s8 R) (R := R) ⟨rfl, rfl⟩ s4 ((mI 4 s) - (1 : Int32)) e7) (fun v h' z => ?_) (fun a h' z => nomatch z.1)
      obtain ⟨z1, z2⟩ := z
      subst z2
      cases z1
      show xW sc m_M_truth (d + 3) Q (mH s8 R) 56 [some (vA 373), some (vI a1), some (vI ((mI 4 s) - (1 : Int32))), some (vD v5), none, none, none, none] [vD v9]
      refine x_dstore (pc := 56) d_M_truth_56 (by decide) ?_
      show xW sc m_M_truth (d + 3) Q (mH s8 R) 58 [some (vA 373), some (vI a1), some (vI ((mI 4 s) - (1 : Int32))), some (vD v5), none, some (vD v9), none, none] []
      refine x_iload_n (pc := 58) d_M_truth_58 rfl ?_
      refine x_bipush (v := (25 : Int32)) (pc := 59) d_M_truth_59 (by decide) ?_
      refine x_icmp_ge (tgt := 94) (pc := 61) d_M_truth_61 (by decide) (fun c11 => ?_) (fun c11 => ?_)
      · rw [if_pos c11] at h
        refine x_iload_n (pc := 94) d_M_truth_94 rfl ?_
        refine x_bipush (v := (25 : Int32)) (pc := 95) d_M_truth_95 (by decide) ?_
        refine x_icmp_ne (tgt := 115) (pc := 97) d_M_truth_97 (by decide) (fun c12 => ?_) (fun c12 => ?_)
        · rw [if_neg c12] at h
          refine x_iload_n (pc := 115) d_M_truth_115 rfl ?_
          refine x_bipush (v := (26 : Int32)) (pc := 116) d_M_truth_116 (by decide) ?_
          refine x_icmp_ne (tgt := 136) (pc := 118) d_M_truth_118 (by decide) (fun c13 => ?_) (fun c13 => ?_)
          · rw [if_neg c13] at h
            refine x_iload_n (pc := 136) d_M_truth_136 rfl ?_
            refine x_bipush (v := (27 : Int32)) (pc := 137) d_M_truth_137 (by decide) ?_
            refine x_icmp_ne (tgt := 157) (pc := 139) d_M_truth_139 (by decide) (fun c14 => ?_) (fun c14 => ?_)
            · rw [if_neg c14] at h
              refine x_dload_n (pc := 157) d_M_truth_157 rfl ?_
              refine x_dload (pc := 158) d_M_truth_158 rfl ?_
              refine x_dcmp (pc := 160) d_M_truth_160 ?_
              refine x_if_gt (tgt := 168) (pc := 161) d_M_truth_161 (by decide) (fun c15 => ?_) (fun c15 => ?_)
              · rw [if_pos c15] at h
                refine x_iconst (v := (0 : Int32)) (pc := 168) d_M_truth_168 (by decide) ?_
                exact x_wk (L' := [some (vA 373), none, none, none, none, none, none, none]) ⟨Or.inr rfl, Or.inl rfl, Or.inl rfl, Or.inl rfl, Or.inl rfl, Or.inl rfl, Or.inl rfl, Or.inl rfl, trivial⟩ (w_M_truth_b169 hQ (0 : Int32) s8 h)
              · rw [if_neg c15] at h
                refine x_iconst (v := (1 : Int32)) (pc := 164) d_M_truth_164 (by decide) ?_
                refine x_goto (tgt := 169) (pc := 165) d_M_truth_165 (by decide) ?_
                exact x_wk (L' := [some (vA 373), none, none, none, none, none, none, none]) ⟨Or.inr rfl, Or.inl rfl, Or.inl rfl, Or.inl rfl, Or.inl rfl, Or.inl rfl, Or.inl rfl, Or.inl rfl, trivial⟩ (w_M_truth_b169 hQ (1 : Int32) s8 h)
            · rw [if_pos c14] at h
              refine x_dload_n (pc := 142) d_M_truth_142 rfl ?_
              refine x_dload (pc := 143) d_M_truth_143 rfl ?_
              refine x_dcmp (pc := 145) d_M_truth_145 ?_
              refine x_if_ge (tgt := 153) (pc := 146) d_M_truth_146 (by decide) (fun c16 => ?_) (fun c16 => ?_)
              · rw [if_pos c16] at h
                refine x_iconst (v := (0 : Int32)) (pc := 153) d_M_truth_153 (by decide) ?_
                refine x_goto (tgt := 169) (pc := 154) d_M_truth_154 (by decide) ?_
                exact x_wk (L' := [some (vA 373), none, none, none, none, none, none, none]) ⟨Or.inr rfl, Or.inl rfl, Or.inl rfl, Or.inl rfl, Or.inl rfl, Or.inl rfl, Or.inl rfl, Or.inl rfl, trivial⟩ (w_M_truth_b169 hQ (0 : Int32) s8 h)
              · rw [if_neg c16] at h
                refine x_iconst (v := (1 : Int32)) (pc := 149) d_M_truth_149 (by decide) ?_
                refine x_goto (tgt := 169) (pc := 150) d_M_truth_150 (by decide) ?_
                exact x_wk (L' := [some (vA 373), none, none, none, none, none, none, none]) ⟨Or.inr rfl, Or.inl rfl, Or.inl rfl, Or.inl rfl, Or.inl rfl, Or.inl rfl, Or.inl rfl, Or.inl rfl, trivial⟩ (w_M_truth_b169 hQ (1 : Int32) s8 h)
          · rw [if_pos c13] at h
            refine x_dload_n (pc := 121) d_M_truth_121 rfl ?_
            refine x_dload (pc := 122) d_M_truth_122 rfl ?_
            refine x_dcmp (pc := 124) d_M_truth_124 ?_
            refine x_if_lt (tgt := 132) (pc := 125) d_M_truth_125 (by decide) (fun c17 => ?_) (fun c17 => ?_)
            · rw [if_pos c17] at h
              refine x_iconst (v := (0 : Int32)) (pc := 132) d_M_truth_132 (by decide) ?_
              refine x_goto (tgt := 169) (pc := 133) d_M_truth_133 (by decide) ?_
              exact x_wk (L' := [some (vA 373), none, none, none, none, none, none, none]) ⟨Or.inr rfl, Or.inl rfl, Or.inl rfl, Or.inl rfl, Or.inl rfl, Or.inl rfl, Or.inl rfl, Or.inl rfl, trivial⟩ (w_M_truth_b169 hQ (0 : Int32) s8 h)
            · rw [if_neg c17] at h
              refine x_iconst (v := (1 : Int32)) (pc := 128) d_M_truth_128 (by decide) ?_
              refine x_goto (tgt := 169) (pc := 129) d_M_truth_129 (by decide) ?_
              exact x_wk (L' := [some (vA 373), none, none, none, none, none, none, none]) ⟨Or.inr rfl, Or.inl rfl, Or.inl rfl, Or.inl rfl, Or.inl rfl, Or.inl rfl, Or.inl rfl, Or.inl rfl, trivial⟩ (w_M_truth_b169 hQ (1 : Int32) s8 h)
        · rw [if_pos c12] at h
          refine x_dload_n (pc := 100) d_M_truth_100 rfl ?_
          refine x_dload (pc := 101) d_M_truth_101 rfl ?_
          refine x_dcmp (pc := 103) d_M_truth_103 ?_
          refine x_if_le (tgt := 111) (pc := 104) d_M_truth_104 (by decide) (fun c18 => ?_) (fun c18 => ?_)
          · rw [if_pos c18] at h
            refine x_iconst (v := (0 : Int32)) (pc := 111) d_M_truth_111 (by decide) ?_
            refine x_goto (tgt := 169) (pc := 112) d_M_truth_112 (by decide) ?_
            exact x_wk (L' := [some (vA 373), none, none, none, none, none, none, none]) ⟨Or.inr rfl, Or.inl rfl, Or.inl rfl, Or.inl rfl, Or.inl rfl, Or.inl rfl, Or.inl rfl, Or.inl rfl, trivial⟩ (w_M_truth_b169 hQ (0 : Int32) s8 h)
          · rw [if_neg c18] at h
            refine x_iconst (v := (1 : Int32)) (pc := 107) d_M_truth_107 (by decide) ?_
            refine x_goto (tgt := 169) (pc := 108) d_M_truth_108 (by decide) ?_
            exact x_wk (L' := [some (vA 373), none, none, none, none, none, none, none]) ⟨Or.inr rfl, Or.inl rfl, Or.inl rfl, Or.inl rfl, Or.inl rfl, Or.inl rfl, Or.inl rfl, Or.inl rfl, trivial⟩ (w_M_truth_b169 hQ (1 : Int32) s8 h)
      · rw [if_neg c11] at h
        refine x_aload_n (pc := 64) d_M_truth_64 rfl ?_
        refine x_iload_n (pc := 65) d_M_truth_65 rfl ?_
        refine x_iconst (v := (1 : Int32)) (pc := 66) d_M_truth_66 (by decide) ?_
        refine x_isub (pc := 67) d_M_truth_67 ?_
        refine x_iload_n (pc := 68) d_M_truth_68 rfl ?_
        obtain ⟨⟨v21, s20⟩, e19, h⟩ := Option.bind_eq_some_iff.mp h
        dsimp only at h
        refine x_invv (c := 1) (av := [vI (((mI 4 s) - (1 : Int32)) - (1 : Int32)), vI ((mI 4 s) - (1 : Int32))]) (st := []) (pc := 69) d_M_truth_69 cv_M_490 y_M_alike (xm_at s8 R) rfl (Nat.le_of_ble_eq_true rfl) (Nat.le_of_ble_eq_true rfl) (w_M_alike (d := d + 1) (Q := fun r h' => r = .inl (some (vI v21)) ∧ h' = mH s20 R) (R := R) ⟨rfl, rfl⟩ s8 (((mI 4 s) - (1 : Int32)) - (1 : Int32)) ((mI 4 s) - (1 : Int32)) e19) (fun v h' z => ?_) (fun a h' z => nomatch z.1)
        obtain ⟨z1, z2⟩ := z
        subst z2
        cases z1
        show xW sc m_M_truth (d + 3) Q (mH s20 R) 72 [some (vA 373), some (vI a1), some (vI ((mI 4 s) - (1 : Int32))), some (vD v5), none, some (vD v9), none, none] [vI v21]
        refine x_iload_n (pc := 72) d_M_truth_72 rfl ?_
        refine x_bipush (v := (23 : Int32)) (pc := 73) d_M_truth_73 (by decide) ?_
        refine x_icmp_ne (tgt := 82) (pc := 75) d_M_truth_75 (by decide) (fun c23 => ?_) (fun c23 => ?_)
        · rw [if_neg c23] at h
          refine x_iconst (v := (0 : Int32)) (pc := 82) d_M_truth_82 (by decide) ?_
          exact x_wk (L' := [some (vA 373), none, none, none, none, none, none, none]) ⟨Or.inr rfl, Or.inl rfl, Or.inl rfl, Or.inl rfl, Or.inl rfl, Or.inl rfl, Or.inl rfl, Or.inl rfl, trivial⟩ (w_M_truth_b83 hQ (0 : Int32) v21 s20 h)
        · rw [if_pos c23] at h
          refine x_iconst (v := (1 : Int32)) (pc := 78) d_M_truth_78 (by decide) ?_
          refine x_goto (tgt := 83) (pc := 79) d_M_truth_79 (by decide) ?_
          exact x_wk (L' := [some (vA 373), none, none, none, none, none, none, none]) ⟨Or.inr rfl, Or.inl rfl, Or.inl rfl, Or.inl rfl, Or.inl rfl, Or.inl rfl, Or.inl rfl, Or.inl rfl, trivial⟩ (w_M_truth_b83 hQ (1 : Int32) v21 s20 h)
    · rw [if_neg c2] at h
      refine x_aload_n (pc := 36) d_M_truth_36 rfl ?_
      refine x_iload_n (pc := 37) d_M_truth_37 rfl ?_
      refine x_iload_n (pc := 38) d_M_truth_38 rfl ?_
      obtain ⟨⟨v26, s25⟩, e24, h⟩ := Option.bind_eq_some_iff.mp h
      dsimp only at h
      refine x_invv (c := 1) (av := [vI a1, vI ((mI 4 s) - (1 : Int32))]) (st := []) (pc := 39) d_M_truth_39 cv_M_486 y_M_bits (xm_at s R) rfl (Nat.le_of_ble_eq_true rfl) (Nat.le_of_ble_eq_true rfl) (w_M_bits (d := d + 0) (Q := fun r h' => r = .inl (some (vI v26)) ∧ h' = mH s25 R) (R := R) ⟨rfl, rfl⟩ s a1 ((mI 4 s) - (1 : Int32)) e24) (fun v h' z => ?_) (fun a h' z => nomatch z.1)
      obtain ⟨z1, z2⟩ := z
      subst z2
      cases z1
      show xW sc m_M_truth (d + 3) Q (mH s25 R) 42 [some (vA 373), some (vI a1), some (vI ((mI 4 s) - (1 : Int32))), none, none, none, none, none] [vI v26]
      cases h
      exact x_iret (ty := .int) (pc := 42) d_M_truth_42 rfl (rfl) hQ
  · rw [if_neg c1] at h
    refine x_aload_n (pc := 13) d_M_truth_13 rfl ?_
    refine x_iconst (v := (2 : Int32)) (pc := 14) d_M_truth_14 (by decide) ?_
    refine x_iload_n (pc := 15) d_M_truth_15 rfl ?_
    refine x_bipush (v := (21 : Int32)) (pc := 16) d_M_truth_16 (by decide) ?_
    refine x_icmp_ne (tgt := 25) (pc := 18) d_M_truth_18 (by decide) (fun c28 => ?_) (fun c28 => ?_)
    · rw [if_neg c28] at h
      refine x_lconst (v := (0 : Int64)) (pc := 25) d_M_truth_25 (by decide) ?_
      exact x_wk (L' := [none, none, none, none, none, none, none, none]) ⟨Or.inl rfl, Or.inl rfl, Or.inl rfl, Or.inl rfl, Or.inl rfl, Or.inl rfl, Or.inl rfl, Or.inl rfl, trivial⟩ (w_M_truth_b26 hQ (0 : Int64) (2 : Int32) s h)
    · rw [if_pos c28] at h
      refine x_lconst (v := (1 : Int64)) (pc := 21) d_M_truth_21 (by decide) ?_
      refine x_goto (tgt := 26) (pc := 22) d_M_truth_22 (by decide) ?_
      exact x_wk (L' := [none, none, none, none, none, none, none, none]) ⟨Or.inl rfl, Or.inl rfl, Or.inl rfl, Or.inl rfl, Or.inl rfl, Or.inl rfl, Or.inl rfl, Or.inl rfl, trivial⟩ (w_M_truth_b26 hQ (1 : Int64) (2 : Int32) s h)
