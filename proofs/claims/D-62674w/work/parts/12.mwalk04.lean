def f_M_operate_b228  (t0 : Int32) (s : MT) : Option (Int32 × MT) := some (t0, s)
theorem w_M_operate_b228 {sc : xSc} {d : Nat} {Q : xR → xH → Prop} {R : xH} {sZ : MT} {rZ : Int32}  (hQ : Q (.inl (some (vI rZ))) (mH sZ R)) (t0 : Int32) (s : MT) (h : f_M_operate_b228  t0 s = some (rZ, sZ)) : xW sc m_M_operate (d + 4) Q (mH s R) 228 [none, none, none, none, none, none] [vI t0] := by
  unfold f_M_operate_b228 at h
  cases h
  exact x_iret (ty := .int) (pc := 228) d_M_operate_228 rfl (rfl) hQ
def f_M_operate_b166  (t0 : Int32) (s : MT) : Option (Int32 × MT) := some (t0, s)
theorem w_M_operate_b166 {sc : xSc} {d : Nat} {Q : xR → xH → Prop} {R : xH} {sZ : MT} {rZ : Int32}  (hQ : Q (.inl (some (vI rZ))) (mH sZ R)) (t0 : Int32) (s : MT) (h : f_M_operate_b166  t0 s = some (rZ, sZ)) : xW sc m_M_operate (d + 4) Q (mH s R) 166 [none, none, none, none, none, none] [vI t0] := by
  unfold f_M_operate_b166 at h
  cases h
  exact x_iret (ty := .int) (pc := 166) d_M_operate_166 rfl (rfl) hQ
def f_M_operate_b135  (l1 : Int32) (s : MT) : Option (Int32 × MT) := (f_M_stackOperator s l1).bind fun (v3, s2) => some (v3, s2)
theorem w_M_operate_b135 {sc : xSc} {d : Nat} {Q : xR → xH → Prop} {R : xH} {sZ : MT} {rZ : Int32}  (hQ : Q (.inl (some (vI rZ))) (mH sZ R)) (l1 : Int32) (s : MT) (h : f_M_operate_b135  l1 s = some (rZ, sZ)) : xW sc m_M_operate (d + 4) Q (mH s R) 135 [some (vA 373), some (vI l1), none, none, none, none] [] := by
  unfold f_M_operate_b135 at h
  refine x_aload_n (pc := 135) d_M_operate_135 rfl ?_
  refine x_iload_n (pc := 136) d_M_operate_136 rfl ?_
  obtain ⟨⟨v3, s2⟩, e1, h⟩ := Option.bind_eq_some_iff.mp h
  dsimp only at h
  refine x_invv (c := 1) (av := [vI l1]) (st := []) (pc := 137) d_M_operate_137 cv_M_434 y_M_stackOperator (xm_at s R) rfl (Nat.le_of_ble_eq_true rfl) (Nat.le_of_ble_eq_true rfl) (w_M_stackOperator (d := d + 0) (Q := fun r h' => r = .inl (some (vI v3)) ∧ h' = mH s2 R) (R := R) ⟨rfl, rfl⟩ s l1 e1) (fun v h' z => ?_) (fun a h' z => nomatch z.1)
  obtain ⟨z1, z2⟩ := z
  subst z2
  cases z1
  show xW sc m_M_operate (d + 4) Q (mH s2 R) 140 [some (vA 373), some (vI l1), none, none, none, none] [vI v3]
  cases h
  exact x_iret (ty := .int) (pc := 140) d_M_operate_140 rfl (rfl) hQ
def f_M_operate_b121  (s : MT) : Option (Int32 × MT) := some ((3 : Int32), s)
theorem w_M_operate_b121 {sc : xSc} {d : Nat} {Q : xR → xH → Prop} {R : xH} {sZ : MT} {rZ : Int32}  (hQ : Q (.inl (some (vI rZ))) (mH sZ R)) (s : MT) (h : f_M_operate_b121  s = some (rZ, sZ)) : xW sc m_M_operate (d + 4) Q (mH s R) 121 [none, none, none, none, none, none] [] := by
  unfold f_M_operate_b121 at h
  refine x_iconst (v := (3 : Int32)) (pc := 121) d_M_operate_121 (by decide) ?_
  cases h
  exact x_iret (ty := .int) (pc := 122) d_M_operate_122 rfl (rfl) hQ
def f_M_operate_b95 (k68 : Int32 → Int32 → Int32 → Int32 → MT → Option (Int32 × MT)) (l1 : Int32) (l2 : Int32) (l5 : Int32) (t0 : Int32) (s : MT) : Option (Int32 × MT) := (if (10 : Int32) = 0 then none else k68 l1 (l2 / (10 : Int32)) t0 (l5 + Int32.ofInt (-1)) s)
theorem w_M_operate_b95 {sc : xSc} {d : Nat} {Q : xR → xH → Prop} {R : xH} {sZ : MT} {rZ : Int32} (k68 : Int32 → Int32 → Int32 → Int32 → MT → Option (Int32 × MT)) (hk68 : ∀ (l1 : Int32) (l2 : Int32) (l4 : Int32) (l5 : Int32) (s : MT), k68 l1 l2 l4 l5 s = some (rZ, sZ) → xW sc m_M_operate (d + 4) Q (mH s R) 68 [some (vA 373), some (vI l1), some (vI l2), none, some (vI l4), some (vI l5)] []) (hQ : Q (.inl (some (vI rZ))) (mH sZ R)) (l1 : Int32) (l2 : Int32) (l5 : Int32) (t0 : Int32) (s : MT) (h : f_M_operate_b95 k68 l1 l2 l5 t0 s = some (rZ, sZ)) : xW sc m_M_operate (d + 4) Q (mH s R) 95 [some (vA 373), some (vI l1), some (vI l2), none, none, some (vI l5)] [vI t0] := by
  unfold f_M_operate_b95 at h
  refine x_istore (pc := 95) d_M_operate_95 (by decide) ?_
  show xW sc m_M_operate (d + 4) Q (mH s R) 97 [some (vA 373), some (vI l1), some (vI l2), none, some (vI t0), some (vI l5)] []
  refine x_iload_n (pc := 97) d_M_operate_97 rfl ?_
  refine x_bipush (v := (10 : Int32)) (pc := 98) d_M_operate_98 (by decide) ?_
  obtain ⟨c1, h⟩ := itn_some h
  refine x_idiv (pc := 100) d_M_operate_100 (c1) ?_
  refine x_istore_n (pc := 101) d_M_operate_101 (by decide) ?_
  show xW sc m_M_operate (d + 4) Q (mH s R) 102 [some (vA 373), some (vI l1), some (vI (l2 / (10 : Int32))), none, some (vI t0), some (vI l5)] []
  refine x_iinc (pc := 102) d_M_operate_102 rfl (by decide) ?_
  show xW sc m_M_operate (d + 4) Q (mH s R) 105 [some (vA 373), some (vI l1), some (vI (l2 / (10 : Int32))), none, some (vI t0), some (vI (l5 + Int32.ofInt (-1)))] []
  refine x_goto (tgt := 68) (pc := 105) d_M_operate_105 (by decide) ?_
  exact hk68 l1 (l2 / (10 : Int32)) t0 (l5 + Int32.ofInt (-1)) s h
def f_M_operate_b94 (k68 : Int32 → Int32 → Int32 → Int32 → MT → Option (Int32 × MT)) (l1 : Int32) (l2 : Int32) (l5 : Int32) (s : MT) : Option (Int32 × MT) := f_M_operate_b95 k68 l1 l2 l5 (0 : Int32) s
theorem w_M_operate_b94 {sc : xSc} {d : Nat} {Q : xR → xH → Prop} {R : xH} {sZ : MT} {rZ : Int32} (k68 : Int32 → Int32 → Int32 → Int32 → MT → Option (Int32 × MT)) (hk68 : ∀ (l1 : Int32) (l2 : Int32) (l4 : Int32) (l5 : Int32) (s : MT), k68 l1 l2 l4 l5 s = some (rZ, sZ) → xW sc m_M_operate (d + 4) Q (mH s R) 68 [some (vA 373), some (vI l1), some (vI l2), none, some (vI l4), some (vI l5)] []) (hQ : Q (.inl (some (vI rZ))) (mH sZ R)) (l1 : Int32) (l2 : Int32) (l5 : Int32) (s : MT) (h : f_M_operate_b94 k68 l1 l2 l5 s = some (rZ, sZ)) : xW sc m_M_operate (d + 4) Q (mH s R) 94 [some (vA 373), some (vI l1), some (vI l2), none, none, some (vI l5)] [] := by
  unfold f_M_operate_b94 at h
  refine x_iconst (v := (0 : Int32)) (pc := 94) d_M_operate_94 (by decide) ?_
  exact w_M_operate_b95 k68 hk68 hQ l1 l2 l5 (0 : Int32) s h
def f_M_operate_b68  : Nat → Int32 → Int32 → Int32 → Int32 → MT → Option (Int32 × MT)
  | 0, _, _, _, _, _ => none
  | n + 1, l1, l2, l4, l5, s => (if l2 ≤ 0 then (if l4 = 0 then f_M_operate_b121 s else (f_M_suitsOther s l1).bind fun (v5, s4) => (if v5 = 0 then f_M_operate_b121 s4 else (if l1 < (10 : Int32) then f_M_operate_b135 l1 s4 else (if l1 ≤ (69 : Int32) then (if (21 : Int32) ≤ l1 then (if (37 : Int32) ≤ l1 then (if (43 : Int32) ≤ l1 then (if (50 : Int32) ≤ l1 then (if (63 : Int32) ≤ l1 then (f_M_paint s4 l1).bind fun (v17, s16) => some (v17, s16) else (if (57 : Int32) ≤ l1 then (f_M_control s4 l1).bind fun (v22, s21) => f_M_operate_b228 v22 s21 else (f_M_begins s4 l1).bind fun (v26, s25) => f_M_operate_b228 v26 s25)) else (f_M_dictOperator s4 l1).bind fun (v30, s29) => some (v30, s29)) else (f_M_arrayOperator s4 l1).bind fun (v34, s33) => some (v34, s33)) else (f_M_truth s4 l1).bind fun (v38, s37) => some (v38, s37)) else (if (16 : Int32) ≤ l1 then (f_M_single s4 l1).bind fun (v43, s42) => f_M_operate_b166 v43 s42 else (f_M_sum s4 l1).bind fun (v47, s46) => f_M_operate_b166 v47 s46)) else f_M_operate_b135 l1 s4)))) else (if l4 = 0 then f_M_operate_b94 (f_M_operate_b68 n) l1 l2 l5 s else (if (10 : Int32) = 0 then none else (f_M_suits s l5 (l2 - l2 / (10 : Int32) * (10 : Int32))).bind fun (v53, s52) => (if v53 = 0 then f_M_operate_b94 (f_M_operate_b68 n) l1 l2 l5 s52 else f_M_operate_b95 (f_M_operate_b68 n) l1 l2 l5 (1 : Int32) s52))))
theorem w_M_operate_b68 {sc : xSc} {d : Nat} {Q : xR → xH → Prop} {R : xH} {sZ : MT} {rZ : Int32}  (hQ : Q (.inl (some (vI rZ))) (mH sZ R)) : ∀ (n : Nat) (l1 : Int32) (l2 : Int32) (l4 : Int32) (l5 : Int32) (s : MT), f_M_operate_b68  n l1 l2 l4 l5 s = some (rZ, sZ) → xW sc m_M_operate (d + 4) Q (mH s R) 68 [some (vA 373), some (vI l1), some (vI l2), none, some (vI l4), some (vI l5)] [] := by
  intro n
  induction n with
  | zero =>
    intro l1 l2 l4 l5 s h
    cases h
  | succ n hk68 =>
    intro l1 l2 l4 l5 s h
    unfold f_M_operate_b68 at h
    refine x_iload_n (pc := 68) d_M_operate_68 rfl ?_
    refine x_if_le (tgt := 108) (pc := 69) d_M_operate_69 (by decide) (fun c1 => ?_) (fun c1 => ?_)
    · rw [if_pos c1] at h
      refine x_iload (pc := 108) d_M_operate_108 rfl ?_
      refine x_if_eq (tgt := 121) (pc := 110) d_M_operate_110 (by decide) (fun c2 => ?_) (fun c2 => ?_)
      · rw [if_pos c2] at h
        exact x_wk (L' := [none, none, none, none, none, none]) ⟨Or.inl rfl, Or.inl rfl, Or.inl rfl, Or.inl rfl, Or.inl rfl, Or.inl rfl, trivial⟩ (w_M_operate_b121 hQ s h)
      · rw [if_neg c2] at h
        refine x_aload_n (pc := 113) d_M_operate_113 rfl ?_
        refine x_iload_n (pc := 114) d_M_operate_114 rfl ?_
        obtain ⟨⟨v5, s4⟩, e3, h⟩ := Option.bind_eq_some_iff.mp h
        dsimp only at h
        refine x_invv (c := 1) (av := [vI l1]) (st := []) (pc := 115) d_M_operate_115 cv_M_431 y_M_suitsOther (xm_at s R) rfl (Nat.le_of_ble_eq_true rfl) (Nat.le_of_ble_eq_true rfl) (w_M_suitsOther (d := d + 2) (Q := fun r h' => r = .inl (some (vI v5)) ∧ h' = mH s4 R) (R := R) ⟨rfl, rfl⟩ s l1 e3) (fun v h' z => ?_) (fun a h' z => nomatch z.1)
        obtain ⟨z1, z2⟩ := z
        subst z2
        cases z1
        show xW sc m_M_operate (d + 4) Q (mH s4 R) 118 [some (vA 373), some (vI l1), some (vI l2), none, some (vI l4), some (vI l5)] [vI v5]
        refine x_if_ne (tgt := 123) (pc := 118) d_M_operate_118 (by decide) (fun c7 => ?_) (fun c7 => ?_)
        · rw [if_neg c7] at h
          refine x_iload_n (pc := 123) d_M_operate_123 rfl ?_
          refine x_bipush (v := (10 : Int32)) (pc := 124) d_M_operate_124 (by decide) ?_
          refine x_icmp_lt (tgt := 135) (pc := 126) d_M_operate_126 (by decide) (fun c8 => ?_) (fun c8 => ?_)
          · rw [if_pos c8] at h
            exact x_wk (L' := [some (vA 373), some (vI l1), none, none, none, none]) ⟨Or.inr rfl, Or.inr rfl, Or.inl rfl, Or.inl rfl, Or.inl rfl, Or.inl rfl, trivial⟩ (w_M_operate_b135 hQ l1 s4 h)
          · rw [if_neg c8] at h
            refine x_iload_n (pc := 129) d_M_operate_129 rfl ?_
            refine x_bipush (v := (69 : Int32)) (pc := 130) d_M_operate_130 (by decide) ?_
            refine x_icmp_le (tgt := 141) (pc := 132) d_M_operate_132 (by decide) (fun c9 => ?_) (fun c9 => ?_)
            · rw [if_pos c9] at h
              refine x_iload_n (pc := 141) d_M_operate_141 rfl ?_
              refine x_bipush (v := (21 : Int32)) (pc := 142) d_M_operate_142 (by decide) ?_
              refine x_icmp_ge (tgt := 167) (pc := 144) d_M_operate_144 (by decide) (fun c10 => ?_) (fun c10 => ?_)
              · rw [if_pos c10] at h
                refine x_iload_n (pc := 167) d_M_operate_167 rfl ?_
                refine x_bipush (v := (37 : Int32)) (pc := 168) d_M_operate_168 (by decide) ?_
                refine x_icmp_ge (tgt := 179) (pc := 170) d_M_operate_170 (by decide) (fun c11 => ?_) (fun c11 => ?_)
                · rw [if_pos c11] at h
                  refine x_iload_n (pc := 179) d_M_operate_179 rfl ?_
                  refine x_bipush (v := (43 : Int32)) (pc := 180) d_M_operate_180 (by decide) ?_
                  refine x_icmp_ge (tgt := 191) (pc := 182) d_M_operate_182 (by decide) (fun c12 => ?_) (fun c12 => ?_)
                  · rw [if_pos c12] at h
                    refine x_iload_n (pc := 191) d_M_operate_191 rfl ?_
                    refine x_bipush (v := (50 : Int32)) (pc := 192) d_M_operate_192 (by decide) ?_
                    refine x_icmp_ge (tgt := 203) (pc := 194) d_M_operate_194 (by decide) (fun c13 => ?_) (fun c13 => ?_)
                    · rw [if_pos c13] at h
                      refine x_iload_n (pc := 203) d_M_operate_203 rfl ?_
                      refine x_bipush (v := (63 : Int32)) (pc := 204) d_M_operate_204 (by decide) ?_
                      refine x_icmp_ge (tgt := 229) (pc := 206) d_M_operate_206 (by decide) (fun c14 => ?_) (fun c14 => ?_)
                      · rw [if_pos c14] at h
                        refine x_aload_n (pc := 229) d_M_operate_229 rfl ?_
                        refine x_iload_n (pc := 230) d_M_operate_230 rfl ?_
                        obtain ⟨⟨v17, s16⟩, e15, h⟩ := Option.bind_eq_some_iff.mp h
                        dsimp only at h
                        refine x_invv (c := 1) (av := [vI l1]) (st := []) (pc := 231) d_M_operate_231 cv_M_458 y_M_paint (xm_at s4 R) rfl (Nat.le_of_ble_eq_true rfl) (Nat.le_of_ble_eq_true rfl) (w_M_paint (d := d + 2) (Q := fun r h' => r = .inl (some (vI v17)) ∧ h' = mH s16 R) (R := R) ⟨rfl, rfl⟩ s4 l1 e15) (fun v h' z => ?_) (fun a h' z => nomatch z.1)
                        obtain ⟨z1, z2⟩ := z
                        subst z2
                        cases z1
                        show xW sc m_M_operate (d + 4) Q (mH s16 R) 234 [some (vA 373), some (vI l1), some (vI l2), none, some (vI l4), some (vI l5)] [vI v17]
                        cases h
                        exact x_iret (ty := .int) (pc := 234) d_M_operate_234 rfl (rfl) hQ
                      · rw [if_neg c14] at h
                        refine x_iload_n (pc := 209) d_M_operate_209 rfl ?_
                        refine x_bipush (v := (57 : Int32)) (pc := 210) d_M_operate_210 (by decide) ?_
                        refine x_icmp_ge (tgt := 223) (pc := 212) d_M_operate_212 (by decide) (fun c19 => ?_) (fun c19 => ?_)
                        · rw [if_pos c19] at h
                          refine x_aload_n (pc := 223) d_M_operate_223 rfl ?_
                          refine x_iload_n (pc := 224) d_M_operate_224 rfl ?_
                          obtain ⟨⟨v22, s21⟩, e20, h⟩ := Option.bind_eq_some_iff.mp h
                          dsimp only at h
                          refine x_invv (c := 1) (av := [vI l1]) (st := []) (pc := 225) d_M_operate_225 cv_M_455 y_M_control (xm_at s4 R) rfl (Nat.le_of_ble_eq_true rfl) (Nat.le_of_ble_eq_true rfl) (w_M_control (d := d + 0) (Q := fun r h' => r = .inl (some (vI v22)) ∧ h' = mH s21 R) (R := R) ⟨rfl, rfl⟩ s4 l1 e20) (fun v h' z => ?_) (fun a h' z => nomatch z.1)
                          obtain ⟨z1, z2⟩ := z
                          subst z2
                          cases z1
                          show xW sc m_M_operate (d + 4) Q (mH s21 R) 228 [some (vA 373), some (vI l1), some (vI l2), none, some (vI l4), some (vI l5)] [vI v22]
                          exact x_wk (L' := [none, none, none, none, none, none]) ⟨Or.inl rfl, Or.inl rfl, Or.inl rfl, Or.inl rfl, Or.inl rfl, Or.inl rfl, trivial⟩ (w_M_operate_b228 hQ v22 s21 h)
                        · rw [if_neg c19] at h
                          refine x_aload_n (pc := 215) d_M_operate_215 rfl ?_
                          refine x_iload_n (pc := 216) d_M_operate_216 rfl ?_
                          obtain ⟨⟨v26, s25⟩, e24, h⟩ := Option.bind_eq_some_iff.mp h
                          dsimp only at h
                          refine x_invv (c := 1) (av := [vI l1]) (st := []) (pc := 217) d_M_operate_217 cv_M_452 y_M_begins (xm_at s4 R) rfl (Nat.le_of_ble_eq_true rfl) (Nat.le_of_ble_eq_true rfl) (w_M_begins (d := d + 1) (Q := fun r h' => r = .inl (some (vI v26)) ∧ h' = mH s25 R) (R := R) ⟨rfl, rfl⟩ s4 l1 e24) (fun v h' z => ?_) (fun a h' z => nomatch z.1)
                          obtain ⟨z1, z2⟩ := z
                          subst z2
                          cases z1
                          show xW sc m_M_operate (d + 4) Q (mH s25 R) 220 [some (vA 373), some (vI l1), some (vI l2), none, some (vI l4), some (vI l5)] [vI v26]
                          refine x_goto (tgt := 228) (pc := 220) d_M_operate_220 (by decide) ?_
                          exact x_wk (L' := [none, none, none, none, none, none]) ⟨Or.inl rfl, Or.inl rfl, Or.inl rfl, Or.inl rfl, Or.inl rfl, Or.inl rfl, trivial⟩ (w_M_operate_b228 hQ v26 s25 h)
                    · rw [if_neg c13] at h
                      refine x_aload_n (pc := 197) d_M_operate_197 rfl ?_
                      refine x_iload_n (pc := 198) d_M_operate_198 rfl ?_
                      obtain ⟨⟨v30, s29⟩, e28, h⟩ := Option.bind_eq_some_iff.mp h
                      dsimp only at h
                      refine x_invv (c := 1) (av := [vI l1]) (st := []) (pc := 199) d_M_operate_199 cv_M_449 y_M_dictOperator (xm_at s4 R) rfl (Nat.le_of_ble_eq_true rfl) (Nat.le_of_ble_eq_true rfl) (w_M_dictOperator (d := d + 0) (Q := fun r h' => r = .inl (some (vI v30)) ∧ h' = mH s29 R) (R := R) ⟨rfl, rfl⟩ s4 l1 e28) (fun v h' z => ?_) (fun a h' z => nomatch z.1)
                      obtain ⟨z1, z2⟩ := z
                      subst z2
                      cases z1
                      show xW sc m_M_operate (d + 4) Q (mH s29 R) 202 [some (vA 373), some (vI l1), some (vI l2), none, some (vI l4), some (vI l5)] [vI v30]
                      cases h
                      exact x_iret (ty := .int) (pc := 202) d_M_operate_202 rfl (rfl) hQ
                  · rw [if_neg c12] at h
                    refine x_aload_n (pc := 185) d_M_operate_185 rfl ?_
                    refine x_iload_n (pc := 186) d_M_operate_186 rfl ?_
                    obtain ⟨⟨v34, s33⟩, e32, h⟩ := Option.bind_eq_some_iff.mp h
                    dsimp only at h
                    refine x_invv (c := 1) (av := [vI l1]) (st := []) (pc := 187) d_M_operate_187 cv_M_446 y_M_arrayOperator (xm_at s4 R) rfl (Nat.le_of_ble_eq_true rfl) (Nat.le_of_ble_eq_true rfl) (w_M_arrayOperator (d := d + 0) (Q := fun r h' => r = .inl (some (vI v34)) ∧ h' = mH s33 R) (R := R) ⟨rfl, rfl⟩ s4 l1 e32) (fun v h' z => ?_) (fun a h' z => nomatch z.1)
                    obtain ⟨z1, z2⟩ := z
                    subst z2
                    cases z1
                    show xW sc m_M_operate (d + 4) Q (mH s33 R) 190 [some (vA 373), some (vI l1), some (vI l2), none, some (vI l4), some (vI l5)] [vI v34]
                    cases h
                    exact x_iret (ty := .int) (pc := 190) d_M_operate_190 rfl (rfl) hQ
                · rw [if_neg c11] at h
                  refine x_aload_n (pc := 173) d_M_operate_173 rfl ?_
                  refine x_iload_n (pc := 174) d_M_operate_174 rfl ?_
                  obtain ⟨⟨v38, s37⟩, e36, h⟩ := Option.bind_eq_some_iff.mp h
                  dsimp only at h
                  refine x_invv (c := 1) (av := [vI l1]) (st := []) (pc := 175) d_M_operate_175 cv_M_443 y_M_truth (xm_at s4 R) rfl (Nat.le_of_ble_eq_true rfl) (Nat.le_of_ble_eq_true rfl) (w_M_truth (d := d + 0) (Q := fun r h' => r = .inl (some (vI v38)) ∧ h' = mH s37 R) (R := R) ⟨rfl, rfl⟩ s4 l1 e36) (fun v h' z => ?_) (fun a h' z => nomatch z.1)
                  obtain ⟨z1, z2⟩ := z
                  subst z2
                  cases z1
                  show xW sc m_M_operate (d + 4) Q (mH s37 R) 178 [some (vA 373), some (vI l1), some (vI l2), none, some (vI l4), some (vI l5)] [vI v38]
                  cases h
                  exact x_iret (ty := .int) (pc := 178) d_M_operate_178 rfl (rfl) hQ
              · rw [if_neg c10] at h
                refine x_iload_n (pc := 147) d_M_operate_147 rfl ?_
                refine x_bipush (v := (16 : Int32)) (pc := 148) d_M_operate_148 (by decide) ?_
                refine x_icmp_ge (tgt := 161) (pc := 150) d_M_operate_150 (by decide) (fun c40 => ?_) (fun c40 => ?_)
                · rw [if_pos c40] at h
                  refine x_aload_n (pc := 161) d_M_operate_161 rfl ?_
                  refine x_iload_n (pc := 162) d_M_operate_162 rfl ?_
                  obtain ⟨⟨v43, s42⟩, e41, h⟩ := Option.bind_eq_some_iff.mp h
                  dsimp only at h
                  refine x_invv (c := 1) (av := [vI l1]) (st := []) (pc := 163) d_M_operate_163 cv_M_440 y_M_single (xm_at s4 R) rfl (Nat.le_of_ble_eq_true rfl) (Nat.le_of_ble_eq_true rfl) (w_M_single (d := d + 0) (Q := fun r h' => r = .inl (some (vI v43)) ∧ h' = mH s42 R) (R := R) ⟨rfl, rfl⟩ s4 l1 e41) (fun v h' z => ?_) (fun a h' z => nomatch z.1)
                  obtain ⟨z1, z2⟩ := z
                  subst z2
                  cases z1
                  show xW sc m_M_operate (d + 4) Q (mH s42 R) 166 [some (vA 373), some (vI l1), some (vI l2), none, some (vI l4), some (vI l5)] [vI v43]
                  exact x_wk (L' := [none, none, none, none, none, none]) ⟨Or.inl rfl, Or.inl rfl, Or.inl rfl, Or.inl rfl, Or.inl rfl, Or.inl rfl, trivial⟩ (w_M_operate_b166 hQ v43 s42 h)
                · rw [if_neg c40] at h
                  refine x_aload_n (pc := 153) d_M_operate_153 rfl ?_
                  refine x_iload_n (pc := 154) d_M_operate_154 rfl ?_
                  obtain ⟨⟨v47, s46⟩, e45, h⟩ := Option.bind_eq_some_iff.mp h
                  dsimp only at h
                  refine x_invv (c := 1) (av := [vI l1]) (st := []) (pc := 155) d_M_operate_155 cv_M_437 y_M_sum (xm_at s4 R) rfl (Nat.le_of_ble_eq_true rfl) (Nat.le_of_ble_eq_true rfl) (w_M_sum (d := d + 0) (Q := fun r h' => r = .inl (some (vI v47)) ∧ h' = mH s46 R) (R := R) ⟨rfl, rfl⟩ s4 l1 e45) (fun v h' z => ?_) (fun a h' z => nomatch z.1)
                  obtain ⟨z1, z2⟩ := z
                  subst z2
                  cases z1
                  show xW sc m_M_operate (d + 4) Q (mH s46 R) 158 [some (vA 373), some (vI l1), some (vI l2), none, some (vI l4), some (vI l5)] [vI v47]
                  refine x_goto (tgt := 166) (pc := 158) d_M_operate_158 (by decide) ?_
                  exact x_wk (L' := [none, none, none, none, none, none]) ⟨Or.inl rfl, Or.inl rfl, Or.inl rfl, Or.inl rfl, Or.inl rfl, Or.inl rfl, trivial⟩ (w_M_operate_b166 hQ v47 s46 h)
            · rw [if_neg c9] at h
              exact x_wk (L' := [some (vA 373), some (vI l1), none, none, none, none]) ⟨Or.inr rfl, Or.inr rfl, Or.inl rfl, Or.inl rfl, Or.inl rfl, Or.inl rfl, trivial⟩ (w_M_operate_b135 hQ l1 s4 h)
        · rw [if_pos c7] at h
          exact x_wk (L' := [none, none, none, none, none, none]) ⟨Or.inl rfl, Or.inl rfl, Or.inl rfl, Or.inl rfl, Or.inl rfl, Or.inl rfl, trivial⟩ (w_M_operate_b121 hQ s4 h)
    · rw [if_neg c1] at h
      refine x_iload (pc := 72) d_M_operate_72 rfl ?_
      refine x_if_eq (tgt := 94) (pc := 74) d_M_operate_74 (by decide) (fun c49 => ?_) (fun c49 => ?_)
      · rw [if_pos c49] at h
        exact x_wk (L' := [some (vA 373), some (vI l1), some (vI l2), none, none, some (vI l5)]) ⟨Or.inr rfl, Or.inr rfl, Or.inr rfl, Or.inl rfl, Or.inl rfl, Or.inr rfl, trivial⟩ (w_M_operate_b94 (f_M_operate_b68 n) hk68 hQ l1 l2 l5 s h)
      · rw [if_neg c49] at h
        refine x_aload_n (pc := 77) d_M_operate_77 rfl ?_
        refine x_iload (pc := 78) d_M_operate_78 rfl ?_
        refine x_iload_n (pc := 80) d_M_operate_80 rfl ?_
        refine x_bipush (v := (10 : Int32)) (pc := 81) d_M_operate_81 (by decide) ?_
        obtain ⟨c50, h⟩ := itn_some h
        refine x_irem (pc := 83) d_M_operate_83 (c50) ?_
        obtain ⟨⟨v53, s52⟩, e51, h⟩ := Option.bind_eq_some_iff.mp h
        dsimp only at h
        refine x_invv (c := 1) (av := [vI l5, vI (l2 - l2 / (10 : Int32) * (10 : Int32))]) (st := []) (pc := 84) d_M_operate_84 cv_M_427 y_M_suits (xm_at s R) rfl (Nat.le_of_ble_eq_true rfl) (Nat.le_of_ble_eq_true rfl) (w_M_suits (d := d + 2) (Q := fun r h' => r = .inl (some (vI v53)) ∧ h' = mH s52 R) (R := R) ⟨rfl, rfl⟩ s l5 (l2 - l2 / (10 : Int32) * (10 : Int32)) e51) (fun v h' z => ?_) (fun a h' z => nomatch z.1)
        obtain ⟨z1, z2⟩ := z
        subst z2
        cases z1
        show xW sc m_M_operate (d + 4) Q (mH s52 R) 87 [some (vA 373), some (vI l1), some (vI l2), none, some (vI l4), some (vI l5)] [vI v53]
        refine x_if_eq (tgt := 94) (pc := 87) d_M_operate_87 (by decide) (fun c55 => ?_) (fun c55 => ?_)
        · rw [if_pos c55] at h
          exact x_wk (L' := [some (vA 373), some (vI l1), some (vI l2), none, none, some (vI l5)]) ⟨Or.inr rfl, Or.inr rfl, Or.inr rfl, Or.inl rfl, Or.inl rfl, Or.inr rfl, trivial⟩ (w_M_operate_b94 (f_M_operate_b68 n) hk68 hQ l1 l2 l5 s52 h)
        · rw [if_neg c55] at h
          refine x_iconst (v := (1 : Int32)) (pc := 90) d_M_operate_90 (by decide) ?_
          refine x_goto (tgt := 95) (pc := 91) d_M_operate_91 (by decide) ?_
          exact x_wk (L' := [some (vA 373), some (vI l1), some (vI l2), none, none, some (vI l5)]) ⟨Or.inr rfl, Or.inr rfl, Or.inr rfl, Or.inl rfl, Or.inl rfl, Or.inr rfl, trivial⟩ (w_M_operate_b95 (f_M_operate_b68 n) hk68 hQ l1 l2 l5 (1 : Int32) s52 h)
def f_M_operate_b46  (l1 : Int32) (l2 : Int32) (t0 : Int32) (s : MT) : Option (Int32 × MT) := (if t0 ≤ (mI 4 s) then f_M_operate_b68 mF l1 l2 (1 : Int32) ((mI 4 s) - (1 : Int32)) s else some ((1 : Int32), s))
theorem w_M_operate_b46 {sc : xSc} {d : Nat} {Q : xR → xH → Prop} {R : xH} {sZ : MT} {rZ : Int32}  (hQ : Q (.inl (some (vI rZ))) (mH sZ R)) (l1 : Int32) (l2 : Int32) (t0 : Int32) (s : MT) (h : f_M_operate_b46  l1 l2 t0 s = some (rZ, sZ)) : xW sc m_M_operate (d + 4) Q (mH s R) 46 [some (vA 373), some (vI l1), some (vI l2), none, none, none] [vI t0] := by
  unfold f_M_operate_b46 at h
  refine x_istore_n (pc := 46) d_M_operate_46 (by decide) ?_
  show xW sc m_M_operate (d + 4) Q (mH s R) 47 [some (vA 373), some (vI l1), some (vI l2), some (vI t0), none, none] []
  refine x_aload_n (pc := 47) d_M_operate_47 rfl ?_
  refine x_getf (c := 1) (k := 4) (v := vI (mI 4 s)) (pc := 48) d_M_operate_48 l_M_247 (xm_at s R) rfl ?_
  refine x_iload_n (pc := 51) d_M_operate_51 rfl ?_
  refine x_icmp_ge (tgt := 57) (pc := 52) d_M_operate_52 (by decide) (fun c1 => ?_) (fun c1 => ?_)
  · rw [if_pos c1] at h
    refine x_iconst (v := (1 : Int32)) (pc := 57) d_M_operate_57 (by decide) ?_
    refine x_istore (pc := 58) d_M_operate_58 (by decide) ?_
    show xW sc m_M_operate (d + 4) Q (mH s R) 60 [some (vA 373), some (vI l1), some (vI l2), some (vI t0), some (vI (1 : Int32)), none] []
    refine x_aload_n (pc := 60) d_M_operate_60 rfl ?_
    refine x_getf (c := 1) (k := 4) (v := vI (mI 4 s)) (pc := 61) d_M_operate_61 l_M_247 (xm_at s R) rfl ?_
    refine x_iconst (v := (1 : Int32)) (pc := 64) d_M_operate_64 (by decide) ?_
    refine x_isub (pc := 65) d_M_operate_65 ?_
    refine x_istore (pc := 66) d_M_operate_66 (by decide) ?_
    show xW sc m_M_operate (d + 4) Q (mH s R) 68 [some (vA 373), some (vI l1), some (vI l2), some (vI t0), some (vI (1 : Int32)), some (vI ((mI 4 s) - (1 : Int32)))] []
    exact x_wk (L' := [some (vA 373), some (vI l1), some (vI l2), none, some (vI (1 : Int32)), some (vI ((mI 4 s) - (1 : Int32)))]) ⟨Or.inr rfl, Or.inr rfl, Or.inr rfl, Or.inl rfl, Or.inr rfl, Or.inr rfl, trivial⟩ (w_M_operate_b68 hQ mF l1 l2 (1 : Int32) ((mI 4 s) - (1 : Int32)) s h)
  · rw [if_neg c1] at h
    refine x_iconst (v := (1 : Int32)) (pc := 55) d_M_operate_55 (by decide) ?_
    cases h
    exact x_iret (ty := .int) (pc := 56) d_M_operate_56 rfl (rfl) hQ
def f_M_operate (s : MT) (a1 : Int32) : Option (Int32 × MT) := (f_M_pattern s a1).bind fun (v3, s2) => (if v3 = 0 then f_M_operate_b46 a1 v3 (0 : Int32) s2 else (if (10 : Int32) ≤ v3 then (if (100 : Int32) ≤ v3 then (if (1000 : Int32) ≤ v3 then f_M_operate_b46 a1 v3 (4 : Int32) s2 else f_M_operate_b46 a1 v3 (3 : Int32) s2) else f_M_operate_b46 a1 v3 (2 : Int32) s2) else f_M_operate_b46 a1 v3 (1 : Int32) s2))
theorem w_M_operate {sc : xSc} {d : Nat} {Q : xR → xH → Prop} {R : xH} {sZ : MT} {rZ : Int32} (hQ : Q (.inl (some (vI rZ))) (mH sZ R)) (s : MT) (a1 : Int32) (h : f_M_operate s a1 = some (rZ, sZ)) : xW sc m_M_operate (d + 4) Q (mH s R) 0 (xent [vA 373, vI a1] m_M_operate.2.2.1) [] := by
  show xW sc m_M_operate (d + 4) Q (mH s R) 0 [some (vA 373), some (vI a1), none, none, none, none] []
  unfold f_M_operate at h
  refine x_aload_n (pc := 0) d_M_operate_0 rfl ?_
  refine x_iload_n (pc := 1) d_M_operate_1 rfl ?_
  obtain ⟨⟨v3, s2⟩, e1, h⟩ := Option.bind_eq_some_iff.mp h
  dsimp only at h
  refine x_invv (c := 1) (av := [vI a1]) (st := []) (pc := 2) d_M_operate_2 cv_M_424 y_M_pattern (xm_at s R) rfl (Nat.le_of_ble_eq_true rfl) (Nat.le_of_ble_eq_true rfl) (w_M_pattern (d := d + 3) (Q := fun r h' => r = .inl (some (vI v3)) ∧ h' = mH s2 R) (R := R) ⟨rfl, rfl⟩ s a1 e1) (fun v h' z => ?_) (fun a h' z => nomatch z.1)
  obtain ⟨z1, z2⟩ := z
  subst z2
  cases z1
  show xW sc m_M_operate (d + 4) Q (mH s2 R) 5 [some (vA 373), some (vI a1), none, none, none, none] [vI v3]
  refine x_istore_n (pc := 5) d_M_operate_5 (by decide) ?_
  show xW sc m_M_operate (d + 4) Q (mH s2 R) 6 [some (vA 373), some (vI a1), some (vI v3), none, none, none] []
  refine x_iload_n (pc := 6) d_M_operate_6 rfl ?_
  refine x_if_ne (tgt := 14) (pc := 7) d_M_operate_7 (by decide) (fun c5 => ?_) (fun c5 => ?_)
  · rw [if_neg c5] at h
    refine x_iload_n (pc := 14) d_M_operate_14 rfl ?_
    refine x_bipush (v := (10 : Int32)) (pc := 15) d_M_operate_15 (by decide) ?_
    refine x_icmp_ge (tgt := 24) (pc := 17) d_M_operate_17 (by decide) (fun c6 => ?_) (fun c6 => ?_)
    · rw [if_pos c6] at h
      refine x_iload_n (pc := 24) d_M_operate_24 rfl ?_
      refine x_bipush (v := (100 : Int32)) (pc := 25) d_M_operate_25 (by decide) ?_
      refine x_icmp_ge (tgt := 34) (pc := 27) d_M_operate_27 (by decide) (fun c7 => ?_) (fun c7 => ?_)
      · rw [if_pos c7] at h
        refine x_iload_n (pc := 34) d_M_operate_34 rfl ?_
        refine x_sipush (v := (1000 : Int32)) (pc := 35) d_M_operate_35 (by decide) ?_
        refine x_icmp_ge (tgt := 45) (pc := 38) d_M_operate_38 (by decide) (fun c8 => ?_) (fun c8 => ?_)
        · rw [if_pos c8] at h
          refine x_iconst (v := (4 : Int32)) (pc := 45) d_M_operate_45 (by decide) ?_
          exact w_M_operate_b46 hQ a1 v3 (4 : Int32) s2 h
        · rw [if_neg c8] at h
          refine x_iconst (v := (3 : Int32)) (pc := 41) d_M_operate_41 (by decide) ?_
          refine x_goto (tgt := 46) (pc := 42) d_M_operate_42 (by decide) ?_
          exact w_M_operate_b46 hQ a1 v3 (3 : Int32) s2 h
      · rw [if_neg c7] at h
        refine x_iconst (v := (2 : Int32)) (pc := 30) d_M_operate_30 (by decide) ?_
        refine x_goto (tgt := 46) (pc := 31) d_M_operate_31 (by decide) ?_
        exact w_M_operate_b46 hQ a1 v3 (2 : Int32) s2 h
    · rw [if_neg c6] at h
      refine x_iconst (v := (1 : Int32)) (pc := 20) d_M_operate_20 (by decide) ?_
      refine x_goto (tgt := 46) (pc := 21) d_M_operate_21 (by decide) ?_
      exact w_M_operate_b46 hQ a1 v3 (1 : Int32) s2 h
  · rw [if_pos c5] at h
    refine x_iconst (v := (0 : Int32)) (pc := 10) d_M_operate_10 (by decide) ?_
    refine x_goto (tgt := 46) (pc := 11) d_M_operate_11 (by decide) ?_
    exact w_M_operate_b46 hQ a1 v3 (0 : Int32) s2 h
def f_M_token_b206 (k12 : Int32 → MT → Option (Int32 × MT)) (l1 : Int32) (s : MT) : Option (Int32 × MT) := k12 (l1 + Int32.ofInt 1) s
theorem w_M_token_b206 {sc : xSc} {d : Nat} {Q : xR → xH → Prop} {R : xH} {sZ : MT} {rZ : Int32} (k12 : Int32 → MT → Option (Int32 × MT)) (hk12 : ∀ (l1 : Int32) (s : MT), k12 l1 s = some (rZ, sZ) → xW sc m_M_token (d + 4) Q (mH s R) 12 [some (vA 373), some (vI l1), none] []) (hQ : Q (.inl (some (vI rZ))) (mH sZ R)) (l1 : Int32) (s : MT) (h : f_M_token_b206 k12 l1 s = some (rZ, sZ)) : xW sc m_M_token (d + 4) Q (mH s R) 206 [some (vA 373), some (vI l1), none] [] := by
  unfold f_M_token_b206 at h
  refine x_iinc (pc := 206) d_M_token_206 rfl (by decide) ?_
  show xW sc m_M_token (d + 4) Q (mH s R) 209 [some (vA 373), some (vI (l1 + Int32.ofInt 1)), none] []
  refine x_goto (tgt := 12) (pc := 209) d_M_token_209 (by decide) ?_
  exact hk12 (l1 + Int32.ofInt 1) s h
def f_M_token_b180  (l2 : Int32) (s : MT) : Option (Int32 × MT) := some (l2, s)
theorem w_M_token_b180 {sc : xSc} {d : Nat} {Q : xR → xH → Prop} {R : xH} {sZ : MT} {rZ : Int32}  (hQ : Q (.inl (some (vI rZ))) (mH sZ R)) (l2 : Int32) (s : MT) (h : f_M_token_b180  l2 s = some (rZ, sZ)) : xW sc m_M_token (d + 4) Q (mH s R) 180 [none, none, some (vI l2)] [] := by
  unfold f_M_token_b180 at h
  refine x_iload_n (pc := 180) d_M_token_180 rfl ?_
  cases h
  exact x_iret (ty := .int) (pc := 181) d_M_token_181 rfl (rfl) hQ
def f_M_token_b168 (k12 : Int32 → MT → Option (Int32 × MT)) (l1 : Int32) (t0 : Int32) (s : MT) : Option (Int32 × MT) := (if t0 = 0 then (if (mI 27 s) = 0 then f_M_token_b180 t0 s else (f_M_move s ((1170 : Int32) + (mI 26 s)) (40 : Int32)).bind fun s4 => f_M_token_b206 k12 l1 (sI 26 ((mI 26 s4) + (1 : Int32)) s4)) else f_M_token_b180 t0 s)
theorem w_M_token_b168 {sc : xSc} {d : Nat} {Q : xR → xH → Prop} {R : xH} {sZ : MT} {rZ : Int32} (k12 : Int32 → MT → Option (Int32 × MT)) (hk12 : ∀ (l1 : Int32) (s : MT), k12 l1 s = some (rZ, sZ) → xW sc m_M_token (d + 4) Q (mH s R) 12 [some (vA 373), some (vI l1), none] []) (hQ : Q (.inl (some (vI rZ))) (mH sZ R)) (l1 : Int32) (t0 : Int32) (s : MT) (h : f_M_token_b168 k12 l1 t0 s = some (rZ, sZ)) : xW sc m_M_token (d + 4) Q (mH s R) 168 [some (vA 373), some (vI l1), none] [vI t0] := by
  unfold f_M_token_b168 at h
  refine x_istore_n (pc := 168) d_M_token_168 (by decide) ?_
  show xW sc m_M_token (d + 4) Q (mH s R) 169 [some (vA 373), some (vI l1), some (vI t0)] []
  refine x_iload_n (pc := 169) d_M_token_169 rfl ?_
  refine x_if_ne (tgt := 180) (pc := 170) d_M_token_170 (by decide) (fun c1 => ?_) (fun c1 => ?_)
  · rw [if_neg c1] at h
    exact x_wk (L' := [none, none, some (vI t0)]) ⟨Or.inl rfl, Or.inl rfl, Or.inr rfl, trivial⟩ (w_M_token_b180 hQ t0 s h)
  · rw [if_pos c1] at h
    refine x_aload_n (pc := 173) d_M_token_173 rfl ?_
    refine x_getf (c := 1) (k := 27) (v := vI (mI 27 s)) (pc := 174) d_M_token_174 l_M_330 (xm_at s R) rfl ?_
    refine x_if_ne (tgt := 182) (pc := 177) d_M_token_177 (by decide) (fun c2 => ?_) (fun c2 => ?_)
    · rw [if_neg c2] at h
      refine x_aload_n (pc := 182) d_M_token_182 rfl ?_
      refine x_sipush (v := (1170 : Int32)) (pc := 183) d_M_token_183 (by decide) ?_
      refine x_aload_n (pc := 186) d_M_token_186 rfl ?_
      refine x_getf (c := 1) (k := 26) (v := vI (mI 26 s)) (pc := 187) d_M_token_187 l_M_333 (xm_at s R) rfl ?_
      refine x_iadd (pc := 190) d_M_token_190 ?_
      refine x_bipush (v := (40 : Int32)) (pc := 191) d_M_token_191 (by decide) ?_
      obtain ⟨s4, e3, h⟩ := Option.bind_eq_some_iff.mp h
      refine x_invv (c := 1) (av := [vI ((1170 : Int32) + (mI 26 s)), vI (40 : Int32)]) (st := []) (pc := 193) d_M_token_193 cv_M_254 y_M_move (xm_at s R) rfl (Nat.le_of_ble_eq_true rfl) (Nat.le_of_ble_eq_true rfl) (w_M_move (d := d + 3) (Q := fun r h' => r = .inl none ∧ h' = mH s4 R) (R := R) ⟨rfl, rfl⟩ s ((1170 : Int32) + (mI 26 s)) (40 : Int32) e3) (fun v h' z => ?_) (fun a h' z => nomatch z.1)
      obtain ⟨z1, z2⟩ := z
      subst z2
      cases z1
      show xW sc m_M_token (d + 4) Q (mH s4 R) 196 [some (vA 373), some (vI l1), some (vI t0)] []
      refine x_aload_n (pc := 196) d_M_token_196 rfl ?_
      refine x_dup (pc := 197) d_M_token_197 rfl ?_
      refine x_getf (c := 1) (k := 26) (v := vI (mI 26 s4)) (pc := 198) d_M_token_198 l_M_333 (xm_at s4 R) rfl ?_
      refine x_iconst (v := (1 : Int32)) (pc := 201) d_M_token_201 (by decide) ?_
      refine x_iadd (pc := 202) d_M_token_202 ?_
      refine xm_p26 (pc := 203) d_M_token_203 l_M_333 ?_
      exact x_wk (L' := [some (vA 373), some (vI l1), none]) ⟨Or.inr rfl, Or.inr rfl, Or.inl rfl, trivial⟩ (w_M_token_b206 k12 hk12 hQ l1 (sI 26 ((mI 26 s4) + (1 : Int32)) s4) h)
    · rw [if_pos c2] at h
      exact x_wk (L' := [none, none, some (vI t0)]) ⟨Or.inl rfl, Or.inl rfl, Or.inr rfl, trivial⟩ (w_M_token_b180 hQ t0 s h)
def f_M_token_b81  (t0 : Int32) (s : MT) : Option (Int32 × MT) := some (t0, s)
theorem w_M_token_b81 {sc : xSc} {d : Nat} {Q : xR → xH → Prop} {R : xH} {sZ : MT} {rZ : Int32}  (hQ : Q (.inl (some (vI rZ))) (mH sZ R)) (t0 : Int32) (s : MT) (h : f_M_token_b81  t0 s = some (rZ, sZ)) : xW sc m_M_token (d + 4) Q (mH s R) 81 [none, none, none] [vI t0] := by
  unfold f_M_token_b81 at h
  cases h
  exact x_iret (ty := .int) (pc := 81) d_M_token_81 rfl (rfl) hQ
def f_M_token_b57 (k12 : Int32 → MT → Option (Int32 × MT)) (l1 : Int32) (s : MT) : Option (Int32 × MT) := (if (mI 25 s) = (mI 24 s) then (if (mI 27 s) = 0 then f_M_token_b81 (-1 : Int32) s else f_M_token_b81 (15 : Int32) s) else (if xin (mI 25 s) 120 = true then (if (mA 23 s (mI 25 s).toNatClampNeg) = (123 : Int32) then (if (mI 27 s) = (4 : Int32) then some ((12 : Int32), s) else (if xin (mI 27 s) 4 = true then f_M_token_b206 k12 l1 (sI 25 ((mI 25 (sI 27 ((mI 27 (sA 28 (va_up (mA 28 s) (mI 27 s).toNatClampNeg (mI 26 s)) s)) + (1 : Int32)) (sA 28 (va_up (mA 28 s) (mI 27 s).toNatClampNeg (mI 26 s)) s))) + (1 : Int32)) (sI 27 ((mI 27 (sA 28 (va_up (mA 28 s) (mI 27 s).toNatClampNeg (mI 26 s)) s)) + (1 : Int32)) (sA 28 (va_up (mA 28 s) (mI 27 s).toNatClampNeg (mI 26 s)) s))) else none)) else (if xin (mI 25 s) 120 = true then (if (mA 23 s (mI 25 s).toNatClampNeg) = (125 : Int32) then (f_M_close s).bind fun (v12, s11) => f_M_token_b168 k12 l1 v12 s11 else (f_M_readSimple s).bind fun (v8, s7) => f_M_token_b168 k12 l1 v8 s7) else none)) else none))
theorem w_M_token_b57 {sc : xSc} {d : Nat} {Q : xR → xH → Prop} {R : xH} {sZ : MT} {rZ : Int32} (k12 : Int32 → MT → Option (Int32 × MT)) (hk12 : ∀ (l1 : Int32) (s : MT), k12 l1 s = some (rZ, sZ) → xW sc m_M_token (d + 4) Q (mH s R) 12 [some (vA 373), some (vI l1), none] []) (hQ : Q (.inl (some (vI rZ))) (mH sZ R)) (l1 : Int32) (s : MT) (h : f_M_token_b57 k12 l1 s = some (rZ, sZ)) : xW sc m_M_token (d + 4) Q (mH s R) 57 [some (vA 373), some (vI l1), none] [] := by
  unfold f_M_token_b57 at h
  refine x_aload_n (pc := 57) d_M_token_57 rfl ?_
  refine x_getf (c := 1) (k := 25) (v := vI (mI 25 s)) (pc := 58) d_M_token_58 l_M_281 (xm_at s R) rfl ?_
  refine x_aload_n (pc := 61) d_M_token_61 rfl ?_
  refine x_getf (c := 1) (k := 24) (v := vI (mI 24 s)) (pc := 62) d_M_token_62 l_M_270 (xm_at s R) rfl ?_
  refine x_icmp_ne (tgt := 82) (pc := 65) d_M_token_65 (by decide) (fun c1 => ?_) (fun c1 => ?_)
  · rw [if_neg c1] at h
    refine x_aload_n (pc := 82) d_M_token_82 rfl ?_
    refine x_getf (c := 1) (k := 23) (v := vA 389) (pc := 83) d_M_token_83 l_M_61 (xm_at s R) rfl ?_
    refine x_aload_n (pc := 86) d_M_token_86 rfl ?_
    refine x_getf (c := 1) (k := 25) (v := vI (mI 25 s)) (pc := 87) d_M_token_87 l_M_281 (xm_at s R) rfl ?_
    obtain ⟨c2, h⟩ := ite_some h
    refine x_cald (pc := 90) d_M_token_90 (xm_a23 s R) (xin_vp c2) ?_
    refine x_bipush (v := (123 : Int32)) (pc := 91) d_M_token_91 (by decide) ?_
    refine x_icmp_ne (tgt := 143) (pc := 93) d_M_token_93 (by decide) (fun c3 => ?_) (fun c3 => ?_)
    · rw [if_neg c3] at h
      refine x_aload_n (pc := 143) d_M_token_143 rfl ?_
      refine x_getf (c := 1) (k := 23) (v := vA 389) (pc := 144) d_M_token_144 l_M_61 (xm_at s R) rfl ?_
      refine x_aload_n (pc := 147) d_M_token_147 rfl ?_
      refine x_getf (c := 1) (k := 25) (v := vI (mI 25 s)) (pc := 148) d_M_token_148 l_M_281 (xm_at s R) rfl ?_
      obtain ⟨c4, h⟩ := ite_some h
      refine x_cald (pc := 151) d_M_token_151 (xm_a23 s R) (xin_vp c4) ?_
      refine x_bipush (v := (125 : Int32)) (pc := 152) d_M_token_152 (by decide) ?_
      refine x_icmp_ne (tgt := 164) (pc := 154) d_M_token_154 (by decide) (fun c5 => ?_) (fun c5 => ?_)
      · rw [if_neg c5] at h
        refine x_aload_n (pc := 164) d_M_token_164 rfl ?_
        obtain ⟨⟨v8, s7⟩, e6, h⟩ := Option.bind_eq_some_iff.mp h
        dsimp only at h
        refine x_invv (c := 1) (av := []) (st := []) (pc := 165) d_M_token_165 cv_M_343 y_M_readSimple (xm_at s R) rfl (Nat.le_of_ble_eq_true rfl) (Nat.le_of_ble_eq_true rfl) (w_M_readSimple (d := d + 0) (Q := fun r h' => r = .inl (some (vI v8)) ∧ h' = mH s7 R) (R := R) ⟨rfl, rfl⟩ s  e6) (fun v h' z => ?_) (fun a h' z => nomatch z.1)
        obtain ⟨z1, z2⟩ := z
        subst z2
        cases z1
        show xW sc m_M_token (d + 4) Q (mH s7 R) 168 [some (vA 373), some (vI l1), none] [vI v8]
        exact w_M_token_b168 k12 hk12 hQ l1 v8 s7 h
      · rw [if_pos c5] at h
        refine x_aload_n (pc := 157) d_M_token_157 rfl ?_
        obtain ⟨⟨v12, s11⟩, e10, h⟩ := Option.bind_eq_some_iff.mp h
        dsimp only at h
        refine x_invv (c := 1) (av := []) (st := []) (pc := 158) d_M_token_158 cv_M_340 y_M_close (xm_at s R) rfl (Nat.le_of_ble_eq_true rfl) (Nat.le_of_ble_eq_true rfl) (w_M_close (d := d + 1) (Q := fun r h' => r = .inl (some (vI v12)) ∧ h' = mH s11 R) (R := R) ⟨rfl, rfl⟩ s  e10) (fun v h' z => ?_) (fun a h' z => nomatch z.1)
        obtain ⟨z1, z2⟩ := z
        subst z2
        cases z1
        show xW sc m_M_token (d + 4) Q (mH s11 R) 161 [some (vA 373), some (vI l1), none] [vI v12]
        refine x_goto (tgt := 168) (pc := 161) d_M_token_161 (by decide) ?_
        exact w_M_token_b168 k12 hk12 hQ l1 v12 s11 h
    · rw [if_pos c3] at h
      refine x_aload_n (pc := 96) d_M_token_96 rfl ?_
      refine x_getf (c := 1) (k := 27) (v := vI (mI 27 s)) (pc := 97) d_M_token_97 l_M_330 (xm_at s R) rfl ?_
      refine x_iconst (v := (4 : Int32)) (pc := 100) d_M_token_100 (by decide) ?_
      refine x_icmp_ne (tgt := 107) (pc := 101) d_M_token_101 (by decide) (fun c14 => ?_) (fun c14 => ?_)
      · rw [if_neg c14] at h
        refine x_aload_n (pc := 107) d_M_token_107 rfl ?_
        refine x_getf (c := 1) (k := 28) (v := vA 390) (pc := 108) d_M_token_108 l_M_65 (xm_at s R) rfl ?_
        refine x_aload_n (pc := 111) d_M_token_111 rfl ?_
        refine x_getf (c := 1) (k := 27) (v := vI (mI 27 s)) (pc := 112) d_M_token_112 l_M_330 (xm_at s R) rfl ?_
        refine x_aload_n (pc := 115) d_M_token_115 rfl ?_
        refine x_getf (c := 1) (k := 26) (v := vI (mI 26 s)) (pc := 116) d_M_token_116 l_M_333 (xm_at s R) rfl ?_
        obtain ⟨c15, h⟩ := ite_some h
        refine xm_s28 (pc := 119) d_M_token_119 c15 ?_
        refine x_aload_n (pc := 120) d_M_token_120 rfl ?_
        refine x_dup (pc := 121) d_M_token_121 rfl ?_
        refine x_getf (c := 1) (k := 27) (v := vI (mI 27 (sA 28 (va_up (mA 28 s) (mI 27 s).toNatClampNeg (mI 26 s)) s))) (pc := 122) d_M_token_122 l_M_330 (xm_at (sA 28 (va_up (mA 28 s) (mI 27 s).toNatClampNeg (mI 26 s)) s) R) rfl ?_
        refine x_iconst (v := (1 : Int32)) (pc := 125) d_M_token_125 (by decide) ?_
        refine x_iadd (pc := 126) d_M_token_126 ?_
        refine xm_p27 (pc := 127) d_M_token_127 l_M_330 ?_
        refine x_aload_n (pc := 130) d_M_token_130 rfl ?_
        refine x_dup (pc := 131) d_M_token_131 rfl ?_
        refine x_getf (c := 1) (k := 25) (v := vI (mI 25 (sI 27 ((mI 27 (sA 28 (va_up (mA 28 s) (mI 27 s).toNatClampNeg (mI 26 s)) s)) + (1 : Int32)) (sA 28 (va_up (mA 28 s) (mI 27 s).toNatClampNeg (mI 26 s)) s)))) (pc := 132) d_M_token_132 l_M_281 (xm_at (sI 27 ((mI 27 (sA 28 (va_up (mA 28 s) (mI 27 s).toNatClampNeg (mI 26 s)) s)) + (1 : Int32)) (sA 28 (va_up (mA 28 s) (mI 27 s).toNatClampNeg (mI 26 s)) s)) R) rfl ?_
        refine x_iconst (v := (1 : Int32)) (pc := 135) d_M_token_135 (by decide) ?_
        refine x_iadd (pc := 136) d_M_token_136 ?_
        refine xm_p25 (pc := 137) d_M_token_137 l_M_281 ?_
        refine x_goto (tgt := 206) (pc := 140) d_M_token_140 (by decide) ?_
        exact w_M_token_b206 k12 hk12 hQ l1 (sI 25 ((mI 25 (sI 27 ((mI 27 (sA 28 (va_up (mA 28 s) (mI 27 s).toNatClampNeg (mI 26 s)) s)) + (1 : Int32)) (sA 28 (va_up (mA 28 s) (mI 27 s).toNatClampNeg (mI 26 s)) s))) + (1 : Int32)) (sI 27 ((mI 27 (sA 28 (va_up (mA 28 s) (mI 27 s).toNatClampNeg (mI 26 s)) s)) + (1 : Int32)) (sA 28 (va_up (mA 28 s) (mI 27 s).toNatClampNeg (mI 26 s)) s))) h
      · rw [if_pos c14] at h
        refine x_bipush (v := (12 : Int32)) (pc := 104) d_M_token_104 (by decide) ?_
        cases h
        exact x_iret (ty := .int) (pc := 106) d_M_token_106 rfl (rfl) hQ
  · rw [if_pos c1] at h
    refine x_aload_n (pc := 68) d_M_token_68 rfl ?_
    refine x_getf (c := 1) (k := 27) (v := vI (mI 27 s)) (pc := 69) d_M_token_69 l_M_330 (xm_at s R) rfl ?_
    refine x_if_ne (tgt := 79) (pc := 72) d_M_token_72 (by decide) (fun c16 => ?_) (fun c16 => ?_)
    · rw [if_neg c16] at h
      refine x_bipush (v := (15 : Int32)) (pc := 79) d_M_token_79 (by decide) ?_
      exact x_wk (L' := [none, none, none]) ⟨Or.inl rfl, Or.inl rfl, Or.inl rfl, trivial⟩ (w_M_token_b81 hQ (15 : Int32) s h)
    · rw [if_pos c16] at h
      refine x_iconst (v := (-1 : Int32)) (pc := 75) d_M_token_75 (by decide) ?_
      refine x_goto (tgt := 81) (pc := 76) d_M_token_76 (by decide) ?_
      exact x_wk (L' := [none, none, none]) ⟨Or.inl rfl, Or.inl rfl, Or.inl rfl, trivial⟩ (w_M_token_b81 hQ (-1 : Int32) s h)
def f_M_token_b19 (k12 : Int32 → MT → Option (Int32 × MT)) : Nat → Int32 → MT → Option (Int32 × MT)
  | 0, _, _ => none
  | n + 1, l1, s => (if (mI 24 s) ≤ (mI 25 s) then f_M_token_b57 k12 l1 s else (if xin (mI 25 s) 120 = true then (if (mA 23 s (mI 25 s).toNatClampNeg) = (32 : Int32) then (f_M_token_b19 k12 n) l1 (sI 25 ((mI 25 s) + (1 : Int32)) s) else f_M_token_b57 k12 l1 s) else none))
theorem w_M_token_b19 {sc : xSc} {d : Nat} {Q : xR → xH → Prop} {R : xH} {sZ : MT} {rZ : Int32} (k12 : Int32 → MT → Option (Int32 × MT)) (hk12 : ∀ (l1 : Int32) (s : MT), k12 l1 s = some (rZ, sZ) → xW sc m_M_token (d + 4) Q (mH s R) 12 [some (vA 373), some (vI l1), none] []) (hQ : Q (.inl (some (vI rZ))) (mH sZ R)) : ∀ (n : Nat) (l1 : Int32) (s : MT), f_M_token_b19 k12 n l1 s = some (rZ, sZ) → xW sc m_M_token (d + 4) Q (mH s R) 19 [some (vA 373), some (vI l1), none] [] := by
  intro n
  induction n with
  | zero =>
    intro l1 s h
    cases h
  | succ n hk19 =>
    intro l1 s h
    unfold f_M_token_b19 at h
    refine x_aload_n (pc := 19) d_M_token_19 rfl ?_
    refine x_getf (c := 1) (k := 25) (v := vI (mI 25 s)) (pc := 20) d_M_token_20 l_M_281 (xm_at s R) rfl ?_
    refine x_aload_n (pc := 23) d_M_token_23 rfl ?_
    refine x_getf (c := 1) (k := 24) (v := vI (mI 24 s)) (pc := 24) d_M_token_24 l_M_270 (xm_at s R) rfl ?_
    refine x_icmp_ge (tgt := 57) (pc := 27) d_M_token_27 (by decide) (fun c1 => ?_) (fun c1 => ?_)
    · rw [if_pos c1] at h
      exact w_M_token_b57 k12 hk12 hQ l1 s h
    · rw [if_neg c1] at h
      refine x_aload_n (pc := 30) d_M_token_30 rfl ?_
      refine x_getf (c := 1) (k := 23) (v := vA 389) (pc := 31) d_M_token_31 l_M_61 (xm_at s R) rfl ?_
      refine x_aload_n (pc := 34) d_M_token_34 rfl ?_
      refine x_getf (c := 1) (k := 25) (v := vI (mI 25 s)) (pc := 35) d_M_token_35 l_M_281 (xm_at s R) rfl ?_
      obtain ⟨c2, h⟩ := ite_some h
      refine x_cald (pc := 38) d_M_token_38 (xm_a23 s R) (xin_vp c2) ?_
      refine x_bipush (v := (32 : Int32)) (pc := 39) d_M_token_39 (by decide) ?_
      refine x_icmp_ne (tgt := 57) (pc := 41) d_M_token_41 (by decide) (fun c3 => ?_) (fun c3 => ?_)
      · rw [if_neg c3] at h
        exact w_M_token_b57 k12 hk12 hQ l1 s h
      · rw [if_pos c3] at h
        refine x_aload_n (pc := 44) d_M_token_44 rfl ?_
        refine x_dup (pc := 45) d_M_token_45 rfl ?_
        refine x_getf (c := 1) (k := 25) (v := vI (mI 25 s)) (pc := 46) d_M_token_46 l_M_281 (xm_at s R) rfl ?_
        refine x_iconst (v := (1 : Int32)) (pc := 49) d_M_token_49 (by decide) ?_
        refine x_iadd (pc := 50) d_M_token_50 ?_
        refine xm_p25 (pc := 51) d_M_token_51 l_M_281 ?_
        refine x_goto (tgt := 19) (pc := 54) d_M_token_54 (by decide) ?_
        exact hk19 l1 (sI 25 ((mI 25 s) + (1 : Int32)) s) h
def f_M_token_b12  : Nat → Int32 → MT → Option (Int32 × MT)
  | 0, _, _ => none
  | n + 1, l1, s => (if (300 : Int32) ≤ l1 then some ((15 : Int32), s) else f_M_token_b19 (f_M_token_b12 n) mF l1 s)
theorem w_M_token_b12 {sc : xSc} {d : Nat} {Q : xR → xH → Prop} {R : xH} {sZ : MT} {rZ : Int32}  (hQ : Q (.inl (some (vI rZ))) (mH sZ R)) : ∀ (n : Nat) (l1 : Int32) (s : MT), f_M_token_b12  n l1 s = some (rZ, sZ) → xW sc m_M_token (d + 4) Q (mH s R) 12 [some (vA 373), some (vI l1), none] [] := by
  intro n
  induction n with
  | zero =>
    intro l1 s h
    cases h
  | succ n hk12 =>
    intro l1 s h
    unfold f_M_token_b12 at h
    refine x_iload_n (pc := 12) d_M_token_12 rfl ?_
    refine x_sipush (v := (300 : Int32)) (pc := 13) d_M_token_13 (by decide) ?_
    refine x_icmp_ge (tgt := 212) (pc := 16) d_M_token_16 (by decide) (fun c1 => ?_) (fun c1 => ?_)
    · rw [if_pos c1] at h
      refine x_bipush (v := (15 : Int32)) (pc := 212) d_M_token_212 (by decide) ?_
      cases h
      exact x_iret (ty := .int) (pc := 214) d_M_token_214 rfl (rfl) hQ
    · rw [if_neg c1] at h
      exact w_M_token_b19 (f_M_token_b12 n) hk12 hQ mF l1 s h
def f_M_token (s : MT) : Option (Int32 × MT) := f_M_token_b12 mF (0 : Int32) (sI 26 (0 : Int32) (sI 27 (0 : Int32) s))
theorem w_M_token {sc : xSc} {d : Nat} {Q : xR → xH → Prop} {R : xH} {sZ : MT} {rZ : Int32} (hQ : Q (.inl (some (vI rZ))) (mH sZ R)) (s : MT) (h : f_M_token s = some (rZ, sZ)) : xW sc m_M_token (d + 4) Q (mH s R) 0 (xent [vA 373] m_M_token.2.2.1) [] := by
  show xW sc m_M_token (d + 4) Q (mH s R) 0 [some (vA 373), none, none] []
  unfold f_M_token at h
  refine x_aload_n (pc := 0) d_M_token_0 rfl ?_
  refine x_iconst (v := (0 : Int32)) (pc := 1) d_M_token_1 (by decide) ?_
  refine xm_p27 (pc := 2) d_M_token_2 l_M_330 ?_
  refine x_aload_n (pc := 5) d_M_token_5 rfl ?_
  refine x_iconst (v := (0 : Int32)) (pc := 6) d_M_token_6 (by decide) ?_
  refine xm_p26 (pc := 7) d_M_token_7 l_M_333 ?_
  refine x_iconst (v := (0 : Int32)) (pc := 10) d_M_token_10 (by decide) ?_
  refine x_istore_n (pc := 11) d_M_token_11 (by decide) ?_
  show xW sc m_M_token (d + 4) Q (mH (sI 26 (0 : Int32) (sI 27 (0 : Int32) s)) R) 12 [some (vA 373), some (vI (0 : Int32)), none] []
  exact w_M_token_b12 hQ mF (0 : Int32) (sI 26 (0 : Int32) (sI 27 (0 : Int32) s)) h
def f_M_doValue_b165  (l1 : Int32) (s : MT) : Option (Int32 × MT) := some (l1, s)
theorem w_M_doValue_b165 {sc : xSc} {d : Nat} {Q : xR → xH → Prop} {R : xH} {sZ : MT} {rZ : Int32}  (hQ : Q (.inl (some (vI rZ))) (mH sZ R)) (l1 : Int32) (s : MT) (h : f_M_doValue_b165  l1 s = some (rZ, sZ)) : xW sc m_M_doValue (d + 5) Q (mH s R) 165 [none, some (vI l1), none, none, none] [] := by
  unfold f_M_doValue_b165 at h
  refine x_iload_n (pc := 165) d_M_doValue_165 rfl ?_
  cases h
  exact x_iret (ty := .int) (pc := 166) d_M_doValue_166 rfl (rfl) hQ
def f_M_doValue_b159 (k4 : Int32 → Int32 → MT → Option (Int32 × MT)) (l1 : Int32) (l2 : Int32) (s : MT) : Option (Int32 × MT) := k4 l1 (l2 + Int32.ofInt 1) s
theorem w_M_doValue_b159 {sc : xSc} {d : Nat} {Q : xR → xH → Prop} {R : xH} {sZ : MT} {rZ : Int32} (k4 : Int32 → Int32 → MT → Option (Int32 × MT)) (hk4 : ∀ (l1 : Int32) (l2 : Int32) (s : MT), k4 l1 l2 s = some (rZ, sZ) → xW sc m_M_doValue (d + 5) Q (mH s R) 4 [some (vA 373), some (vI l1), some (vI l2), none, none] []) (hQ : Q (.inl (some (vI rZ))) (mH sZ R)) (l1 : Int32) (l2 : Int32) (s : MT) (h : f_M_doValue_b159 k4 l1 l2 s = some (rZ, sZ)) : xW sc m_M_doValue (d + 5) Q (mH s R) 159 [some (vA 373), some (vI l1), some (vI l2), none, none] [] := by
  unfold f_M_doValue_b159 at h
  refine x_iinc (pc := 159) d_M_doValue_159 rfl (by decide) ?_
  show xW sc m_M_doValue (d + 5) Q (mH s R) 162 [some (vA 373), some (vI l1), some (vI (l2 + Int32.ofInt 1)), none, none] []
  refine x_goto (tgt := 4) (pc := 162) d_M_doValue_162 (by decide) ?_
  exact hk4 l1 (l2 + Int32.ofInt 1) s h
def f_M_doValue_b91 (k4 : Int32 → Int32 → MT → Option (Int32 × MT)) (l2 : Int32) (t0 : Int32) (s : MT) : Option (Int32 × MT) := f_M_doValue_b159 k4 t0 l2 s
theorem w_M_doValue_b91 {sc : xSc} {d : Nat} {Q : xR → xH → Prop} {R : xH} {sZ : MT} {rZ : Int32} (k4 : Int32 → Int32 → MT → Option (Int32 × MT)) (hk4 : ∀ (l1 : Int32) (l2 : Int32) (s : MT), k4 l1 l2 s = some (rZ, sZ) → xW sc m_M_doValue (d + 5) Q (mH s R) 4 [some (vA 373), some (vI l1), some (vI l2), none, none] []) (hQ : Q (.inl (some (vI rZ))) (mH sZ R)) (l2 : Int32) (t0 : Int32) (s : MT) (h : f_M_doValue_b91 k4 l2 t0 s = some (rZ, sZ)) : xW sc m_M_doValue (d + 5) Q (mH s R) 91 [some (vA 373), none, some (vI l2), none, none] [vI t0] := by
  unfold f_M_doValue_b91 at h
  refine x_istore_n (pc := 91) d_M_doValue_91 (by decide) ?_
  show xW sc m_M_doValue (d + 5) Q (mH s R) 92 [some (vA 373), some (vI t0), some (vI l2), none, none] []
  refine x_goto (tgt := 159) (pc := 92) d_M_doValue_92 (by decide) ?_
  exact w_M_doValue_b159 k4 hk4 hQ t0 l2 s h
def f_M_doValue_b4  : Nat → Int32 → Int32 → MT → Option (Int32 × MT)
  | 0, _, _, _ => none
  | n + 1, l1, l2, s => (if (1200 : Int32) ≤ l2 then f_M_doValue_b165 l1 s else (if l1 = (-1 : Int32) then (f_M_step s).bind fun (v5, s4) => (if v5 = 0 then (if xin (40 : Int32) 1300 = true then (if (mA 1 s4 (40 : Int32).toNatClampNeg) = (11 : Int32) then (if xin (40 : Int32) 1300 = true then (f_M_found s4 (mL 2 s4 (40 : Int32).toNatClampNeg)).bind fun (v13, s12) => (if xin (40 : Int32) 1300 = true then (f_M_operatorOf s12 (mL 2 s12 (40 : Int32).toNatClampNeg)).bind fun (v18, s17) => (if v13 = (-1 : Int32) then (if v18 = (-1 : Int32) then f_M_doValue_b91 (f_M_doValue_b4 n) l2 (5 : Int32) s17 else (f_M_operate s17 v18).bind fun (v45, s44) => f_M_doValue_b91 (f_M_doValue_b4 n) l2 v45 s44) else (f_M_isProcedure s17 v13).bind fun (v23, s22) => (if v23 = 0 then (if xin v13 1300 = true then (if (mA 1 s22 v13.toNatClampNeg) = (11 : Int32) then (if (mI 16 s22) = (8 : Int32) then some ((12 : Int32), s22) else (f_M_frame s22 (2 : Int32) (0 : Int64)).bind fun s34 => (f_M_move s34 (40 : Int32) v13).bind fun s36 => f_M_doValue_b159 (f_M_doValue_b4 n) l1 l2 s36) else (f_M_pushValue s22 v13).bind fun (v30, s29) => some (v30, s29)) else none) else (if xin v13 1300 = true then (f_M_runArray s22 (mL 2 s22 v13.toNatClampNeg)).bind fun (v40, s39) => some (v40, s39) else none))) else none) else none) else (f_M_pushValue s4 (40 : Int32)).bind fun (v49, s48) => some (v49, s48)) else none) else some ((16 : Int32), s4)) else f_M_doValue_b165 l1 s))
theorem w_M_doValue_b4 {sc : xSc} {d : Nat} {Q : xR → xH → Prop} {R : xH} {sZ : MT} {rZ : Int32}  (hQ : Q (.inl (some (vI rZ))) (mH sZ R)) : ∀ (n : Nat) (l1 : Int32) (l2 : Int32) (s : MT), f_M_doValue_b4  n l1 l2 s = some (rZ, sZ) → xW sc m_M_doValue (d + 5) Q (mH s R) 4 [some (vA 373), some (vI l1), some (vI l2), none, none] [] := by
  intro n
  induction n with
  | zero =>
    intro l1 l2 s h
    cases h
  | succ n hk4 =>
    intro l1 l2 s h
    unfold f_M_doValue_b4 at h
    refine x_iload_n (pc := 4) d_M_doValue_4 rfl ?_
    refine x_sipush (v := (1200 : Int32)) (pc := 5) d_M_doValue_5 (by decide) ?_
    refine x_icmp_ge (tgt := 165) (pc := 8) d_M_doValue_8 (by decide) (fun c1 => ?_) (fun c1 => ?_)
    · rw [if_pos c1] at h
      exact x_wk (L' := [none, some (vI l1), none, none, none]) ⟨Or.inl rfl, Or.inr rfl, Or.inl rfl, Or.inl rfl, Or.inl rfl, trivial⟩ (w_M_doValue_b165 hQ l1 s h)
    · rw [if_neg c1] at h
      refine x_iload_n (pc := 11) d_M_doValue_11 rfl ?_
      refine x_iconst (v := (-1 : Int32)) (pc := 12) d_M_doValue_12 (by decide) ?_
      refine x_icmp_ne (tgt := 165) (pc := 13) d_M_doValue_13 (by decide) (fun c2 => ?_) (fun c2 => ?_)
      · rw [if_neg c2] at h
        exact x_wk (L' := [none, some (vI l1), none, none, none]) ⟨Or.inl rfl, Or.inr rfl, Or.inl rfl, Or.inl rfl, Or.inl rfl, trivial⟩ (w_M_doValue_b165 hQ l1 s h)
      · rw [if_pos c2] at h
        refine x_aload_n (pc := 16) d_M_doValue_16 rfl ?_
        obtain ⟨⟨v5, s4⟩, e3, h⟩ := Option.bind_eq_some_iff.mp h
        dsimp only at h
        refine x_invv (c := 1) (av := []) (st := []) (pc := 17) d_M_doValue_17 cv_M_366 y_M_step (xm_at s R) rfl (Nat.le_of_ble_eq_true rfl) (Nat.le_of_ble_eq_true rfl) (w_M_step (d := d + 4) (Q := fun r h' => r = .inl (some (vI v5)) ∧ h' = mH s4 R) (R := R) ⟨rfl, rfl⟩ s  e3) (fun v h' z => ?_) (fun a h' z => nomatch z.1)
        obtain ⟨z1, z2⟩ := z
        subst z2
        cases z1
        show xW sc m_M_doValue (d + 5) Q (mH s4 R) 20 [some (vA 373), some (vI l1), some (vI l2), none, none] [vI v5]
        refine x_if_eq (tgt := 26) (pc := 20) d_M_doValue_20 (by decide) (fun c7 => ?_) (fun c7 => ?_)
        · rw [if_pos c7] at h
          refine x_aload_n (pc := 26) d_M_doValue_26 rfl ?_
          refine x_getf (c := 1) (k := 1) (v := vA 374) (pc := 27) d_M_doValue_27 l_M_7 (xm_at s4 R) rfl ?_
          refine x_bipush (v := (40 : Int32)) (pc := 30) d_M_doValue_30 (by decide) ?_
          obtain ⟨c8, h⟩ := ite_some h
          refine x_iald (pc := 32) d_M_doValue_32 (xm_a1 s4 R) (xin_vp c8) ?_
          refine x_bipush (v := (11 : Int32)) (pc := 33) d_M_doValue_33 (by decide) ?_
          refine x_icmp_eq (tgt := 45) (pc := 35) d_M_doValue_35 (by decide) (fun c9 => ?_) (fun c9 => ?_)
          · rw [if_pos c9] at h
            refine x_aload_n (pc := 45) d_M_doValue_45 rfl ?_
            refine x_aload_n (pc := 46) d_M_doValue_46 rfl ?_
            refine x_getf (c := 1) (k := 2) (v := vA 375) (pc := 47) d_M_doValue_47 l_M_13 (xm_at s4 R) rfl ?_
            refine x_bipush (v := (40 : Int32)) (pc := 50) d_M_doValue_50 (by decide) ?_
            obtain ⟨c10, h⟩ := ite_some h
            refine x_lald (pc := 52) d_M_doValue_52 (xm_a2 s4 R) (xin_vp c10) ?_
            obtain ⟨⟨v13, s12⟩, e11, h⟩ := Option.bind_eq_some_iff.mp h
            dsimp only at h
            refine x_invv (c := 1) (av := [vL (mL 2 s4 (40 : Int32).toNatClampNeg)]) (st := []) (pc := 53) d_M_doValue_53 cv_M_372 y_M_found (xm_at s4 R) rfl (Nat.le_of_ble_eq_true rfl) (Nat.le_of_ble_eq_true rfl) (w_M_found (d := d + 2) (Q := fun r h' => r = .inl (some (vI v13)) ∧ h' = mH s12 R) (R := R) ⟨rfl, rfl⟩ s4 (mL 2 s4 (40 : Int32).toNatClampNeg) e11) (fun v h' z => ?_) (fun a h' z => nomatch z.1)
            obtain ⟨z1, z2⟩ := z
            subst z2
            cases z1
            show xW sc m_M_doValue (d + 5) Q (mH s12 R) 56 [some (vA 373), some (vI l1), some (vI l2), none, none] [vI v13]
            refine x_istore_n (pc := 56) d_M_doValue_56 (by decide) ?_
            show xW sc m_M_doValue (d + 5) Q (mH s12 R) 57 [some (vA 373), some (vI l1), some (vI l2), some (vI v13), none] []
            refine x_aload_n (pc := 57) d_M_doValue_57 rfl ?_
            refine x_aload_n (pc := 58) d_M_doValue_58 rfl ?_
            refine x_getf (c := 1) (k := 2) (v := vA 375) (pc := 59) d_M_doValue_59 l_M_13 (xm_at s12 R) rfl ?_
            refine x_bipush (v := (40 : Int32)) (pc := 62) d_M_doValue_62 (by decide) ?_
            obtain ⟨c15, h⟩ := ite_some h
            refine x_lald (pc := 64) d_M_doValue_64 (xm_a2 s12 R) (xin_vp c15) ?_
            obtain ⟨⟨v18, s17⟩, e16, h⟩ := Option.bind_eq_some_iff.mp h
            dsimp only at h
            refine x_invv (c := 1) (av := [vL (mL 2 s12 (40 : Int32).toNatClampNeg)]) (st := []) (pc := 65) d_M_doValue_65 cv_M_307 y_M_operatorOf (xm_at s12 R) rfl (Nat.le_of_ble_eq_true rfl) (Nat.le_of_ble_eq_true rfl) (w_M_operatorOf (d := d + 4) (Q := fun r h' => r = .inl (some (vI v18)) ∧ h' = mH s17 R) (R := R) ⟨rfl, rfl⟩ s12 (mL 2 s12 (40 : Int32).toNatClampNeg) e16) (fun v h' z => ?_) (fun a h' z => nomatch z.1)
            obtain ⟨z1, z2⟩ := z
            subst z2
            cases z1
            show xW sc m_M_doValue (d + 5) Q (mH s17 R) 68 [some (vA 373), some (vI l1), some (vI l2), some (vI v13), none] [vI v18]
            refine x_istore (pc := 68) d_M_doValue_68 (by decide) ?_
            show xW sc m_M_doValue (d + 5) Q (mH s17 R) 70 [some (vA 373), some (vI l1), some (vI l2), some (vI v13), some (vI v18)] []
            refine x_iload_n (pc := 70) d_M_doValue_70 rfl ?_
            refine x_iconst (v := (-1 : Int32)) (pc := 71) d_M_doValue_71 (by decide) ?_
            refine x_icmp_ne (tgt := 95) (pc := 72) d_M_doValue_72 (by decide) (fun c20 => ?_) (fun c20 => ?_)
            · rw [if_neg c20] at h
              refine x_aload_n (pc := 95) d_M_doValue_95 rfl ?_
              refine x_iload_n (pc := 96) d_M_doValue_96 rfl ?_
              obtain ⟨⟨v23, s22⟩, e21, h⟩ := Option.bind_eq_some_iff.mp h
              dsimp only at h
              refine x_invv (c := 1) (av := [vI v13]) (st := []) (pc := 97) d_M_doValue_97 cv_M_378 y_M_isProcedure (xm_at s17 R) rfl (Nat.le_of_ble_eq_true rfl) (Nat.le_of_ble_eq_true rfl) (w_M_isProcedure (d := d + 4) (Q := fun r h' => r = .inl (some (vI v23)) ∧ h' = mH s22 R) (R := R) ⟨rfl, rfl⟩ s17 v13 e21) (fun v h' z => ?_) (fun a h' z => nomatch z.1)
              obtain ⟨z1, z2⟩ := z
              subst z2
              cases z1
              show xW sc m_M_doValue (d + 5) Q (mH s22 R) 100 [some (vA 373), some (vI l1), some (vI l2), some (vI v13), some (vI v18)] [vI v23]
              refine x_if_eq (tgt := 114) (pc := 100) d_M_doValue_100 (by decide) (fun c25 => ?_) (fun c25 => ?_)
              · rw [if_pos c25] at h
                refine x_aload_n (pc := 114) d_M_doValue_114 rfl ?_
                refine x_getf (c := 1) (k := 1) (v := vA 374) (pc := 115) d_M_doValue_115 l_M_7 (xm_at s22 R) rfl ?_
                refine x_iload_n (pc := 118) d_M_doValue_118 rfl ?_
                obtain ⟨c26, h⟩ := ite_some h
                refine x_iald (pc := 119) d_M_doValue_119 (xm_a1 s22 R) (xin_vp c26) ?_
                refine x_bipush (v := (11 : Int32)) (pc := 120) d_M_doValue_120 (by decide) ?_
                refine x_icmp_ne (tgt := 153) (pc := 122) d_M_doValue_122 (by decide) (fun c27 => ?_) (fun c27 => ?_)
                · rw [if_neg c27] at h
                  refine x_aload_n (pc := 153) d_M_doValue_153 rfl ?_
                  refine x_iload_n (pc := 154) d_M_doValue_154 rfl ?_
                  obtain ⟨⟨v30, s29⟩, e28, h⟩ := Option.bind_eq_some_iff.mp h
                  dsimp only at h
                  refine x_invv (c := 1) (av := [vI v13]) (st := []) (pc := 155) d_M_doValue_155 cv_M_369 y_M_pushValue (xm_at s22 R) rfl (Nat.le_of_ble_eq_true rfl) (Nat.le_of_ble_eq_true rfl) (w_M_pushValue (d := d + 3) (Q := fun r h' => r = .inl (some (vI v30)) ∧ h' = mH s29 R) (R := R) ⟨rfl, rfl⟩ s22 v13 e28) (fun v h' z => ?_) (fun a h' z => nomatch z.1)
                  obtain ⟨z1, z2⟩ := z
                  subst z2
                  cases z1
                  show xW sc m_M_doValue (d + 5) Q (mH s29 R) 158 [some (vA 373), some (vI l1), some (vI l2), some (vI v13), some (vI v18)] [vI v30]
                  cases h
                  exact x_iret (ty := .int) (pc := 158) d_M_doValue_158 rfl (rfl) hQ
                · rw [if_pos c27] at h
                  refine x_aload_n (pc := 125) d_M_doValue_125 rfl ?_
                  refine x_getf (c := 1) (k := 16) (v := vI (mI 16 s22)) (pc := 126) d_M_doValue_126 l_M_349 (xm_at s22 R) rfl ?_
                  refine x_bipush (v := (8 : Int32)) (pc := 129) d_M_doValue_129 (by decide) ?_
                  refine x_icmp_ne (tgt := 137) (pc := 131) d_M_doValue_131 (by decide) (fun c32 => ?_) (fun c32 => ?_)
                  · rw [if_neg c32] at h
                    refine x_aload_n (pc := 137) d_M_doValue_137 rfl ?_
                    refine x_iconst (v := (2 : Int32)) (pc := 138) d_M_doValue_138 (by decide) ?_
                    refine x_lconst (v := (0 : Int64)) (pc := 139) d_M_doValue_139 (by decide) ?_
                    obtain ⟨s34, e33, h⟩ := Option.bind_eq_some_iff.mp h
                    refine x_invv (c := 1) (av := [vI (2 : Int32), vL (0 : Int64)]) (st := []) (pc := 140) d_M_doValue_140 cv_M_352 y_M_frame (xm_at s22 R) rfl (Nat.le_of_ble_eq_true rfl) (Nat.le_of_ble_eq_true rfl) (w_M_frame (d := d + 4) (Q := fun r h' => r = .inl none ∧ h' = mH s34 R) (R := R) ⟨rfl, rfl⟩ s22 (2 : Int32) (0 : Int64) e33) (fun v h' z => ?_) (fun a h' z => nomatch z.1)
                    obtain ⟨z1, z2⟩ := z
                    subst z2
                    cases z1
                    show xW sc m_M_doValue (d + 5) Q (mH s34 R) 143 [some (vA 373), some (vI l1), some (vI l2), some (vI v13), some (vI v18)] []
                    refine x_aload_n (pc := 143) d_M_doValue_143 rfl ?_
                    refine x_bipush (v := (40 : Int32)) (pc := 144) d_M_doValue_144 (by decide) ?_
                    refine x_iload_n (pc := 146) d_M_doValue_146 rfl ?_
                    obtain ⟨s36, e35, h⟩ := Option.bind_eq_some_iff.mp h
                    refine x_invv (c := 1) (av := [vI (40 : Int32), vI v13]) (st := []) (pc := 147) d_M_doValue_147 cv_M_254 y_M_move (xm_at s34 R) rfl (Nat.le_of_ble_eq_true rfl) (Nat.le_of_ble_eq_true rfl) (w_M_move (d := d + 4) (Q := fun r h' => r = .inl none ∧ h' = mH s36 R) (R := R) ⟨rfl, rfl⟩ s34 (40 : Int32) v13 e35) (fun v h' z => ?_) (fun a h' z => nomatch z.1)
                    obtain ⟨z1, z2⟩ := z
                    subst z2
                    cases z1
                    show xW sc m_M_doValue (d + 5) Q (mH s36 R) 150 [some (vA 373), some (vI l1), some (vI l2), some (vI v13), some (vI v18)] []
                    refine x_goto (tgt := 159) (pc := 150) d_M_doValue_150 (by decide) ?_
                    exact x_wk (L' := [some (vA 373), some (vI l1), some (vI l2), none, none]) ⟨Or.inr rfl, Or.inr rfl, Or.inr rfl, Or.inl rfl, Or.inl rfl, trivial⟩ (w_M_doValue_b159 (f_M_doValue_b4 n) hk4 hQ l1 l2 s36 h)
                  · rw [if_pos c32] at h
                    refine x_bipush (v := (12 : Int32)) (pc := 134) d_M_doValue_134 (by decide) ?_
                    cases h
                    exact x_iret (ty := .int) (pc := 136) d_M_doValue_136 rfl (rfl) hQ
              · rw [if_neg c25] at h
                refine x_aload_n (pc := 103) d_M_doValue_103 rfl ?_
                refine x_aload_n (pc := 104) d_M_doValue_104 rfl ?_
                refine x_getf (c := 1) (k := 2) (v := vA 375) (pc := 105) d_M_doValue_105 l_M_13 (xm_at s22 R) rfl ?_
                refine x_iload_n (pc := 108) d_M_doValue_108 rfl ?_
                obtain ⟨c37, h⟩ := ite_some h
                refine x_lald (pc := 109) d_M_doValue_109 (xm_a2 s22 R) (xin_vp c37) ?_
                obtain ⟨⟨v40, s39⟩, e38, h⟩ := Option.bind_eq_some_iff.mp h
                dsimp only at h
                refine x_invv (c := 1) (av := [vL (mL 2 s22 v13.toNatClampNeg)]) (st := []) (pc := 110) d_M_doValue_110 cv_M_382 y_M_runArray (xm_at s22 R) rfl (Nat.le_of_ble_eq_true rfl) (Nat.le_of_ble_eq_true rfl) (w_M_runArray (d := d + 3) (Q := fun r h' => r = .inl (some (vI v40)) ∧ h' = mH s39 R) (R := R) ⟨rfl, rfl⟩ s22 (mL 2 s22 v13.toNatClampNeg) e38) (fun v h' z => ?_) (fun a h' z => nomatch z.1)
                obtain ⟨z1, z2⟩ := z
                subst z2
                cases z1
                show xW sc m_M_doValue (d + 5) Q (mH s39 R) 113 [some (vA 373), some (vI l1), some (vI l2), some (vI v13), some (vI v18)] [vI v40]
                cases h
                exact x_iret (ty := .int) (pc := 113) d_M_doValue_113 rfl (rfl) hQ
            · rw [if_pos c20] at h
              refine x_iload (pc := 75) d_M_doValue_75 rfl ?_
              refine x_iconst (v := (-1 : Int32)) (pc := 77) d_M_doValue_77 (by decide) ?_
              refine x_icmp_ne (tgt := 85) (pc := 78) d_M_doValue_78 (by decide) (fun c42 => ?_) (fun c42 => ?_)
              · rw [if_neg c42] at h
                refine x_aload_n (pc := 85) d_M_doValue_85 rfl ?_
                refine x_iload (pc := 86) d_M_doValue_86 rfl ?_
                obtain ⟨⟨v45, s44⟩, e43, h⟩ := Option.bind_eq_some_iff.mp h
                dsimp only at h
                refine x_invv (c := 1) (av := [vI v18]) (st := []) (pc := 88) d_M_doValue_88 cv_M_375 y_M_operate (xm_at s17 R) rfl (Nat.le_of_ble_eq_true rfl) (Nat.le_of_ble_eq_true rfl) (w_M_operate (d := d + 0) (Q := fun r h' => r = .inl (some (vI v45)) ∧ h' = mH s44 R) (R := R) ⟨rfl, rfl⟩ s17 v18 e43) (fun v h' z => ?_) (fun a h' z => nomatch z.1)
                obtain ⟨z1, z2⟩ := z
                subst z2
                cases z1
                show xW sc m_M_doValue (d + 5) Q (mH s44 R) 91 [some (vA 373), some (vI l1), some (vI l2), some (vI v13), some (vI v18)] [vI v45]
                exact x_wk (L' := [some (vA 373), none, some (vI l2), none, none]) ⟨Or.inr rfl, Or.inl rfl, Or.inr rfl, Or.inl rfl, Or.inl rfl, trivial⟩ (w_M_doValue_b91 (f_M_doValue_b4 n) hk4 hQ l2 v45 s44 h)
              · rw [if_pos c42] at h
                refine x_iconst (v := (5 : Int32)) (pc := 81) d_M_doValue_81 (by decide) ?_
                refine x_goto (tgt := 91) (pc := 82) d_M_doValue_82 (by decide) ?_
                exact x_wk (L' := [some (vA 373), none, some (vI l2), none, none]) ⟨Or.inr rfl, Or.inl rfl, Or.inr rfl, Or.inl rfl, Or.inl rfl, trivial⟩ (w_M_doValue_b91 (f_M_doValue_b4 n) hk4 hQ l2 (5 : Int32) s17 h)
          · rw [if_neg c9] at h
            refine x_aload_n (pc := 38) d_M_doValue_38 rfl ?_
            refine x_bipush (v := (40 : Int32)) (pc := 39) d_M_doValue_39 (by decide) ?_
            obtain ⟨⟨v49, s48⟩, e47, h⟩ := Option.bind_eq_some_iff.mp h
            dsimp only at h
            refine x_invv (c := 1) (av := [vI (40 : Int32)]) (st := []) (pc := 41) d_M_doValue_41 cv_M_369 y_M_pushValue (xm_at s4 R) rfl (Nat.le_of_ble_eq_true rfl) (Nat.le_of_ble_eq_true rfl) (w_M_pushValue (d := d + 3) (Q := fun r h' => r = .inl (some (vI v49)) ∧ h' = mH s48 R) (R := R) ⟨rfl, rfl⟩ s4 (40 : Int32) e47) (fun v h' z => ?_) (fun a h' z => nomatch z.1)
            obtain ⟨z1, z2⟩ := z
            subst z2
            cases z1
            show xW sc m_M_doValue (d + 5) Q (mH s48 R) 44 [some (vA 373), some (vI l1), some (vI l2), none, none] [vI v49]
            cases h
            exact x_iret (ty := .int) (pc := 44) d_M_doValue_44 rfl (rfl) hQ
        · rw [if_neg c7] at h
          refine x_bipush (v := (16 : Int32)) (pc := 23) d_M_doValue_23 (by decide) ?_
          cases h
          exact x_iret (ty := .int) (pc := 25) d_M_doValue_25 rfl (rfl) hQ
def f_M_doValue (s : MT) : Option (Int32 × MT) := f_M_doValue_b4 mF (-1 : Int32) (0 : Int32) s
theorem w_M_doValue {sc : xSc} {d : Nat} {Q : xR → xH → Prop} {R : xH} {sZ : MT} {rZ : Int32} (hQ : Q (.inl (some (vI rZ))) (mH sZ R)) (s : MT) (h : f_M_doValue s = some (rZ, sZ)) : xW sc m_M_doValue (d + 5) Q (mH s R) 0 (xent [vA 373] m_M_doValue.2.2.1) [] := by
  show xW sc m_M_doValue (d + 5) Q (mH s R) 0 [some (vA 373), none, none, none, none] []
  unfold f_M_doValue at h
  refine x_iconst (v := (-1 : Int32)) (pc := 0) d_M_doValue_0 (by decide) ?_
  refine x_istore_n (pc := 1) d_M_doValue_1 (by decide) ?_
  show xW sc m_M_doValue (d + 5) Q (mH s R) 2 [some (vA 373), some (vI (-1 : Int32)), none, none, none] []
  refine x_iconst (v := (0 : Int32)) (pc := 2) d_M_doValue_2 (by decide) ?_
  refine x_istore_n (pc := 3) d_M_doValue_3 (by decide) ?_
  show xW sc m_M_doValue (d + 5) Q (mH s R) 4 [some (vA 373), some (vI (-1 : Int32)), some (vI (0 : Int32)), none, none] []
  exact w_M_doValue_b4 hQ mF (-1 : Int32) (0 : Int32) s h
def f_M_advance_b359  (t0 : Int32) (s : MT) : Option (Int32 × MT) := some (t0, s)
theorem w_M_advance_b359 {sc : xSc} {d : Nat} {Q : xR → xH → Prop} {R : xH} {sZ : MT} {rZ : Int32}  (hQ : Q (.inl (some (vI rZ))) (mH sZ R)) (t0 : Int32) (s : MT) (h : f_M_advance_b359  t0 s = some (rZ, sZ)) : xW sc m_M_advance (d + 6) Q (mH s R) 359 [none, none, none, none, none, none] [vI t0] := by
  unfold f_M_advance_b359 at h
  cases h
  exact x_iret (ty := .int) (pc := 359) d_M_advance_359 rfl (rfl) hQ
def f_M_advance_b337  (l1 : Int32) (l5 : Int32) (t0 : Int64) (t1 : Int64) (t2 : Int32) (s : MT) : Option (Int32 × MT) := (if xin t2 560 = true then (if l5 = 0 then (if xin l1 560 = true then (f_M_runArray (sL 20 (va_up (mL 20 s) t2.toNatClampNeg (t1 + t0)) s) (mL 18 (sL 20 (va_up (mL 20 s) t2.toNatClampNeg (t1 + t0)) s) l1.toNatClampNeg)).bind fun (v6, s5) => f_M_advance_b359 v6 s5 else none) else f_M_advance_b359 l5 (sL 20 (va_up (mL 20 s) t2.toNatClampNeg (t1 + t0)) s)) else none)
theorem w_M_advance_b337 {sc : xSc} {d : Nat} {Q : xR → xH → Prop} {R : xH} {sZ : MT} {rZ : Int32}  (hQ : Q (.inl (some (vI rZ))) (mH sZ R)) (l1 : Int32) (l5 : Int32) (t0 : Int64) (t1 : Int64) (t2 : Int32) (s : MT) (h : f_M_advance_b337  l1 l5 t0 t1 t2 s = some (rZ, sZ)) : xW sc m_M_advance (d + 6) Q (mH s R) 337 [some (vA 373), some (vI l1), none, none, none, some (vI l5)] [vL t0, vL t1, vI t2, vA 386] := by
  unfold f_M_advance_b337 at h
  refine x_ladd (pc := 337) d_M_advance_337 ?_
  obtain ⟨c1, h⟩ := ite_some h
  refine xm_s20 (pc := 338) d_M_advance_338 c1 ?_
  refine x_iload (pc := 339) d_M_advance_339 rfl ?_
  refine x_if_eq (tgt := 349) (pc := 341) d_M_advance_341 (by decide) (fun c2 => ?_) (fun c2 => ?_)
  · rw [if_pos c2] at h
    refine x_aload_n (pc := 349) d_M_advance_349 rfl ?_
    refine x_aload_n (pc := 350) d_M_advance_350 rfl ?_
    refine x_getf (c := 1) (k := 18) (v := vA 384) (pc := 351) d_M_advance_351 l_M_46 (xm_at (sL 20 (va_up (mL 20 s) t2.toNatClampNeg (t1 + t0)) s) R) rfl ?_
    refine x_iload_n (pc := 354) d_M_advance_354 rfl ?_
    obtain ⟨c3, h⟩ := ite_some h
    refine x_lald (pc := 355) d_M_advance_355 (xm_a18 (sL 20 (va_up (mL 20 s) t2.toNatClampNeg (t1 + t0)) s) R) (xin_vp c3) ?_
    obtain ⟨⟨v6, s5⟩, e4, h⟩ := Option.bind_eq_some_iff.mp h
    dsimp only at h
    refine x_invv (c := 1) (av := [vL (mL 18 (sL 20 (va_up (mL 20 s) t2.toNatClampNeg (t1 + t0)) s) l1.toNatClampNeg)]) (st := []) (pc := 356) d_M_advance_356 cv_M_382 y_M_runArray (xm_at (sL 20 (va_up (mL 20 s) t2.toNatClampNeg (t1 + t0)) s) R) rfl (Nat.le_of_ble_eq_true rfl) (Nat.le_of_ble_eq_true rfl) (w_M_runArray (d := d + 4) (Q := fun r h' => r = .inl (some (vI v6)) ∧ h' = mH s5 R) (R := R) ⟨rfl, rfl⟩ (sL 20 (va_up (mL 20 s) t2.toNatClampNeg (t1 + t0)) s) (mL 18 (sL 20 (va_up (mL 20 s) t2.toNatClampNeg (t1 + t0)) s) l1.toNatClampNeg) e4) (fun v h' z => ?_) (fun a h' z => nomatch z.1)
    obtain ⟨z1, z2⟩ := z
    subst z2
    cases z1
    show xW sc m_M_advance (d + 6) Q (mH s5 R) 359 [some (vA 373), some (vI l1), none, none, none, some (vI l5)] [vI v6]
    exact x_wk (L' := [none, none, none, none, none, none]) ⟨Or.inl rfl, Or.inl rfl, Or.inl rfl, Or.inl rfl, Or.inl rfl, Or.inl rfl, trivial⟩ (w_M_advance_b359 hQ v6 s5 h)
  · rw [if_neg c2] at h
    refine x_iload (pc := 344) d_M_advance_344 rfl ?_
    refine x_goto (tgt := 359) (pc := 346) d_M_advance_346 (by decide) ?_
    exact x_wk (L' := [none, none, none, none, none, none]) ⟨Or.inl rfl, Or.inl rfl, Or.inl rfl, Or.inl rfl, Or.inl rfl, Or.inl rfl, trivial⟩ (w_M_advance_b359 hQ l5 (sL 20 (va_up (mL 20 s) t2.toNatClampNeg (t1 + t0)) s) h)
def f_M_advance_b313  (l1 : Int32) (l2 : Int32) (l5 : Int32) (s : MT) : Option (Int32 × MT) := (if xin l1 560 = true then (if l2 = (3 : Int32) then (if xin l1 560 = true then f_M_advance_b337 l1 l5 (mL 21 s l1.toNatClampNeg) (mL 20 s l1.toNatClampNeg) l1 s else none) else f_M_advance_b337 l1 l5 (-1 : Int64) (mL 20 s l1.toNatClampNeg) l1 s) else none)
theorem w_M_advance_b313 {sc : xSc} {d : Nat} {Q : xR → xH → Prop} {R : xH} {sZ : MT} {rZ : Int32}  (hQ : Q (.inl (some (vI rZ))) (mH sZ R)) (l1 : Int32) (l2 : Int32) (l5 : Int32) (s : MT) (h : f_M_advance_b313  l1 l2 l5 s = some (rZ, sZ)) : xW sc m_M_advance (d + 6) Q (mH s R) 313 [some (vA 373), some (vI l1), some (vI l2), none, none, some (vI l5)] [] := by
  unfold f_M_advance_b313 at h
  refine x_aload_n (pc := 313) d_M_advance_313 rfl ?_
  refine x_getf (c := 1) (k := 20) (v := vA 386) (pc := 314) d_M_advance_314 l_M_52 (xm_at s R) rfl ?_
  refine x_iload_n (pc := 317) d_M_advance_317 rfl ?_
  refine x_dup2_11 (pc := 318) d_M_advance_318 rfl rfl ?_
  obtain ⟨c1, h⟩ := ite_some h
  refine x_lald (pc := 319) d_M_advance_319 (xm_a20 s R) (xin_vp c1) ?_
  refine x_iload_n (pc := 320) d_M_advance_320 rfl ?_
  refine x_iconst (v := (3 : Int32)) (pc := 321) d_M_advance_321 (by decide) ?_
  refine x_icmp_ne (tgt := 334) (pc := 322) d_M_advance_322 (by decide) (fun c2 => ?_) (fun c2 => ?_)
  · rw [if_neg c2] at h
    refine x_ldc2 (v := (-1 : Int64)) (pc := 334) d_M_advance_334 c_M_400 ?_
    exact x_wk (L' := [some (vA 373), some (vI l1), none, none, none, some (vI l5)]) ⟨Or.inr rfl, Or.inr rfl, Or.inl rfl, Or.inl rfl, Or.inl rfl, Or.inr rfl, trivial⟩ (w_M_advance_b337 hQ l1 l5 (-1 : Int64) (mL 20 s l1.toNatClampNeg) l1 s h)
  · rw [if_pos c2] at h
    refine x_aload_n (pc := 325) d_M_advance_325 rfl ?_
    refine x_getf (c := 1) (k := 21) (v := vA 387) (pc := 326) d_M_advance_326 l_M_55 (xm_at s R) rfl ?_
    refine x_iload_n (pc := 329) d_M_advance_329 rfl ?_
    obtain ⟨c3, h⟩ := ite_some h
    refine x_lald (pc := 330) d_M_advance_330 (xm_a21 s R) (xin_vp c3) ?_
    refine x_goto (tgt := 337) (pc := 331) d_M_advance_331 (by decide) ?_
    exact x_wk (L' := [some (vA 373), some (vI l1), none, none, none, some (vI l5)]) ⟨Or.inr rfl, Or.inr rfl, Or.inl rfl, Or.inl rfl, Or.inl rfl, Or.inr rfl, trivial⟩ (w_M_advance_b337 hQ l1 l5 (mL 21 s l1.toNatClampNeg) (mL 20 s l1.toNatClampNeg) l1 s h)
def f_M_advance_b275  (l1 : Int32) (l2 : Int32) (l5 : Int32) (s : MT) : Option (Int32 × MT) := (if l5 = 0 then (if l2 = (6 : Int32) then (if xin l1 560 = true then (f_M_first (mL 22 s l1.toNatClampNeg)).bind fun v4 => (if xin l1 560 = true then (f_M_pushValue s ((((50 : Int32) + v4) + (mA 19 s l1.toNatClampNeg)) - (1 : Int32))).bind fun (v9, s8) => f_M_advance_b313 l1 l2 v9 s8 else none) else none) else f_M_advance_b313 l1 l2 l5 s) else f_M_advance_b313 l1 l2 l5 s)
theorem w_M_advance_b275 {sc : xSc} {d : Nat} {Q : xR → xH → Prop} {R : xH} {sZ : MT} {rZ : Int32}  (hQ : Q (.inl (some (vI rZ))) (mH sZ R)) (l1 : Int32) (l2 : Int32) (l5 : Int32) (s : MT) (h : f_M_advance_b275  l1 l2 l5 s = some (rZ, sZ)) : xW sc m_M_advance (d + 6) Q (mH s R) 275 [some (vA 373), some (vI l1), some (vI l2), none, none, some (vI l5)] [] := by
  unfold f_M_advance_b275 at h
  refine x_iload (pc := 275) d_M_advance_275 rfl ?_
  refine x_if_ne (tgt := 313) (pc := 277) d_M_advance_277 (by decide) (fun c1 => ?_) (fun c1 => ?_)
  · rw [if_neg c1] at h
    exact w_M_advance_b313 hQ l1 l2 l5 s h
  · rw [if_pos c1] at h
    refine x_iload_n (pc := 280) d_M_advance_280 rfl ?_
    refine x_bipush (v := (6 : Int32)) (pc := 281) d_M_advance_281 (by decide) ?_
    refine x_icmp_ne (tgt := 313) (pc := 283) d_M_advance_283 (by decide) (fun c2 => ?_) (fun c2 => ?_)
    · rw [if_neg c2] at h
      exact w_M_advance_b313 hQ l1 l2 l5 s h
    · rw [if_pos c2] at h
      refine x_aload_n (pc := 286) d_M_advance_286 rfl ?_
      refine x_bipush (v := (50 : Int32)) (pc := 287) d_M_advance_287 (by decide) ?_
      refine x_aload_n (pc := 289) d_M_advance_289 rfl ?_
      refine x_getf (c := 1) (k := 22) (v := vA 388) (pc := 290) d_M_advance_290 l_M_58 (xm_at s R) rfl ?_
      refine x_iload_n (pc := 293) d_M_advance_293 rfl ?_
      obtain ⟨c3, h⟩ := ite_some h
      refine x_lald (pc := 294) d_M_advance_294 (xm_a22 s R) (xin_vp c3) ?_
      obtain ⟨v4, e5, h⟩ := Option.bind_eq_some_iff.mp h
      refine x_invs (av := [vL (mL 22 s l1.toNatClampNeg)]) (st := [vI (50 : Int32), vA 373]) (pc := 295) d_M_advance_295 cs_M_394 y_M_first rfl (Nat.le_of_ble_eq_true rfl) (Nat.le_of_ble_eq_true rfl) (w_M_first (d := d + 5) (Q := fun r h' => r = .inl (some (vI v4)) ∧ h' = mH s R) (hh := mH s R) ⟨rfl, rfl⟩ (mL 22 s l1.toNatClampNeg) e5) (fun v h' z => ?_) (fun a h' z => nomatch z.1)
      obtain ⟨z1, z2⟩ := z
      subst z2
      cases z1
      show xW sc m_M_advance (d + 6) Q (mH s R) 298 [some (vA 373), some (vI l1), some (vI l2), none, none, some (vI l5)] [vI v4, vI (50 : Int32), vA 373]
      refine x_iadd (pc := 298) d_M_advance_298 ?_
      refine x_aload_n (pc := 299) d_M_advance_299 rfl ?_
      refine x_getf (c := 1) (k := 19) (v := vA 385) (pc := 300) d_M_advance_300 l_M_49 (xm_at s R) rfl ?_
      refine x_iload_n (pc := 303) d_M_advance_303 rfl ?_
      obtain ⟨c6, h⟩ := ite_some h
      refine x_iald (pc := 304) d_M_advance_304 (xm_a19 s R) (xin_vp c6) ?_
      refine x_iadd (pc := 305) d_M_advance_305 ?_
      refine x_iconst (v := (1 : Int32)) (pc := 306) d_M_advance_306 (by decide) ?_
      refine x_isub (pc := 307) d_M_advance_307 ?_
      obtain ⟨⟨v9, s8⟩, e7, h⟩ := Option.bind_eq_some_iff.mp h
      dsimp only at h
      refine x_invv (c := 1) (av := [vI ((((50 : Int32) + v4) + (mA 19 s l1.toNatClampNeg)) - (1 : Int32))]) (st := []) (pc := 308) d_M_advance_308 cv_M_369 y_M_pushValue (xm_at s R) rfl (Nat.le_of_ble_eq_true rfl) (Nat.le_of_ble_eq_true rfl) (w_M_pushValue (d := d + 4) (Q := fun r h' => r = .inl (some (vI v9)) ∧ h' = mH s8 R) (R := R) ⟨rfl, rfl⟩ s ((((50 : Int32) + v4) + (mA 19 s l1.toNatClampNeg)) - (1 : Int32)) e7) (fun v h' z => ?_) (fun a h' z => nomatch z.1)
      obtain ⟨z1, z2⟩ := z
      subst z2
      cases z1
      show xW sc m_M_advance (d + 6) Q (mH s8 R) 311 [some (vA 373), some (vI l1), some (vI l2), none, none, some (vI l5)] [vI v9]
      refine x_istore (pc := 311) d_M_advance_311 (by decide) ?_
      show xW sc m_M_advance (d + 6) Q (mH s8 R) 313 [some (vA 373), some (vI l1), some (vI l2), none, none, some (vI v9)] []
      exact w_M_advance_b313 hQ l1 l2 v9 s8 h
def f_M_advance_b199  (l1 : Int32) (l2 : Int32) (s : MT) : Option (Int32 × MT) := (if xin l1 560 = true then (if xin l1 560 = true then (if l2 = (1 : Int32) then (if xin l1 560 = true then (f_M_first (mL 18 (sA 19 (va_up (mA 19 s) l1.toNatClampNeg ((mA 19 s l1.toNatClampNeg) + (1 : Int32))) s) l1.toNatClampNeg)).bind fun v16 => (if xin l1 560 = true then (f_M_move (sA 19 (va_up (mA 19 s) l1.toNatClampNeg ((mA 19 s l1.toNatClampNeg) + (1 : Int32))) s) (40 : Int32) ((((50 : Int32) + v16) + (mA 19 (sA 19 (va_up (mA 19 s) l1.toNatClampNeg ((mA 19 s l1.toNatClampNeg) + (1 : Int32))) s) l1.toNatClampNeg)) - (1 : Int32))).bind fun s20 => (f_M_doValue s20).bind fun (v23, s22) => some (v23, s22) else none) else none) else (f_M_step (sA 19 (va_up (mA 19 s) l1.toNatClampNeg ((mA 19 s l1.toNatClampNeg) + (1 : Int32))) s)).bind fun (v6, s5) => (if v6 = 0 then (if l2 = (3 : Int32) then (if xin l1 560 = true then (f_M_push s5 (0 : Int32) (mL 20 s5 l1.toNatClampNeg)).bind fun (v13, s12) => f_M_advance_b275 l1 l2 v13 s12 else none) else f_M_advance_b275 l1 l2 v6 s5) else f_M_advance_b275 l1 l2 v6 s5)) else none) else none)
theorem w_M_advance_b199 {sc : xSc} {d : Nat} {Q : xR → xH → Prop} {R : xH} {sZ : MT} {rZ : Int32}  (hQ : Q (.inl (some (vI rZ))) (mH sZ R)) (l1 : Int32) (l2 : Int32) (s : MT) (h : f_M_advance_b199  l1 l2 s = some (rZ, sZ)) : xW sc m_M_advance (d + 6) Q (mH s R) 199 [some (vA 373), some (vI l1), some (vI l2), none, none, none] [] := by
  unfold f_M_advance_b199 at h
  refine x_aload_n (pc := 199) d_M_advance_199 rfl ?_
  refine x_getf (c := 1) (k := 19) (v := vA 385) (pc := 200) d_M_advance_200 l_M_49 (xm_at s R) rfl ?_
  refine x_iload_n (pc := 203) d_M_advance_203 rfl ?_
  refine x_dup2_11 (pc := 204) d_M_advance_204 rfl rfl ?_
  obtain ⟨c1, h⟩ := ite_some h
  refine x_iald (pc := 205) d_M_advance_205 (xm_a19 s R) (xin_vp c1) ?_
  refine x_iconst (v := (1 : Int32)) (pc := 206) d_M_advance_206 (by decide) ?_
  refine x_iadd (pc := 207) d_M_advance_207 ?_
  obtain ⟨c2, h⟩ := ite_some h
  refine xm_s19 (pc := 208) d_M_advance_208 c2 ?_
  refine x_iload_n (pc := 209) d_M_advance_209 rfl ?_
  refine x_iconst (v := (1 : Int32)) (pc := 210) d_M_advance_210 (by decide) ?_
  refine x_icmp_ne (tgt := 246) (pc := 211) d_M_advance_211 (by decide) (fun c3 => ?_) (fun c3 => ?_)
  · rw [if_neg c3] at h
    refine x_aload_n (pc := 246) d_M_advance_246 rfl ?_
    obtain ⟨⟨v6, s5⟩, e4, h⟩ := Option.bind_eq_some_iff.mp h
    dsimp only at h
    refine x_invv (c := 1) (av := []) (st := []) (pc := 247) d_M_advance_247 cv_M_366 y_M_step (xm_at (sA 19 (va_up (mA 19 s) l1.toNatClampNeg ((mA 19 s l1.toNatClampNeg) + (1 : Int32))) s) R) rfl (Nat.le_of_ble_eq_true rfl) (Nat.le_of_ble_eq_true rfl) (w_M_step (d := d + 5) (Q := fun r h' => r = .inl (some (vI v6)) ∧ h' = mH s5 R) (R := R) ⟨rfl, rfl⟩ (sA 19 (va_up (mA 19 s) l1.toNatClampNeg ((mA 19 s l1.toNatClampNeg) + (1 : Int32))) s)  e4) (fun v h' z => ?_) (fun a h' z => nomatch z.1)
    obtain ⟨z1, z2⟩ := z
    subst z2
    cases z1
    show xW sc m_M_advance (d + 6) Q (mH s5 R) 250 [some (vA 373), some (vI l1), some (vI l2), none, none, none] [vI v6]
    refine x_istore (pc := 250) d_M_advance_250 (by decide) ?_
    show xW sc m_M_advance (d + 6) Q (mH s5 R) 252 [some (vA 373), some (vI l1), some (vI l2), none, none, some (vI v6)] []
    refine x_iload (pc := 252) d_M_advance_252 rfl ?_
    refine x_if_ne (tgt := 275) (pc := 254) d_M_advance_254 (by decide) (fun c8 => ?_) (fun c8 => ?_)
    · rw [if_neg c8] at h
      exact w_M_advance_b275 hQ l1 l2 v6 s5 h
    · rw [if_pos c8] at h
      refine x_iload_n (pc := 257) d_M_advance_257 rfl ?_
      refine x_iconst (v := (3 : Int32)) (pc := 258) d_M_advance_258 (by decide) ?_
      refine x_icmp_ne (tgt := 275) (pc := 259) d_M_advance_259 (by decide) (fun c9 => ?_) (fun c9 => ?_)
      · rw [if_neg c9] at h
        exact w_M_advance_b275 hQ l1 l2 v6 s5 h
      · rw [if_pos c9] at h
        refine x_aload_n (pc := 262) d_M_advance_262 rfl ?_
        refine x_iconst (v := (0 : Int32)) (pc := 263) d_M_advance_263 (by decide) ?_
        refine x_aload_n (pc := 264) d_M_advance_264 rfl ?_
        refine x_getf (c := 1) (k := 20) (v := vA 386) (pc := 265) d_M_advance_265 l_M_52 (xm_at s5 R) rfl ?_
        refine x_iload_n (pc := 268) d_M_advance_268 rfl ?_
        obtain ⟨c10, h⟩ := ite_some h
        refine x_lald (pc := 269) d_M_advance_269 (xm_a20 s5 R) (xin_vp c10) ?_
        obtain ⟨⟨v13, s12⟩, e11, h⟩ := Option.bind_eq_some_iff.mp h
        dsimp only at h
        refine x_invv (c := 1) (av := [vI (0 : Int32), vL (mL 20 s5 l1.toNatClampNeg)]) (st := []) (pc := 270) d_M_advance_270 cv_M_388 y_M_push (xm_at s5 R) rfl (Nat.le_of_ble_eq_true rfl) (Nat.le_of_ble_eq_true rfl) (w_M_push (d := d + 4) (Q := fun r h' => r = .inl (some (vI v13)) ∧ h' = mH s12 R) (R := R) ⟨rfl, rfl⟩ s5 (0 : Int32) (mL 20 s5 l1.toNatClampNeg) e11) (fun v h' z => ?_) (fun a h' z => nomatch z.1)
        obtain ⟨z1, z2⟩ := z
        subst z2
        cases z1
        show xW sc m_M_advance (d + 6) Q (mH s12 R) 273 [some (vA 373), some (vI l1), some (vI l2), none, none, some (vI v6)] [vI v13]
        refine x_istore (pc := 273) d_M_advance_273 (by decide) ?_
        show xW sc m_M_advance (d + 6) Q (mH s12 R) 275 [some (vA 373), some (vI l1), some (vI l2), none, none, some (vI v13)] []
        exact w_M_advance_b275 hQ l1 l2 v13 s12 h
  · rw [if_pos c3] at h
    refine x_aload_n (pc := 214) d_M_advance_214 rfl ?_
    refine x_bipush (v := (40 : Int32)) (pc := 215) d_M_advance_215 (by decide) ?_
    refine x_bipush (v := (50 : Int32)) (pc := 217) d_M_advance_217 (by decide) ?_
    refine x_aload_n (pc := 219) d_M_advance_219 rfl ?_
    refine x_getf (c := 1) (k := 18) (v := vA 384) (pc := 220) d_M_advance_220 l_M_46 (xm_at (sA 19 (va_up (mA 19 s) l1.toNatClampNeg ((mA 19 s l1.toNatClampNeg) + (1 : Int32))) s) R) rfl ?_
    refine x_iload_n (pc := 223) d_M_advance_223 rfl ?_
    obtain ⟨c15, h⟩ := ite_some h
    refine x_lald (pc := 224) d_M_advance_224 (xm_a18 (sA 19 (va_up (mA 19 s) l1.toNatClampNeg ((mA 19 s l1.toNatClampNeg) + (1 : Int32))) s) R) (xin_vp c15) ?_
    obtain ⟨v16, e17, h⟩ := Option.bind_eq_some_iff.mp h
    refine x_invs (av := [vL (mL 18 (sA 19 (va_up (mA 19 s) l1.toNatClampNeg ((mA 19 s l1.toNatClampNeg) + (1 : Int32))) s) l1.toNatClampNeg)]) (st := [vI (50 : Int32), vI (40 : Int32), vA 373]) (pc := 225) d_M_advance_225 cs_M_394 y_M_first rfl (Nat.le_of_ble_eq_true rfl) (Nat.le_of_ble_eq_true rfl) (w_M_first (d := d + 5) (Q := fun r h' => r = .inl (some (vI v16)) ∧ h' = mH (sA 19 (va_up (mA 19 s) l1.toNatClampNeg ((mA 19 s l1.toNatClampNeg) + (1 : Int32))) s) R) (hh := mH (sA 19 (va_up (mA 19 s) l1.toNatClampNeg ((mA 19 s l1.toNatClampNeg) + (1 : Int32))) s) R) ⟨rfl, rfl⟩ (mL 18 (sA 19 (va_up (mA 19 s) l1.toNatClampNeg ((mA 19 s l1.toNatClampNeg) + (1 : Int32))) s) l1.toNatClampNeg) e17) (fun v h' z => ?_) (fun a h' z => nomatch z.1)
    obtain ⟨z1, z2⟩ := z
    subst z2
    cases z1
    show xW sc m_M_advance (d + 6) Q (mH (sA 19 (va_up (mA 19 s) l1.toNatClampNeg ((mA 19 s l1.toNatClampNeg) + (1 : Int32))) s) R) 228 [some (vA 373), some (vI l1), some (vI l2), none, none, none] [vI v16, vI (50 : Int32), vI (40 : Int32), vA 373]
    refine x_iadd (pc := 228) d_M_advance_228 ?_
    refine x_aload_n (pc := 229) d_M_advance_229 rfl ?_
    refine x_getf (c := 1) (k := 19) (v := vA 385) (pc := 230) d_M_advance_230 l_M_49 (xm_at (sA 19 (va_up (mA 19 s) l1.toNatClampNeg ((mA 19 s l1.toNatClampNeg) + (1 : Int32))) s) R) rfl ?_
    refine x_iload_n (pc := 233) d_M_advance_233 rfl ?_
    obtain ⟨c18, h⟩ := ite_some h
    refine x_iald (pc := 234) d_M_advance_234 (xm_a19 (sA 19 (va_up (mA 19 s) l1.toNatClampNeg ((mA 19 s l1.toNatClampNeg) + (1 : Int32))) s) R) (xin_vp c18) ?_
    refine x_iadd (pc := 235) d_M_advance_235 ?_
    refine x_iconst (v := (1 : Int32)) (pc := 236) d_M_advance_236 (by decide) ?_
    refine x_isub (pc := 237) d_M_advance_237 ?_
    obtain ⟨s20, e19, h⟩ := Option.bind_eq_some_iff.mp h
    refine x_invv (c := 1) (av := [vI (40 : Int32), vI ((((50 : Int32) + v16) + (mA 19 (sA 19 (va_up (mA 19 s) l1.toNatClampNeg ((mA 19 s l1.toNatClampNeg) + (1 : Int32))) s) l1.toNatClampNeg)) - (1 : Int32))]) (st := []) (pc := 238) d_M_advance_238 cv_M_254 y_M_move (xm_at (sA 19 (va_up (mA 19 s) l1.toNatClampNeg ((mA 19 s l1.toNatClampNeg) + (1 : Int32))) s) R) rfl (Nat.le_of_ble_eq_true rfl) (Nat.le_of_ble_eq_true rfl) (w_M_move (d := d + 5) (Q := fun r h' => r = .inl none ∧ h' = mH s20 R) (R := R) ⟨rfl, rfl⟩ (sA 19 (va_up (mA 19 s) l1.toNatClampNeg ((mA 19 s l1.toNatClampNeg) + (1 : Int32))) s) (40 : Int32) ((((50 : Int32) + v16) + (mA 19 (sA 19 (va_up (mA 19 s) l1.toNatClampNeg ((mA 19 s l1.toNatClampNeg) + (1 : Int32))) s) l1.toNatClampNeg)) - (1 : Int32)) e19) (fun v h' z => ?_) (fun a h' z => nomatch z.1)
    obtain ⟨z1, z2⟩ := z
    subst z2
    cases z1
    show xW sc m_M_advance (d + 6) Q (mH s20 R) 241 [some (vA 373), some (vI l1), some (vI l2), none, none, none] []
    refine x_aload_n (pc := 241) d_M_advance_241 rfl ?_
    obtain ⟨⟨v23, s22⟩, e21, h⟩ := Option.bind_eq_some_iff.mp h
    dsimp only at h
    refine x_invv (c := 1) (av := []) (st := []) (pc := 242) d_M_advance_242 cv_M_397 y_M_doValue (xm_at s20 R) rfl (Nat.le_of_ble_eq_true rfl) (Nat.le_of_ble_eq_true rfl) (w_M_doValue (d := d + 0) (Q := fun r h' => r = .inl (some (vI v23)) ∧ h' = mH s22 R) (R := R) ⟨rfl, rfl⟩ s20  e21) (fun v h' z => ?_) (fun a h' z => nomatch z.1)
    obtain ⟨z1, z2⟩ := z
    subst z2
    cases z1
    show xW sc m_M_advance (d + 6) Q (mH s22 R) 245 [some (vA 373), some (vI l1), some (vI l2), none, none, none] [vI v23]
    cases h
    exact x_iret (ty := .int) (pc := 245) d_M_advance_245 rfl (rfl) hQ
def f_M_advance_b182  (l1 : Int32) (l2 : Int32) (l3 : Int32) (t0 : Int32) (s : MT) : Option (Int32 × MT) := (if l3 = 0 then (if t0 = 0 then (f_M_leave s).bind fun s4 => some ((0 : Int32), s4) else f_M_advance_b199 l1 l2 s) else f_M_advance_b199 l1 l2 s)
theorem w_M_advance_b182 {sc : xSc} {d : Nat} {Q : xR → xH → Prop} {R : xH} {sZ : MT} {rZ : Int32}  (hQ : Q (.inl (some (vI rZ))) (mH sZ R)) (l1 : Int32) (l2 : Int32) (l3 : Int32) (t0 : Int32) (s : MT) (h : f_M_advance_b182  l1 l2 l3 t0 s = some (rZ, sZ)) : xW sc m_M_advance (d + 6) Q (mH s R) 182 [some (vA 373), some (vI l1), some (vI l2), some (vI l3), none, none] [vI t0] := by
  unfold f_M_advance_b182 at h
  refine x_istore (pc := 182) d_M_advance_182 (by decide) ?_
  show xW sc m_M_advance (d + 6) Q (mH s R) 184 [some (vA 373), some (vI l1), some (vI l2), some (vI l3), some (vI t0), none] []
  refine x_iload_n (pc := 184) d_M_advance_184 rfl ?_
  refine x_if_ne (tgt := 199) (pc := 185) d_M_advance_185 (by decide) (fun c1 => ?_) (fun c1 => ?_)
  · rw [if_neg c1] at h
    exact x_wk (L' := [some (vA 373), some (vI l1), some (vI l2), none, none, none]) ⟨Or.inr rfl, Or.inr rfl, Or.inr rfl, Or.inl rfl, Or.inl rfl, Or.inl rfl, trivial⟩ (w_M_advance_b199 hQ l1 l2 s h)
  · rw [if_pos c1] at h
    refine x_iload (pc := 188) d_M_advance_188 rfl ?_
    refine x_if_ne (tgt := 199) (pc := 190) d_M_advance_190 (by decide) (fun c2 => ?_) (fun c2 => ?_)
    · rw [if_neg c2] at h
      exact x_wk (L' := [some (vA 373), some (vI l1), some (vI l2), none, none, none]) ⟨Or.inr rfl, Or.inr rfl, Or.inr rfl, Or.inl rfl, Or.inl rfl, Or.inl rfl, trivial⟩ (w_M_advance_b199 hQ l1 l2 s h)
    · rw [if_pos c2] at h
      refine x_aload_n (pc := 193) d_M_advance_193 rfl ?_
      obtain ⟨s4, e3, h⟩ := Option.bind_eq_some_iff.mp h
      refine x_invv (c := 1) (av := []) (st := []) (pc := 194) d_M_advance_194 cv_M_385 y_M_leave (xm_at s R) rfl (Nat.le_of_ble_eq_true rfl) (Nat.le_of_ble_eq_true rfl) (w_M_leave (d := d + 5) (Q := fun r h' => r = .inl none ∧ h' = mH s4 R) (R := R) ⟨rfl, rfl⟩ s  e3) (fun v h' z => ?_) (fun a h' z => nomatch z.1)
      obtain ⟨z1, z2⟩ := z
      subst z2
      cases z1
      show xW sc m_M_advance (d + 6) Q (mH s4 R) 197 [some (vA 373), some (vI l1), some (vI l2), some (vI l3), some (vI t0), none] []
      refine x_iconst (v := (0 : Int32)) (pc := 197) d_M_advance_197 (by decide) ?_
      cases h
      exact x_iret (ty := .int) (pc := 198) d_M_advance_198 rfl (rfl) hQ
def f_M_advance_b177  (l1 : Int32) (l2 : Int32) (l3 : Int32) (s : MT) : Option (Int32 × MT) := f_M_advance_b182 l1 l2 l3 (1 : Int32) s
theorem w_M_advance_b177 {sc : xSc} {d : Nat} {Q : xR → xH → Prop} {R : xH} {sZ : MT} {rZ : Int32}  (hQ : Q (.inl (some (vI rZ))) (mH sZ R)) (l1 : Int32) (l2 : Int32) (l3 : Int32) (s : MT) (h : f_M_advance_b177  l1 l2 l3 s = some (rZ, sZ)) : xW sc m_M_advance (d + 6) Q (mH s R) 177 [some (vA 373), some (vI l1), some (vI l2), some (vI l3), none, none] [] := by
  unfold f_M_advance_b177 at h
  refine x_iconst (v := (1 : Int32)) (pc := 177) d_M_advance_177 (by decide) ?_
  refine x_goto (tgt := 182) (pc := 178) d_M_advance_178 (by decide) ?_
  exact w_M_advance_b182 hQ l1 l2 l3 (1 : Int32) s h
def f_M_advance_b172  (l1 : Int32) (l2 : Int32) (l3 : Int32) (s : MT) : Option (Int32 × MT) := (if l2 = (5 : Int32) then f_M_advance_b177 l1 l2 l3 s else f_M_advance_b182 l1 l2 l3 (0 : Int32) s)
theorem w_M_advance_b172 {sc : xSc} {d : Nat} {Q : xR → xH → Prop} {R : xH} {sZ : MT} {rZ : Int32}  (hQ : Q (.inl (some (vI rZ))) (mH sZ R)) (l1 : Int32) (l2 : Int32) (l3 : Int32) (s : MT) (h : f_M_advance_b172  l1 l2 l3 s = some (rZ, sZ)) : xW sc m_M_advance (d + 6) Q (mH s R) 172 [some (vA 373), some (vI l1), some (vI l2), some (vI l3), none, none] [] := by
  unfold f_M_advance_b172 at h
  refine x_iload_n (pc := 172) d_M_advance_172 rfl ?_
  refine x_iconst (v := (5 : Int32)) (pc := 173) d_M_advance_173 (by decide) ?_
  refine x_icmp_ne (tgt := 181) (pc := 174) d_M_advance_174 (by decide) (fun c1 => ?_) (fun c1 => ?_)
  · rw [if_neg c1] at h
    refine x_iconst (v := (0 : Int32)) (pc := 181) d_M_advance_181 (by decide) ?_
    exact w_M_advance_b182 hQ l1 l2 l3 (0 : Int32) s h
  · rw [if_pos c1] at h
    exact w_M_advance_b177 hQ l1 l2 l3 s h
def f_M_advance_b91  (l1 : Int32) (l2 : Int32) (t0 : Int32) (s : MT) : Option (Int32 × MT) := (if l2 = (3 : Int32) then (if xin l1 560 = true then (if 0 ≤ (lg_cmp (mL 21 s l1.toNatClampNeg) (0 : Int64)) then (if xin l1 560 = true then (if xin l1 560 = true then (if 0 < (lg_cmp (mL 20 s l1.toNatClampNeg) (mL 22 s l1.toNatClampNeg)) then f_M_advance_b182 l1 l2 t0 (0 : Int32) s else f_M_advance_b182 l1 l2 t0 (1 : Int32) s) else none) else none) else (if xin l1 560 = true then (if xin l1 560 = true then (if (lg_cmp (mL 20 s l1.toNatClampNeg) (mL 22 s l1.toNatClampNeg)) < 0 then f_M_advance_b182 l1 l2 t0 (0 : Int32) s else f_M_advance_b182 l1 l2 t0 (1 : Int32) s) else none) else none)) else none) else (if l2 = (4 : Int32) then (if xin l1 560 = true then (if 0 < (lg_cmp (mL 20 s l1.toNatClampNeg) (0 : Int64)) then f_M_advance_b177 l1 l2 t0 s else f_M_advance_b172 l1 l2 t0 s) else none) else f_M_advance_b172 l1 l2 t0 s))
theorem w_M_advance_b91 {sc : xSc} {d : Nat} {Q : xR → xH → Prop} {R : xH} {sZ : MT} {rZ : Int32}  (hQ : Q (.inl (some (vI rZ))) (mH sZ R)) (l1 : Int32) (l2 : Int32) (t0 : Int32) (s : MT) (h : f_M_advance_b91  l1 l2 t0 s = some (rZ, sZ)) : xW sc m_M_advance (d + 6) Q (mH s R) 91 [some (vA 373), some (vI l1), some (vI l2), none, none, none] [vI t0] := by
  unfold f_M_advance_b91 at h
  refine x_istore_n (pc := 91) d_M_advance_91 (by decide) ?_
  show xW sc m_M_advance (d + 6) Q (mH s R) 92 [some (vA 373), some (vI l1), some (vI l2), some (vI t0), none, none] []
  refine x_iload_n (pc := 92) d_M_advance_92 rfl ?_
  refine x_iconst (v := (3 : Int32)) (pc := 93) d_M_advance_93 (by decide) ?_
  refine x_icmp_ne (tgt := 156) (pc := 94) d_M_advance_94 (by decide) (fun c1 => ?_) (fun c1 => ?_)
  · rw [if_neg c1] at h
    refine x_iload_n (pc := 156) d_M_advance_156 rfl ?_
    refine x_iconst (v := (4 : Int32)) (pc := 157) d_M_advance_157 (by decide) ?_
    refine x_icmp_ne (tgt := 172) (pc := 158) d_M_advance_158 (by decide) (fun c2 => ?_) (fun c2 => ?_)
    · rw [if_neg c2] at h
      exact w_M_advance_b172 hQ l1 l2 t0 s h
    · rw [if_pos c2] at h
      refine x_aload_n (pc := 161) d_M_advance_161 rfl ?_
      refine x_getf (c := 1) (k := 20) (v := vA 386) (pc := 162) d_M_advance_162 l_M_52 (xm_at s R) rfl ?_
      refine x_iload_n (pc := 165) d_M_advance_165 rfl ?_
      obtain ⟨c3, h⟩ := ite_some h
      refine x_lald (pc := 166) d_M_advance_166 (xm_a20 s R) (xin_vp c3) ?_
      refine x_lconst (v := (0 : Int64)) (pc := 167) d_M_advance_167 (by decide) ?_
      refine x_lcmp (pc := 168) d_M_advance_168 ?_
      refine x_if_gt (tgt := 177) (pc := 169) d_M_advance_169 (by decide) (fun c4 => ?_) (fun c4 => ?_)
      · rw [if_pos c4] at h
        exact w_M_advance_b177 hQ l1 l2 t0 s h
      · rw [if_neg c4] at h
        exact w_M_advance_b172 hQ l1 l2 t0 s h
  · rw [if_pos c1] at h
    refine x_aload_n (pc := 97) d_M_advance_97 rfl ?_
    refine x_getf (c := 1) (k := 21) (v := vA 387) (pc := 98) d_M_advance_98 l_M_55 (xm_at s R) rfl ?_
    refine x_iload_n (pc := 101) d_M_advance_101 rfl ?_
    obtain ⟨c5, h⟩ := ite_some h
    refine x_lald (pc := 102) d_M_advance_102 (xm_a21 s R) (xin_vp c5) ?_
    refine x_lconst (v := (0 : Int64)) (pc := 103) d_M_advance_103 (by decide) ?_
    refine x_lcmp (pc := 104) d_M_advance_104 ?_
    refine x_if_ge (tgt := 132) (pc := 105) d_M_advance_105 (by decide) (fun c6 => ?_) (fun c6 => ?_)
    · rw [if_pos c6] at h
      refine x_aload_n (pc := 132) d_M_advance_132 rfl ?_
      refine x_getf (c := 1) (k := 20) (v := vA 386) (pc := 133) d_M_advance_133 l_M_52 (xm_at s R) rfl ?_
      refine x_iload_n (pc := 136) d_M_advance_136 rfl ?_
      obtain ⟨c7, h⟩ := ite_some h
      refine x_lald (pc := 137) d_M_advance_137 (xm_a20 s R) (xin_vp c7) ?_
      refine x_aload_n (pc := 138) d_M_advance_138 rfl ?_
      refine x_getf (c := 1) (k := 22) (v := vA 388) (pc := 139) d_M_advance_139 l_M_58 (xm_at s R) rfl ?_
      refine x_iload_n (pc := 142) d_M_advance_142 rfl ?_
      obtain ⟨c8, h⟩ := ite_some h
      refine x_lald (pc := 143) d_M_advance_143 (xm_a22 s R) (xin_vp c8) ?_
      refine x_lcmp (pc := 144) d_M_advance_144 ?_
      refine x_if_gt (tgt := 152) (pc := 145) d_M_advance_145 (by decide) (fun c9 => ?_) (fun c9 => ?_)
      · rw [if_pos c9] at h
        refine x_iconst (v := (0 : Int32)) (pc := 152) d_M_advance_152 (by decide) ?_
        refine x_goto (tgt := 182) (pc := 153) d_M_advance_153 (by decide) ?_
        exact w_M_advance_b182 hQ l1 l2 t0 (0 : Int32) s h
      · rw [if_neg c9] at h
        refine x_iconst (v := (1 : Int32)) (pc := 148) d_M_advance_148 (by decide) ?_
        refine x_goto (tgt := 182) (pc := 149) d_M_advance_149 (by decide) ?_
        exact w_M_advance_b182 hQ l1 l2 t0 (1 : Int32) s h
    · rw [if_neg c6] at h
      refine x_aload_n (pc := 108) d_M_advance_108 rfl ?_
      refine x_getf (c := 1) (k := 20) (v := vA 386) (pc := 109) d_M_advance_109 l_M_52 (xm_at s R) rfl ?_
      refine x_iload_n (pc := 112) d_M_advance_112 rfl ?_
      obtain ⟨c10, h⟩ := ite_some h
      refine x_lald (pc := 113) d_M_advance_113 (xm_a20 s R) (xin_vp c10) ?_
      refine x_aload_n (pc := 114) d_M_advance_114 rfl ?_
      refine x_getf (c := 1) (k := 22) (v := vA 388) (pc := 115) d_M_advance_115 l_M_58 (xm_at s R) rfl ?_
      refine x_iload_n (pc := 118) d_M_advance_118 rfl ?_
      obtain ⟨c11, h⟩ := ite_some h
      refine x_lald (pc := 119) d_M_advance_119 (xm_a22 s R) (xin_vp c11) ?_
      refine x_lcmp (pc := 120) d_M_advance_120 ?_
      refine x_if_lt (tgt := 128) (pc := 121) d_M_advance_121 (by decide) (fun c12 => ?_) (fun c12 => ?_)
      · rw [if_pos c12] at h
        refine x_iconst (v := (0 : Int32)) (pc := 128) d_M_advance_128 (by decide) ?_
        refine x_goto (tgt := 182) (pc := 129) d_M_advance_129 (by decide) ?_
        exact w_M_advance_b182 hQ l1 l2 t0 (0 : Int32) s h
      · rw [if_neg c12] at h
        refine x_iconst (v := (1 : Int32)) (pc := 124) d_M_advance_124 (by decide) ?_
        refine x_goto (tgt := 182) (pc := 125) d_M_advance_125 (by decide) ?_
        exact w_M_advance_b182 hQ l1 l2 t0 (1 : Int32) s h
def f_M_advance_b90  (l1 : Int32) (l2 : Int32) (s : MT) : Option (Int32 × MT) := f_M_advance_b91 l1 l2 (0 : Int32) s
theorem w_M_advance_b90 {sc : xSc} {d : Nat} {Q : xR → xH → Prop} {R : xH} {sZ : MT} {rZ : Int32}  (hQ : Q (.inl (some (vI rZ))) (mH sZ R)) (l1 : Int32) (l2 : Int32) (s : MT) (h : f_M_advance_b90  l1 l2 s = some (rZ, sZ)) : xW sc m_M_advance (d + 6) Q (mH s R) 90 [some (vA 373), some (vI l1), some (vI l2), none, none, none] [] := by
  unfold f_M_advance_b90 at h
  refine x_iconst (v := (0 : Int32)) (pc := 90) d_M_advance_90 (by decide) ?_
  exact w_M_advance_b91 hQ l1 l2 (0 : Int32) s h
def f_M_advance (s : MT) : Option (Int32 × MT) := (if xin ((mI 15 s) - (1 : Int32)) 560 = true then (if (mA 17 s ((mI 15 s) - (1 : Int32)).toNatClampNeg) = (7 : Int32) then (f_M_leave s).bind fun s16 => (f_M_push s16 (2 : Int32) (0 : Int64)).bind fun (v19, s18) => some (v19, s18) else (if (mA 17 s ((mI 15 s) - (1 : Int32)).toNatClampNeg) = (1 : Int32) then (if xin ((mI 15 s) - (1 : Int32)) 560 = true then (if xin ((mI 15 s) - (1 : Int32)) 560 = true then (f_M_count (mL 18 s ((mI 15 s) - (1 : Int32)).toNatClampNeg)).bind fun v12 => (if v12 ≤ (mA 19 s ((mI 15 s) - (1 : Int32)).toNatClampNeg) then f_M_advance_b91 ((mI 15 s) - (1 : Int32)) (mA 17 s ((mI 15 s) - (1 : Int32)).toNatClampNeg) (0 : Int32) s else f_M_advance_b91 ((mI 15 s) - (1 : Int32)) (mA 17 s ((mI 15 s) - (1 : Int32)).toNatClampNeg) (1 : Int32) s) else none) else none) else (if (mA 17 s ((mI 15 s) - (1 : Int32)).toNatClampNeg) = (6 : Int32) then (if xin ((mI 15 s) - (1 : Int32)) 560 = true then (if xin ((mI 15 s) - (1 : Int32)) 560 = true then (f_M_count (mL 22 s ((mI 15 s) - (1 : Int32)).toNatClampNeg)).bind fun v7 => (if v7 ≤ (mA 19 s ((mI 15 s) - (1 : Int32)).toNatClampNeg) then f_M_advance_b90 ((mI 15 s) - (1 : Int32)) (mA 17 s ((mI 15 s) - (1 : Int32)).toNatClampNeg) s else f_M_advance_b91 ((mI 15 s) - (1 : Int32)) (mA 17 s ((mI 15 s) - (1 : Int32)).toNatClampNeg) (1 : Int32) s) else none) else none) else f_M_advance_b90 ((mI 15 s) - (1 : Int32)) (mA 17 s ((mI 15 s) - (1 : Int32)).toNatClampNeg) s))) else none)
theorem w_M_advance {sc : xSc} {d : Nat} {Q : xR → xH → Prop} {R : xH} {sZ : MT} {rZ : Int32} (hQ : Q (.inl (some (vI rZ))) (mH sZ R)) (s : MT) (h : f_M_advance s = some (rZ, sZ)) : xW sc m_M_advance (d + 6) Q (mH s R) 0 (xent [vA 373] m_M_advance.2.2.1) [] := by
  show xW sc m_M_advance (d + 6) Q (mH s R) 0 [some (vA 373), none, none, none, none, none] []
  unfold f_M_advance at h
  refine x_aload_n (pc := 0) d_M_advance_0 rfl ?_
  refine x_getf (c := 1) (k := 15) (v := vI (mI 15 s)) (pc := 1) d_M_advance_1 l_M_346 (xm_at s R) rfl ?_
  refine x_iconst (v := (1 : Int32)) (pc := 4) d_M_advance_4 (by decide) ?_
  refine x_isub (pc := 5) d_M_advance_5 ?_
  refine x_istore_n (pc := 6) d_M_advance_6 (by decide) ?_
  show xW sc m_M_advance (d + 6) Q (mH s R) 7 [some (vA 373), some (vI ((mI 15 s) - (1 : Int32))), none, none, none, none] []
  refine x_aload_n (pc := 7) d_M_advance_7 rfl ?_
  refine x_getf (c := 1) (k := 17) (v := vA 383) (pc := 8) d_M_advance_8 l_M_43 (xm_at s R) rfl ?_
  refine x_iload_n (pc := 11) d_M_advance_11 rfl ?_
  obtain ⟨c1, h⟩ := ite_some h
  refine x_iald (pc := 12) d_M_advance_12 (xm_a17 s R) (xin_vp c1) ?_
  refine x_istore_n (pc := 13) d_M_advance_13 (by decide) ?_
  show xW sc m_M_advance (d + 6) Q (mH s R) 14 [some (vA 373), some (vI ((mI 15 s) - (1 : Int32))), some (vI (mA 17 s ((mI 15 s) - (1 : Int32)).toNatClampNeg)), none, none, none] []
  refine x_iload_n (pc := 14) d_M_advance_14 rfl ?_
  refine x_bipush (v := (7 : Int32)) (pc := 15) d_M_advance_15 (by decide) ?_
  refine x_icmp_ne (tgt := 31) (pc := 17) d_M_advance_17 (by decide) (fun c2 => ?_) (fun c2 => ?_)
  · rw [if_neg c2] at h
    refine x_iload_n (pc := 31) d_M_advance_31 rfl ?_
    refine x_iconst (v := (1 : Int32)) (pc := 32) d_M_advance_32 (by decide) ?_
    refine x_icmp_ne (tgt := 62) (pc := 33) d_M_advance_33 (by decide) (fun c3 => ?_) (fun c3 => ?_)
    · rw [if_neg c3] at h
      refine x_iload_n (pc := 62) d_M_advance_62 rfl ?_
      refine x_bipush (v := (6 : Int32)) (pc := 63) d_M_advance_63 (by decide) ?_
      refine x_icmp_ne (tgt := 90) (pc := 65) d_M_advance_65 (by decide) (fun c4 => ?_) (fun c4 => ?_)
      · rw [if_neg c4] at h
        exact w_M_advance_b90 hQ ((mI 15 s) - (1 : Int32)) (mA 17 s ((mI 15 s) - (1 : Int32)).toNatClampNeg) s h
      · rw [if_pos c4] at h
        refine x_aload_n (pc := 68) d_M_advance_68 rfl ?_
        refine x_getf (c := 1) (k := 19) (v := vA 385) (pc := 69) d_M_advance_69 l_M_49 (xm_at s R) rfl ?_
        refine x_iload_n (pc := 72) d_M_advance_72 rfl ?_
        obtain ⟨c5, h⟩ := ite_some h
        refine x_iald (pc := 73) d_M_advance_73 (xm_a19 s R) (xin_vp c5) ?_
        refine x_aload_n (pc := 74) d_M_advance_74 rfl ?_
        refine x_getf (c := 1) (k := 22) (v := vA 388) (pc := 75) d_M_advance_75 l_M_58 (xm_at s R) rfl ?_
        refine x_iload_n (pc := 78) d_M_advance_78 rfl ?_
        obtain ⟨c6, h⟩ := ite_some h
        refine x_lald (pc := 79) d_M_advance_79 (xm_a22 s R) (xin_vp c6) ?_
        obtain ⟨v7, e8, h⟩ := Option.bind_eq_some_iff.mp h
        refine x_invs (av := [vL (mL 22 s ((mI 15 s) - (1 : Int32)).toNatClampNeg)]) (st := [vI (mA 19 s ((mI 15 s) - (1 : Int32)).toNatClampNeg)]) (pc := 80) d_M_advance_80 cs_M_391 y_M_count rfl (Nat.le_of_ble_eq_true rfl) (Nat.le_of_ble_eq_true rfl) (w_M_count (d := d + 5) (Q := fun r h' => r = .inl (some (vI v7)) ∧ h' = mH s R) (hh := mH s R) ⟨rfl, rfl⟩ (mL 22 s ((mI 15 s) - (1 : Int32)).toNatClampNeg) e8) (fun v h' z => ?_) (fun a h' z => nomatch z.1)
        obtain ⟨z1, z2⟩ := z
        subst z2
        cases z1
        show xW sc m_M_advance (d + 6) Q (mH s R) 83 [some (vA 373), some (vI ((mI 15 s) - (1 : Int32))), some (vI (mA 17 s ((mI 15 s) - (1 : Int32)).toNatClampNeg)), none, none, none] [vI v7, vI (mA 19 s ((mI 15 s) - (1 : Int32)).toNatClampNeg)]
        refine x_icmp_ge (tgt := 90) (pc := 83) d_M_advance_83 (by decide) (fun c9 => ?_) (fun c9 => ?_)
        · rw [if_pos c9] at h
          exact w_M_advance_b90 hQ ((mI 15 s) - (1 : Int32)) (mA 17 s ((mI 15 s) - (1 : Int32)).toNatClampNeg) s h
        · rw [if_neg c9] at h
          refine x_iconst (v := (1 : Int32)) (pc := 86) d_M_advance_86 (by decide) ?_
          refine x_goto (tgt := 91) (pc := 87) d_M_advance_87 (by decide) ?_
          exact w_M_advance_b91 hQ ((mI 15 s) - (1 : Int32)) (mA 17 s ((mI 15 s) - (1 : Int32)).toNatClampNeg) (1 : Int32) s h
    · rw [if_pos c3] at h
      refine x_aload_n (pc := 36) d_M_advance_36 rfl ?_
      refine x_getf (c := 1) (k := 19) (v := vA 385) (pc := 37) d_M_advance_37 l_M_49 (xm_at s R) rfl ?_
      refine x_iload_n (pc := 40) d_M_advance_40 rfl ?_
      obtain ⟨c10, h⟩ := ite_some h
      refine x_iald (pc := 41) d_M_advance_41 (xm_a19 s R) (xin_vp c10) ?_
      refine x_aload_n (pc := 42) d_M_advance_42 rfl ?_
      refine x_getf (c := 1) (k := 18) (v := vA 384) (pc := 43) d_M_advance_43 l_M_46 (xm_at s R) rfl ?_
      refine x_iload_n (pc := 46) d_M_advance_46 rfl ?_
      obtain ⟨c11, h⟩ := ite_some h
      refine x_lald (pc := 47) d_M_advance_47 (xm_a18 s R) (xin_vp c11) ?_
      obtain ⟨v12, e13, h⟩ := Option.bind_eq_some_iff.mp h
      refine x_invs (av := [vL (mL 18 s ((mI 15 s) - (1 : Int32)).toNatClampNeg)]) (st := [vI (mA 19 s ((mI 15 s) - (1 : Int32)).toNatClampNeg)]) (pc := 48) d_M_advance_48 cs_M_391 y_M_count rfl (Nat.le_of_ble_eq_true rfl) (Nat.le_of_ble_eq_true rfl) (w_M_count (d := d + 5) (Q := fun r h' => r = .inl (some (vI v12)) ∧ h' = mH s R) (hh := mH s R) ⟨rfl, rfl⟩ (mL 18 s ((mI 15 s) - (1 : Int32)).toNatClampNeg) e13) (fun v h' z => ?_) (fun a h' z => nomatch z.1)
      obtain ⟨z1, z2⟩ := z
      subst z2
      cases z1
      show xW sc m_M_advance (d + 6) Q (mH s R) 51 [some (vA 373), some (vI ((mI 15 s) - (1 : Int32))), some (vI (mA 17 s ((mI 15 s) - (1 : Int32)).toNatClampNeg)), none, none, none] [vI v12, vI (mA 19 s ((mI 15 s) - (1 : Int32)).toNatClampNeg)]
      refine x_icmp_ge (tgt := 58) (pc := 51) d_M_advance_51 (by decide) (fun c14 => ?_) (fun c14 => ?_)
      · rw [if_pos c14] at h
        refine x_iconst (v := (0 : Int32)) (pc := 58) d_M_advance_58 (by decide) ?_
        refine x_goto (tgt := 91) (pc := 59) d_M_advance_59 (by decide) ?_
        exact w_M_advance_b91 hQ ((mI 15 s) - (1 : Int32)) (mA 17 s ((mI 15 s) - (1 : Int32)).toNatClampNeg) (0 : Int32) s h
      · rw [if_neg c14] at h
        refine x_iconst (v := (1 : Int32)) (pc := 54) d_M_advance_54 (by decide) ?_
        refine x_goto (tgt := 91) (pc := 55) d_M_advance_55 (by decide) ?_
        exact w_M_advance_b91 hQ ((mI 15 s) - (1 : Int32)) (mA 17 s ((mI 15 s) - (1 : Int32)).toNatClampNeg) (1 : Int32) s h
  · rw [if_pos c2] at h
    refine x_aload_n (pc := 20) d_M_advance_20 rfl ?_
    obtain ⟨s16, e15, h⟩ := Option.bind_eq_some_iff.mp h
    refine x_invv (c := 1) (av := []) (st := []) (pc := 21) d_M_advance_21 cv_M_385 y_M_leave (xm_at s R) rfl (Nat.le_of_ble_eq_true rfl) (Nat.le_of_ble_eq_true rfl) (w_M_leave (d := d + 5) (Q := fun r h' => r = .inl none ∧ h' = mH s16 R) (R := R) ⟨rfl, rfl⟩ s  e15) (fun v h' z => ?_) (fun a h' z => nomatch z.1)
    obtain ⟨z1, z2⟩ := z
    subst z2
    cases z1
    show xW sc m_M_advance (d + 6) Q (mH s16 R) 24 [some (vA 373), some (vI ((mI 15 s) - (1 : Int32))), some (vI (mA 17 s ((mI 15 s) - (1 : Int32)).toNatClampNeg)), none, none, none] []
    refine x_aload_n (pc := 24) d_M_advance_24 rfl ?_
    refine x_iconst (v := (2 : Int32)) (pc := 25) d_M_advance_25 (by decide) ?_
    refine x_lconst (v := (0 : Int64)) (pc := 26) d_M_advance_26 (by decide) ?_
    obtain ⟨⟨v19, s18⟩, e17, h⟩ := Option.bind_eq_some_iff.mp h
    dsimp only at h
    refine x_invv (c := 1) (av := [vI (2 : Int32), vL (0 : Int64)]) (st := []) (pc := 27) d_M_advance_27 cv_M_388 y_M_push (xm_at s16 R) rfl (Nat.le_of_ble_eq_true rfl) (Nat.le_of_ble_eq_true rfl) (w_M_push (d := d + 4) (Q := fun r h' => r = .inl (some (vI v19)) ∧ h' = mH s18 R) (R := R) ⟨rfl, rfl⟩ s16 (2 : Int32) (0 : Int64) e17) (fun v h' z => ?_) (fun a h' z => nomatch z.1)
    obtain ⟨z1, z2⟩ := z
    subst z2
    cases z1
    show xW sc m_M_advance (d + 6) Q (mH s18 R) 30 [some (vA 373), some (vI ((mI 15 s) - (1 : Int32))), some (vI (mA 17 s ((mI 15 s) - (1 : Int32)).toNatClampNeg)), none, none, none] [vI v19]
    cases h
    exact x_iret (ty := .int) (pc := 30) d_M_advance_30 rfl (rfl) hQ
def f_M_work_b31  (l1 : Int32) (s : MT) : Option (Int32 × MT) := some (l1, s)
theorem w_M_work_b31 {sc : xSc} {d : Nat} {Q : xR → xH → Prop} {R : xH} {sZ : MT} {rZ : Int32}  (hQ : Q (.inl (some (vI rZ))) (mH sZ R)) (l1 : Int32) (s : MT) (h : f_M_work_b31  l1 s = some (rZ, sZ)) : xW sc m_M_work (d + 7) Q (mH s R) 31 [none, some (vI l1), none] [] := by
  unfold f_M_work_b31 at h
  refine x_iload_n (pc := 31) d_M_work_31 rfl ?_
  cases h
  exact x_iret (ty := .int) (pc := 32) d_M_work_32 rfl (rfl) hQ
def f_M_work_b7  : Nat → Int32 → Int32 → MT → Option (Int32 × MT)
  | 0, _, _, _ => none
  | n + 1, l1, l2, s => (if (100000 : Int32) ≤ l2 then some (l1, s) else (f_M_caught s l1).bind fun (v4, s3) => (if v4 = 0 then (if (mI 15 s3) = 0 then f_M_work_b31 v4 s3 else (f_M_advance s3).bind fun (v10, s9) => (f_M_work_b7 n) v10 (l2 + Int32.ofInt 1) s9) else f_M_work_b31 v4 s3))
theorem w_M_work_b7 {sc : xSc} {d : Nat} {Q : xR → xH → Prop} {R : xH} {sZ : MT} {rZ : Int32}  (hQ : Q (.inl (some (vI rZ))) (mH sZ R)) : ∀ (n : Nat) (l1 : Int32) (l2 : Int32) (s : MT), f_M_work_b7  n l1 l2 s = some (rZ, sZ) → xW sc m_M_work (d + 7) Q (mH s R) 7 [some (vA 373), some (vI l1), some (vI l2)] [] := by
  intro n
  induction n with
  | zero =>
    intro l1 l2 s h
    cases h
  | succ n hk7 =>
    intro l1 l2 s h
    unfold f_M_work_b7 at h
    refine x_iload_n (pc := 7) d_M_work_7 rfl ?_
    refine x_ldcw (v := (100000 : Int32)) (pc := 8) d_M_work_8 c_M_405 ?_
    refine x_icmp_ge (tgt := 44) (pc := 11) d_M_work_11 (by decide) (fun c1 => ?_) (fun c1 => ?_)
    · rw [if_pos c1] at h
      refine x_iload_n (pc := 44) d_M_work_44 rfl ?_
      cases h
      exact x_iret (ty := .int) (pc := 45) d_M_work_45 rfl (rfl) hQ
    · rw [if_neg c1] at h
      refine x_aload_n (pc := 14) d_M_work_14 rfl ?_
      refine x_iload_n (pc := 15) d_M_work_15 rfl ?_
      obtain ⟨⟨v4, s3⟩, e2, h⟩ := Option.bind_eq_some_iff.mp h
      dsimp only at h
      refine x_invv (c := 1) (av := [vI l1]) (st := []) (pc := 16) d_M_work_16 cv_M_406 y_M_caught (xm_at s R) rfl (Nat.le_of_ble_eq_true rfl) (Nat.le_of_ble_eq_true rfl) (w_M_caught (d := d + 4) (Q := fun r h' => r = .inl (some (vI v4)) ∧ h' = mH s3 R) (R := R) ⟨rfl, rfl⟩ s l1 e2) (fun v h' z => ?_) (fun a h' z => nomatch z.1)
      obtain ⟨z1, z2⟩ := z
      subst z2
      cases z1
      show xW sc m_M_work (d + 7) Q (mH s3 R) 19 [some (vA 373), some (vI l1), some (vI l2)] [vI v4]
      refine x_istore_n (pc := 19) d_M_work_19 (by decide) ?_
      show xW sc m_M_work (d + 7) Q (mH s3 R) 20 [some (vA 373), some (vI v4), some (vI l2)] []
      refine x_iload_n (pc := 20) d_M_work_20 rfl ?_
      refine x_if_ne (tgt := 31) (pc := 21) d_M_work_21 (by decide) (fun c6 => ?_) (fun c6 => ?_)
      · rw [if_neg c6] at h
        exact x_wk (L' := [none, some (vI v4), none]) ⟨Or.inl rfl, Or.inr rfl, Or.inl rfl, trivial⟩ (w_M_work_b31 hQ v4 s3 h)
      · rw [if_pos c6] at h
        refine x_aload_n (pc := 24) d_M_work_24 rfl ?_
        refine x_getf (c := 1) (k := 15) (v := vI (mI 15 s3)) (pc := 25) d_M_work_25 l_M_346 (xm_at s3 R) rfl ?_
        refine x_if_ne (tgt := 33) (pc := 28) d_M_work_28 (by decide) (fun c7 => ?_) (fun c7 => ?_)
        · rw [if_neg c7] at h
          refine x_aload_n (pc := 33) d_M_work_33 rfl ?_
          obtain ⟨⟨v10, s9⟩, e8, h⟩ := Option.bind_eq_some_iff.mp h
          dsimp only at h
          refine x_invv (c := 1) (av := []) (st := []) (pc := 34) d_M_work_34 cv_M_409 y_M_advance (xm_at s3 R) rfl (Nat.le_of_ble_eq_true rfl) (Nat.le_of_ble_eq_true rfl) (w_M_advance (d := d + 0) (Q := fun r h' => r = .inl (some (vI v10)) ∧ h' = mH s9 R) (R := R) ⟨rfl, rfl⟩ s3  e8) (fun v h' z => ?_) (fun a h' z => nomatch z.1)
          obtain ⟨z1, z2⟩ := z
          subst z2
          cases z1
          show xW sc m_M_work (d + 7) Q (mH s9 R) 37 [some (vA 373), some (vI v4), some (vI l2)] [vI v10]
          refine x_istore_n (pc := 37) d_M_work_37 (by decide) ?_
          show xW sc m_M_work (d + 7) Q (mH s9 R) 38 [some (vA 373), some (vI v10), some (vI l2)] []
          refine x_iinc (pc := 38) d_M_work_38 rfl (by decide) ?_
          show xW sc m_M_work (d + 7) Q (mH s9 R) 41 [some (vA 373), some (vI v10), some (vI (l2 + Int32.ofInt 1))] []
          refine x_goto (tgt := 7) (pc := 41) d_M_work_41 (by decide) ?_
          exact hk7 v10 (l2 + Int32.ofInt 1) s9 h
        · rw [if_pos c7] at h
          exact x_wk (L' := [none, some (vI v4), none]) ⟨Or.inl rfl, Or.inr rfl, Or.inl rfl, trivial⟩ (w_M_work_b31 hQ v4 s3 h)
def f_M_work (s : MT) : Option (Int32 × MT) := (f_M_doValue s).bind fun (v3, s2) => f_M_work_b7 mF v3 (0 : Int32) s2
theorem w_M_work {sc : xSc} {d : Nat} {Q : xR → xH → Prop} {R : xH} {sZ : MT} {rZ : Int32} (hQ : Q (.inl (some (vI rZ))) (mH sZ R)) (s : MT) (h : f_M_work s = some (rZ, sZ)) : xW sc m_M_work (d + 7) Q (mH s R) 0 (xent [vA 373] m_M_work.2.2.1) [] := by
  show xW sc m_M_work (d + 7) Q (mH s R) 0 [some (vA 373), none, none] []
  unfold f_M_work at h
  refine x_aload_n (pc := 0) d_M_work_0 rfl ?_
  obtain ⟨⟨v3, s2⟩, e1, h⟩ := Option.bind_eq_some_iff.mp h
  dsimp only at h
  refine x_invv (c := 1) (av := []) (st := []) (pc := 1) d_M_work_1 cv_M_397 y_M_doValue (xm_at s R) rfl (Nat.le_of_ble_eq_true rfl) (Nat.le_of_ble_eq_true rfl) (w_M_doValue (d := d + 1) (Q := fun r h' => r = .inl (some (vI v3)) ∧ h' = mH s2 R) (R := R) ⟨rfl, rfl⟩ s  e1) (fun v h' z => ?_) (fun a h' z => nomatch z.1)
  obtain ⟨z1, z2⟩ := z
  subst z2
  cases z1
  show xW sc m_M_work (d + 7) Q (mH s2 R) 4 [some (vA 373), none, none] [vI v3]
  refine x_istore_n (pc := 4) d_M_work_4 (by decide) ?_
  show xW sc m_M_work (d + 7) Q (mH s2 R) 5 [some (vA 373), some (vI v3), none] []
  refine x_iconst (v := (0 : Int32)) (pc := 5) d_M_work_5 (by decide) ?_
  refine x_istore_n (pc := 6) d_M_work_6 (by decide) ?_
  show xW sc m_M_work (d + 7) Q (mH s2 R) 7 [some (vA 373), some (vI v3), some (vI (0 : Int32))] []
  exact w_M_work_b7 hQ mF v3 (0 : Int32) s2 h
def f_M_run_b108  (t0 : Int32) (s : MT) : Option (Int32 × MT) := some (t0, s)
theorem w_M_run_b108 {sc : xSc} {d : Nat} {Q : xR → xH → Prop} {R : xH} {sZ : MT} {rZ : Int32}  (hQ : Q (.inl (some (vI rZ))) (mH sZ R)) (t0 : Int32) (s : MT) (h : f_M_run_b108  t0 s = some (rZ, sZ)) : xW sc m_M_run (d + 8) Q (mH s R) 108 [none, none, none, none] [vI t0] := by
  unfold f_M_run_b108 at h
  cases h
  exact x_iret (ty := .int) (pc := 108) d_M_run_108 rfl (rfl) hQ
def f_M_run_b93  (l2 : Int32) (s : MT) : Option (Int32 × MT) := (if l2 = (-1 : Int32) then f_M_run_b108 (0 : Int32) (sI 24 (0 : Int32) s) else f_M_run_b108 l2 (sI 24 (0 : Int32) s))
theorem w_M_run_b93 {sc : xSc} {d : Nat} {Q : xR → xH → Prop} {R : xH} {sZ : MT} {rZ : Int32}  (hQ : Q (.inl (some (vI rZ))) (mH sZ R)) (l2 : Int32) (s : MT) (h : f_M_run_b93  l2 s = some (rZ, sZ)) : xW sc m_M_run (d + 8) Q (mH s R) 93 [some (vA 373), none, some (vI l2), none] [] := by
  unfold f_M_run_b93 at h
  refine x_aload_n (pc := 93) d_M_run_93 rfl ?_
  refine x_iconst (v := (0 : Int32)) (pc := 94) d_M_run_94 (by decide) ?_
  refine xm_p24 (pc := 95) d_M_run_95 l_M_270 ?_
  refine x_iload_n (pc := 98) d_M_run_98 rfl ?_
  refine x_iconst (v := (-1 : Int32)) (pc := 99) d_M_run_99 (by decide) ?_
  refine x_icmp_ne (tgt := 107) (pc := 100) d_M_run_100 (by decide) (fun c1 => ?_) (fun c1 => ?_)
  · rw [if_neg c1] at h
    refine x_iload_n (pc := 107) d_M_run_107 rfl ?_
    exact x_wk (L' := [none, none, none, none]) ⟨Or.inl rfl, Or.inl rfl, Or.inl rfl, Or.inl rfl, trivial⟩ (w_M_run_b108 hQ l2 (sI 24 (0 : Int32) s) h)
  · rw [if_pos c1] at h
    refine x_iconst (v := (0 : Int32)) (pc := 103) d_M_run_103 (by decide) ?_
    refine x_goto (tgt := 108) (pc := 104) d_M_run_104 (by decide) ?_
    exact x_wk (L' := [none, none, none, none]) ⟨Or.inl rfl, Or.inl rfl, Or.inl rfl, Or.inl rfl, trivial⟩ (w_M_run_b108 hQ (0 : Int32) (sI 24 (0 : Int32) s) h)
def f_M_run_b87 (k49 : Int32 → Int32 → MT → Option (Int32 × MT)) (l2 : Int32) (l3 : Int32) (s : MT) : Option (Int32 × MT) := k49 l2 (l3 + Int32.ofInt 1) s
theorem w_M_run_b87 {sc : xSc} {d : Nat} {Q : xR → xH → Prop} {R : xH} {sZ : MT} {rZ : Int32} (k49 : Int32 → Int32 → MT → Option (Int32 × MT)) (hk49 : ∀ (l2 : Int32) (l3 : Int32) (s : MT), k49 l2 l3 s = some (rZ, sZ) → xW sc m_M_run (d + 8) Q (mH s R) 49 [some (vA 373), none, some (vI l2), some (vI l3)] []) (hQ : Q (.inl (some (vI rZ))) (mH sZ R)) (l2 : Int32) (l3 : Int32) (s : MT) (h : f_M_run_b87 k49 l2 l3 s = some (rZ, sZ)) : xW sc m_M_run (d + 8) Q (mH s R) 87 [some (vA 373), none, some (vI l2), some (vI l3)] [] := by
  unfold f_M_run_b87 at h
  refine x_iinc (pc := 87) d_M_run_87 rfl (by decide) ?_
  show xW sc m_M_run (d + 8) Q (mH s R) 90 [some (vA 373), none, some (vI l2), some (vI (l3 + Int32.ofInt 1))] []
  refine x_goto (tgt := 49) (pc := 90) d_M_run_90 (by decide) ?_
  exact hk49 l2 (l3 + Int32.ofInt 1) s h
def f_M_run_b49  : Nat → Int32 → Int32 → MT → Option (Int32 × MT)
  | 0, _, _, _ => none
  | n + 1, l2, l3, s => (if (130 : Int32) ≤ l3 then f_M_run_b93 l2 s else (if l2 = 0 then (f_M_token s).bind fun (v5, s4) => (if v5 = 0 then (f_M_work s4).bind fun (v11, s10) => f_M_run_b87 (f_M_run_b49 n) v11 l3 s10 else (if v5 = (-1 : Int32) then f_M_run_b87 (f_M_run_b49 n) v5 l3 s4 else f_M_run_b87 (f_M_run_b49 n) v5 l3 (sI 33 v5 s4))) else f_M_run_b93 l2 s))
theorem w_M_run_b49 {sc : xSc} {d : Nat} {Q : xR → xH → Prop} {R : xH} {sZ : MT} {rZ : Int32}  (hQ : Q (.inl (some (vI rZ))) (mH sZ R)) : ∀ (n : Nat) (l2 : Int32) (l3 : Int32) (s : MT), f_M_run_b49  n l2 l3 s = some (rZ, sZ) → xW sc m_M_run (d + 8) Q (mH s R) 49 [some (vA 373), none, some (vI l2), some (vI l3)] [] := by
  intro n
  induction n with
  | zero =>
    intro l2 l3 s h
    cases h
  | succ n hk49 =>
    intro l2 l3 s h
    unfold f_M_run_b49 at h
    refine x_iload_n (pc := 49) d_M_run_49 rfl ?_
    refine x_sipush (v := (130 : Int32)) (pc := 50) d_M_run_50 (by decide) ?_
    refine x_icmp_ge (tgt := 93) (pc := 53) d_M_run_53 (by decide) (fun c1 => ?_) (fun c1 => ?_)
    · rw [if_pos c1] at h
      exact x_wk (L' := [some (vA 373), none, some (vI l2), none]) ⟨Or.inr rfl, Or.inl rfl, Or.inr rfl, Or.inl rfl, trivial⟩ (w_M_run_b93 hQ l2 s h)
    · rw [if_neg c1] at h
      refine x_iload_n (pc := 56) d_M_run_56 rfl ?_
      refine x_if_ne (tgt := 93) (pc := 57) d_M_run_57 (by decide) (fun c2 => ?_) (fun c2 => ?_)
      · rw [if_neg c2] at h
        exact x_wk (L' := [some (vA 373), none, some (vI l2), none]) ⟨Or.inr rfl, Or.inl rfl, Or.inr rfl, Or.inl rfl, trivial⟩ (w_M_run_b93 hQ l2 s h)
      · rw [if_pos c2] at h
        refine x_aload_n (pc := 60) d_M_run_60 rfl ?_
        obtain ⟨⟨v5, s4⟩, e3, h⟩ := Option.bind_eq_some_iff.mp h
        dsimp only at h
        refine x_invv (c := 1) (av := []) (st := []) (pc := 61) d_M_run_61 cv_M_412 y_M_token (xm_at s R) rfl (Nat.le_of_ble_eq_true rfl) (Nat.le_of_ble_eq_true rfl) (w_M_token (d := d + 3) (Q := fun r h' => r = .inl (some (vI v5)) ∧ h' = mH s4 R) (R := R) ⟨rfl, rfl⟩ s  e3) (fun v h' z => ?_) (fun a h' z => nomatch z.1)
        obtain ⟨z1, z2⟩ := z
        subst z2
        cases z1
        show xW sc m_M_run (d + 8) Q (mH s4 R) 64 [some (vA 373), none, some (vI l2), some (vI l3)] [vI v5]
        refine x_istore_n (pc := 64) d_M_run_64 (by decide) ?_
        show xW sc m_M_run (d + 8) Q (mH s4 R) 65 [some (vA 373), none, some (vI v5), some (vI l3)] []
        refine x_iload_n (pc := 65) d_M_run_65 rfl ?_
        refine x_if_ne (tgt := 77) (pc := 66) d_M_run_66 (by decide) (fun c7 => ?_) (fun c7 => ?_)
        · rw [if_neg c7] at h
          refine x_iload_n (pc := 77) d_M_run_77 rfl ?_
          refine x_iconst (v := (-1 : Int32)) (pc := 78) d_M_run_78 (by decide) ?_
          refine x_icmp_eq (tgt := 87) (pc := 79) d_M_run_79 (by decide) (fun c8 => ?_) (fun c8 => ?_)
          · rw [if_pos c8] at h
            exact w_M_run_b87 (f_M_run_b49 n) hk49 hQ v5 l3 s4 h
          · rw [if_neg c8] at h
            refine x_aload_n (pc := 82) d_M_run_82 rfl ?_
            refine x_iload_n (pc := 83) d_M_run_83 rfl ?_
            refine xm_p33 (pc := 84) d_M_run_84 l_M_402 ?_
            exact w_M_run_b87 (f_M_run_b49 n) hk49 hQ v5 l3 (sI 33 v5 s4) h
        · rw [if_pos c7] at h
          refine x_aload_n (pc := 69) d_M_run_69 rfl ?_
          obtain ⟨⟨v11, s10⟩, e9, h⟩ := Option.bind_eq_some_iff.mp h
          dsimp only at h
          refine x_invv (c := 1) (av := []) (st := []) (pc := 70) d_M_run_70 cv_M_415 y_M_work (xm_at s4 R) rfl (Nat.le_of_ble_eq_true rfl) (Nat.le_of_ble_eq_true rfl) (w_M_work (d := d + 0) (Q := fun r h' => r = .inl (some (vI v11)) ∧ h' = mH s10 R) (R := R) ⟨rfl, rfl⟩ s4  e9) (fun v h' z => ?_) (fun a h' z => nomatch z.1)
          obtain ⟨z1, z2⟩ := z
          subst z2
          cases z1
          show xW sc m_M_run (d + 8) Q (mH s10 R) 73 [some (vA 373), none, some (vI v5), some (vI l3)] [vI v11]
          refine x_istore_n (pc := 73) d_M_run_73 (by decide) ?_
          show xW sc m_M_run (d + 8) Q (mH s10 R) 74 [some (vA 373), none, some (vI v11), some (vI l3)] []
          refine x_goto (tgt := 87) (pc := 74) d_M_run_74 (by decide) ?_
          exact w_M_run_b87 (f_M_run_b49 n) hk49 hQ v11 l3 s10 h
def f_M_run_b18  (l1 : Int32) (t0 : Int32) (s : MT) : Option (Int32 × MT) := (if (mI 0 (sI 0 t0 s)) ≤ 0 then f_M_run_b49 mF (0 : Int32) (0 : Int32) (sI 25 (0 : Int32) (sI 32 (0 : Int32) (sI 31 l1 (sI 0 t0 s)))) else some ((0 : Int32), sI 0 t0 s))
theorem w_M_run_b18 {sc : xSc} {d : Nat} {Q : xR → xH → Prop} {R : xH} {sZ : MT} {rZ : Int32}  (hQ : Q (.inl (some (vI rZ))) (mH sZ R)) (l1 : Int32) (t0 : Int32) (s : MT) (h : f_M_run_b18  l1 t0 s = some (rZ, sZ)) : xW sc m_M_run (d + 8) Q (mH s R) 18 [some (vA 373), some (vI l1), none, none] [vI t0, vA 373] := by
  unfold f_M_run_b18 at h
  refine xm_p0 (pc := 18) d_M_run_18 l_M_242 ?_
  refine x_aload_n (pc := 21) d_M_run_21 rfl ?_
  refine x_getf (c := 1) (k := 0) (v := vI (mI 0 (sI 0 t0 s))) (pc := 22) d_M_run_22 l_M_242 (xm_at (sI 0 t0 s) R) rfl ?_
  refine x_if_le (tgt := 30) (pc := 25) d_M_run_25 (by decide) (fun c1 => ?_) (fun c1 => ?_)
  · rw [if_pos c1] at h
    refine x_aload_n (pc := 30) d_M_run_30 rfl ?_
    refine x_iload_n (pc := 31) d_M_run_31 rfl ?_
    refine xm_p31 (pc := 32) d_M_run_32 l_M_359 ?_
    refine x_aload_n (pc := 35) d_M_run_35 rfl ?_
    refine x_iconst (v := (0 : Int32)) (pc := 36) d_M_run_36 (by decide) ?_
    refine xm_p32 (pc := 37) d_M_run_37 l_M_356 ?_
    refine x_aload_n (pc := 40) d_M_run_40 rfl ?_
    refine x_iconst (v := (0 : Int32)) (pc := 41) d_M_run_41 (by decide) ?_
    refine xm_p25 (pc := 42) d_M_run_42 l_M_281 ?_
    refine x_iconst (v := (0 : Int32)) (pc := 45) d_M_run_45 (by decide) ?_
    refine x_istore_n (pc := 46) d_M_run_46 (by decide) ?_
    show xW sc m_M_run (d + 8) Q (mH (sI 25 (0 : Int32) (sI 32 (0 : Int32) (sI 31 l1 (sI 0 t0 s)))) R) 47 [some (vA 373), some (vI l1), some (vI (0 : Int32)), none] []
    refine x_iconst (v := (0 : Int32)) (pc := 47) d_M_run_47 (by decide) ?_
    refine x_istore_n (pc := 48) d_M_run_48 (by decide) ?_
    show xW sc m_M_run (d + 8) Q (mH (sI 25 (0 : Int32) (sI 32 (0 : Int32) (sI 31 l1 (sI 0 t0 s)))) R) 49 [some (vA 373), some (vI l1), some (vI (0 : Int32)), some (vI (0 : Int32))] []
    exact x_wk (L' := [some (vA 373), none, some (vI (0 : Int32)), some (vI (0 : Int32))]) ⟨Or.inr rfl, Or.inl rfl, Or.inr rfl, Or.inr rfl, trivial⟩ (w_M_run_b49 hQ mF (0 : Int32) (0 : Int32) (sI 25 (0 : Int32) (sI 32 (0 : Int32) (sI 31 l1 (sI 0 t0 s)))) h)
  · rw [if_neg c1] at h
    refine x_iconst (v := (0 : Int32)) (pc := 28) d_M_run_28 (by decide) ?_
    cases h
    exact x_iret (ty := .int) (pc := 29) d_M_run_29 rfl (rfl) hQ
def f_M_run_b13  (l1 : Int32) (s : MT) : Option (Int32 × MT) := f_M_run_b18 l1 (1 : Int32) s
theorem w_M_run_b13 {sc : xSc} {d : Nat} {Q : xR → xH → Prop} {R : xH} {sZ : MT} {rZ : Int32}  (hQ : Q (.inl (some (vI rZ))) (mH sZ R)) (l1 : Int32) (s : MT) (h : f_M_run_b13  l1 s = some (rZ, sZ)) : xW sc m_M_run (d + 8) Q (mH s R) 13 [some (vA 373), some (vI l1), none, none] [vA 373] := by
  unfold f_M_run_b13 at h
  refine x_iconst (v := (1 : Int32)) (pc := 13) d_M_run_13 (by decide) ?_
  refine x_goto (tgt := 18) (pc := 14) d_M_run_14 (by decide) ?_
  exact w_M_run_b18 hQ l1 (1 : Int32) s h
def f_M_run (s : MT) (a1 : Int32) : Option (Int32 × MT) := (if a1 < (1 : Int32) then f_M_run_b13 a1 s else (if a1 ≤ (500 : Int32) then f_M_run_b18 a1 (0 : Int32) s else f_M_run_b13 a1 s))
theorem w_M_run {sc : xSc} {d : Nat} {Q : xR → xH → Prop} {R : xH} {sZ : MT} {rZ : Int32} (hQ : Q (.inl (some (vI rZ))) (mH sZ R)) (s : MT) (a1 : Int32) (h : f_M_run s a1 = some (rZ, sZ)) : xW sc m_M_run (d + 8) Q (mH s R) 0 (xent [vA 373, vI a1] m_M_run.2.2.1) [] := by
  show xW sc m_M_run (d + 8) Q (mH s R) 0 [some (vA 373), some (vI a1), none, none] []
  unfold f_M_run at h
  refine x_aload_n (pc := 0) d_M_run_0 rfl ?_
  refine x_iload_n (pc := 1) d_M_run_1 rfl ?_
  refine x_iconst (v := (1 : Int32)) (pc := 2) d_M_run_2 (by decide) ?_
  refine x_icmp_lt (tgt := 13) (pc := 3) d_M_run_3 (by decide) (fun c1 => ?_) (fun c1 => ?_)
  · rw [if_pos c1] at h
    exact w_M_run_b13 hQ a1 s h
  · rw [if_neg c1] at h
    refine x_iload_n (pc := 6) d_M_run_6 rfl ?_
    refine x_sipush (v := (500 : Int32)) (pc := 7) d_M_run_7 (by decide) ?_
    refine x_icmp_le (tgt := 17) (pc := 10) d_M_run_10 (by decide) (fun c2 => ?_) (fun c2 => ?_)
    · rw [if_pos c2] at h
      refine x_iconst (v := (0 : Int32)) (pc := 17) d_M_run_17 (by decide) ?_
      exact w_M_run_b18 hQ a1 (0 : Int32) s h
    · rw [if_neg c2] at h
      exact w_M_run_b13 hQ a1 s h
