theorem yy_fin_xn {a : UInt64} (h : qfin a) : xn64 a = true := by
  obtain ⟨s, c, q, h⟩ := h
  unfold xn64
  rw [decide_eq_true_eq, UInt64.le_iff_toNat_le, UInt64.toNat_and]
  have e2 : (0x7fffffffffffffff : UInt64).toNat = 2 ^ 63 - 1 := by decide
  have e3 : (0x7ff0000000000000 : UInt64).toNat = 9218868437227405312 := by decide
  rw [e2, e3, Nat.and_two_pow_sub_one_eq_mod]
  have hT : FP.Core.b64.tails = 4503599627370496 := by decide
  have hE : FP.Core.b64.exps = 2048 := by decide
  unfold FP.Core.decode FP.Core.fieldE FP.Core.fieldT at h
  rw [hT, hE] at h
  by_cases c1 : a.toNat / 4503599627370496 % 2048 = 2048 - 1
  · rw [if_pos c1] at h
    by_cases c2 : a.toNat % 4503599627370496 = 0
    · rw [if_pos c2] at h
      cases h
    · rw [if_neg c2] at h
      cases h
  · show a.toNat % 9223372036854775808 ≤ 9218868437227405312
    have d1 : a.toNat % 9223372036854775808 = 4503599627370496 * (a.toNat / 4503599627370496 % 2048) + a.toNat % 4503599627370496 := by
      rw [show (9223372036854775808 : Nat) = 4503599627370496 * 2048 from rfl, Nat.mod_mul]
      rw [Nat.add_comm]
    have d2 : a.toNat % 4503599627370496 < 4503599627370496 := Nat.mod_lt _ (by decide)
    have d3 : a.toNat / 4503599627370496 % 2048 < 2048 := Nat.mod_lt _ (by decide)
    generalize a.toNat / 4503599627370496 % 2048 = E at *
    generalize a.toNat % 4503599627370496 = T at *
    omega
theorem yy_cmp_eq0 {x y : UInt64} (p : CmpOp) : Op.cmpValue (FP.dcmp x y) p = 0 ↔ FP.dcmp x y = some .eq := by
  cases h : FP.dcmp x y with
  | none => cases p <;> exact ⟨fun e => absurd e (by decide), fun e => by cases e⟩
  | some r => cases p <;> cases r <;> exact ⟨fun e => by first | rfl | exact absurd e (by decide), fun e => by first | rfl | cases e⟩
theorem yy_oth_sin {s : MT} (op : Int32) (h1 : f_M_suitsOther s op = some (1, s)) (h2 : yy_dsp op s = f_M_single s op) : yy_oth op s = f_M_single s op := by
  unfold yy_oth
  rw [h1, Option.bind_some]
  show (if (1 : Int32) = 0 then _ else _) = _
  rw [if_neg (by decide)]
  exact h2
theorem yy_opB_1 (c : yy_CT) (n : Nat) : yy_opB c n 1 = yy_cR 269 c (n - 1) := rfl
theorem yy_O_div {rc : rcE} {sc : xSc} {g : yy_GT} {m : Nat} {c : yy_CT} {s : MT} {t nd o n : Nat} {d : Int32} (h : yy_RR g (m + 1) c s t nd o n) : yy_OPS m c s (f_P_operate rc sc (yy_cH c) (some 256) (some 15) d) (f_M_operate s 13) := by
  have hn := h.le40
  refine yy_OP_head (gr := 1) 13 [2, 2] h (yy_OPc_of _ rfl) (by decide) (by decide) rfl (by decide) (by decide) (fun hr => ?_)
  have hr : 2 ≤ n := hr
  obtain ⟨b, w, b1, b2, b3, b4⟩ := h.val (show n - 1 < n by omega)
  obtain ⟨a, v, a1, a2, a3, a4⟩ := h.val (show n - 2 < n by omega)
  rw [yy_alls2, show n - 1 - 1 = n - 2 by omega, b4.sk2, a4.sk2, yy_e_b96_1, show yy_opA c n [2, 2].length = yy_cR 269 c (n - 2) from yy_opA_1 c n 1, a1, show yy_opB c n [2, 2].length = yy_cR 269 c (n - 2 + 1) from yy_opB_2 c n 0, show n - 2 + 1 = n - 1 by omega, b1, yy_N_perf _ _ a2 b2 a4.cm b4.cm, yy_N_b26 (by decide) (by decide) (by decide) a2 b2 a4.cm b4.cm]
  by_cases hv : (v.1 = some 72 ∨ v.1 = some 73) ∧ (w.1 = some 72 ∨ w.1 = some 73)
  · obtain ⟨q1, q2⟩ := a4.nval hv.1
    obtain ⟨q3, q4⟩ := b4.nval hv.2
    rw [if_pos (show _ = true by rw [decide_eq_true hv.1, decide_eq_true hv.2]; rfl), if_pos hv, yy_oth_num 13 rfl rfl, yy_e_Msum 13 h.2.1.1 hn hr, if_neg (show ¬ (13 : Int32) ≤ 12 by decide), if_pos rfl, q1, q3]
    generalize (if v.1 = some 72 ∧ w.1 = some 72 then (1 : Int32) else 0) = l6
    have e80 : f_Numbers_perform_b80 sc (some 256) (some 15) (some a) (some b) l6 0 1 (some 256) (yy_cH c) = f_Numbers_perform_b96 sc (some 256) (some 15) (some a) (some b) l6 (some 256) (yy_cH c) := by
      unfold f_Numbers_perform_b80
      rw [if_pos (yy_cis_P _ _), yy_e_type1, p_tBl, if_pos (show (0 : Int32) = 0 from rfl), if_pos (show xcm (some 15) = true from rfl), if_pos (show xcm (some 15) = true from rfl), if_pos rfl]
    rw [e80]
    unfold f_Numbers_perform_b96
    rw [if_pos (yy_sgis b2), yy_e_value b2 b4.cm, Option.bind_some]
    by_cases hz : (Op.cmpValue (FP.dcmp (yy_nv w) FP.dconst0) .l) = 0
    · rw [if_pos hz, if_pos hz]
      refine yy_O_fail 6 h (by decide) (by decide) ?_ rfl
      unfold f_Numbers_perform_b111
      rw [if_pos (yy_cis_P _ _), yy_e_need0 6 h.1.1 h.room]
      rfl
    · have hx := q_ddiv q2 q4 (fun z => hz ((yy_cmp_eq0 _).mpr z))
      rw [if_neg hz, if_neg hz]
      unfold f_Numbers_perform_b106 f_Numbers_perform_b111 f_M_sum_b72
      rw [if_pos (yy_cis_P _ _), yy_e_need1, p_tBl, if_pos (show xis sc (yy_cH c) 19 (some 15) = true from rfl), show f_Enum_ordinal19 sc (yy_cH c) (some 15) = some 15 from rfl, Option.bind_some, if_pos rfl, if_pos (yy_sgis a2), yy_e_value a2 a4.cm, Option.bind_some, if_pos (yy_sgis b2), yy_e_value b2 b4.cm, Option.bind_some, if_pos hx, if_pos (yy_cis_P _ _), if_pos rfl, if_pos hx, yy_bind_id]
      rw [show (fun (_ : Unit) (u : xH) => f_Numbers_perform_b337 sc u) = fun _ u => some (.inl (), u) from rfl, yy_tB_id]
      exact yy_O_giveReal sc h hr (by decide) hx
  · rw [if_neg hv, yy_N_b80_0 h.1.1 h.room, if_neg (fun z => hv (by rw [Bool.and_eq_true, decide_eq_true_eq, decide_eq_true_eq] at z; exact ⟨z.2, z.1⟩))]
    exact yy_O_fail 3 h (by decide) (by decide) rfl rfl
theorem yy_q_ne0 {b : UInt64} {s : Bool} {c : Nat} {q : Int} (h : FP.Core.decode FP.Core.b64 b.toNat = .fin s c q) (hc : c ≠ 0) : FP.dcmp b FP.dconst0 ≠ some .eq := by
  show FP.Core.order (FP.Core.decode FP.Core.b64 b.toNat) (FP.Core.decode FP.Core.b64 FP.dconst0.toNat) ≠ _
  have e0 : FP.Core.decode FP.Core.b64 FP.dconst0.toNat = .fin false 0 (-1074) := by decide
  rw [h, e0]
  show some (compare (FP.Core.signed s (FP.Core.inUnits c q (min q (-1074)))) (FP.Core.signed false (FP.Core.inUnits 0 (-1074) (min q (-1074))))) ≠ _
  have e1 : ∀ k e : Int, FP.Core.inUnits 0 k e = 0 := fun k e => Nat.zero_mul _
  rw [e1]
  intro z
  have z2 : compare (FP.Core.signed s (FP.Core.inUnits c q (min q (-1074)))) (FP.Core.signed false 0) = .eq := Option.some.inj z
  have z3 := Int.compare_eq_eq.mp z2
  have e2 : FP.Core.inUnits c q (min q (-1074)) ≠ 0 := Nat.mul_ne_zero hc (Nat.pos_iff_ne_zero.mp (Nat.pow_pos (by decide)))
  cases s
  · exact e2 (Int.ofNat.inj z3)
  · have z4 : -(FP.Core.inUnits c q (min q (-1074)) : Int) = 0 := z3
    omega
theorem yy_z_i32 {x : Int32} (h : Op.cmpValue (FP.dcmp (FP.i2d x) FP.dconst0) .l = 0) : x = 0 := by
  rw [yy_cmp_eq0, q_i2d] at h
  by_cases h0 : x.toInt64.toInt = 0
  · rw [Int32.toInt_toInt64] at h0
    exact Int32.toInt_inj.mp h0
  · exfalso
    have hb : x.toInt64.toInt.natAbs < 9007199254740992 := by
      rw [Int32.toInt_toInt64]
      have h1 := x.toInt_lt
      have h2 := x.le_toInt
      omega
    have hd := q_l2d_dec h0 hb
    have : FP.dcmp (FP.l2d x.toInt64) FP.dconst0 ≠ some .eq := by
      refine yy_q_ne0 hd (Nat.mul_ne_zero ?_ (Nat.pos_iff_ne_zero.mp (Nat.pow_pos (by decide))))
      omega
    exact this h
