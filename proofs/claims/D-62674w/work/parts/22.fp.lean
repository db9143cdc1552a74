/-! doubles: no NaN comes of finite operands -/
def qok (d : FP.Core.Datum) : Prop := match d with
  | .nan => False
  | .inf _ => True
  | .fin _ c q => c < 9007199254740992 ∧ q ≤ 971
theorem q_mask (n : Nat) (h : n < 18446744073709551616) : (UInt64.ofNat n &&& 0x7fffffffffffffff).toNat = n % 9223372036854775808 := by
  rw [UInt64.toNat_and]
  have e1 : (UInt64.ofNat n).toNat = n := by
    rw [UInt64.toNat_ofNat']
    exact Nat.mod_eq_of_lt h
  have e2 : (0x7fffffffffffffff : UInt64).toNat = 2 ^ 63 - 1 := by decide
  rw [e1, e2, Nat.and_two_pow_sub_one_eq_mod]
theorem q_xn {n : Nat} (h : n < 18446744073709551616) (h2 : n % 9223372036854775808 ≤ 9218868437227405312) : xn64 (UInt64.ofNat n) = true := by
  unfold xn64
  rw [decide_eq_true_eq, UInt64.le_iff_toNat_le, q_mask n h]
  exact h2
theorem q_asm (s : Bool) (e t : Nat) (h : e * 4503599627370496 + t ≤ 9218868437227405312) : xn64 (UInt64.ofNat (FP.Core.assemble FP.Core.b64 s e t)) = true := by
  have hE : FP.Core.b64.exps = 2048 := by decide
  have hT : FP.Core.b64.tails = 4503599627370496 := by decide
  unfold FP.Core.assemble
  rw [hE, hT]
  have k0 : (false.toNat * 2048 + e) * 4503599627370496 = e * 4503599627370496 := by
    show (0 * 2048 + e) * _ = _
    rw [Nat.zero_mul, Nat.zero_add]
  have k1 : (true.toNat * 2048 + e) * 4503599627370496 = 9223372036854775808 + e * 4503599627370496 := by
    show (1 * 2048 + e) * _ = _
    rw [Nat.add_mul]
  cases s with
  | false =>
    rw [k0]
    generalize e * 4503599627370496 = x at h
    refine q_xn (by omega) ?_
    rw [Nat.mod_eq_of_lt (by omega)]
    exact h
  | true =>
    rw [k1]
    generalize e * 4503599627370496 = x at h
    refine q_xn (by omega) ?_
    rw [Nat.add_assoc, Nat.add_mod_left, Nat.mod_eq_of_lt (by omega)]
    exact h
theorem q_enc {d : FP.Core.Datum} (h : qok d) : xn64 (UInt64.ofNat (FP.Core.encode FP.Core.b64 d)) = true := by
  cases d with
  | nan => exact h.elim
  | inf s =>
    show xn64 (UInt64.ofNat (FP.Core.assemble FP.Core.b64 s (FP.Core.b64.exps - 1) 0)) = true
    have hE : FP.Core.b64.exps = 2048 := by decide
    rw [hE]
    exact q_asm s _ _ (by decide)
  | fin s c q =>
    obtain ⟨h1, h2⟩ := h
    have hT : FP.Core.b64.tails = 4503599627370496 := by decide
    have hQ : FP.Core.b64.qmin = -1074 := by decide
    show xn64 (UInt64.ofNat (if c < FP.Core.b64.tails then FP.Core.assemble FP.Core.b64 s 0 c else FP.Core.assemble FP.Core.b64 s ((q - FP.Core.b64.qmin).toNat + 1) (c - FP.Core.b64.tails))) = true
    rw [hT, hQ]
    by_cases hc : c < 4503599627370496
    · rw [if_pos hc]
      exact q_asm s _ _ (by omega)
    · rw [if_neg hc]
      refine q_asm s _ _ ?_
      have : (q - -1074).toNat ≤ 2045 := by omega
      have h3 : ((q - -1074).toNat + 1) * 4503599627370496 ≤ 2046 * 4503599627370496 := Nat.mul_le_mul_right _ (by omega)
      have h4 : 2046 * 4503599627370496 + 4503599627370496 = 9218868437227405312 := by decide
      refine Nat.le_trans (Nat.add_le_add h3 (show c - 4503599627370496 ≤ 4503599627370496 by omega)) (Nat.le_of_eq h4)
theorem q_bound (s : Bool) (c : Nat) (q : Int) (h : c < 9007199254740992) : qok (FP.Core.bound FP.Core.b64 s c q) := by
  unfold FP.Core.bound
  have hQ : FP.Core.b64.qmax = 971 := by decide
  rw [hQ]
  by_cases hq : q ≤ 971
  · rw [if_pos hq]
    exact ⟨h, hq⟩
  · rw [if_neg hq]
    exact trivial
theorem q_settle (s : Bool) (c : Nat) (q : Int) : qok (FP.Core.settle FP.Core.b64 s c q) := by
  unfold FP.Core.settle
  have hP : 2 ^ FP.Core.b64.p = 9007199254740992 := by decide
  have hT : FP.Core.b64.tails = 4503599627370496 := by decide
  rw [hP, hT]
  by_cases h : c < 9007199254740992
  · rw [if_pos h]
    exact q_bound s c q h
  · rw [if_neg h]
    exact q_bound s _ _ (by decide)
theorem q_ratio (s : Bool) (n d : Nat) (e : Int) : qok (FP.Core.roundRatio FP.Core.b64 s n d e) := by
  unfold FP.Core.roundRatio
  by_cases h : n = 0
  · rw [if_pos h]
    exact ⟨by decide, by decide⟩
  · rw [if_neg h]
    exact q_settle _ _ _
theorem q_round {d : FP.Core.Datum} (h : d ≠ .nan) : qok (FP.Core.round FP.Core.b64 d) := by
  cases d with
  | nan => exact absurd rfl h
  | inf s => exact trivial
  | fin s c q => exact q_ratio s c 1 q
/-- a finite double -/
def qfin (a : UInt64) : Prop := ∃ s c q, FP.Core.decode FP.Core.b64 a.toNat = .fin s c q
theorem q_dadd {a b : UInt64} (ha : qfin a) (hb : qfin b) : xn64 (FP.dadd a b) = true := by
  obtain ⟨s, c, q, h1⟩ := ha
  obtain ⟨s2, c2, q2, h2⟩ := hb
  show xn64 (UInt64.ofNat (FP.Core.encode FP.Core.b64 (FP.Core.round FP.Core.b64 (FP.Core.exactSum (FP.Core.decode FP.Core.b64 a.toNat) (FP.Core.decode FP.Core.b64 b.toNat))))) = true
  rw [h1, h2]
  exact q_enc (q_round (by intro h; cases h))
theorem q_dsub {a b : UInt64} (ha : qfin a) (hb : qfin b) : xn64 (FP.dsub a b) = true := by
  obtain ⟨s, c, q, h1⟩ := ha
  obtain ⟨s2, c2, q2, h2⟩ := hb
  show xn64 (UInt64.ofNat (FP.Core.encode FP.Core.b64 (FP.Core.round FP.Core.b64 (FP.Core.exactSum (FP.Core.decode FP.Core.b64 a.toNat) (FP.Core.negate (FP.Core.decode FP.Core.b64 b.toNat)))))) = true
  rw [h1, h2]
  exact q_enc (q_round (by intro h; cases h))
theorem q_dmul {a b : UInt64} (ha : qfin a) (hb : qfin b) : xn64 (FP.dmul a b) = true := by
  obtain ⟨s, c, q, h1⟩ := ha
  obtain ⟨s2, c2, q2, h2⟩ := hb
  show xn64 (UInt64.ofNat (FP.Core.encode FP.Core.b64 (FP.Core.round FP.Core.b64 (FP.Core.exactProduct (FP.Core.decode FP.Core.b64 a.toNat) (FP.Core.decode FP.Core.b64 b.toNat))))) = true
  rw [h1, h2]
  exact q_enc (q_round (by intro h; cases h))
theorem q_nz {b : UInt64} {s : Bool} {c : Nat} {q : Int} (h : FP.Core.decode FP.Core.b64 b.toNat = .fin s c q) (h0 : FP.dcmp b FP.dconst0 ≠ some .eq) : c ≠ 0 := by
  intro hc
  apply h0
  subst hc
  show FP.Core.order (FP.Core.decode FP.Core.b64 b.toNat) (FP.Core.decode FP.Core.b64 FP.dconst0.toNat) = _
  have e0 : FP.Core.decode FP.Core.b64 FP.dconst0.toNat = .fin false 0 (-1074) := by decide
  rw [h, e0]
  show some (compare (FP.Core.signed s (FP.Core.inUnits 0 q (min q (-1074)))) (FP.Core.signed false (FP.Core.inUnits 0 (-1074) (min q (-1074))))) = _
  have e1 : ∀ k e : Int, FP.Core.inUnits 0 k e = 0 := fun k e => Nat.zero_mul _
  rw [e1, e1]
  cases s <;> rfl
theorem q_ddiv {a b : UInt64} (ha : qfin a) (hb : qfin b) (h0 : FP.dcmp b FP.dconst0 ≠ some .eq) : xn64 (FP.ddiv a b) = true := by
  obtain ⟨s, c, q, h1⟩ := ha
  obtain ⟨s2, c2, q2, h2⟩ := hb
  have hc := q_nz h2 h0
  show xn64 (UInt64.ofNat (FP.Core.encode FP.Core.b64 (FP.Core.quotient FP.Core.b64 (FP.Core.decode FP.Core.b64 a.toNat) (FP.Core.decode FP.Core.b64 b.toNat)))) = true
  rw [h1, h2]
  show xn64 (UInt64.ofNat (FP.Core.encode FP.Core.b64 (if c2 = 0 then _ else _))) = true
  rw [if_neg hc]
  exact q_enc (q_ratio _ _ _ _)
/-- a double between two finite ones is finite -/
theorem q_between {a lo hi : UInt64} (hl : qfin lo) (hh : qfin hi) (h1 : FP.dcmp a hi = some .lt ∨ FP.dcmp a hi = some .eq) (h2 : FP.dcmp a lo = some .gt ∨ FP.dcmp a lo = some .eq) : qfin a := by
  obtain ⟨s, c, q, e1⟩ := hl
  obtain ⟨s2, c2, q2, e2⟩ := hh
  have k1 : FP.dcmp a hi = FP.Core.order (FP.Core.decode FP.Core.b64 a.toNat) (.fin s2 c2 q2) := by rw [← e2]; rfl
  have k2 : FP.dcmp a lo = FP.Core.order (FP.Core.decode FP.Core.b64 a.toNat) (.fin s c q) := by rw [← e1]; rfl
  rw [k1] at h1
  rw [k2] at h2
  cases hd : FP.Core.decode FP.Core.b64 a.toNat with
  | nan =>
    rw [hd] at h1
    rcases h1 with h1 | h1 <;> cases h1
  | inf t =>
    rw [hd] at h1 h2
    cases t with
    | false => rcases h1 with h1 | h1 <;> exact absurd (show some (compare (1 : Int) 0) = _ from h1) (by decide)
    | true => rcases h2 with h2 | h2 <;> exact absurd (show some (compare (-1 : Int) 0) = _ from h2) (by decide)
  | fin t d r => exact ⟨t, d, r, hd⟩
theorem q_l2d (n : Int64) : xn64 (FP.l2d n) = true := by
  show xn64 (UInt64.ofNat (FP.Core.encode FP.Core.b64 (FP.Core.round FP.Core.b64 (FP.Core.ofInt n.toInt)))) = true
  exact q_enc (q_round (by intro h; cases h))
theorem q_i2d (n : Int32) : FP.i2d n = FP.l2d n.toInt64 := by
  show UInt64.ofNat (FP.Core.fromInt FP.Core.b64 n.toInt) = UInt64.ofNat (FP.Core.fromInt FP.Core.b64 n.toInt64.toInt)
  rw [Int32.toInt_toInt64]
theorem q_dec_n {a : UInt64} (h : xn64 a = true) : FP.Core.decode FP.Core.b64 a.toNat ≠ .nan := by
  unfold xn64 at h
  rw [decide_eq_true_eq, UInt64.le_iff_toNat_le, UInt64.toNat_and] at h
  have e2 : (0x7fffffffffffffff : UInt64).toNat = 2 ^ 63 - 1 := by decide
  have e3 : (0x7ff0000000000000 : UInt64).toNat = 9218868437227405312 := by decide
  rw [e2, e3, Nat.and_two_pow_sub_one_eq_mod] at h
  have hT : FP.Core.b64.tails = 4503599627370496 := by decide
  have hE : FP.Core.b64.exps = 2048 := by decide
  unfold FP.Core.decode FP.Core.fieldE FP.Core.fieldT
  rw [hT, hE]
  have h' : a.toNat % 9223372036854775808 ≤ 9218868437227405312 := h
  by_cases c1 : a.toNat / 4503599627370496 % 2048 = 2048 - 1
  · rw [if_pos c1]
    have c2 : a.toNat % 4503599627370496 = 0 := by
      have d1 : a.toNat % 9223372036854775808 = 4503599627370496 * (a.toNat / 4503599627370496 % 2048) + a.toNat % 4503599627370496 := by
        rw [show (9223372036854775808 : Nat) = 4503599627370496 * 2048 from rfl, Nat.mod_mul]
        rw [Nat.add_comm]
      rw [c1] at d1
      have d2 : 4503599627370496 * (2048 - 1) = 9218868437227405312 := by decide
      rw [d2] at d1
      omega
    rw [if_pos c2]
    intro z
    cases z
  · rw [if_neg c1]
    by_cases c2 : a.toNat / 4503599627370496 % 2048 = 0
    · rw [if_pos c2]
      intro z
      cases z
    · rw [if_neg c2]
      intro z
      cases z
theorem q_cmp {a b : UInt64} (ha : xn64 a = true) (hb : xn64 b = true) : ∃ o, FP.dcmp a b = some o := by
  have h1 := q_dec_n ha
  have h2 := q_dec_n hb
  show ∃ o, FP.Core.order (FP.Core.decode FP.Core.b64 a.toNat) (FP.Core.decode FP.Core.b64 b.toNat) = some o
  cases hd : FP.Core.decode FP.Core.b64 a.toNat with
  | nan => exact absurd hd h1
  | inf s => cases he : FP.Core.decode FP.Core.b64 b.toNat with
    | nan => exact absurd he h2
    | inf t => exact ⟨_, rfl⟩
    | fin t d r => exact ⟨_, rfl⟩
  | fin s c q => cases he : FP.Core.decode FP.Core.b64 b.toNat with
    | nan => exact absurd he h2
    | inf t => exact ⟨_, rfl⟩
    | fin t d r => exact ⟨_, rfl⟩
/-! rounding does not see how a number is written -/
theorem q_log2 (A k : Nat) (h : A ≠ 0) : (A * 2 ^ k).log2 = A.log2 + k := by
  induction k with
  | zero => simp
  | succ k ih =>
    rw [Nat.pow_succ, show A * (2 ^ k * 2) = 2 * (A * 2 ^ k) by rw [← Nat.mul_assoc, Nat.mul_comm], Nat.log2_two_mul (Nat.mul_ne_zero h (Nat.pos_iff_ne_zero.mp (Nat.two_pow_pos k))), ih]
    omega
theorem q_near (A B k : Nat) (hk : 0 < k) : FP.Core.nearest (A * k) (B * k) = FP.Core.nearest A B := by
  unfold FP.Core.nearest
  rw [Nat.mul_mod_mul_right, Nat.mul_div_mul_right _ _ hk]
  have e : 2 * (A % B * k) = 2 * (A % B) * k := by rw [Nat.mul_assoc]
  rw [e]
  simp only [Nat.mul_lt_mul_right hk]
theorem q_lead (n : Nat) (h : n ≠ 0) : FP.Core.leading n 1 = (n.log2 : Int) := by
  unfold FP.Core.leading
  have e1 : Nat.log2 1 = 0 := by decide
  rw [e1]
  have e2 : ((n.log2 : Int) - ((0 : Nat) : Int)) = (n.log2 : Int) := by omega
  simp only [e2]
  have e3 : (-(n.log2 : Int)).toNat = 0 := by omega
  have e4 : ((n.log2 : Int)).toNat = n.log2 := by omega
  rw [e3, e4, if_pos]
  rw [Nat.one_mul, Nat.pow_zero, Nat.mul_one]
  exact Nat.log2_self_le h
theorem q_rr (f : FP.Core.Fmt) (s : Bool) (c k : Nat) (e : Int) (hc : c ≠ 0) : FP.Core.roundRatio f s (c * 2 ^ k) 1 e = FP.Core.roundRatio f s c 1 (e + k) := by
  have hk : 0 < 2 ^ k := Nat.two_pow_pos k
  have hck : c * 2 ^ k ≠ 0 := Nat.mul_ne_zero hc (by omega)
  unfold FP.Core.roundRatio
  rw [if_neg hck, if_neg hc]
  have hq : FP.Core.quantum f (c * 2 ^ k) 1 e = FP.Core.quantum f c 1 (e + k) := by
    unfold FP.Core.quantum
    rw [q_lead _ hck, q_lead _ hc, q_log2 c k hc]
    congr 1
    omega
  rw [hq]
  generalize FP.Core.quantum f c 1 (e + k) = q
  unfold FP.Core.roundAt
  congr 1
  unfold FP.Core.unitsNum FP.Core.unitsDen
  rw [Nat.one_mul, Nat.one_mul]
  by_cases h1 : q ≤ e
  · have a1 : (q - e).toNat = 0 := by omega
    have a2 : (q - (e + k)).toNat = 0 := by omega
    have a3 : (e + k - q).toNat = k + (e - q).toNat := by omega
    rw [a1, a2, a3, Nat.pow_add, Nat.mul_assoc]
  · by_cases h2 : q ≤ e + k
    · have a1 : (e - q).toNat = 0 := by omega
      have a2 : (q - (e + k)).toNat = 0 := by omega
      have a3 : k = (e + k - q).toNat + (q - e).toNat := by omega
      rw [a1, a2, Nat.pow_zero, Nat.mul_one]
      have a4 : c * 2 ^ k = c * 2 ^ (e + k - q).toNat * 2 ^ (q - e).toNat := by rw [Nat.mul_assoc, ← Nat.pow_add, ← a3]
      rw [a4]
      have a5 := q_near (c * 2 ^ (e + k - q).toNat) 1 (2 ^ (q - e).toNat) (Nat.two_pow_pos _)
      rw [Nat.one_mul] at a5
      exact a5
    · have a1 : (e - q).toNat = 0 := by omega
      have a2 : (e + k - q).toNat = 0 := by omega
      have a3 : (q - e).toNat = (q - (e + k)).toNat + k := by omega
      rw [a1, a2, Nat.pow_zero, Nat.mul_one, Nat.mul_one, a3, Nat.pow_add]
      exact q_near c _ (2 ^ k) hk
theorem q_int {m : Nat} (s : Bool) (h0 : m ≠ 0) (h : m < 9007199254740992) : FP.Core.roundRatio FP.Core.b64 s m 1 0 = .fin s (m * 2 ^ (52 - m.log2)) ((m.log2 : Int) - 52) := by
  have hl : m.log2 < 53 := (Nat.log2_lt h0).mpr h
  have hq : FP.Core.quantum FP.Core.b64 m 1 0 = (m.log2 : Int) - 52 := by
    unfold FP.Core.quantum
    rw [q_lead m h0]
    have e1 : FP.Core.b64.qmin = -1074 := by decide
    have e2 : (FP.Core.b64.p : Int) - 1 = 52 := by decide
    rw [e1, e2]
    omega
  unfold FP.Core.roundRatio
  rw [if_neg h0, hq]
  unfold FP.Core.roundAt FP.Core.unitsNum FP.Core.unitsDen
  have a1 : (((m.log2 : Int) - 52) - 0).toNat = 0 := by omega
  have a2 : ((0 : Int) - ((m.log2 : Int) - 52)).toNat = 52 - m.log2 := by omega
  rw [a1, a2, Nat.pow_zero, Nat.mul_one]
  have a3 : FP.Core.nearest (m * 2 ^ (52 - m.log2)) 1 = m * 2 ^ (52 - m.log2) := by
    unfold FP.Core.nearest
    rw [Nat.mod_one, Nat.div_one]
    rfl
  rw [a3]
  unfold FP.Core.settle
  have e3 : 2 ^ FP.Core.b64.p = 2 ^ 53 := by decide
  have a4 : m * 2 ^ (52 - m.log2) < 2 ^ 53 := by
    have b1 : m < 2 ^ (m.log2 + 1) := Nat.lt_log2_self
    have b2 : 2 ^ 53 = 2 ^ (m.log2 + 1) * 2 ^ (52 - m.log2) := by rw [← Nat.pow_add]; congr 1; omega
    rw [b2]
    exact Nat.mul_lt_mul_of_pos_right b1 (Nat.two_pow_pos _)
  rw [e3, if_pos a4]
  unfold FP.Core.bound
  have e4 : FP.Core.b64.qmax = 971 := by decide
  rw [e4, if_pos (by omega)]
theorem q_dec {s : Bool} {c : Nat} {q : Int} (h1 : 4503599627370496 ≤ c) (h2 : c < 9007199254740992) (h3 : -1074 ≤ q) (h4 : q ≤ 971) : FP.Core.decode FP.Core.b64 (UInt64.ofNat (FP.Core.encode FP.Core.b64 (.fin s c q))).toNat = .fin s c q := by
  have hT : FP.Core.b64.tails = 4503599627370496 := by decide
  have hE : FP.Core.b64.exps = 2048 := by decide
  have hQ : FP.Core.b64.qmin = -1074 := by decide
  obtain ⟨e, he, he1, he2⟩ : ∃ e : Nat, (q - -1074).toNat + 1 = e ∧ 1 ≤ e ∧ e ≤ 2046 := ⟨_, rfl, by omega, by omega⟩
  obtain ⟨t, ht, ht2⟩ : ∃ t : Nat, c = 4503599627370496 + t ∧ t < 4503599627370496 := ⟨c - 4503599627370496, by omega, by omega⟩
  have hen : FP.Core.encode FP.Core.b64 (.fin s c q) = (s.toNat * 2048 + e) * 4503599627370496 + t := by
    show (if c < FP.Core.b64.tails then FP.Core.assemble FP.Core.b64 s 0 c else FP.Core.assemble FP.Core.b64 s ((q - FP.Core.b64.qmin).toNat + 1) (c - FP.Core.b64.tails)) = _
    rw [hT, hQ, if_neg (by omega), he]
    unfold FP.Core.assemble
    rw [hE, hT, show c - 4503599627370496 = t by omega]
  rw [hen]
  have hs : s.toNat ≤ 1 := by cases s <;> decide
  have hlt : (s.toNat * 2048 + e) * 4503599627370496 + t < 18446744073709551616 := by
    have : (s.toNat * 2048 + e + 1) * 4503599627370496 ≤ 4096 * 4503599627370496 := Nat.mul_le_mul_right _ (by omega)
    rw [Nat.add_mul] at this
    have k9 : 4096 * 4503599627370496 = 18446744073709551616 := by decide
    rw [k9] at this
    rw [Nat.one_mul] at this
    exact Nat.lt_of_lt_of_le (Nat.add_lt_add_left ht2 _) this
  rw [UInt64.toNat_ofNat', Nat.mod_eq_of_lt hlt]
  have hd : ((s.toNat * 2048 + e) * 4503599627370496 + t) / 4503599627370496 = s.toNat * 2048 + e := by
    rw [Nat.mul_comm, Nat.mul_add_div (by decide), Nat.div_eq_of_lt ht2, Nat.add_zero]
  have hm : ((s.toNat * 2048 + e) * 4503599627370496 + t) % 4503599627370496 = t := by
    rw [Nat.mul_comm, Nat.mul_add_mod, Nat.mod_eq_of_lt ht2]
  unfold FP.Core.decode FP.Core.fieldE FP.Core.fieldT FP.Core.fieldS
  rw [hT, hE, hd, hm, hQ]
  have h8 : e < 2048 := Nat.lt_of_le_of_lt he2 (by decide)
  have h5 : (s.toNat * 2048 + e) % 2048 = e := by rw [Nat.mul_comm, Nat.mul_add_mod, Nat.mod_eq_of_lt h8]
  have h6 : (s.toNat * 2048 + e) / 2048 = s.toNat := by rw [Nat.mul_comm, Nat.mul_add_div (by decide), Nat.div_eq_of_lt h8, Nat.add_zero]
  rw [h5, h6, if_neg (fun z => absurd (z ▸ he2) (by decide)), if_neg (fun z => absurd (z ▸ he1) (by decide))]
  have h7 : (s.toNat % 2 == 1) = s := by cases s <;> decide
  rw [h7, ht]
  have h9 : -1074 + ((e : Int) - 1) = q := by
    clear hlt hd hm hen ht ht2 h1 h2
    omega
  rw [h9]
theorem q_l2d_dec {n : Int64} (h0 : n.toInt ≠ 0) (h : n.toInt.natAbs < 9007199254740992) : FP.Core.decode FP.Core.b64 (FP.l2d n).toNat = .fin (decide (n.toInt < 0)) (n.toInt.natAbs * 2 ^ (52 - n.toInt.natAbs.log2)) ((n.toInt.natAbs.log2 : Int) - 52) := by
  have hm : n.toInt.natAbs ≠ 0 := by omega
  have hl : n.toInt.natAbs.log2 < 53 := (Nat.log2_lt hm).mpr h
  show FP.Core.decode FP.Core.b64 (UInt64.ofNat (FP.Core.encode FP.Core.b64 (FP.Core.roundRatio FP.Core.b64 (decide (n.toInt < 0)) n.toInt.natAbs 1 0))).toNat = _
  rw [q_int _ hm h]
  have b1 : n.toInt.natAbs < 2 ^ (n.toInt.natAbs.log2 + 1) := Nat.lt_log2_self
  have b0 : 2 ^ n.toInt.natAbs.log2 ≤ n.toInt.natAbs := Nat.log2_self_le hm
  generalize n.toInt.natAbs.log2 = l at *
  generalize n.toInt.natAbs = m at *
  have b2 : 2 ^ 53 = 2 ^ (l + 1) * 2 ^ (52 - l) := by rw [← Nat.pow_add]; congr 1; omega
  have b3 : 2 ^ 52 = 2 ^ l * 2 ^ (52 - l) := by rw [← Nat.pow_add]; congr 1; omega
  refine q_dec ?_ ?_ (by omega) (by omega)
  · show 2 ^ 52 ≤ _
    rw [b3]
    exact Nat.mul_le_mul_right _ b0
  · show _ < 2 ^ 53
    rw [b2]
    exact Nat.mul_lt_mul_of_pos_right b1 (Nat.two_pow_pos _)
theorem q_pred {n : Int64} (h : n.toInt.natAbs < 9007199254740992) (hn : (n - 1).toInt = n.toInt - 1) : FP.dsub (FP.l2d n) FP.dconst1 = FP.l2d (n - 1) := by
  by_cases c0 : n.toInt = 0
  · have : n = 0 := Int64.toInt_inj.mp c0
    subst this
    decide +kernel
  · by_cases c1 : n.toInt = 1
    · have : n = 1 := Int64.toInt_inj.mp c1
      subst this
      decide +kernel
    · show UInt64.ofNat (FP.Core.encode FP.Core.b64 (FP.Core.round FP.Core.b64 (FP.Core.exactSum (FP.Core.decode FP.Core.b64 (FP.l2d n).toNat) (FP.Core.negate (FP.Core.decode FP.Core.b64 FP.dconst1.toNat))))) = UInt64.ofNat (FP.Core.encode FP.Core.b64 (FP.Core.round FP.Core.b64 (FP.Core.ofInt (n - 1).toInt)))
      have e1 : FP.Core.negate (FP.Core.decode FP.Core.b64 FP.dconst1.toNat) = .fin true 4503599627370496 (-52) := by decide
      rw [e1, q_l2d_dec c0 h, hn]
      have hm : n.toInt.natAbs ≠ 0 := by omega
      have hl : n.toInt.natAbs.log2 < 53 := (Nat.log2_lt hm).mpr h
      generalize hx : n.toInt = x at *
      have hmin : min ((x.natAbs.log2 : Int) - 52) (-52) = -52 := by omega
      have hu : FP.Core.sumUnits (decide (x < 0)) (x.natAbs * 2 ^ (52 - x.natAbs.log2)) ((x.natAbs.log2 : Int) - 52) true 4503599627370496 (-52) (-52) = (x - 1) * 4503599627370496 := by
        unfold FP.Core.sumUnits FP.Core.inUnits
        have k1 : ((x.natAbs.log2 : Int) - 52 - -52).toNat = x.natAbs.log2 := by omega
        have k2 : ((-52 : Int) - -52).toNat = 0 := by decide
        rw [k1, k2, Nat.mul_assoc, ← Nat.pow_add, show 52 - x.natAbs.log2 + x.natAbs.log2 = 52 by omega]
        have k3 : FP.Core.signed true (4503599627370496 * 2 ^ 0) = -4503599627370496 := by decide
        rw [k3]
        have k4 : FP.Core.signed (decide (x < 0)) (x.natAbs * 2 ^ 52) = x * 4503599627370496 := by
          unfold FP.Core.signed
          by_cases hneg : x < 0
          · rw [decide_eq_true hneg, if_pos rfl]
            have : (x.natAbs : Int) = -x := by omega
            rw [Int.natCast_mul, this]
            show -(-x * 4503599627370496) = _
            rw [Int.neg_mul, Int.neg_neg]
          · rw [decide_eq_false hneg, if_neg (by decide)]
            have : (x.natAbs : Int) = x := by omega
            rw [Int.natCast_mul, this]
            rfl
        rw [k4, Int.sub_mul]
        rfl
      show UInt64.ofNat (FP.Core.encode FP.Core.b64 (FP.Core.round FP.Core.b64 (.fin (FP.Core.sumSign (decide (x < 0)) true (FP.Core.sumUnits _ _ _ _ _ _ (min ((x.natAbs.log2 : Int) - 52) (-52)))) (FP.Core.sumUnits _ _ _ _ _ _ (min ((x.natAbs.log2 : Int) - 52) (-52))).natAbs (min ((x.natAbs.log2 : Int) - 52) (-52))))) = _
      rw [hmin, hu]
      have hne : x - 1 ≠ 0 := by omega
      have hv : (x - 1) * 4503599627370496 ≠ 0 := Int.mul_ne_zero hne (by decide)
      have hs : FP.Core.sumSign (decide (x < 0)) true ((x - 1) * 4503599627370496) = decide (x - 1 < 0) := by
        unfold FP.Core.sumSign
        rw [if_neg hv]
        congr 1
        apply propext
        constructor
        · intro z
          rcases Int.lt_or_le (x - 1) 0 with g | g
          · exact g
          · exact absurd z (Int.not_lt.mpr (Int.mul_nonneg g (by decide)))
        · intro z; exact Int.mul_neg_of_neg_of_pos z (by decide)
      rw [hs, Int.natAbs_mul]
      show UInt64.ofNat (FP.Core.encode FP.Core.b64 (FP.Core.roundRatio FP.Core.b64 _ ((x - 1).natAbs * 2 ^ 52) 1 (-52))) = _
      rw [q_rr _ _ _ 52 _ (by omega)]
      rfl
