/-! numbers -/
def yy_nv (v : yy_SV) : UInt64 := if v.1 = some 72 then FP.i2d v.2.2.1 else v.2.2.2.2.2.1
def yy_nq (q : Int32 × Int64 × UInt64) : UInt64 := if q.1 = 0 then FP.l2d q.2.1 else q.2.2
def yy_isN (v : yy_SV) : Prop := v.1 = some 72 ∨ v.1 = some 73
theorem yy_e_value {sc : xSc} {c : yy_CT} {a : Nat} {v : yy_SV} (h : yy_slv c a = some v) (h1 : xcm v.1 = true) : f_Slot_value sc (yy_cH c) (some a) = some (yy_nv v) := by
  unfold f_Slot_value yy_nv
  rw [yy_sg0 h, Option.bind_some, if_pos h1, if_pos (show xcm (some 72) = true from rfl)]
  by_cases e : v.1 = some 72
  · rw [if_pos e, if_pos e, yy_sg2 h]
    rfl
  · rw [if_neg e, if_neg e, yy_sg5 h]
    rfl
theorem yy_e_isNum {sc : xSc} {c : yy_CT} {a : Nat} {v : yy_SV} (h : yy_slv c a = some v) (h1 : xcm v.1 = true) : f_Slot_isNumber sc (yy_cH c) (some a) = some (if v.1 = some 72 ∨ v.1 = some 73 then 1 else 0) := by
  unfold f_Slot_isNumber
  rw [yy_sg0 h, Option.bind_some, if_pos h1, if_pos (show xcm (some 72) = true from rfl)]
  by_cases e : v.1 = some 72
  · rw [if_pos e, if_pos (Or.inl e)]
    rfl
  · rw [if_neg e, Option.bind_some, if_pos h1, if_pos (show xcm (some 73) = true from rfl)]
    by_cases e2 : v.1 = some 73
    · rw [if_pos e2, if_pos (Or.inr e2)]
      rfl
    · rw [if_neg e2, if_neg (fun z => z.elim e e2)]
      rfl
theorem yy_e_MnumAt {s : MT} {p : Nat} (hp : p < 1300) : f_M_numberAt s (nI p) = some (yy_nq (yy_pl s p), s) := by
  unfold f_M_numberAt
  rw [if_pos (yy_xin_nI' hp (by decide)), if_pos (yy_xin_nI' hp (by decide)), if_pos (yy_xin_nI' hp (by decide)), yy_nI_c (by omega)]
  unfold yy_nq
  show (if (yy_pl s p).1 = 0 then _ else _) = _
  by_cases e : (yy_pl s p).1 = 0
  · rw [if_pos e, if_pos e]
    rfl
  · rw [if_neg e, if_neg e]
    rfl
theorem yy_fin_l2d {n : Int64} (h : n.toInt.natAbs < 9007199254740992) : qfin (FP.l2d n) := by
  by_cases h0 : n.toInt = 0
  · have : n = 0 := Int64.toInt_inj.mp h0
    rw [this]
    exact ⟨_, _, _, rfl⟩
  · exact ⟨_, _, _, q_l2d_dec h0 h⟩
theorem yy_fin_i32 (x : Int32) : qfin (FP.l2d x.toInt64) := by
  refine yy_fin_l2d ?_
  rw [Int32.toInt_toInt64]
  have h1 := x.toInt_lt
  have h2 := x.le_toInt
  omega
theorem yy_RG.fin {d : UInt64} (h : yy_RG d) : qfin d := by
  obtain ⟨h1, h2⟩ := h
  refine q_between (lo := 14009883241494872064) (hi := 4786511204640096256) ⟨_, _, _, rfl⟩ ⟨_, _, _, rfl⟩ ?_ ?_
  · cases e : FP.dcmp d 4786511204640096256 with
    | none => rw [e] at h1; exact absurd h1 (by decide)
    | some r =>
      rw [e] at h1
      cases r with
      | lt => exact Or.inl rfl
      | eq => exact Or.inr rfl
      | gt => exact absurd h1 (by decide)
  · cases e : FP.dcmp d 14009883241494872064 with
    | none => rw [e] at h2; exact absurd h2 (by decide)
    | some r =>
      rw [e] at h2
      cases r with
      | gt => exact Or.inl rfl
      | eq => exact Or.inr rfl
      | lt => exact absurd h2 (by decide)
theorem yy_VR.nval {g : yy_GT} {c : yy_CT} {s : MT} {t nd o : Nat} {v : yy_SV} {q : Int32 × Int64 × UInt64} (h : yy_VR g c s t nd o v q) (hN : yy_isN v) : yy_nq q = yy_nv v ∧ qfin (yy_nv v) := by
  rcases hN with e | e
  · obtain ⟨i1, i2, i3⟩ := h.int e
    unfold yy_nq yy_nv
    rw [if_pos i3, if_pos e, i1, q_i2d]
    exact ⟨rfl, yy_fin_i32 _⟩
  · obtain ⟨k, l, h1, h2, h3, h4, h5, h6⟩ := h
    rw [e] at h3
    have := Option.some.inj h3
    have hk : k = 1 := by omega
    have hl : l = 0 := by omega
    rw [hk, yy_VP_1] at h6
    rw [hk, hl] at h5
    unfold yy_nq yy_nv
    rw [if_neg (by rw [h5]; decide), if_neg (by rw [e]; decide)]
    exact ⟨h6.2.2.1, by rw [← h6.2.2.1]; exact h6.2.2.2.fin⟩
theorem yy_xn_fin {d : UInt64} (h : xn64 d = true) (y : UInt64) (hy : xn64 y = true) : Op.cmpValue (FP.dcmp d y) .g = Op.cmpValue (FP.dcmp d y) .l := by
  obtain ⟨o, ho⟩ := q_cmp h hy
  exact yy_cmp_gl (by rw [ho]; exact Option.some_ne_none o)
/-- giveReal on both sides, of what is no NaN -/
theorem yy_O_giveReal {g : yy_GT} {m : Nat} {c : yy_CT} {s : MT} {t nd o n k : Nat} (sc : xSc) (h : yy_RR g (m + 1) c s t nd o n) (hk : k ≤ n) (hk1 : 1 ≤ k) {d : UInt64} (hd : xn64 d = true) : yy_OPS m c s (f_P_giveReal sc (yy_cH c) (some 256) (nI k) d) (f_M_giveReal s (nI k) d) := by
  have hn := h.le40
  have e1 := yy_xn_fin hd (4786511204640096256 : UInt64) rfl
  have e2 := yy_xn_fin hd (14009883241494872064 : UInt64) rfl
  by_cases hr : yy_RG d
  · obtain ⟨g', c', r1, r2, r3, r4⟩ := yy_O_real sc h hk (by omega) d hr
    refine yy_O_done (g := g) ⟨g', c', r1, r2.less (by omega), r3, r4⟩ (yy_e_MgiveReal d h.2.1.1 hk hn ?_ ?_)
    · rw [← e1]
      intro z
      have := hr.1
      rw [Int32.le_iff_toInt_le] at this
      rw [Int32.lt_iff_toInt_lt] at z
      omega
    · rw [e2]
      exact hr.2
  · refine yy_O_fail 4 h (by decide) (by decide) (yy_e_real0 h.1.1 h.room _ hr) ?_
    unfold f_M_giveReal
    by_cases z : 0 < (Op.cmpValue (FP.dcmp d (4786511204640096256 : UInt64)) .l)
    · rw [if_pos z]
      rfl
    · rw [if_neg z, if_neg]
      · rfl
      · intro z2
        refine hr ⟨?_, by rw [← e2]; exact z2⟩
        rw [e1]
        rw [Int32.lt_iff_toInt_lt] at z
        rw [Int32.le_iff_toInt_le]
        omega
theorem yy_O_whole {g : yy_GT} {m : Nat} {c : yy_CT} {s : MT} {t nd o n k : Nat} (sc : xSc) (h : yy_RR g (m + 1) c s t nd o n) (hk : k ≤ n) (hk1 : 1 ≤ k) (x : Int64) : yy_OPS m c s (f_P_whole sc (yy_cH c) (some 256) (nI k) x) (f_M_giveExact s (nI k) x) := by
  have hn := h.le40
  unfold f_P_whole f_M_giveExact
  by_cases e : x.toInt32.toInt64 = x
  · rw [if_pos (yy_lgc_eq.mpr e), if_pos (yy_lgc_eq.mpr e.symm), if_pos (yy_cis_P _ _)]
    rw [show (fun (_ : Unit) (u : xH) => f_P_whole_b28 sc u) = fun _ u => some (.inl (), u) from rfl, yy_tB_id]
    obtain ⟨g', c', r1, r2, r3, r4⟩ := yy_O_give sc h hk (by omega) (some 72) x.toInt32 (0, x, FP.dconst0) (fun y d nm di => by
      have := yy_VR_int g c s t nd o x.toInt32 0 y d FP.dconst0 nm di
      rw [e] at this
      exact this)
    refine yy_O_done (g := g) ⟨g', c', r1, r2.less (by omega), r3, r4⟩ ?_
    rw [yy_e_Mgive 0 x h.2.1.1 hk hn]
    rfl
  · rw [if_neg (fun z => e (yy_lgc_eq.mp z)), if_neg (fun z => e (yy_lgc_eq.mp z).symm), if_pos (yy_cis_P _ _)]
    rw [show (fun (_ : Unit) (u : xH) => f_P_whole_b28 sc u) = fun _ u => some (.inl (), u) from rfl, yy_tB_id]
    rw [show ∀ y : Option (Int32 × MT), (y.bind fun (v4, s3) => f_M_giveExact_b25 v4 s3) = y from yy_bind_id]
    exact yy_O_giveReal sc h hk hk1 (q_l2d x)
