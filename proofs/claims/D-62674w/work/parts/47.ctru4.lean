theorem yy_lgc_gt {x y : Int64} : 0 < lg_cmp x y ↔ y < x := by
  have h := yy_lgc_le (x := x) (y := y)
  rw [Int32.le_iff_toInt_le, Int64.le_iff_toInt_le] at h
  rw [Int32.lt_iff_toInt_lt, Int64.lt_iff_toInt_lt]
  have e : (0 : Int32).toInt = 0 := rfl
  omega
theorem yy_lgc_ge {x y : Int64} : 0 ≤ lg_cmp x y ↔ y ≤ x := by
  have h := yy_lgc_lt (x := x) (y := y)
  rw [Int32.lt_iff_toInt_lt, Int64.lt_iff_toInt_lt] at h
  rw [Int32.le_iff_toInt_le, Int64.le_iff_toInt_le]
  have e : (0 : Int32).toInt = 0 := rfl
  omega
theorem yy_O_bitshift {rc : rcE} {sc : xSc} {g : yy_GT} {m : Nat} {c : yy_CT} {s : MT} {t nd o n : Nat} {d : Int32} (h : yy_RR g (m + 1) c s t nd o n) : yy_OPS m c s (f_P_operate rc sc (yy_cH c) (some 256) (some 34) d) (f_M_operate s 32) := by
  have hn := h.le40
  refine yy_OP_head (gr := 2) 32 [1, 1] h (yy_OPc_of _ rfl) (by decide) (by decide) rfl (by decide) (by decide) (fun hr => ?_)
  have hr : 2 ≤ n := hr
  obtain ⟨b, w, b1, b2, b3, b4⟩ := h.val (show n - 1 < n by omega)
  obtain ⟨a, v, a1, a2, a3, a4⟩ := h.val (show n - 2 < n by omega)
  have fail : f_Truths_perform_b274 sc (some 256) (some a) (some b) (some 256) (yy_cH c) = some (.inr (yy_cn c), yy_cH (yy_thr 3 c)) := by
    unfold f_Truths_perform_b274 f_Truths_perform_b275
    rw [if_pos (yy_cis_P _ _), yy_e_type0 h.1.1 h.room]
    rfl
  rw [yy_alls2, show n - 1 - 1 = n - 2 by omega, b4.sk (j := 0) (by decide) (by decide) (by decide), a4.sk (j := 0) (by decide) (by decide) (by decide), yy_e_b96_2, show yy_opA c n [1, 1].length = yy_cR 269 c (n - 2) from yy_opA_1 c n 1, a1, show yy_opB c n [1, 1].length = yy_cR 269 c (n - 2 + 1) from yy_opB_2 c n 0, show n - 2 + 1 = n - 1 by omega, b1, yy_Cp_34, if_pos (yy_sgis a2), yy_e_is a2 _ a4.cm rfl, Option.bind_some]
  by_cases hv : v.1 = some 72
  · rw [if_pos hv, if_neg (show ¬ (1 : Int32) = 0 by decide), if_pos (yy_sgis b2), yy_e_is b2 _ b4.cm rfl, Option.bind_some]
    by_cases hw : w.1 = some 72
    · obtain ⟨i1, i2, i3⟩ := a4.int hv
      obtain ⟨j1, j2, j3⟩ := b4.int hw
      rw [if_pos hw, if_neg (show ¬ (1 : Int32) = 0 by decide), if_pos (show _ = true by rw [decide_eq_true hv, decide_eq_true hw]; rfl), yy_oth_tru 32 rfl rfl, yy_e_Mbit 32 h.2.1.1 (by omega) (by decide)]
      have hM : f_M_bits s 32 (nI (n - 1)) = (if 0 < lg_cmp w.2.2.1.toInt64 31 then f_M_bits_b231 w.2.2.1.toInt64 v.2.2.1 s else if 0 ≤ lg_cmp w.2.2.1.toInt64 (-31) then f_M_bits_b236 w.2.2.1.toInt64 v.2.2.1 0 s else f_M_bits_b231 w.2.2.1.toInt64 v.2.2.1 s) := by
        unfold f_M_bits
        rw [if_pos (yy_xin_nI' (by omega) (by decide)), if_neg (by decide), if_neg (by decide), if_neg (by decide), if_neg (by decide), if_neg (by decide), yy_nI_sub1 (by omega), show n - 1 - 1 = n - 2 by omega, if_pos (yy_xin_nI' (by omega) (by decide)), if_neg (show ¬ (32 : Int32) = 29 by decide), if_neg (show ¬ (32 : Int32) = 30 by decide), yy_nI_c (by omega), yy_nI_c (by omega)]
        rw [show mL 2 s (n - 1) = w.2.2.1.toInt64 from j1, show mL 2 s (n - 2) = v.2.2.1.toInt64 from i1, Int32.toInt32_toInt64]
      rw [hM]
      have g0 : ∀ x : Int32, yy_OPS m c s (f_Truths_perform_b339 sc x (some 72) 2 (some 256) (yy_cH c)) (f_M_bits_b272 x.toInt64 0 2 s) := fun x => by
        unfold f_Truths_perform_b339 f_M_bits_b272
        rw [if_pos (yy_cis_P _ _), yy_T456, yy_tB_id, yy_bind_id]
        exact yy_O_giveK sc (h.less (by omega)) hr (by decide) _ _ _ _ (fun _ _ _ _ => yy_VR_int _ _ _ _ _ _ _ _ _ _ _ _ _)
      have m231 : f_M_bits_b231 w.2.2.1.toInt64 v.2.2.1 s = f_M_bits_b272 (0 : Int32).toInt64 0 2 s := by
        unfold f_M_bits_b231 f_M_bits_b236
        rw [if_neg (by decide)]
        rfl
      unfold f_Truths_perform_b275
      rw [if_pos (yy_cis_P _ _), yy_e_type1, p_tBl, yy_sg2 b2, Option.bind_some]
      by_cases c1 : (31 : Int32) < w.2.2.1
      · rw [if_pos c1, if_pos (show 0 < lg_cmp w.2.2.1.toInt64 31 from yy_lgc_gt.mpr ((yy_i64_lt 31 _).mpr c1)), m231]
        exact g0 0
      · rw [if_neg c1, if_neg (show ¬ 0 < lg_cmp w.2.2.1.toInt64 31 from fun z => c1 ((yy_i64_lt 31 _).mp (yy_lgc_gt.mp z))), Option.bind_some]
        by_cases c2 : (-31 : Int32) ≤ w.2.2.1
        · rw [if_pos c2, if_pos (show 0 ≤ lg_cmp w.2.2.1.toInt64 (-31) from yy_lgc_ge.mpr ((yy_i64_le (-31) _).mpr c2)), Option.bind_some]
          unfold f_M_bits_b236
          rw [if_pos rfl]
          by_cases c3 : 0 ≤ w.2.2.1
          · rw [if_pos c3, if_pos (show 0 ≤ lg_cmp w.2.2.1.toInt64 0 from yy_lgc_ge.mpr ((yy_i64_le 0 _).mpr c3)), yy_sg2 a2, Option.bind_some, Option.bind_some, Int32.toInt32_toInt64]
            exact g0 _
          · rw [if_neg c3, if_neg (show ¬ 0 ≤ lg_cmp w.2.2.1.toInt64 0 from fun z => c3 ((yy_i64_le 0 _).mp (yy_lgc_ge.mp z))), yy_sg2 a2, Option.bind_some, Option.bind_some, Int64.toInt32_neg, Int32.toInt32_toInt64]
            exact g0 _
        · rw [if_neg c2, if_neg (show ¬ 0 ≤ lg_cmp w.2.2.1.toInt64 (-31) from fun z => c2 ((yy_i64_le (-31) _).mp (yy_lgc_ge.mp z))), m231]
          exact g0 0
    · rw [if_neg hw, if_pos rfl, fail, if_neg (fun z => hw (by rw [Bool.and_eq_true, decide_eq_true_eq, decide_eq_true_eq] at z; exact z.1))]
      exact yy_O_fail 3 h (by decide) (by decide) rfl rfl
  · rw [if_neg hv, if_pos rfl, fail, if_neg (fun z => hv (by rw [Bool.and_eq_true, decide_eq_true_eq, decide_eq_true_eq] at z; exact z.2))]
    exact yy_O_fail 3 h (by decide) (by decide) rfl rfl
/-! whether two values are the same -/
theorem yy_ofNat64_inj {a b : Nat} (ha : a < 9223372036854775808) (hb : b < 9223372036854775808) : Int64.ofNat a = Int64.ofNat b ↔ a = b := by
  refine ⟨fun e => ?_, fun e => by rw [e]⟩
  have := congrArg Int64.toInt e
  rw [yy_i64_toInt ha, yy_i64_toInt hb] at this
  omega
theorem yy_RR.nm {g : yy_GT} {m : Nat} {c : yy_CT} {s : MT} {t nd o n : Nat} (h : yy_RR g m c s t nd o n) : yy_RNm g c s := h.2.2.2.2.2.2.2.2.2.2.2.2.2.2.2
theorem yy_RNm.xcm {g : yy_GT} {c : yy_CT} {s : MT} (h : yy_RNm g c s) {p : Nat × Int64} (hp : p ∈ yy_gnm g) : xcm (some p.1) = true := by
  obtain ⟨tx, o, x, w, e1, _⟩ := h.1 p hp
  have := yy_cX_ge (yy_ov_iff.mp e1).1
  show (decide (p.1 < 80) || decide (xK ≤ p.1)) = true
  rw [decide_eq_true (show xK ≤ p.1 from this), Bool.or_true]
/-- the payloads of two values of a kind that is no number, name or array: the same on both sides -/
theorem yy_VP_same {g : yy_GT} {c : yy_CT} {s : MT} {t nd o k : Nat} {v w : yy_SV} {p q : Int32 × Int64 × UInt64} (hn : nd ≤ 7) (hk : k < 8) (h0 : k ≠ 0) (h1 : k ≠ 1) (h3 : k ≠ 3) (h5 : k ≠ 5) (hv : yy_VP g c s t nd o k v p) (hw : yy_VP g c s t nd o k w q) : v.2.2.1 = w.2.2.1 ↔ p.2.1 = q.2.1 := by
  rcases (by omega : k = 2 ∨ k = 4 ∨ k = 6 ∨ k = 7) with e | e | e | e
  · rw [e, yy_VP_2] at hv hw
    rw [hv.1, hw.1, yy_i64_inj]
  · rw [e, yy_VP_4] at hv hw
    rw [hv.1, hw.1, hv.2, hw.2]
    exact ⟨fun _ => rfl, fun _ => rfl⟩
  · rw [e, yy_VP_6] at hv hw
    obtain ⟨x, a, e1, e2, e3, _⟩ := hv
    obtain ⟨y, b, f1, f2, f3, _⟩ := hw
    rw [e2, e3, f2, f3, yy_nI_inj (by omega) (by omega), yy_ofNat64_inj (by omega) (by omega)]
  · rw [e, yy_VP_7] at hv hw
    rw [hv, hw, yy_i64_inj]
theorem yy_same_e {sc : xSc} {g : yy_GT} {m : Nat} {c : yy_CT} {s : MT} {t nd o n a b p q : Nat} {v w : yy_SV} (h : yy_RR g m c s t nd o n) (a2 : yy_slv c a = some v) (a4 : yy_VR g c s t nd o v (yy_pl s p)) (b2 : yy_slv c b = some w) (b4 : yy_VR g c s t nd o w (yy_pl s q)) (hp : p < 1300) (hq : q < 1300) : ∃ B : Bool, f_Slot_same sc (yy_cH c) (some a) (some b) = some (if B = true then 1 else 0) ∧ f_M_alike s (nI p) (nI q) = some (if B = true then 1 else 0, s) := by
  have mnum : ∀ x, x < 1300 → f_M_isNumber s (nI x) = some (if (yy_pl s x).1 < 2 then 1 else 0, s) := fun x hx => by
    unfold f_M_isNumber
    rw [if_pos (yy_xin_nI' hx (by decide)), yy_nI_c (by omega)]
    show (if 2 ≤ (yy_pl s x).1 then _ else _ : Option (Int32 × MT)) = _
    by_cases e : (2 : Int32) ≤ (yy_pl s x).1
    · rw [if_pos e, if_neg (fun z => by rw [Int32.le_iff_toInt_le] at e; rw [Int32.lt_iff_toInt_lt] at z; omega)]
      rfl
    · rw [if_neg e, if_pos (by rw [Int32.le_iff_toInt_le] at e; rw [Int32.lt_iff_toInt_lt]; omega)]
      rfl
  have eb : ∀ (P : Prop) [Decidable P], (if (decide P) = true then (1 : Int32) else 0) = if P then 1 else 0 := fun P _ => by
    by_cases z : P
    · rw [if_pos z, if_pos (decide_eq_true z)]
    · rw [if_neg z, if_neg (by rw [decide_eq_false z]; decide)]
  have rest : (¬ ((v.1 = some 72 ∨ v.1 = some 73) ∧ (w.1 = some 72 ∨ w.1 = some 73))) → ∃ B : Bool, f_Slot_same_b32 sc (yy_cH c) (some a) (some b) = some (if B = true then 1 else 0) ∧ f_M_alike_b36 (nI p) (nI q) s = some (if B = true then 1 else 0, s) := by
    intro hno
    obtain ⟨k, l, k1, k2, k3, k4, k5, k6⟩ := id a4
    obtain ⟨k', l', j1, j2, j3, j4, j5, j6⟩ := id b4
    have mk1 : (yy_pl s p).1 &&& 7 = nI k := by rw [k5]; exact yy_nI_and7 k1 (k2.imp id And.left)
    have mk2 : (yy_pl s q).1 &&& 7 = nI k' := by rw [j5]; exact yy_nI_and7 j1 (j2.imp id And.left)
    have hM0 : f_M_alike_b36 (nI p) (nI q) s = if nI k = nI k' then (if nI k = 5 then (f_M_count (yy_pl s p).2.1).bind fun x => (f_M_count (yy_pl s q).2.1).bind fun y => (if x = y then (if x = 0 then some (1, s) else if lg_cmp (yy_pl s p).2.1 (yy_pl s q).2.1 = 0 then some (1, s) else some (0, s)) else some (0, s)) else (if lg_cmp (yy_pl s p).2.1 (yy_pl s q).2.1 = 0 then some (1, s) else some (0, s))) else some (0, s) := by
      unfold f_M_alike_b36
      rw [yy_e_Mkind hp, Option.bind_some]
      show (f_M_kindOf s (nI q)).bind _ = _
      rw [yy_e_Mkind hq, Option.bind_some]
      show (if (yy_pl s p).1 &&& 7 = (yy_pl s q).1 &&& 7 then (f_M_kindOf s (nI p)).bind _ else _) = _
      rw [mk1, mk2, yy_e_Mkind hp, Option.bind_some, mk1]
      dsimp only
      simp only [yy_xin_nI' hp (show 1300 < 2147483648 by decide), yy_xin_nI' hq (show 1300 < 2147483648 by decide), ↓reduceIte, yy_nI_c (show p < 2147483648 by omega), yy_nI_c (show q < 2147483648 by omega)]
      rfl
    by_cases hk : k = k'
    · subst hk
      rw [hM0, if_pos rfl]
      have E : ∀ j, j < 8 → (v.1 = some (72 + j) ↔ k = j) := fun j hj => by
        rw [k3]
        refine ⟨fun e => by have := Option.some.inj e; omega, fun e => by rw [e]⟩
      have hk0 : k ≠ 0 ∧ k ≠ 1 := by
        constructor
        · intro z
          rw [z] at k3 j3
          exact hno ⟨Or.inl k3, Or.inl j3⟩
        · intro z
          rw [z] at k3 j3
          exact hno ⟨Or.inr k3, Or.inr j3⟩
      unfold f_Slot_same_b32
      rw [yy_sg0 a2, Option.bind_some, yy_sg0 b2, Option.bind_some, if_pos a4.cm, if_pos b4.cm, if_pos (k3.trans j3.symm), Option.bind_some, if_pos a4.cm, if_pos (show xcm (some 75) = true from rfl)]
      by_cases e3 : k = 3
      · rw [if_pos ((E 3 (by decide)).mpr e3)]
        subst e3
        rw [yy_VP_3] at k6 j6
        obtain ⟨x, x1, x2⟩ := k6
        obtain ⟨y, y1, y2⟩ := j6
        rw [yy_sg6 a2, Option.bind_some, yy_sg6 b2, Option.bind_some, x1, y1, if_pos (h.nm.xcm x2), if_pos (h.nm.xcm y2), if_neg (show ¬ nI 3 = 5 by decide)]
        have inj := h.nm.2.1 _ _ x2 y2
        refine ⟨decide (x = y), ?_⟩
        rw [eb]
        by_cases z : x = y
        · rw [if_pos z, if_pos (by rw [z]), if_pos (yy_lgc_eq.mpr (inj.mp z))]
          exact ⟨rfl, rfl⟩
        · rw [if_neg z, if_neg (fun e => z (Option.some.inj e)), if_neg (fun e => z (inj.mpr (yy_lgc_eq.mp e)))]
          exact ⟨rfl, rfl⟩
      · rw [if_neg (fun z => e3 ((E 3 (by decide)).mp z)), Option.bind_some, if_pos a4.cm, if_pos (show xcm (some 77) = true from rfl)]
        by_cases e5 : k = 5
        · rw [if_pos ((E 5 (by decide)).mpr e5)]
          subst e5
          rw [yy_VP_5] at k6 j6
          obtain ⟨x, z, x1, x2, x3, x4, x5, x6⟩ := k6
          obtain ⟨y, u, y1, y2, y3, y4, y5, y6⟩ := j6
          rw [yy_sg3 a2, Option.bind_some, yy_sg3 b2, Option.bind_some, x4, y4, if_pos (show nI 5 = 5 from rfl), x5, y5, yy_cnt_e (by omega) (by omega), yy_cnt_e (by omega) (by omega), Option.bind_some, Option.bind_some, yy_sg2 a2, yy_sg2 b2, Option.bind_some, Option.bind_some, Option.bind_some, x3, y3]
          refine ⟨decide (z = u ∧ (z = 0 ∨ x = y)), ?_⟩
          rw [eb]
          by_cases e1 : z = u
          · subst e1
            rw [if_pos rfl, if_pos rfl]
            by_cases e2 : z = 0
            · subst e2
              rw [if_pos (show nI 0 = 0 from rfl), if_pos (show nI 0 = 0 from rfl), if_pos (show 0 = 0 ∧ (0 = 0 ∨ x = y) from ⟨rfl, Or.inl rfl⟩)]
              exact ⟨rfl, rfl⟩
            · have nz : ¬ nI z = 0 := fun q => by rw [show (0 : Int32) = nI 0 from rfl, yy_nI_inj (by omega) (by omega)] at q; exact e2 q
              rw [if_neg nz, if_neg nz]
              by_cases e4 : x = y
              · rw [if_pos (by rw [e4]), if_pos (show z = z ∧ (z = 0 ∨ x = y) from ⟨rfl, Or.inr e4⟩), if_pos (yy_lgc_eq.mpr (by rw [e4]))]
                exact ⟨rfl, rfl⟩
              · rw [if_neg (fun q => e4 ((yy_nI_inj (by omega) (by omega)).mp q)), if_neg (fun q => q.2.elim e2 e4), if_neg (fun q => e4 (by have := (yy_ofNat64_inj (by omega) (by omega)).mp (yy_lgc_eq.mp q); omega))]
                exact ⟨rfl, rfl⟩
          · have nz : ¬ nI z = nI u := fun q => e1 ((yy_nI_inj (by omega) (by omega)).mp q)
            rw [if_neg nz, if_neg nz, if_neg (fun q => e1 q.1)]
            exact ⟨rfl, rfl⟩
        · rw [if_neg (fun z => e5 ((E 5 (by decide)).mp z)), yy_sg2 a2, Option.bind_some, yy_sg2 b2, Option.bind_some, if_neg (show ¬ nI k = 5 from fun z => by rw [show (5 : Int32) = nI 5 from rfl, yy_nI_inj (by omega) (by omega)] at z; exact e5 z)]
          have vs := yy_VP_same h.2.2.2.2.2.2.2.1.1.2 k1 hk0.1 hk0.2 e3 e5 k6 j6
          refine ⟨decide (v.2.2.1 = w.2.2.1), ?_⟩
          rw [eb]
          by_cases z : v.2.2.1 = w.2.2.1
          · rw [if_pos z, if_pos z, if_pos (yy_lgc_eq.mpr (vs.mp z))]
            exact ⟨rfl, rfl⟩
          · rw [if_neg z, if_neg z, if_neg (fun e => z (vs.mpr (yy_lgc_eq.mp e)))]
            exact ⟨rfl, rfl⟩
    · refine ⟨false, ?_, ?_⟩
      · unfold f_Slot_same_b32
        rw [yy_sg0 a2, Option.bind_some, yy_sg0 b2, Option.bind_some, if_pos a4.cm, if_pos b4.cm, if_neg]
        · rfl
        · rw [k3, j3]
          intro z
          have := Option.some.inj z
          omega
      · rw [hM0, if_neg (fun z => hk ((yy_nI_inj (by omega) (by omega)).mp z))]
        rfl
  unfold f_Slot_same f_M_alike
  rw [if_pos (yy_sgis a2), yy_e_isNum a2 a4.cm, Option.bind_some, mnum p hp, Option.bind_some]
  show ∃ B : Bool, _ ∧ (if (if (yy_pl s p).1 < 2 then (1 : Int32) else 0) = 0 then _ else (f_M_isNumber s (nI q)).bind _) = _
  by_cases hv : v.1 = some 72 ∨ v.1 = some 73
  · rw [if_pos hv, if_neg (show ¬ (1 : Int32) = 0 by decide), if_pos (yy_sgis b2), yy_e_isNum b2 b4.cm, Option.bind_some, if_pos (a4.num.mp hv), if_neg (show ¬ (1 : Int32) = 0 by decide), mnum q hq, Option.bind_some]
    show ∃ B : Bool, _ ∧ (if (if (yy_pl s q).1 < 2 then (1 : Int32) else 0) = 0 then _ else (f_M_numberAt s (nI p)).bind _) = _
    by_cases hw : w.1 = some 72 ∨ w.1 = some 73
    · obtain ⟨q1, q2⟩ := a4.nval hv
      obtain ⟨q3, q4⟩ := b4.nval hw
      rw [if_pos hw, if_neg (show ¬ (1 : Int32) = 0 by decide), if_pos (yy_sgis a2), yy_e_value a2 a4.cm, Option.bind_some, if_pos (yy_sgis b2), yy_e_value b2 b4.cm, Option.bind_some, if_pos (b4.num.mp hw), if_neg (show ¬ (1 : Int32) = 0 by decide), yy_e_MnumAt hp, Option.bind_some]
      show ∃ B : Bool, _ ∧ (f_M_numberAt s (nI q)).bind _ = _
      rw [yy_e_MnumAt hq, Option.bind_some, q1, q3]
      refine ⟨decide ((Op.cmpValue (FP.dcmp (yy_nv v) (yy_nv w)) .l) = 0), ?_⟩
      rw [eb]
      show _ ∧ (if (Op.cmpValue (FP.dcmp (yy_nv v) (yy_nv w)) .l) = 0 then _ else _) = _
      by_cases z : (Op.cmpValue (FP.dcmp (yy_nv v) (yy_nv w)) .l) = 0
      · rw [if_pos z, if_pos z, if_pos z]
        exact ⟨rfl, rfl⟩
      · rw [if_neg z, if_neg z, if_neg z]
        exact ⟨rfl, rfl⟩
    · rw [if_neg hw, if_pos rfl, if_neg (fun z => hw (b4.num.mpr z)), if_pos rfl]
      exact rest (fun z => hw z.2)
  · rw [if_neg hv, if_pos rfl, if_neg (fun z => hv (a4.num.mpr z)), if_pos rfl]
    exact rest (fun z => hv z.1)

theorem yy_O_same {rc : rcE} {sc : xSc} {g : yy_GT} {m : Nat} {c : yy_CT} {s : MT} {t nd o n k : Nat} {d : Int32} (op : Int32) (z : Int32) (h : yy_RR g (m + 1) c s t nd o n) (ho : yy_OPc sc k 2 2) (hk : k < 72) (hp : f_M_pattern s op = some (nI (yy_dg [9, 9]), s)) (hs : yy_oth op s = f_M_truth s op) (hop : 23 ≤ op ∧ op ≤ 28) (hop2 : ¬ 25 ≤ op)
    (e1 : ∀ a b, f_Truths_perform sc (yy_cH c) (some 260) (some 256) (some k) a b d = f_Truths_perform_b104 sc (some 256) (some k) a b (yy_cH c))
    (e2 : ∀ x y : Option Nat, (if (some k : Option Nat) = some 25 then f_Truths_perform_b124 sc 1 1 2 (some 256) (yy_cH c) else f_Truths_perform_b124 sc 0 1 2 (some 256) (yy_cH c)) = f_Truths_perform_b124 sc z 1 2 (some 256) (yy_cH c) ∧ (if (some k : Option Nat) = some 25 then f_Truths_perform_b124 sc 1 0 2 (some 256) (yy_cH c) else f_Truths_perform_b124 sc 0 0 2 (some 256) (yy_cH c)) = f_Truths_perform_b124 sc z 0 2 (some 256) (yy_cH c))
    (e3 : ∀ x, (if op = (23 : Int32) then f_M_truth_b83 (1 : Int32) x s else f_M_truth_b83 (0 : Int32) x s) = f_M_truth_b83 z x s) :
    yy_OPS m c s (f_P_operate rc sc (yy_cH c) (some 256) (some k) d) (f_M_operate s op) := by
  have hn := h.le40
  refine yy_OP_head (gr := 2) op [9, 9] h ho hk (by decide) hp (by decide) (by decide) (fun hr => ?_)
  have hr : 2 ≤ n := hr
  obtain ⟨b, w, b1, b2, b3, b4⟩ := h.val (show n - 1 < n by omega)
  obtain ⟨a, v, a1, a2, a3, a4⟩ := h.val (show n - 2 < n by omega)
  obtain ⟨B, s1, s2⟩ := yy_same_e (sc := sc) h a2 a4 b2 b4 (by omega) (by omega)
  rw [show yy_alls s (n - 1) [9, 9] = true from rfl, if_pos rfl, yy_e_b96_2, show yy_opA c n [9, 9].length = yy_cR 269 c (n - 2) from yy_opA_1 c n 1, a1, show yy_opB c n [9, 9].length = yy_cR 269 c (n - 2 + 1) from yy_opB_2 c n 0, show n - 2 + 1 = n - 1 by omega, b1, e1, hs, yy_e_Mcmp op h.2.1.1 hn hr hop, if_neg hop2, s2, Option.bind_some]
  unfold f_Truths_perform_b104
  rw [if_pos (yy_sgis a2), s1, Option.bind_some, if_pos (yy_xcm_lt (by omega)), if_pos (show xcm (some 25) = true from rfl)]
  show yy_OPS m c s _ (if op = (23 : Int32) then f_M_truth_b83 (1 : Int32) _ s else f_M_truth_b83 (0 : Int32) _ s)
  rw [e3]
  have fin : ∀ x : Int32, yy_OPS m c s (f_Truths_perform_b124 sc z x 2 (some 256) (yy_cH c)) (f_M_truth_b83 z x s) := fun x => by
    unfold f_Truths_perform_b124 f_M_truth_b83 f_Truths_perform_b132
    by_cases e : x = z
    · rw [if_pos e, if_pos e, if_pos (yy_cis_P _ _), yy_T456, yy_tB_id, (yy_T169 s).2]
      have := yy_O_truth sc (h.less (Nat.le_succ m)) hr (by decide) True
      rw [if_pos trivial, if_pos trivial] at this
      exact this
    · rw [if_neg e, if_neg e, if_pos (yy_cis_P _ _), yy_T456, yy_tB_id, (yy_T169 s).1]
      have := yy_O_truth sc (h.less (Nat.le_succ m)) hr (by decide) False
      rw [if_neg (fun z => z), if_neg (fun z => z)] at this
      exact this
  cases B
  · rw [show (if false = true then (1 : Int32) else 0) = 0 from rfl, (e2 none none).2]
    exact fin 0
  · rw [show (if true = true then (1 : Int32) else 0) = 1 from rfl, (e2 none none).1]
    exact fin 1
theorem yy_O_eq {rc : rcE} {sc : xSc} {g : yy_GT} {m : Nat} {c : yy_CT} {s : MT} {t nd o n : Nat} {d : Int32} (h : yy_RR g (m + 1) c s t nd o n) : yy_OPS m c s (f_P_operate rc sc (yy_cH c) (some 256) (some 25) d) (f_M_operate s 23) :=
  yy_O_same 23 1 h (yy_OPc_of _ rfl) (by decide) rfl (yy_oth_tru 23 rfl rfl) (by decide) (by decide) (fun a b => yy_Cp_25 sc c _ a b d) (fun _ _ => ⟨if_pos rfl, if_pos rfl⟩) (fun _ => if_pos rfl)
theorem yy_O_ne {rc : rcE} {sc : xSc} {g : yy_GT} {m : Nat} {c : yy_CT} {s : MT} {t nd o n : Nat} {d : Int32} (h : yy_RR g (m + 1) c s t nd o n) : yy_OPS m c s (f_P_operate rc sc (yy_cH c) (some 256) (some 26) d) (f_M_operate s 24) :=
  yy_O_same 24 0 h (yy_OPc_of _ rfl) (by decide) rfl (yy_oth_tru 24 rfl rfl) (by decide) (by decide) (fun a b => yy_Cp_26 sc c _ a b d) (fun _ _ => ⟨if_neg (by decide), if_neg (by decide)⟩) (fun _ => if_neg (by decide))
