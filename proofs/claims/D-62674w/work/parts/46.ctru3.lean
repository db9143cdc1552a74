theorem yy_VR.bool {g : yy_GT} {c : yy_CT} {s : MT} {t nd o : Nat} {v : yy_SV} {q : Int32 × Int64 × UInt64} (h : yy_VR g c s t nd o v q) (hk : v.1 = some 74) : q.2.1 = v.2.2.1.toInt64 ∧ v.2.1 = 0 ∧ q.1 = 2 ∧ (v.2.2.1 = 0 ∨ v.2.2.1 = 1) := by
  obtain ⟨k, l, h1, h2, h3, h4, h5, h6⟩ := h
  rw [hk] at h3
  have := Option.some.inj h3
  have hk0 : k = 2 := by omega
  have hl0 : l = 0 := by omega
  rw [hk0, yy_VP_2] at h6
  rw [hl0] at h4 h5
  rw [hk0] at h5
  exact ⟨h6.1, h4, h5, h6.2⟩
theorem yy_e_bits {sc : xSc} {c : yy_CT} {a : Nat} {v : yy_SV} (h : yy_slv c a = some v) (h1 : xcm v.1 = true) : f_Truths_bits sc (yy_cH c) (some a) = some (if v.1 = some 72 ∨ v.1 = some 74 then 1 else 0) := by
  unfold f_Truths_bits
  rw [if_pos (yy_sgis h), yy_e_is h _ h1 rfl, Option.bind_some]
  by_cases e : v.1 = some 72
  · rw [if_pos e, if_neg (show ¬ (1 : Int32) = 0 by decide), if_pos (Or.inl e)]
    rfl
  · rw [if_neg e, if_pos rfl, if_pos (yy_sgis h), yy_e_is h _ h1 rfl, Option.bind_some]
    by_cases e2 : v.1 = some 74
    · rw [if_pos e2, if_neg (show ¬ (1 : Int32) = 0 by decide), if_pos (Or.inr e2)]
      rfl
    · rw [if_neg e2, if_pos rfl, if_neg (fun z => z.elim e e2)]
      rfl
theorem yy_e_Mkind {s : MT} {p : Nat} (hp : p < 1300) : f_M_kindOf s (nI p) = some ((yy_pl s p).1 &&& 7, s) := by
  unfold f_M_kindOf
  rw [if_pos (yy_xin_nI' hp (by decide)), yy_nI_c (by omega)]
  rfl
theorem yy_VR.bitk {g : yy_GT} {c : yy_CT} {s : MT} {t nd o : Nat} {v : yy_SV} {q : Int32 × Int64 × UInt64} (h : yy_VR g c s t nd o v q) : (v.1 = some 72 ∨ v.1 = some 74) ↔ (q.1 &&& 7 = 2 ∨ q.1 &&& 7 = 0) := by
  have e0 : v.1 = some 72 ↔ q.1 &&& 7 = 0 := h.isk (j := 0) (by decide)
  have e2 : v.1 = some 74 ↔ q.1 &&& 7 = 2 := h.isk (j := 2) (by decide)
  rw [e0, e2]
  exact Or.comm
theorem yy_so_31 {s : MT} {n : Nat} (h : mI 4 s = nI n) (hn : n ≤ 40) (h1 : 1 ≤ n) : f_M_suitsOther s 31 = some (if (yy_pl s (n - 1)).1 &&& 7 = 2 ∨ (yy_pl s (n - 1)).1 &&& 7 = 0 then 1 else 0, s) := by
  unfold f_M_suitsOther f_M_suitsOther_b26 f_M_suitsOther_b59
  rw [if_neg (by decide), if_neg (by decide), if_pos (by decide), if_neg (by decide), if_neg (by decide), h, yy_nI_sub1 h1, yy_e_Mkind (by omega), Option.bind_some]
  show (if (31 : Int32) = 40 then _ else (f_M_kindOf s (nI (n - 1))).bind _) = _
  rw [if_neg (by decide), yy_e_Mkind (by omega), Option.bind_some]
  show f_M_suitsOther_b84 31 (nI (n - 1)) ((yy_pl s (n - 1)).1 &&& 7) ((yy_pl s (n - 1)).1 &&& 7) s = _
  unfold f_M_suitsOther_b84
  rw [if_neg (by decide), if_neg (by decide), if_pos rfl]
  by_cases e2 : (yy_pl s (n - 1)).1 &&& 7 = 2
  · rw [if_pos e2, if_pos (Or.inl e2)]
    rfl
  · rw [if_neg e2]
    by_cases e0 : (yy_pl s (n - 1)).1 &&& 7 = 0
    · rw [if_pos e0, if_pos (Or.inr e0)]
      rfl
    · rw [if_neg e0, if_neg (fun z => z.elim e2 e0)]
      rfl
theorem yy_not_64 (x : Int32) : (x ^^^ (-1 : Int32)).toInt64 = -1 - x.toInt64 := by
  rw [Int32.xor_neg_one, ← Int64.toInt_inj, Int32.toInt_toInt64, Int32.toInt_not, Int64.toInt_sub, Int32.toInt_toInt64]
  have h1 := x.toInt_lt
  have h2 := x.le_toInt
  have e : (-1 : Int64).toInt = -1 := by decide
  rw [e, Int.bmod_eq_of_le (by omega) (by omega), Int.bmod_eq_of_le (by omega) (by omega)]
  omega
theorem yy_O_not {rc : rcE} {sc : xSc} {g : yy_GT} {m : Nat} {c : yy_CT} {s : MT} {t nd o n : Nat} {d : Int32} (h : yy_RR g (m + 1) c s t nd o n) : yy_OPS m c s (f_P_operate rc sc (yy_cH c) (some 256) (some 33) d) (f_M_operate s 31) := by
  have hn := h.le40
  refine yy_OP_head (gr := 2) 31 [9] h (yy_OPc_of _ rfl) (by decide) (by decide) rfl (by decide) (by decide) (fun hr => ?_)
  have hr : 1 ≤ n := hr
  obtain ⟨a, v, a1, a2, a3, a4⟩ := h.val (show n - 1 < n by omega)
  rw [show yy_alls s (n - 1) [9] = true from rfl, if_pos rfl, yy_e_b96_2, show yy_opA c n [9].length = yy_cR 269 c (n - 1) from yy_opA_1 c n 0, a1, yy_Cp_33, yy_e_bits a2 a4.cm, Option.bind_some, if_pos (yy_cis_P _ _)]
  have ho : yy_oth 31 s = if (yy_pl s (n - 1)).1 &&& 7 = 2 ∨ (yy_pl s (n - 1)).1 &&& 7 = 0 then f_M_bits s 31 (nI (n - 1)) else some (3, s) := by
    unfold yy_oth
    rw [yy_so_31 h.2.1.1 hn hr, Option.bind_some]
    show (if (if (yy_pl s (n - 1)).1 &&& 7 = 2 ∨ (yy_pl s (n - 1)).1 &&& 7 = 0 then (1 : Int32) else 0) = 0 then _ else yy_dsp 31 s) = _
    by_cases e : (yy_pl s (n - 1)).1 &&& 7 = 2 ∨ (yy_pl s (n - 1)).1 &&& 7 = 0
    · rw [if_pos e, if_pos e, if_neg (by decide), ← yy_e_Mbit 31 h.2.1.1 hr (by decide)]
      rfl
    · rw [if_neg e, if_neg e, if_pos rfl]
  rw [ho]
  have es : sI 4 (nI (n - 1 + 1)) s = s := yy_sI_id (by rw [h.2.1.1, show n - 1 + 1 = n by omega])
  by_cases e : v.1 = some 72 ∨ v.1 = some 74
  · rw [if_pos e, if_pos (a4.bitk.mp e), yy_e_type1, p_tBl, if_pos (yy_sgis a2), yy_e_is a2 _ a4.cm rfl, Option.bind_some]
    have fin : ∀ (x : Int32) (q : Int32 × Int64 × UInt64), yy_VR g c s t nd o (v.1, v.2.1, x, v.2.2.2) q → yy_OPS m c s (f_Truths_perform_b242 sc x (some a) (yy_cH c)) (some (0, yy_sP (n - 1) q s)) := fun x q hq => by
      unfold f_Truths_perform_b242
      rw [yy_sp2 a2, Option.bind_some]
      exact yy_O_done (g := g) ⟨g, _, rfl, (yy_R_setS h (show n - 1 < n by omega) a1 a2 hq).less (by omega), (yy_KP_tS a2 a3 _).trans (yy_KP_sP g _ s _ (Or.inl (by omega))), rfl⟩ rfl
    have hb : ∀ (x : Int64) (y : Int32), f_M_bits_b41 x y 1 s = some (0, yy_sP (n - 1) (y, x, FP.dconst0) s) := fun x y => by
      unfold f_M_bits_b41
      rw [yy_bind_id, show (1 : Int32) = nI 1 from rfl, yy_e_Mgive _ _ h.2.1.1 hr hn, es]
    have hM : f_M_bits s 31 (nI (n - 1)) = if (yy_pl s (n - 1)).1 = 0 then f_M_bits_b41 ((-1 : Int64) - (yy_pl s (n - 1)).2.1) (yy_pl s (n - 1)).1 1 s else f_M_bits_b41 ((1 : Int64) - (yy_pl s (n - 1)).2.1) (yy_pl s (n - 1)).1 1 s := by
      unfold f_M_bits
      rw [if_pos (yy_xin_nI' (by omega) (by decide)), if_pos rfl, if_pos (yy_xin_nI' (by omega) (by decide)), if_pos (yy_xin_nI' (by omega) (by decide)), yy_nI_c (by omega)]
      rfl
    rw [hM]
    by_cases e0 : v.1 = some 72
    · obtain ⟨i1, i2, i3⟩ := a4.int e0
      rw [if_pos e0, if_neg (show ¬ (1 : Int32) = 0 by decide), yy_sg2 a2, Option.bind_some, if_pos i3, hb, i3, i1, ← yy_not_64]
      refine fin _ _ ?_
      rw [e0, i2]
      exact yy_VR_int _ _ _ _ _ _ _ _ _ _ _ _ _
    · have e1 : v.1 = some 74 := e.resolve_left e0
      obtain ⟨i1, i2, i3, i4⟩ := a4.bool e1
      rw [if_neg e0, if_pos rfl, yy_sg2 a2, Option.bind_some, if_neg (by rw [i3]; decide), hb, i3, i1]
      refine fin _ _ ?_
      rw [e1, i2]
      rcases i4 with z | z
      · rw [z]
        exact yy_VR_bool _ _ _ _ _ _ 1 _ _ _ _ _ _ (Or.inr rfl)
      · rw [z]
        exact yy_VR_bool _ _ _ _ _ _ 0 _ _ _ _ _ _ (Or.inl rfl)
  · rw [if_neg e, if_neg (fun z => e (a4.bitk.mpr z)), yy_e_type0 h.1.1 h.room]
    exact yy_O_fail 3 h (by decide) (by decide) rfl rfl
/-- and, or -/
theorem yy_so_29 {s : MT} {n : Nat} {op : Int32} (hop : op = 29 ∨ op = 30) (h : mI 4 s = nI n) (hn : n ≤ 40) (h1 : 2 ≤ n) : f_M_suitsOther s op = some (if ((yy_pl s (n - 1)).1 &&& 7 = 2 ∨ (yy_pl s (n - 1)).1 &&& 7 = 0) ∧ (yy_pl s (n - 2)).1 &&& 7 = (yy_pl s (n - 1)).1 &&& 7 then 1 else 0, s) := by
  have key : f_M_suitsOther_b98 (nI (n - 1)) ((yy_pl s (n - 1)).1 &&& 7) s = some (if ((yy_pl s (n - 1)).1 &&& 7 = 2 ∨ (yy_pl s (n - 1)).1 &&& 7 = 0) ∧ (yy_pl s (n - 2)).1 &&& 7 = (yy_pl s (n - 1)).1 &&& 7 then 1 else 0, s) := by
    have k2 : f_M_suitsOther_b107 (nI (n - 1)) ((yy_pl s (n - 1)).1 &&& 7) s = some (if (yy_pl s (n - 2)).1 &&& 7 = (yy_pl s (n - 1)).1 &&& 7 then 1 else 0, s) := by
      unfold f_M_suitsOther_b107
      rw [yy_nI_sub1 (by omega), show n - 1 - 1 = n - 2 by omega, yy_e_Mkind (by omega), Option.bind_some]
      show (if (yy_pl s (n - 2)).1 &&& 7 = (yy_pl s (n - 1)).1 &&& 7 then _ else _) = _
      by_cases e : (yy_pl s (n - 2)).1 &&& 7 = (yy_pl s (n - 1)).1 &&& 7
      · rw [if_pos e, if_pos e]
        rfl
      · rw [if_neg e, if_neg e]
        rfl
    unfold f_M_suitsOther_b98
    rw [k2]
    by_cases e : (yy_pl s (n - 2)).1 &&& 7 = (yy_pl s (n - 1)).1 &&& 7
    · by_cases e2 : (yy_pl s (n - 1)).1 &&& 7 = 2
      · rw [if_pos e2, if_pos e, if_pos ⟨Or.inl e2, e⟩]
      · rw [if_neg e2]
        by_cases e0 : (yy_pl s (n - 1)).1 &&& 7 = 0
        · rw [if_pos e0, if_pos e, if_pos ⟨Or.inr e0, e⟩]
        · rw [if_neg e0, if_neg (fun z => z.1.elim e2 e0)]
          rfl
    · by_cases e2 : (yy_pl s (n - 1)).1 &&& 7 = 2
      · rw [if_pos e2, if_neg e, if_neg (fun z => e z.2)]
      · rw [if_neg e2]
        by_cases e0 : (yy_pl s (n - 1)).1 &&& 7 = 0
        · rw [if_pos e0, if_neg e, if_neg (fun z => e z.2)]
        · rw [if_neg e0, if_neg (fun z => e z.2)]
          rfl
  unfold f_M_suitsOther f_M_suitsOther_b26 f_M_suitsOther_b59
  rcases hop with e | e
  · subst e
    rw [if_neg (by decide), if_neg (by decide), if_pos (by decide), if_neg (by decide), if_neg (by decide), h, yy_nI_sub1 (by omega), yy_e_Mkind (by omega), Option.bind_some]
    show (if (29 : Int32) = 40 then _ else (f_M_kindOf s (nI (n - 1))).bind _) = _
    rw [if_neg (by decide), yy_e_Mkind (by omega), Option.bind_some, ← key]
    rfl
  · subst e
    rw [if_neg (by decide), if_neg (by decide), if_pos (by decide), if_neg (by decide), if_neg (by decide), h, yy_nI_sub1 (by omega), yy_e_Mkind (by omega), Option.bind_some]
    show (if (30 : Int32) = 40 then _ else (f_M_kindOf s (nI (n - 1))).bind _) = _
    rw [if_neg (by decide), yy_e_Mkind (by omega), Option.bind_some, ← key]
    rfl
theorem yy_O_ao {rc : rcE} {sc : xSc} {g : yy_GT} {m : Nat} {c : yy_CT} {s : MT} {t nd o n k : Nat} {d : Int32} (op : Int32) (F : Int32 → Int32 → Int32) (G : Int64 → Int64 → Int64) (h : yy_RR g (m + 1) c s t nd o n) (ho : yy_OPc sc k 2 2) (hk : k < 72) (hop : op = 29 ∨ op = 30) (hp : f_M_pattern s op = some (nI (yy_dg [9, 9]), s)) (hd : yy_dsp op s = f_M_truth s op) (h23 : 23 ≤ op ∧ ¬ op ≤ 28)
    (e1 : ∀ a b, f_Truths_perform sc (yy_cH c) (some 260) (some 256) (some k) a b d = f_Truths_perform_b138 sc (some 256) (some k) a b (yy_cH c))
    (e2 : ∀ a b v w, yy_slv c a = some v → yy_slv c b = some w → f_Truths_perform_b163 sc (some 256) (some k) (some a) (some b) 1 (some 256) (yy_cH c) = f_P_give sc (yy_cH c) (some 256) (nI 2) v.1 (F v.2.2.1 w.2.2.1))
    (e3 : 2 ≤ n → f_M_bits s op (nI (n - 1)) = f_M_give s (nI 2) (yy_pl s (n - 1)).1 (G (yy_pl s (n - 2)).2.1 (yy_pl s (n - 1)).2.1)) (e4 : ∀ x y, (F x y).toInt64 = G x.toInt64 y.toInt64) (e5 : ∀ x y : Int32, (x = 0 ∨ x = 1) → (y = 0 ∨ y = 1) → (F x y = 0 ∨ F x y = 1)) :
    yy_OPS m c s (f_P_operate rc sc (yy_cH c) (some 256) (some k) d) (f_M_operate s op) := by
  have hn := h.le40
  refine yy_OP_head (gr := 2) op [9, 9] h ho hk (by decide) hp (by decide) (by decide) (fun hr => ?_)
  have hr : 2 ≤ n := hr
  obtain ⟨b, w, b1, b2, b3, b4⟩ := h.val (show n - 1 < n by omega)
  obtain ⟨a, v, a1, a2, a3, a4⟩ := h.val (show n - 2 < n by omega)
  have fail : f_Truths_perform_b162 sc (some 256) (some k) (some a) (some b) (some 256) (yy_cH c) = some (.inr (yy_cn c), yy_cH (yy_thr 3 c)) := by
    unfold f_Truths_perform_b162 f_Truths_perform_b163
    rw [if_pos (yy_cis_P _ _), yy_e_type0 h.1.1 h.room]
    rfl
  have hoth : yy_oth op s = if ((yy_pl s (n - 1)).1 &&& 7 = 2 ∨ (yy_pl s (n - 1)).1 &&& 7 = 0) ∧ (yy_pl s (n - 2)).1 &&& 7 = (yy_pl s (n - 1)).1 &&& 7 then f_M_bits s op (nI (n - 1)) else some (3, s) := by
    unfold yy_oth
    rw [yy_so_29 hop h.2.1.1 hn hr, Option.bind_some]
    show (if (if ((yy_pl s (n - 1)).1 &&& 7 = 2 ∨ (yy_pl s (n - 1)).1 &&& 7 = 0) ∧ (yy_pl s (n - 2)).1 &&& 7 = (yy_pl s (n - 1)).1 &&& 7 then (1 : Int32) else 0) = 0 then _ else yy_dsp op s) = _
    by_cases e : ((yy_pl s (n - 1)).1 &&& 7 = 2 ∨ (yy_pl s (n - 1)).1 &&& 7 = 0) ∧ (yy_pl s (n - 2)).1 &&& 7 = (yy_pl s (n - 1)).1 &&& 7
    · rw [if_pos e, if_pos e, if_neg (by decide), ← yy_e_Mbit op h.2.1.1 (by omega) h23, hd]
    · rw [if_neg e, if_neg e, if_pos rfl]
  have kk : v.1 = w.1 ↔ (yy_pl s (n - 2)).1 &&& 7 = (yy_pl s (n - 1)).1 &&& 7 := by
    obtain ⟨p, p1, p2, p3⟩ := a4.kd
    obtain ⟨q, q1, q2, q3⟩ := b4.kd
    rw [p2, p3, q2, q3, yy_nI_inj (by omega) (by omega)]
    refine ⟨fun e => by have := Option.some.inj e; omega, fun e => by rw [e]⟩
  rw [show yy_alls s (n - 1) [9, 9] = true from rfl, if_pos rfl, yy_e_b96_2, show yy_opA c n [9, 9].length = yy_cR 269 c (n - 2) from yy_opA_1 c n 1, a1, show yy_opB c n [9, 9].length = yy_cR 269 c (n - 2 + 1) from yy_opB_2 c n 0, show n - 2 + 1 = n - 1 by omega, b1, e1, hoth]
  unfold f_Truths_perform_b138
  rw [yy_sg0 a2, Option.bind_some, yy_sg0 b2, Option.bind_some, if_pos a4.cm, if_pos b4.cm]
  by_cases hv : v.1 = w.1
  · rw [if_pos hv, yy_e_bits a2 a4.cm, Option.bind_some]
    by_cases e : v.1 = some 72 ∨ v.1 = some 74
    · rw [if_pos e, if_neg (show ¬ (1 : Int32) = 0 by decide), if_pos ⟨b4.bitk.mp (by rw [← hv]; exact e), kk.mp hv⟩, e2 a b v w a2 b2, e3 hr]
      refine yy_O_giveK sc (h.less (by omega)) hr (by decide) _ _ _ _ (fun z d nm di => ?_)
      rcases e with e | e
      · obtain ⟨i1, i2, i3⟩ := a4.int e
        obtain ⟨j1, j2, j3⟩ := b4.int (hv.symm.trans e)
        rw [e, j3, i1, j1, ← e4]
        exact yy_VR_int _ _ _ _ _ _ _ _ _ _ _ _ _
      · obtain ⟨i1, i2, i3, i4⟩ := a4.bool e
        obtain ⟨j1, j2, j3, j4⟩ := b4.bool (hv.symm.trans e)
        rw [e, j3, i1, j1, ← e4]
        exact yy_VR_bool _ _ _ _ _ _ _ _ _ _ _ _ _ (e5 _ _ i4 j4)
    · rw [if_neg e, if_pos rfl, fail, if_neg (fun z => e (a4.bitk.mpr (by rw [z.2]; exact z.1)))]
      exact yy_O_fail 3 h (by decide) (by decide) rfl rfl
  · rw [if_neg hv, fail, if_neg (fun z => hv (kk.mpr z.2))]
    exact yy_O_fail 3 h (by decide) (by decide) rfl rfl
theorem yy_O_and {rc : rcE} {sc : xSc} {g : yy_GT} {m : Nat} {c : yy_CT} {s : MT} {t nd o n : Nat} {d : Int32} (h : yy_RR g (m + 1) c s t nd o n) : yy_OPS m c s (f_P_operate rc sc (yy_cH c) (some 256) (some 31) d) (f_M_operate s 29) := by
  have hn := h.le40
  refine yy_O_ao 29 (fun x y => x &&& y) (fun x y => x &&& y) h (yy_OPc_of _ rfl) (by decide) (Or.inl rfl) rfl rfl (by decide) (fun a b => yy_Cp_31 sc c _ a b d) (fun a b v w ha hb => ?_) (fun h2 => ?_) (fun x y => Int32.toInt64_and x y) (fun x y hx hy => ?_)
  · unfold f_Truths_perform_b163 f_Truths_perform_b202
    rw [if_pos (yy_cis_P _ _), yy_e_type1, p_tBl, yy_sg0 ha, Option.bind_some, if_pos (show xcm (some 31) = true from rfl), if_pos (show xcm (some 31) = true from rfl), if_pos rfl, yy_sg2 ha, Option.bind_some, yy_sg2 hb, Option.bind_some, if_pos (yy_cis_P _ _)]
    exact yy_tB_id _
  · unfold f_M_bits
    rw [if_pos (yy_xin_nI' (by omega) (by decide)), if_neg (by decide), if_neg (by decide), if_neg (by decide), if_neg (by decide), if_neg (by decide), yy_nI_sub1 (by omega), show n - 1 - 1 = n - 2 by omega, if_pos (yy_xin_nI' (by omega) (by decide)), if_pos rfl, if_pos (yy_xin_nI' (by omega) (by decide)), if_pos (yy_xin_nI' (by omega) (by decide)), yy_nI_c (by omega), yy_nI_c (by omega)]
    exact yy_bind_id _
  · rcases hx with e | e <;> rcases hy with f | f <;> rw [e, f] <;> decide
theorem yy_O_or {rc : rcE} {sc : xSc} {g : yy_GT} {m : Nat} {c : yy_CT} {s : MT} {t nd o n : Nat} {d : Int32} (h : yy_RR g (m + 1) c s t nd o n) : yy_OPS m c s (f_P_operate rc sc (yy_cH c) (some 256) (some 32) d) (f_M_operate s 30) := by
  have hn := h.le40
  refine yy_O_ao 30 (fun x y => x ||| y) (fun x y => x ||| y) h (yy_OPc_of _ rfl) (by decide) (Or.inr rfl) rfl rfl (by decide) (fun a b => yy_Cp_32 sc c _ a b d) (fun a b v w ha hb => ?_) (fun h2 => ?_) (fun x y => Int32.toInt64_or x y) (fun x y hx hy => ?_)
  · unfold f_Truths_perform_b163 f_Truths_perform_b202
    rw [if_pos (yy_cis_P _ _), yy_e_type1, p_tBl, yy_sg0 ha, Option.bind_some, if_pos (show xcm (some 32) = true from rfl), if_pos (show xcm (some 31) = true from rfl), if_neg (by decide), yy_sg2 ha, Option.bind_some, yy_sg2 hb, Option.bind_some, if_pos (yy_cis_P _ _)]
    exact yy_tB_id _
  · unfold f_M_bits
    rw [if_pos (yy_xin_nI' (by omega) (by decide)), if_neg (by decide), if_neg (by decide), if_neg (by decide), if_neg (by decide), if_neg (by decide), yy_nI_sub1 (by omega), show n - 1 - 1 = n - 2 by omega, if_pos (yy_xin_nI' (by omega) (by decide)), if_neg (by decide), if_pos rfl, if_pos (yy_xin_nI' (by omega) (by decide)), if_pos (yy_xin_nI' (by omega) (by decide)), yy_nI_c (by omega), yy_nI_c (by omega)]
    exact yy_bind_id _
  · rcases hx with e | e <;> rcases hy with f | f <;> rw [e, f] <;> decide
