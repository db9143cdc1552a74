def yy_zs (s : MT) (t : Nat) : Nat → MT
  | 0 => s
  | k + 1 => yy_sP (50 + t + k) (0, 0, FP.dconst0) (yy_zs s t k)
theorem yy_pl_zs (s : MT) (t : Nat) : ∀ (k p : Nat), yy_pl (yy_zs s t k) p = if 50 + t ≤ p ∧ p < 50 + t + k then (0, 0, FP.dconst0) else yy_pl s p
  | 0, p => by
    rw [if_neg (by omega)]
    rfl
  | k + 1, p => by
    show yy_pl (yy_sP (50 + t + k) (0, 0, FP.dconst0) (yy_zs s t k)) p = _
    rw [yy_pl_sP, yy_pl_zs s t k p]
    by_cases e : p = 50 + t + k
    · rw [if_pos e, if_pos (by omega)]
    · rw [if_neg e]
      by_cases f : 50 + t ≤ p ∧ p < 50 + t + k
      · rw [if_pos f, if_pos (by omega)]
      · rw [if_neg f, if_neg (by omega)]
theorem yy_mI_zs (s : MT) (t j : Nat) : ∀ k, mI j (yy_zs s t k) = mI j s
  | 0 => rfl
  | k + 1 => by
    show mI j (yy_sP _ _ (yy_zs s t k)) = _
    rw [yy_mI_sP, yy_mI_zs s t j k]
theorem yy_KC_zs {lo : Nat} (g : yy_GT) (c : yy_CT) (s : MT) {t : Nat} (hlo : lo ≤ t) : ∀ {k : Nat}, t + k ≤ 160 → yy_KC lo g c s g c (yy_zs s t k)
  | 0, _ => yy_KC.refl _ _ _ _
  | k + 1, h => (yy_KC_zs g c s hlo (k := k) (by omega)).trans (yy_KC_sP g c _ _ (by omega) (by omega))
theorem yy_KC.t10 {lo : Nat} {g g' : yy_GT} {c c' : yy_CT} {s s' : MT} (h : yy_KC lo g c s g' c' s') (x y : Int32) : yy_KC lo g c s g' (yy_tI 10 x c') (sI 5 y s') := h.trans (yy_KC_10 g' c' s' x y)
theorem yy_KF.ofQ {lo : Nat} {g g' : yy_GT} {c c' : yy_CT} {s s' : MT} (k : yy_KQ lo g c s g' c' s') : yy_KF c s c' s' := by
  obtain ⟨⟨a1, a2, a3, a4, a5⟩, ⟨b1, b2, b3, b4⟩, kS, kD, kO, kR, kA, kd, kI, kp, kmA, kmL, kmD, kmI, kG⟩ := k
  refine ⟨⟨?_, ?_, ?_, ?_, ?_, ?_, ?_, kA _, kA _⟩, ⟨?_, ?_, ?_, ?_, ?_, ?_⟩, kmA _ (by decide), kmA _ (by decide), kmL _ (by decide), kmL _ (by decide), kmL _ (by decide), kmL _ (by decide)⟩
  all_goals first | exact kI _ (by decide) (by decide) (by decide) (by decide) | exact kmI _ (by decide) (by decide)
theorem yy_O_doneQ {lo : Nat} {g : yy_GT} {m : Nat} {c : yy_CT} {s s' : MT} {x : Option ((Unit ⊕ Nat) × xH)} {y : Option (Int32 × MT)} {t nd o n : Nat} (hx : ∃ g' c', x = some (.inl (), yy_cH c') ∧ yy_RR g' m c' s' t nd o n ∧ yy_KQ lo g c s g' c' s' ∧ yy_cI 18 c' = yy_cI 18 c) (hy : y = some (0, s')) : yy_OPS m c s x y := by
  obtain ⟨g', c', h1, h2, h3, h4⟩ := hx
  exact ⟨_, _, _, h1, hy, g', c', t, nd, o, n, rfl, h2, yy_KF.ofQ h3, Or.inl ⟨rfl, rfl, h4⟩⟩
/-- cells are taken on both sides -/
theorem yy_R_take {g : yy_GT} {m : Nat} {c : yy_CT} {s : MT} {t nd o n k : Nat} (sc : xSc) (h : yy_RR g m c s t nd o n) (hk : t + k ≤ 160) : ∃ g' c', f_P_take sc (yy_cH c) (some 256) (nI k) = some (.inl (nI t), yy_cH c') ∧ yy_RR g' m c' (sI 5 (nI (t + k)) (yy_zs s t k)) (t + k) nd o n ∧ yy_KC t g c s g' c' (sI 5 (nI (t + k)) (yy_zs s t k)) ∧
    (∀ i, t ≤ i → i < t + k → ∃ a v, yy_cR 270 c' i = some a ∧ yy_slv c' a = some v ∧ yy_gow g' a = (1, i)) := by
  obtain ⟨h1, h2, h3, h4, h5, h6, h7, h8, h9, h12, h13, h14, h15⟩ := id h.2.2.2
  have h10 : yy_cI 10 c = nI t := h.2.1.2.2.1.trans h1.2
  have h26 : yy_cI 26 c = nI o := h.2.1.2.2.2.2.1.trans h3.2
  have tk0 : yy_TK g m c := ⟨h.1, h1.1.2, h8⟩
  obtain ⟨g1, c1, e1, e2, e3, e4, e5, e6, e7⟩ := yy_take_loop (sc := sc) (s := s) (o := o) hk (Nat.le_refl t) k 0 (mF - k - 1) g c (by omega) tk0 (by have := h4.1; omega) h26 h10
  have kc : yy_KC t g c s g1 (yy_tI 10 (nI (t + k)) c1) (sI 5 (nI (t + k)) (yy_zs s t k)) := (e3.trans (yy_KC_zs g1 c1 s (Nat.le_refl t) hk)).t10 _ _
  have hRC0 := yy_RCe_KQ (S' := yy_slv c1) kc.1 (fun a v ha hg e => (kc.1.2.2.1 a ha hg).trans e) (by decide) h1.1.1 (Nat.le_refl t) h4
  refine ⟨g1, yy_tI 10 (nI (t + k)) c1, ?_, yy_RR_KC h kc e2.1.1 e2.1.2.1 e2.1.2.2 (by omega) rfl rfl ⟨hk, e2.2.1⟩ ⟨e4, fun i hi => ?_⟩ e2.2.2, kc, fun i hi1 hi2 => ?_⟩
  · unfold f_P_take
    rw [yy_cgI_10, Option.bind_some, h10, show (160 : Int32) = nI 160 from rfl, yy_nI_sub (by omega), if_neg (fun z => by rw [yy_nI_lt (by omega) (by omega)] at z; omega)]
    unfold f_P_take_b18
    rw [if_pos (yy_cis_P _ _), yy_e_need1, p_tBl, yy_cgI_10, Option.bind_some, h10, ← e1]
    congr 1
    unfold mF
    omega
  · by_cases z : i < t
    · obtain ⟨a, v, p1, p2, p3, p4, p5, p6⟩ := hRC0.2 i z
      exact ⟨a, v, p1, p2, p3, p4, yy_VR_mono (by omega) p5, p6⟩
    · obtain ⟨a, v, p1, p2, p3, d, nm, di, p4⟩ := e6 i (by omega) (by omega)
      refine ⟨a, v, p1, e2.1.2.1.s p2, p2, p3, ?_, o, Nat.le_refl _, by rw [p4]⟩
      rw [yy_pl_sI, yy_pl_zs, if_pos (by unfold yy_cpl; rw [if_pos rfl]; omega), p4]
      exact yy_VR_int _ _ _ _ _ _ 0 _ _ _ _ _ _
  · obtain ⟨a, v, p1, p2, p3, p4⟩ := e6 i (by omega) hi2
    exact ⟨a, v, p1, p2, p3⟩
theorem yy_e_take0 {sc : xSc} {c : yy_CT} {m t : Nat} {x : Int32} (hF : yy_FRc c) (hm : yy_RMc c (m + 1)) (h10 : yy_cI 10 c = nI t) (ht : t ≤ 160) (hx : nI (160 - t) < x) : f_P_take sc (yy_cH c) (some 256) x = some (.inr (yy_cn c), yy_cH (yy_thr 7 c)) := by
  unfold f_P_take
  rw [yy_cgI_10, Option.bind_some, h10, show (160 : Int32) = nI 160 from rfl, yy_nI_sub ht, if_pos hx]
  unfold f_P_take_b18
  rw [if_pos (yy_cis_P _ _), yy_e_need0 7 hF hm]
  rfl
/-- an array that is new -/
theorem yy_VR_arr {g : yy_GT} {c : yy_CT} {s : MT} {t nd o n z l : Nat} (hn : n ≤ 160) (hz : z ≤ 160) (hl : l ≤ 1) (hv : yy_VA s t o n z) (y : Int32) (d : UInt64) (nm di : Option Nat) (d' : UInt64) : yy_VR g c s t nd o (some 77, nI l, nI n, nI z, y, d, nm, di) (nI (5 + 8 * l), Int64.ofNat (n + 1024 * z), d') :=
  ⟨5, l, by decide, by omega, rfl, rfl, rfl, n, z, hn, hz, rfl, rfl, rfl, hv⟩
theorem yy_code_e {n z : Nat} (hn : n < 100000) (hz : z < 100000) : (nI n).toInt64 + 1024 * (nI z).toInt64 = Int64.ofNat (n + 1024 * z) := by
  rw [← Int64.toInt_inj, Int64.toInt_add, Int64.toInt_mul, Int32.toInt_toInt64, Int32.toInt_toInt64, yy_nI_toInt (by omega), yy_nI_toInt (by omega), yy_i64_toInt (by omega)]
  have e : (1024 : Int64).toInt = 1024 := by decide
  rw [e, Int.bmod_eq_of_le (n := 1024 * (z : Int)) (by omega) (by omega), Int.bmod_eq_of_le (by omega) (by omega)]
  omega
theorem yy_VA_new {g : yy_GT} {m : Nat} {c : yy_CT} {s s' : MT} {t nd o n k : Nat} (h : yy_RR g m c s t nd o n) (hs : mA 14 s' = mA 14 s) : yy_VA s' (t + k) o t k := by
  refine Or.inr ⟨Nat.le_refl _, fun j hj => Or.inl ?_⟩
  have := h.cel j hj
  unfold yy_cel at *
  rw [hs]
  exact this
theorem yy_e_b96_3 (rc : rcE) (sc : xSc) (d : Int32) (t0 t1 t2 : Option Nat) (c : yy_CT) : f_P_operate_b96 rc sc d t0 t1 t2 (some 256) (some (258 + 3)) (yy_cH c) = f_Holders_perform sc (yy_cH c) (some 261) (some 256) t2 t1 t0 d := by
  unfold f_P_operate_b96
  rw [if_neg (by rw [show xis sc (yy_cH c) 10 (some (258 + 3)) = false from rfl]; decide), if_neg (by rw [show xis sc (yy_cH c) 11 (some (258 + 3)) = false from rfl]; decide), if_neg (by rw [show xis sc (yy_cH c) 12 (some (258 + 3)) = false from rfl]; decide), if_pos (show xis sc (yy_cH c) 13 (some (258 + 3)) = true from rfl)]
  exact yy_tB_id _
theorem yy_oth_is {s : MT} (op : Int32) {y : Option (Int32 × MT)} (h1 : f_M_suitsOther s op = some (1, s)) (h2 : yy_dsp op s = y) : yy_oth op s = y := by
  unfold yy_oth
  rw [h1, Option.bind_some]
  show (if (1 : Int32) = 0 then _ else _) = _
  rw [if_neg (by decide)]
  exact h2
