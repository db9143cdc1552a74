/-! the model's moves -/
theorem yy_e_Mset {s : MT} {p : Nat} (k : Int32) (x : Int64) (hp : p < 1300) : f_M_set s (nI p) k x = some (yy_sP p (k, x, FP.dconst0) s) := by
  unfold f_M_set
  rw [if_pos (yy_xin_nI' hp (by decide)), if_pos (yy_xin_nI' hp (by decide)), if_pos (yy_xin_nI' hp (by decide)), yy_nI_c (by omega)]
  rfl
theorem yy_e_Mmove {s : MT} {p q : Nat} (hp : p < 1300) (hq : q < 1300) : f_M_move s (nI p) (nI q) = some (yy_sP p (yy_pl s q) s) := by
  unfold f_M_move
  rw [if_pos (yy_xin_nI' hq (by decide)), if_pos (yy_xin_nI' hp (by decide)), if_pos (yy_xin_nI' hq (by decide)), if_pos (yy_xin_nI' hp (by decide)), if_pos (yy_xin_nI' hq (by decide)), if_pos (yy_xin_nI' hp (by decide)), yy_nI_c (by omega), yy_nI_c (by omega)]
  rfl
theorem yy_e_Mpush {s : MT} {n : Nat} (k : Int32) (x : Int64) (h : mI 4 s = nI n) (hn : n < 40) : f_M_push s k x = some (0, yy_sP n (k, x, FP.dconst0) (sI 4 (nI (n + 1)) s)) := by
  unfold f_M_push
  rw [h, if_neg (fun e => by rw [show (40 : Int32) = nI 40 from rfl, yy_nI_inj (by omega) (by omega)] at e; omega), yy_e_Mset k x (by omega)]
  dsimp only [Option.bind_some]
  rw [yy_mI_sP, h, yy_nI_add1]
  rfl
theorem yy_e_Mpush40 {s : MT} (k : Int32) (x : Int64) (h : mI 4 s = nI 40) : f_M_push s k x = some (2, s) := by
  unfold f_M_push
  rw [h, if_pos (show nI 40 = 40 from rfl)]
theorem yy_e_MpushV {s : MT} {n p : Nat} (h : mI 4 s = nI n) (hn : n < 40) (hp : p < 1300) : f_M_pushValue s (nI p) = some (0, yy_sP n (yy_pl s p) (sI 4 (nI (n + 1)) s)) := by
  unfold f_M_pushValue
  rw [h, if_neg (fun e => by rw [show (40 : Int32) = nI 40 from rfl, yy_nI_inj (by omega) (by omega)] at e; omega), yy_e_Mmove (by omega) hp]
  dsimp only [Option.bind_some]
  rw [yy_mI_sP, h, yy_nI_add1]
  rfl
theorem yy_e_MpushV40 {s : MT} (p : Int32) (h : mI 4 s = nI 40) : f_M_pushValue s p = some (2, s) := by
  unfold f_M_pushValue
  rw [h, if_pos (show nI 40 = 40 from rfl)]
theorem yy_e_Mgive {s : MT} {n k : Nat} (kd : Int32) (x : Int64) (h : mI 4 s = nI n) (hk : k ≤ n) (hn : n ≤ 40) : f_M_give s (nI k) kd x = some (0, yy_sP (n - k) (kd, x, FP.dconst0) (sI 4 (nI (n - k + 1)) s)) := by
  unfold f_M_give
  rw [h, yy_nI_sub hk]
  rw [show mI 4 (sI 4 (nI (n - k)) s) = nI (n - k) from rfl, yy_e_Mset kd x (by omega)]
  dsimp only [Option.bind_some]
  rw [yy_mI_sP, show mI 4 (sI 4 (nI (n - k)) s) = nI (n - k) from rfl, yy_nI_add1, yy_sI_sP, yy_sI_sI]
theorem yy_e_MgiveReal {s : MT} {n k : Nat} (d : UInt64) (h : mI 4 s = nI n) (hk : k ≤ n) (hn : n ≤ 40) (h1 : ¬ 0 < (Op.cmpValue (FP.dcmp d (4786511204640096256 : UInt64)) .l)) (h2 : 0 ≤ (Op.cmpValue (FP.dcmp d (14009883241494872064 : UInt64)) .g)) : f_M_giveReal s (nI k) d = some (0, yy_sP (n - k) (1, 0, d) (sI 4 (nI (n - k + 1)) s)) := by
  unfold f_M_giveReal
  rw [if_neg h1, if_pos h2, h, yy_nI_sub hk]
  rw [show mI 4 (sI 4 (nI (n - k)) s) = nI (n - k) from rfl, yy_e_Mset 1 0 (by omega)]
  dsimp only [Option.bind_some]
  rw [yy_mI_sP, show mI 4 (sI 4 (nI (n - k)) s) = nI (n - k) from rfl, if_pos (yy_xin_nI' (by omega) (by decide)), yy_nI_c (by omega)]
  rw [show ∀ z, mI 4 (sD 3 z (yy_sP (n - k) (1, 0, FP.dconst0) (sI 4 (nI (n - k)) s))) = nI (n - k) from fun _ => rfl, yy_nI_add1]
  refine congrArg some (congrArg (fun z => ((0 : Int32), z)) ?_)
  show sI 4 _ (sD 3 (va_up (va_up (mD 3 s) (n - k) FP.dconst0) (n - k) d) _) = _
  rw [yy_va_upup]
  unfold yy_sP sI sD sL sA
  dsimp only [mA, mL, mD]
  rw [yy_va_upup, yy_va_upup]
/-- what an operator does to what is under way: nothing -/
def yy_KF (c : yy_CT) (s : MT) (c' : yy_CT) (s' : MT) : Prop :=
  (yy_cI 5 c' = yy_cI 5 c ∧ yy_cI 15 c' = yy_cI 15 c ∧ yy_cI 16 c' = yy_cI 16 c ∧ yy_cI 21 c' = yy_cI 21 c ∧ yy_cI 22 c' = yy_cI 22 c ∧ yy_cI 23 c' = yy_cI 23 c ∧ yy_cI 24 c' = yy_cI 24 c ∧ yy_cA 275 c' = yy_cA 275 c ∧ yy_cA 276 c' = yy_cA 276 c) ∧
  (mI 15 s' = mI 15 s ∧ mI 16 s' = mI 16 s ∧ mI 25 s' = mI 25 s ∧ mI 31 s' = mI 31 s ∧ mI 32 s' = mI 32 s ∧ mI 33 s' = mI 33 s) ∧
  mA 17 s' = mA 17 s ∧ mA 19 s' = mA 19 s ∧ mL 18 s' = mL 18 s ∧ mL 20 s' = mL 20 s ∧ mL 21 s' = mL 21 s ∧ mL 22 s' = mL 22 s
theorem yy_KF.of {g g' : yy_GT} {c c' : yy_CT} {s s' : MT} (k : yy_KP g c s g' c' s') : yy_KF c s c' s' := by
  obtain ⟨⟨a1, a2, a3, a4, a5⟩, ⟨b1, b2, b3, b4⟩, kS, kD, kO, kR, kA, kd, kI, kp, kmA, kmL, kmD, kmI, kG⟩ := k
  refine ⟨⟨?_, ?_, ?_, ?_, ?_, ?_, ?_, kA _, kA _⟩, ⟨?_, ?_, ?_, ?_, ?_, ?_⟩, kmA _ (by decide), kmA _ (by decide), kmL _ (by decide), kmL _ (by decide), kmL _ (by decide), kmL _ (by decide)⟩
  all_goals first | exact kI _ (by decide) (by decide) (by decide) | exact kmI _ (by decide)
/-- the end of an operator, on both sides -/
def yy_OUT (m : Nat) (c : yy_CT) (s : MT) (r : (Unit ⊕ Nat) × xH) (f : Int32) (s' : MT) : Prop :=
  ∃ (g' : yy_GT) (c' : yy_CT) (t nd o n : Nat), r.2 = yy_cH c' ∧ yy_RR g' m c' s' t nd o n ∧ yy_KF c s c' s' ∧ ((r.1 = .inl () ∧ f = 0 ∧ yy_cI 18 c' = yy_cI 18 c) ∨ ∃ a, r.1 = .inr a ∧ yy_ov c' a = some (.inl (21, [])) ∧ f ≠ 0 ∧ f ≠ -1 ∧ yy_cI 17 c' = f ∧ yy_cI 18 c' = f)
def yy_OPS (m : Nat) (c : yy_CT) (s : MT) (x : Option ((Unit ⊕ Nat) × xH)) (y : Option (Int32 × MT)) : Prop := ∃ r f s', x = some r ∧ y = some (f, s') ∧ yy_OUT m c s r f s'
theorem yy_tB_id (x : Option ((Unit ⊕ Nat) × xH)) : tB x (fun _ u => some ((.inl () : Unit ⊕ Nat), u)) (fun a u => some (.inr a, u)) = x := by
  match x with
  | none => rfl
  | some (.inl (), u) => rfl
  | some (.inr a, u) => rfl
theorem yy_O_thr {g : yy_GT} {m : Nat} {c : yy_CT} {s : MT} {t nd o n : Nat} {k : Int32} (h : yy_RR g (m + 1) c s t nd o n) (h0 : k ≠ 0) (h1 : k ≠ -1) : yy_OUT m c s (.inr (yy_cn c), yy_cH (yy_thr k c)) k s := by
  have hM : yy_RMc c ((m + (41 - yy_ghS g) + (160 - yy_ghC g) + (120 - yy_ghD g)) + 1) := h.1.2.2.le (by omega)
  have kp := yy_KP_thr g c s k
  have hF : yy_FRc (yy_tI 18 k (yy_tI 17 k c)) := h.1.1
  refine ⟨g, yy_thr k c, t, nd, o, n, rfl, yy_RR_KP h kp (yy_FRc.nwO hF _ _) (yy_LOW.nwO (c := yy_tI 18 k (yy_tI 17 k c)) h.1.2.1 _ _) (yy_RMc.nwO (c := yy_tI 18 k (yy_tI 17 k c)) hM (by decide) _) h.2.1.1 h.nine ?_, yy_KF.of kp, Or.inr ⟨yy_cn c, rfl, yy_ov_nwO (c := yy_tI 18 k (yy_tI 17 k c)) hF _ _, h0, h1, rfl, rfl⟩⟩
  obtain ⟨⟨h1, h2, h3⟩, h4, h5, h6⟩ := h.2.2.1
  have e : ∀ a x, yy_slv c a = some x → yy_slv (yy_thr k c) a = some x := fun a x q => by
    unfold yy_thr
    rw [yy_slv_nwO_ne (by have := h.1.2.1.s q; show a ≠ yy_cn c; omega)]
    exact q
  refine ⟨⟨h1, h2, h3⟩, fun j hj => ?_, h5, fun j hj => ?_⟩
  · obtain ⟨b, x, q1, q2, q3, q4⟩ := h4 j hj
    exact ⟨b, x, q1, e _ _ q2, q3, Nat.lt_succ_of_lt q4⟩
  · obtain ⟨b, x, q1, q2, q3⟩ := h6 j hj
    exact ⟨b, x, q1, e _ _ q2, yy_VR_KP kp q3⟩
theorem yy_O_ok {g g' : yy_GT} {m : Nat} {c c' : yy_CT} {s s' : MT} {t nd o n : Nat} (h : yy_RR g' m c' s' t nd o n) (k : yy_KP g c s g' c' s') (h18 : yy_cI 18 c' = yy_cI 18 c) : yy_OUT m c s (.inl (), yy_cH c') 0 s' :=
  ⟨g', c', t, nd, o, n, rfl, h, yy_KF.of k, Or.inl ⟨rfl, rfl, h18⟩⟩
