/-! membership in the tables, by the lists that they are made of -/
theorem tw_1 {w : Cond} (h : w ∈ tables_1_1) : w ∈ lw_tbl := List.mem_append_right _ (List.mem_append_left _ h)
theorem tw_2 {w : Cond} (h : w ∈ tables_1_2) : w ∈ lw_tbl := List.mem_append_right _ (List.mem_append_right _ (List.mem_append_left _ h))
theorem tw_3 {w : Cond} (h : w ∈ tables_1_3) : w ∈ lw_tbl := List.mem_append_right _ (List.mem_append_right _ (List.mem_append_right _ (List.mem_append_left _ h)))
theorem tw_4 {w : Cond} (h : w ∈ tables_1_4) : w ∈ lw_tbl := List.mem_append_right _ (List.mem_append_right _ (List.mem_append_right _ (List.mem_append_right _ (List.mem_append_left _ h))))
theorem tw_5 {w : Cond} (h : w ∈ tables_1_5) : w ∈ lw_tbl := List.mem_append_right _ (List.mem_append_right _ (List.mem_append_right _ (List.mem_append_right _ (List.mem_append_right _ (List.mem_append_left _ h)))))
theorem tw_6 {w : Cond} (h : w ∈ tables_1_6) : w ∈ lw_tbl := List.mem_append_right _ (List.mem_append_right _ (List.mem_append_right _ (List.mem_append_right _ (List.mem_append_right _ (List.mem_append_right _ (List.mem_append_left _ h))))))
theorem tw_7 {w : Cond} (h : w ∈ tables_1_7) : w ∈ lw_tbl := List.mem_append_right _ (List.mem_append_right _ (List.mem_append_right _ (List.mem_append_right _ (List.mem_append_right _ (List.mem_append_right _ (List.mem_append_right _ (List.mem_append_left _ h)))))))
theorem tw_8 {w : Cond} (h : w ∈ tables_1_8) : w ∈ lw_tbl := List.mem_append_right _ (List.mem_append_right _ (List.mem_append_right _ (List.mem_append_right _ (List.mem_append_right _ (List.mem_append_right _ (List.mem_append_right _ (List.mem_append_right _ (List.mem_append_left _ h))))))))
theorem tw_9 {w : Cond} (h : w ∈ tables_1_9) : w ∈ lw_tbl := List.mem_append_right _ (List.mem_append_right _ (List.mem_append_right _ (List.mem_append_right _ (List.mem_append_right _ (List.mem_append_right _ (List.mem_append_right _ (List.mem_append_right _ (List.mem_append_right _ (List.mem_append_left _ h)))))))))
theorem tw_10 {w : Cond} (h : w ∈ tables_1_10) : w ∈ lw_tbl := List.mem_append_right _ (List.mem_append_right _ (List.mem_append_right _ (List.mem_append_right _ (List.mem_append_right _ (List.mem_append_right _ (List.mem_append_right _ (List.mem_append_right _ (List.mem_append_right _ (List.mem_append_right _ (h))))))))))
/-! small checks -/
def xin (i : Int32) (n : Nat) : Bool := decide (0 ≤ i) && decide (i.toNatClampNeg < n)
theorem xin_vp {i : Int32} {n : Nat} (h : xin i n = true) : vp_in i n := by
  unfold xin at h
  rw [Bool.and_eq_true] at h
  have h1 : 0 ≤ i := of_decide_eq_true h.1
  have h2 : i.toNatClampNeg < n := of_decide_eq_true h.2
  intro z
  rcases z with z | z
  · rw [Int32.lt_iff_toInt_lt] at z
    rw [Int32.le_iff_toInt_le] at h1
    omega
  · omega
def xn64 (r : UInt64) : Bool := decide (r &&& 0x7fffffffffffffff ≤ 0x7ff0000000000000)
def xn32 (r : UInt32) : Bool := decide (r &&& 0x7fffffff ≤ 0x7f800000)
theorem xn64_v {r : UInt64} (h : xn64 r = true) : vf_n64 r := by
  unfold vf_n64
  exact of_decide_eq_true h
theorem xn32_v {r : UInt32} (h : xn32 r = true) : vf_n32 r := by
  unfold vf_n32
  exact of_decide_eq_true h
/-- a boolean, a char -/
def xbo (x : Int32) : Bool := x == 0 || x == 1
def xch (x : Int32) : Bool := (x.toUInt32 % 65536).toInt32 == x
def xby (x : Int32) : Bool := x.toInt8.toInt32 == x
theorem xbo_or {x : Int32} (h : xbo x = true) : x = 0 ∨ x = 1 := by
  unfold xbo at h
  rw [Bool.or_eq_true] at h
  rcases h with h | h
  · exact Or.inl (eq_of_beq h)
  · exact Or.inr (eq_of_beq h)
theorem xbo_n {x : Int32} (h : xbo x = true) : narrow .boolean (.int x) = .int x := by
  rcases xbo_or h with rfl | rfl <;> rfl
theorem xch_n {x : Int32} (h : xch x = true) : narrow .char (.int x) = .int x := by
  have e : (x.toUInt32 % 65536).toInt32 = x := eq_of_beq h
  have : narrow .char (.int x) = .int (x.toUInt32 % 65536).toInt32 := by rw [pk_char]; exact xnar_char x
  rw [this, e]
theorem ite_some {α : Type} {c : Bool} {x : Option α} {r : α} (h : (if c = true then x else none) = some r) : c = true ∧ x = some r := by
  cases c with
  | true => exact ⟨rfl, by simpa using h⟩
  | false => simp at h
theorem itn_some {α : Type} {c : Prop} [Decidable c] {x : Option α} {r : α} (h : (if c then none else x) = some r) : ¬ c ∧ x = some r := by
  by_cases hc : c
  · rw [if_pos hc] at h; cases h
  · rw [if_neg hc] at h; exact ⟨hc, h⟩
/-- fewer locals -/
def xwk : List (Option xV) → List (Option xV) → Prop
  | [], [] => True
  | a :: l, b :: m => (a = none ∨ a = b) ∧ xwk l m
  | _, _ => False
theorem xwk_get : ∀ {l m : List (Option xV)}, xwk l m → l.length = m.length ∧ ∀ (i : Nat) (v : xV), l[i]? = some (some v) → m[i]? = some (some v)
  | [], [], _ => ⟨rfl, fun i v h => h⟩
  | a :: l, b :: m, h => by
    obtain ⟨h1, h2⟩ := xwk_get h.2
    refine ⟨by simp [h1], fun i v hv => ?_⟩
    cases i with
    | zero =>
      rw [List.getElem?_cons_zero] at hv ⊢
      rcases h.1 with e | e
      · rw [e] at hv; cases hv
      · rw [← e]; exact hv
    | succ i =>
      rw [List.getElem?_cons_succ] at hv ⊢
      exact h2 i v hv
  | [], _ :: _, h => h.elim
  | _ :: _, [], h => h.elim
theorem x_wk {sc : xSc} {M : xM} {d : Nat} {Q : xR → xH → Prop} {h : xH} {pc : Nat} {L L' : List (Option xV)} {st : List xV} (hw : xwk L' L) (kk : xW sc M d Q h pc L' st) : xW sc M d Q h pc L st := by
  intro G p l e R s m args below meth cd H locs cells slots ls n0 s0 g1 g2 g3 g4
  obtain ⟨h1, h2⟩ := xwk_get hw
  exact kk G p l e R s m args below meth cd H locs cells slots ls n0 s0 g1 g2 g3 ⟨g4.1, h1.trans g4.2.1, g4.2.2.1, fun i v hv => g4.2.2.2 i v (h2 i v hv)⟩
/-! the model's state: ints, int (and char) arrays, long arrays, double arrays, gray; by the number of the field -/
abbrev MT : Type := (Nat → Int32) × (Nat → Nat → Int32) × (Nat → Nat → Int64) × (Nat → Nat → UInt64) × UInt32
def mI (k : Nat) (s : MT) : Int32 := s.1 k
def mA (k : Nat) (s : MT) : Nat → Int32 := s.2.1 k
def mL (k : Nat) (s : MT) : Nat → Int64 := s.2.2.1 k
def mD (k : Nat) (s : MT) : Nat → UInt64 := s.2.2.2.1 k
def mG (s : MT) : UInt32 := s.2.2.2.2
def sI (k : Nat) (x : Int32) (s : MT) : MT := (va_up s.1 k x, s.2)
def sA (k : Nat) (x : Nat → Int32) (s : MT) : MT := (s.1, va_up s.2.1 k x, s.2.2)
def sL (k : Nat) (x : Nat → Int64) (s : MT) : MT := (s.1, s.2.1, va_up s.2.2.1 k x, s.2.2.2)
def sD (k : Nat) (x : Nat → UInt64) (s : MT) : MT := (s.1, s.2.1, s.2.2.1, va_up s.2.2.2.1 k x, s.2.2.2.2)
def sG (x : UInt32) (s : MT) : MT := (s.1, s.2.1, s.2.2.1, s.2.2.2.1, x)
def mFs (s : MT) : List xV := [vI (mI 0 s), vA 374, vA 375, vA 376, vI (mI 4 s), vI (mI 5 s), vA 377, vA 378, vA 379, vA 380, vI (mI 10 s), vI (mI 11 s), vI (mI 12 s), vA 381, vA 382, vI (mI 15 s), vI (mI 16 s), vA 383, vA 384, vA 385, vA 386, vA 387, vA 388, vA 389, vI (mI 24 s), vI (mI 25 s), vI (mI 26 s), vI (mI 27 s), vA 390, vA 391, vI (mI 30 s), vI (mI 31 s), vI (mI 32 s), vI (mI 33 s), vI (mI 34 s), vI (mI 35 s), vA 392, vF (mG s), vA 393, vA 394, vA 395, vI (mI 41 s), vA 396, vA 397, vA 398]
/-- the array at 373 + j -/
def mAr (s : MT) (a : Nat) : Option xE := match a with
  | 374 => some (.inr (.int, (1300, .inl (mA 1 s))))
  | 375 => some (.inr (.long, (1300, .inr (.inl (mL 2 s)))))
  | 376 => some (.inr (.double, (1300, .inr (.inr (.inr (.inl (mD 3 s)))))))
  | 377 => some (.inr (.long, (320, .inr (.inl (mL 6 s)))))
  | 378 => some (.inr (.int, (28, .inl (mA 7 s))))
  | 379 => some (.inr (.int, (28, .inl (mA 8 s))))
  | 380 => some (.inr (.int, (6, .inl (mA 9 s))))
  | 381 => some (.inr (.int, (3, .inl (mA 13 s))))
  | 382 => some (.inr (.int, (3, .inl (mA 14 s))))
  | 383 => some (.inr (.int, (560, .inl (mA 17 s))))
  | 384 => some (.inr (.long, (560, .inr (.inl (mL 18 s)))))
  | 385 => some (.inr (.int, (560, .inl (mA 19 s))))
  | 386 => some (.inr (.long, (560, .inr (.inl (mL 20 s)))))
  | 387 => some (.inr (.long, (560, .inr (.inl (mL 21 s)))))
  | 388 => some (.inr (.long, (560, .inr (.inl (mL 22 s)))))
  | 389 => some (.inr (.char, (120, .inl (mA 23 s))))
  | 390 => some (.inr (.int, (4, .inl (mA 28 s))))
  | 391 => some (.inr (.long, (40, .inr (.inl (mL 29 s)))))
  | 392 => some (.inr (.int, (384, .inl (mA 36 s))))
  | 393 => some (.inr (.double, (30, .inr (.inr (.inr (.inl (mD 38 s)))))))
  | 394 => some (.inr (.double, (30, .inr (.inr (.inr (.inl (mD 39 s)))))))
  | 395 => some (.inr (.int, (30, .inl (mA 40 s))))
  | 396 => some (.inr (.int, (33, .inl (mA 42 s))))
  | 397 => some (.inr (.long, (35, .inr (.inl (mL 43 s)))))
  | 398 => some (.inr (.long, (35, .inr (.inl (mL 44 s)))))
  | _ => none
def mIn (a : Nat) : Bool := Nat.ble 374 a && Nat.ble a 398
def mMem (s : MT) (R : Nat → Option xE) (a : Nat) : Option xE := if a = 373 then some (.inl (1, mFs s)) else if mIn a = true then mAr s a else R a
def mH (s : MT) (R : xH) : xH := (mMem s R.1, R.2)
theorem xm_h (s : MT) (R : xH) : (mH s R).1 373 = some (.inl (1, mFs s)) := rfl
theorem xm_at {sc : xSc} (s : MT) (R : xH) : xat sc (mH s R) 373 = some (.inl (1, mFs s)) := rfl
theorem xm_up {s s2 : MT} {R : xH} {a : Nat} {e : xE} (h1 : mMem s2 R.1 a = some e) (h2 : ∀ b, b ≠ a → mMem s2 R.1 b = mMem s R.1 b) : xup (mH s R) a e = mH s2 R := by
  show (va_up (mMem s R.1) a (some e), R.2) = (mMem s2 R.1, R.2)
  refine congrArg (fun z => (z, R.2)) (funext fun b => ?_)
  unfold va_up
  by_cases hb : b = a
  · subst hb
    rw [if_pos rfl, h1]
  · rw [if_neg hb, h2 b hb]
theorem xm_obj {s s2 : MT} {R : xH} (h : ∀ b, mAr s2 b = mAr s b) : xup (mH s R) 373 (.inl (1, mFs s2)) = mH s2 R := by
  refine xm_up rfl fun b hb => ?_
  unfold mMem
  rw [if_neg hb, if_neg hb, h b]
theorem xm_arr {s s2 : MT} {R : xH} {a : Nat} {e : xE} (ha : a ≠ 373) (hi : mIn a = true) (h1 : mAr s2 a = some e) (hf : mFs s2 = mFs s) (h2 : ∀ b, b ≠ a → mAr s2 b = mAr s b) : xup (mH s R) a e = mH s2 R := by
  refine xm_up ?_ fun b hb => ?_
  · unfold mMem
    rw [if_neg ha, if_pos hi, h1]
  · unfold mMem
    rw [hf, h2 b hb]
theorem tw_mem_M_0 : u_lay "PageScribeModel" F_M 0 ∈ lw_tbl := tw_8 (List.mem_of_getElem? (i := 90) (by decide +kernel))
theorem tw_mem_M_4 : u_lay "PageScribeModel" F_M 4 ∈ lw_tbl := tw_8 (List.mem_of_getElem? (i := 98) (by decide +kernel))
theorem tw_mem_M_5 : u_lay "PageScribeModel" F_M 5 ∈ lw_tbl := tw_8 (List.mem_of_getElem? (i := 100) (by decide +kernel))
theorem tw_mem_M_10 : u_lay "PageScribeModel" F_M 10 ∈ lw_tbl := tw_8 (List.mem_of_getElem? (i := 110) (by decide +kernel))
theorem tw_mem_M_11 : u_lay "PageScribeModel" F_M 11 ∈ lw_tbl := tw_8 (List.mem_of_getElem? (i := 112) (by decide +kernel))
theorem tw_mem_M_12 : u_lay "PageScribeModel" F_M 12 ∈ lw_tbl := tw_8 (List.mem_of_getElem? (i := 114) (by decide +kernel))
theorem tw_mem_M_15 : u_lay "PageScribeModel" F_M 15 ∈ lw_tbl := tw_8 (List.mem_of_getElem? (i := 120) (by decide +kernel))
theorem tw_mem_M_16 : u_lay "PageScribeModel" F_M 16 ∈ lw_tbl := tw_8 (List.mem_of_getElem? (i := 122) (by decide +kernel))
theorem tw_mem_M_24 : u_lay "PageScribeModel" F_M 24 ∈ lw_tbl := tw_8 (List.mem_of_getElem? (i := 138) (by decide +kernel))
theorem tw_mem_M_25 : u_lay "PageScribeModel" F_M 25 ∈ lw_tbl := tw_8 (List.mem_of_getElem? (i := 140) (by decide +kernel))
theorem tw_mem_M_26 : u_lay "PageScribeModel" F_M 26 ∈ lw_tbl := tw_8 (List.mem_of_getElem? (i := 142) (by decide +kernel))
theorem tw_mem_M_27 : u_lay "PageScribeModel" F_M 27 ∈ lw_tbl := tw_8 (List.mem_of_getElem? (i := 144) (by decide +kernel))
theorem tw_mem_M_30 : u_lay "PageScribeModel" F_M 30 ∈ lw_tbl := tw_8 (List.mem_of_getElem? (i := 150) (by decide +kernel))
theorem tw_mem_M_31 : u_lay "PageScribeModel" F_M 31 ∈ lw_tbl := tw_8 (List.mem_of_getElem? (i := 152) (by decide +kernel))
theorem tw_mem_M_32 : u_lay "PageScribeModel" F_M 32 ∈ lw_tbl := tw_8 (List.mem_of_getElem? (i := 154) (by decide +kernel))
theorem tw_mem_M_33 : u_lay "PageScribeModel" F_M 33 ∈ lw_tbl := tw_8 (List.mem_of_getElem? (i := 156) (by decide +kernel))
theorem tw_mem_M_37 : u_lay "PageScribeModel" F_M 37 ∈ lw_tbl := tw_8 (List.mem_of_getElem? (i := 164) (by decide +kernel))
theorem tw_mem_M_41 : u_lay "PageScribeModel" F_M 41 ∈ lw_tbl := tw_8 (List.mem_of_getElem? (i := 172) (by decide +kernel))
section XM
variable {sc : xSc} {M : xM} {d : Nat} {Q : xR → xH → Prop} {pc : Nat} {L : List (Option xV)} {st : List xV} {s : MT} {R : xH}
theorem xm_o0 (x : Int32) : xup (mH s R) 373 (.inl (1, (mFs s).set 0 (vI x))) = mH (sI 0 x s) R := xm_obj (s2 := sI 0 x s) (fun _ => rfl)
theorem xp_M_0 : xFp 1 0 false := ⟨_, rfl, by decide, tw_mem_M_0, by decide +kernel, rfl⟩
theorem xm_p0 {idx : Nat} {x : Int32} (hd : decode M.2.1 pc = .ok (.putfield idx, 3)) (hl : xFl M.1 idx 1 0) (kk : xW sc M d Q (mH (sI 0 x s) R) (pc + 3) L st) : xW sc M d Q (mH s R) pc L (vI x :: vA 373 :: st) := x_putf hd hl xp_M_0 (by decide) (xm_h s R) xfit_int (by rw [xm_o0]; exact kk)
theorem xm_a1 {sc : xSc} (s : MT) (R : xH) : xat sc (mH s R) 374 = some (.inr (.int, (1300, .inl (mA 1 s)))) := rfl
theorem xm_ah1 (s : MT) (R : xH) : (mH s R).1 374 = some (.inr (.int, (1300, .inl (mA 1 s)))) := rfl
theorem xm_w1 (f : Nat → Int32) : xup (mH s R) 374 (.inr (.int, (1300, .inl f))) = mH (sA 1 f s) R := xm_arr (s2 := sA 1 f s) (by decide) rfl rfl rfl (fun b hb => by unfold mAr; split <;> first | rfl | exact absurd rfl hb)
theorem xm_s1 {i : Int32} {x : Int32} (hd : decode M.2.1 pc = .ok (.iastore, 1)) (hin : xin i 1300 = true) (kk : xW sc M d Q (mH (sA 1 (va_up (mA 1 s) i.toNatClampNeg (x)) s) R) (pc + 1) L st) : xW sc M d Q (mH s R) pc L (vI x :: vI i :: vA 374 :: st) := x_iast hd (by decide) (xm_ah1 s R) (xin_vp hin) (by rw [xm_w1]; exact kk)
theorem xm_a2 {sc : xSc} (s : MT) (R : xH) : xat sc (mH s R) 375 = some (.inr (.long, (1300, .inr (.inl (mL 2 s))))) := rfl
theorem xm_ah2 (s : MT) (R : xH) : (mH s R).1 375 = some (.inr (.long, (1300, .inr (.inl (mL 2 s))))) := rfl
theorem xm_w2 (f : Nat → Int64) : xup (mH s R) 375 (.inr (.long, (1300, .inr (.inl f)))) = mH (sL 2 f s) R := xm_arr (s2 := sL 2 f s) (by decide) rfl rfl rfl (fun b hb => by unfold mAr; split <;> first | rfl | exact absurd rfl hb)
theorem xm_s2 {i : Int32} {x : Int64} (hd : decode M.2.1 pc = .ok (.lastore, 1)) (hin : xin i 1300 = true) (kk : xW sc M d Q (mH (sL 2 (va_up (mL 2 s) i.toNatClampNeg (x)) s) R) (pc + 1) L st) : xW sc M d Q (mH s R) pc L (vL x :: vI i :: vA 375 :: st) := x_last hd (by decide) (xm_ah2 s R) (xin_vp hin) (by rw [xm_w2]; exact kk)
theorem xm_a3 {sc : xSc} (s : MT) (R : xH) : xat sc (mH s R) 376 = some (.inr (.double, (1300, .inr (.inr (.inr (.inl (mD 3 s))))))) := rfl
theorem xm_ah3 (s : MT) (R : xH) : (mH s R).1 376 = some (.inr (.double, (1300, .inr (.inr (.inr (.inl (mD 3 s))))))) := rfl
theorem xm_w3 (f : Nat → UInt64) : xup (mH s R) 376 (.inr (.double, (1300, .inr (.inr (.inr (.inl f)))))) = mH (sD 3 f s) R := xm_arr (s2 := sD 3 f s) (by decide) rfl rfl rfl (fun b hb => by unfold mAr; split <;> first | rfl | exact absurd rfl hb)
theorem xm_s3 {i : Int32} {x : UInt64} (hd : decode M.2.1 pc = .ok (.dastore, 1)) (hin : xin i 1300 = true) (kk : xW sc M d Q (mH (sD 3 (va_up (mD 3 s) i.toNatClampNeg (x)) s) R) (pc + 1) L st) : xW sc M d Q (mH s R) pc L (vD x :: vI i :: vA 376 :: st) := x_dast hd (by decide) (xm_ah3 s R) (xin_vp hin) (by rw [xm_w3]; exact kk)
theorem xm_o4 (x : Int32) : xup (mH s R) 373 (.inl (1, (mFs s).set 4 (vI x))) = mH (sI 4 x s) R := xm_obj (s2 := sI 4 x s) (fun _ => rfl)
theorem xp_M_4 : xFp 1 4 false := ⟨_, rfl, by decide, tw_mem_M_4, by decide +kernel, rfl⟩
theorem xm_p4 {idx : Nat} {x : Int32} (hd : decode M.2.1 pc = .ok (.putfield idx, 3)) (hl : xFl M.1 idx 1 4) (kk : xW sc M d Q (mH (sI 4 x s) R) (pc + 3) L st) : xW sc M d Q (mH s R) pc L (vI x :: vA 373 :: st) := x_putf hd hl xp_M_4 (by decide) (xm_h s R) xfit_int (by rw [xm_o4]; exact kk)
theorem xm_o5 (x : Int32) : xup (mH s R) 373 (.inl (1, (mFs s).set 5 (vI x))) = mH (sI 5 x s) R := xm_obj (s2 := sI 5 x s) (fun _ => rfl)
theorem xp_M_5 : xFp 1 5 false := ⟨_, rfl, by decide, tw_mem_M_5, by decide +kernel, rfl⟩
theorem xm_p5 {idx : Nat} {x : Int32} (hd : decode M.2.1 pc = .ok (.putfield idx, 3)) (hl : xFl M.1 idx 1 5) (kk : xW sc M d Q (mH (sI 5 x s) R) (pc + 3) L st) : xW sc M d Q (mH s R) pc L (vI x :: vA 373 :: st) := x_putf hd hl xp_M_5 (by decide) (xm_h s R) xfit_int (by rw [xm_o5]; exact kk)
theorem xm_a6 {sc : xSc} (s : MT) (R : xH) : xat sc (mH s R) 377 = some (.inr (.long, (320, .inr (.inl (mL 6 s))))) := rfl
theorem xm_ah6 (s : MT) (R : xH) : (mH s R).1 377 = some (.inr (.long, (320, .inr (.inl (mL 6 s))))) := rfl
theorem xm_w6 (f : Nat → Int64) : xup (mH s R) 377 (.inr (.long, (320, .inr (.inl f)))) = mH (sL 6 f s) R := xm_arr (s2 := sL 6 f s) (by decide) rfl rfl rfl (fun b hb => by unfold mAr; split <;> first | rfl | exact absurd rfl hb)
theorem xm_s6 {i : Int32} {x : Int64} (hd : decode M.2.1 pc = .ok (.lastore, 1)) (hin : xin i 320 = true) (kk : xW sc M d Q (mH (sL 6 (va_up (mL 6 s) i.toNatClampNeg (x)) s) R) (pc + 1) L st) : xW sc M d Q (mH s R) pc L (vL x :: vI i :: vA 377 :: st) := x_last hd (by decide) (xm_ah6 s R) (xin_vp hin) (by rw [xm_w6]; exact kk)
theorem xm_a7 {sc : xSc} (s : MT) (R : xH) : xat sc (mH s R) 378 = some (.inr (.int, (28, .inl (mA 7 s)))) := rfl
theorem xm_ah7 (s : MT) (R : xH) : (mH s R).1 378 = some (.inr (.int, (28, .inl (mA 7 s)))) := rfl
theorem xm_w7 (f : Nat → Int32) : xup (mH s R) 378 (.inr (.int, (28, .inl f))) = mH (sA 7 f s) R := xm_arr (s2 := sA 7 f s) (by decide) rfl rfl rfl (fun b hb => by unfold mAr; split <;> first | rfl | exact absurd rfl hb)
theorem xm_s7 {i : Int32} {x : Int32} (hd : decode M.2.1 pc = .ok (.iastore, 1)) (hin : xin i 28 = true) (kk : xW sc M d Q (mH (sA 7 (va_up (mA 7 s) i.toNatClampNeg (x)) s) R) (pc + 1) L st) : xW sc M d Q (mH s R) pc L (vI x :: vI i :: vA 378 :: st) := x_iast hd (by decide) (xm_ah7 s R) (xin_vp hin) (by rw [xm_w7]; exact kk)
theorem xm_a8 {sc : xSc} (s : MT) (R : xH) : xat sc (mH s R) 379 = some (.inr (.int, (28, .inl (mA 8 s)))) := rfl
theorem xm_ah8 (s : MT) (R : xH) : (mH s R).1 379 = some (.inr (.int, (28, .inl (mA 8 s)))) := rfl
theorem xm_w8 (f : Nat → Int32) : xup (mH s R) 379 (.inr (.int, (28, .inl f))) = mH (sA 8 f s) R := xm_arr (s2 := sA 8 f s) (by decide) rfl rfl rfl (fun b hb => by unfold mAr; split <;> first | rfl | exact absurd rfl hb)
theorem xm_s8 {i : Int32} {x : Int32} (hd : decode M.2.1 pc = .ok (.iastore, 1)) (hin : xin i 28 = true) (kk : xW sc M d Q (mH (sA 8 (va_up (mA 8 s) i.toNatClampNeg (x)) s) R) (pc + 1) L st) : xW sc M d Q (mH s R) pc L (vI x :: vI i :: vA 379 :: st) := x_iast hd (by decide) (xm_ah8 s R) (xin_vp hin) (by rw [xm_w8]; exact kk)
theorem xm_a9 {sc : xSc} (s : MT) (R : xH) : xat sc (mH s R) 380 = some (.inr (.int, (6, .inl (mA 9 s)))) := rfl
theorem xm_ah9 (s : MT) (R : xH) : (mH s R).1 380 = some (.inr (.int, (6, .inl (mA 9 s)))) := rfl
theorem xm_w9 (f : Nat → Int32) : xup (mH s R) 380 (.inr (.int, (6, .inl f))) = mH (sA 9 f s) R := xm_arr (s2 := sA 9 f s) (by decide) rfl rfl rfl (fun b hb => by unfold mAr; split <;> first | rfl | exact absurd rfl hb)
theorem xm_s9 {i : Int32} {x : Int32} (hd : decode M.2.1 pc = .ok (.iastore, 1)) (hin : xin i 6 = true) (kk : xW sc M d Q (mH (sA 9 (va_up (mA 9 s) i.toNatClampNeg (x)) s) R) (pc + 1) L st) : xW sc M d Q (mH s R) pc L (vI x :: vI i :: vA 380 :: st) := x_iast hd (by decide) (xm_ah9 s R) (xin_vp hin) (by rw [xm_w9]; exact kk)
theorem xm_o10 (x : Int32) : xup (mH s R) 373 (.inl (1, (mFs s).set 10 (vI x))) = mH (sI 10 x s) R := xm_obj (s2 := sI 10 x s) (fun _ => rfl)
theorem xp_M_10 : xFp 1 10 false := ⟨_, rfl, by decide, tw_mem_M_10, by decide +kernel, rfl⟩
theorem xm_p10 {idx : Nat} {x : Int32} (hd : decode M.2.1 pc = .ok (.putfield idx, 3)) (hl : xFl M.1 idx 1 10) (kk : xW sc M d Q (mH (sI 10 x s) R) (pc + 3) L st) : xW sc M d Q (mH s R) pc L (vI x :: vA 373 :: st) := x_putf hd hl xp_M_10 (by decide) (xm_h s R) xfit_int (by rw [xm_o10]; exact kk)
theorem xm_o11 (x : Int32) : xup (mH s R) 373 (.inl (1, (mFs s).set 11 (vI x))) = mH (sI 11 x s) R := xm_obj (s2 := sI 11 x s) (fun _ => rfl)
theorem xp_M_11 : xFp 1 11 false := ⟨_, rfl, by decide, tw_mem_M_11, by decide +kernel, rfl⟩
theorem xm_p11 {idx : Nat} {x : Int32} (hd : decode M.2.1 pc = .ok (.putfield idx, 3)) (hl : xFl M.1 idx 1 11) (kk : xW sc M d Q (mH (sI 11 x s) R) (pc + 3) L st) : xW sc M d Q (mH s R) pc L (vI x :: vA 373 :: st) := x_putf hd hl xp_M_11 (by decide) (xm_h s R) xfit_int (by rw [xm_o11]; exact kk)
theorem xm_o12 (x : Int32) : xup (mH s R) 373 (.inl (1, (mFs s).set 12 (vI x))) = mH (sI 12 x s) R := xm_obj (s2 := sI 12 x s) (fun _ => rfl)
theorem xp_M_12 : xFp 1 12 false := ⟨_, rfl, by decide, tw_mem_M_12, by decide +kernel, rfl⟩
theorem xm_p12 {idx : Nat} {x : Int32} (hd : decode M.2.1 pc = .ok (.putfield idx, 3)) (hl : xFl M.1 idx 1 12) (kk : xW sc M d Q (mH (sI 12 x s) R) (pc + 3) L st) : xW sc M d Q (mH s R) pc L (vI x :: vA 373 :: st) := x_putf hd hl xp_M_12 (by decide) (xm_h s R) xfit_int (by rw [xm_o12]; exact kk)
theorem xm_a13 {sc : xSc} (s : MT) (R : xH) : xat sc (mH s R) 381 = some (.inr (.int, (3, .inl (mA 13 s)))) := rfl
theorem xm_ah13 (s : MT) (R : xH) : (mH s R).1 381 = some (.inr (.int, (3, .inl (mA 13 s)))) := rfl
theorem xm_w13 (f : Nat → Int32) : xup (mH s R) 381 (.inr (.int, (3, .inl f))) = mH (sA 13 f s) R := xm_arr (s2 := sA 13 f s) (by decide) rfl rfl rfl (fun b hb => by unfold mAr; split <;> first | rfl | exact absurd rfl hb)
theorem xm_s13 {i : Int32} {x : Int32} (hd : decode M.2.1 pc = .ok (.iastore, 1)) (hin : xin i 3 = true) (kk : xW sc M d Q (mH (sA 13 (va_up (mA 13 s) i.toNatClampNeg (x)) s) R) (pc + 1) L st) : xW sc M d Q (mH s R) pc L (vI x :: vI i :: vA 381 :: st) := x_iast hd (by decide) (xm_ah13 s R) (xin_vp hin) (by rw [xm_w13]; exact kk)
theorem xm_a14 {sc : xSc} (s : MT) (R : xH) : xat sc (mH s R) 382 = some (.inr (.int, (3, .inl (mA 14 s)))) := rfl
theorem xm_ah14 (s : MT) (R : xH) : (mH s R).1 382 = some (.inr (.int, (3, .inl (mA 14 s)))) := rfl
theorem xm_w14 (f : Nat → Int32) : xup (mH s R) 382 (.inr (.int, (3, .inl f))) = mH (sA 14 f s) R := xm_arr (s2 := sA 14 f s) (by decide) rfl rfl rfl (fun b hb => by unfold mAr; split <;> first | rfl | exact absurd rfl hb)
theorem xm_s14 {i : Int32} {x : Int32} (hd : decode M.2.1 pc = .ok (.iastore, 1)) (hin : xin i 3 = true) (kk : xW sc M d Q (mH (sA 14 (va_up (mA 14 s) i.toNatClampNeg (x)) s) R) (pc + 1) L st) : xW sc M d Q (mH s R) pc L (vI x :: vI i :: vA 382 :: st) := x_iast hd (by decide) (xm_ah14 s R) (xin_vp hin) (by rw [xm_w14]; exact kk)
theorem xm_o15 (x : Int32) : xup (mH s R) 373 (.inl (1, (mFs s).set 15 (vI x))) = mH (sI 15 x s) R := xm_obj (s2 := sI 15 x s) (fun _ => rfl)
theorem xp_M_15 : xFp 1 15 false := ⟨_, rfl, by decide, tw_mem_M_15, by decide +kernel, rfl⟩
theorem xm_p15 {idx : Nat} {x : Int32} (hd : decode M.2.1 pc = .ok (.putfield idx, 3)) (hl : xFl M.1 idx 1 15) (kk : xW sc M d Q (mH (sI 15 x s) R) (pc + 3) L st) : xW sc M d Q (mH s R) pc L (vI x :: vA 373 :: st) := x_putf hd hl xp_M_15 (by decide) (xm_h s R) xfit_int (by rw [xm_o15]; exact kk)
theorem xm_o16 (x : Int32) : xup (mH s R) 373 (.inl (1, (mFs s).set 16 (vI x))) = mH (sI 16 x s) R := xm_obj (s2 := sI 16 x s) (fun _ => rfl)
theorem xp_M_16 : xFp 1 16 false := ⟨_, rfl, by decide, tw_mem_M_16, by decide +kernel, rfl⟩
theorem xm_p16 {idx : Nat} {x : Int32} (hd : decode M.2.1 pc = .ok (.putfield idx, 3)) (hl : xFl M.1 idx 1 16) (kk : xW sc M d Q (mH (sI 16 x s) R) (pc + 3) L st) : xW sc M d Q (mH s R) pc L (vI x :: vA 373 :: st) := x_putf hd hl xp_M_16 (by decide) (xm_h s R) xfit_int (by rw [xm_o16]; exact kk)
theorem xm_a17 {sc : xSc} (s : MT) (R : xH) : xat sc (mH s R) 383 = some (.inr (.int, (560, .inl (mA 17 s)))) := rfl
theorem xm_ah17 (s : MT) (R : xH) : (mH s R).1 383 = some (.inr (.int, (560, .inl (mA 17 s)))) := rfl
theorem xm_w17 (f : Nat → Int32) : xup (mH s R) 383 (.inr (.int, (560, .inl f))) = mH (sA 17 f s) R := xm_arr (s2 := sA 17 f s) (by decide) rfl rfl rfl (fun b hb => by unfold mAr; split <;> first | rfl | exact absurd rfl hb)
theorem xm_s17 {i : Int32} {x : Int32} (hd : decode M.2.1 pc = .ok (.iastore, 1)) (hin : xin i 560 = true) (kk : xW sc M d Q (mH (sA 17 (va_up (mA 17 s) i.toNatClampNeg (x)) s) R) (pc + 1) L st) : xW sc M d Q (mH s R) pc L (vI x :: vI i :: vA 383 :: st) := x_iast hd (by decide) (xm_ah17 s R) (xin_vp hin) (by rw [xm_w17]; exact kk)
theorem xm_a18 {sc : xSc} (s : MT) (R : xH) : xat sc (mH s R) 384 = some (.inr (.long, (560, .inr (.inl (mL 18 s))))) := rfl
theorem xm_ah18 (s : MT) (R : xH) : (mH s R).1 384 = some (.inr (.long, (560, .inr (.inl (mL 18 s))))) := rfl
theorem xm_w18 (f : Nat → Int64) : xup (mH s R) 384 (.inr (.long, (560, .inr (.inl f)))) = mH (sL 18 f s) R := xm_arr (s2 := sL 18 f s) (by decide) rfl rfl rfl (fun b hb => by unfold mAr; split <;> first | rfl | exact absurd rfl hb)
theorem xm_s18 {i : Int32} {x : Int64} (hd : decode M.2.1 pc = .ok (.lastore, 1)) (hin : xin i 560 = true) (kk : xW sc M d Q (mH (sL 18 (va_up (mL 18 s) i.toNatClampNeg (x)) s) R) (pc + 1) L st) : xW sc M d Q (mH s R) pc L (vL x :: vI i :: vA 384 :: st) := x_last hd (by decide) (xm_ah18 s R) (xin_vp hin) (by rw [xm_w18]; exact kk)
theorem xm_a19 {sc : xSc} (s : MT) (R : xH) : xat sc (mH s R) 385 = some (.inr (.int, (560, .inl (mA 19 s)))) := rfl
theorem xm_ah19 (s : MT) (R : xH) : (mH s R).1 385 = some (.inr (.int, (560, .inl (mA 19 s)))) := rfl
theorem xm_w19 (f : Nat → Int32) : xup (mH s R) 385 (.inr (.int, (560, .inl f))) = mH (sA 19 f s) R := xm_arr (s2 := sA 19 f s) (by decide) rfl rfl rfl (fun b hb => by unfold mAr; split <;> first | rfl | exact absurd rfl hb)
theorem xm_s19 {i : Int32} {x : Int32} (hd : decode M.2.1 pc = .ok (.iastore, 1)) (hin : xin i 560 = true) (kk : xW sc M d Q (mH (sA 19 (va_up (mA 19 s) i.toNatClampNeg (x)) s) R) (pc + 1) L st) : xW sc M d Q (mH s R) pc L (vI x :: vI i :: vA 385 :: st) := x_iast hd (by decide) (xm_ah19 s R) (xin_vp hin) (by rw [xm_w19]; exact kk)
theorem xm_a20 {sc : xSc} (s : MT) (R : xH) : xat sc (mH s R) 386 = some (.inr (.long, (560, .inr (.inl (mL 20 s))))) := rfl
theorem xm_ah20 (s : MT) (R : xH) : (mH s R).1 386 = some (.inr (.long, (560, .inr (.inl (mL 20 s))))) := rfl
theorem xm_w20 (f : Nat → Int64) : xup (mH s R) 386 (.inr (.long, (560, .inr (.inl f)))) = mH (sL 20 f s) R := xm_arr (s2 := sL 20 f s) (by decide) rfl rfl rfl (fun b hb => by unfold mAr; split <;> first | rfl | exact absurd rfl hb)
theorem xm_s20 {i : Int32} {x : Int64} (hd : decode M.2.1 pc = .ok (.lastore, 1)) (hin : xin i 560 = true) (kk : xW sc M d Q (mH (sL 20 (va_up (mL 20 s) i.toNatClampNeg (x)) s) R) (pc + 1) L st) : xW sc M d Q (mH s R) pc L (vL x :: vI i :: vA 386 :: st) := x_last hd (by decide) (xm_ah20 s R) (xin_vp hin) (by rw [xm_w20]; exact kk)
theorem xm_a21 {sc : xSc} (s : MT) (R : xH) : xat sc (mH s R) 387 = some (.inr (.long, (560, .inr (.inl (mL 21 s))))) := rfl
theorem xm_ah21 (s : MT) (R : xH) : (mH s R).1 387 = some (.inr (.long, (560, .inr (.inl (mL 21 s))))) := rfl
theorem xm_w21 (f : Nat → Int64) : xup (mH s R) 387 (.inr (.long, (560, .inr (.inl f)))) = mH (sL 21 f s) R := xm_arr (s2 := sL 21 f s) (by decide) rfl rfl rfl (fun b hb => by unfold mAr; split <;> first | rfl | exact absurd rfl hb)
theorem xm_s21 {i : Int32} {x : Int64} (hd : decode M.2.1 pc = .ok (.lastore, 1)) (hin : xin i 560 = true) (kk : xW sc M d Q (mH (sL 21 (va_up (mL 21 s) i.toNatClampNeg (x)) s) R) (pc + 1) L st) : xW sc M d Q (mH s R) pc L (vL x :: vI i :: vA 387 :: st) := x_last hd (by decide) (xm_ah21 s R) (xin_vp hin) (by rw [xm_w21]; exact kk)
theorem xm_a22 {sc : xSc} (s : MT) (R : xH) : xat sc (mH s R) 388 = some (.inr (.long, (560, .inr (.inl (mL 22 s))))) := rfl
theorem xm_ah22 (s : MT) (R : xH) : (mH s R).1 388 = some (.inr (.long, (560, .inr (.inl (mL 22 s))))) := rfl
theorem xm_w22 (f : Nat → Int64) : xup (mH s R) 388 (.inr (.long, (560, .inr (.inl f)))) = mH (sL 22 f s) R := xm_arr (s2 := sL 22 f s) (by decide) rfl rfl rfl (fun b hb => by unfold mAr; split <;> first | rfl | exact absurd rfl hb)
theorem xm_s22 {i : Int32} {x : Int64} (hd : decode M.2.1 pc = .ok (.lastore, 1)) (hin : xin i 560 = true) (kk : xW sc M d Q (mH (sL 22 (va_up (mL 22 s) i.toNatClampNeg (x)) s) R) (pc + 1) L st) : xW sc M d Q (mH s R) pc L (vL x :: vI i :: vA 388 :: st) := x_last hd (by decide) (xm_ah22 s R) (xin_vp hin) (by rw [xm_w22]; exact kk)
theorem xm_a23 {sc : xSc} (s : MT) (R : xH) : xat sc (mH s R) 389 = some (.inr (.char, (120, .inl (mA 23 s)))) := rfl
theorem xm_ah23 (s : MT) (R : xH) : (mH s R).1 389 = some (.inr (.char, (120, .inl (mA 23 s)))) := rfl
theorem xm_w23 (f : Nat → Int32) : xup (mH s R) 389 (.inr (.char, (120, .inl f))) = mH (sA 23 f s) R := xm_arr (s2 := sA 23 f s) (by decide) rfl rfl rfl (fun b hb => by unfold mAr; split <;> first | rfl | exact absurd rfl hb)
theorem xm_s23 {i : Int32} {x : Int32} (hd : decode M.2.1 pc = .ok (.castore, 1)) (hin : xin i 120 = true) (kk : xW sc M d Q (mH (sA 23 (va_up (mA 23 s) i.toNatClampNeg ((x.toUInt32 % 65536).toInt32)) s) R) (pc + 1) L st) : xW sc M d Q (mH s R) pc L (vI x :: vI i :: vA 389 :: st) := x_cast hd (by decide) (xm_ah23 s R) (xin_vp hin) (by rw [xm_w23]; exact kk)
theorem xm_o24 (x : Int32) : xup (mH s R) 373 (.inl (1, (mFs s).set 24 (vI x))) = mH (sI 24 x s) R := xm_obj (s2 := sI 24 x s) (fun _ => rfl)
theorem xp_M_24 : xFp 1 24 false := ⟨_, rfl, by decide, tw_mem_M_24, by decide +kernel, rfl⟩
theorem xm_p24 {idx : Nat} {x : Int32} (hd : decode M.2.1 pc = .ok (.putfield idx, 3)) (hl : xFl M.1 idx 1 24) (kk : xW sc M d Q (mH (sI 24 x s) R) (pc + 3) L st) : xW sc M d Q (mH s R) pc L (vI x :: vA 373 :: st) := x_putf hd hl xp_M_24 (by decide) (xm_h s R) xfit_int (by rw [xm_o24]; exact kk)
theorem xm_o25 (x : Int32) : xup (mH s R) 373 (.inl (1, (mFs s).set 25 (vI x))) = mH (sI 25 x s) R := xm_obj (s2 := sI 25 x s) (fun _ => rfl)
theorem xp_M_25 : xFp 1 25 false := ⟨_, rfl, by decide, tw_mem_M_25, by decide +kernel, rfl⟩
theorem xm_p25 {idx : Nat} {x : Int32} (hd : decode M.2.1 pc = .ok (.putfield idx, 3)) (hl : xFl M.1 idx 1 25) (kk : xW sc M d Q (mH (sI 25 x s) R) (pc + 3) L st) : xW sc M d Q (mH s R) pc L (vI x :: vA 373 :: st) := x_putf hd hl xp_M_25 (by decide) (xm_h s R) xfit_int (by rw [xm_o25]; exact kk)
theorem xm_o26 (x : Int32) : xup (mH s R) 373 (.inl (1, (mFs s).set 26 (vI x))) = mH (sI 26 x s) R := xm_obj (s2 := sI 26 x s) (fun _ => rfl)
theorem xp_M_26 : xFp 1 26 false := ⟨_, rfl, by decide, tw_mem_M_26, by decide +kernel, rfl⟩
theorem xm_p26 {idx : Nat} {x : Int32} (hd : decode M.2.1 pc = .ok (.putfield idx, 3)) (hl : xFl M.1 idx 1 26) (kk : xW sc M d Q (mH (sI 26 x s) R) (pc + 3) L st) : xW sc M d Q (mH s R) pc L (vI x :: vA 373 :: st) := x_putf hd hl xp_M_26 (by decide) (xm_h s R) xfit_int (by rw [xm_o26]; exact kk)
theorem xm_o27 (x : Int32) : xup (mH s R) 373 (.inl (1, (mFs s).set 27 (vI x))) = mH (sI 27 x s) R := xm_obj (s2 := sI 27 x s) (fun _ => rfl)
theorem xp_M_27 : xFp 1 27 false := ⟨_, rfl, by decide, tw_mem_M_27, by decide +kernel, rfl⟩
theorem xm_p27 {idx : Nat} {x : Int32} (hd : decode M.2.1 pc = .ok (.putfield idx, 3)) (hl : xFl M.1 idx 1 27) (kk : xW sc M d Q (mH (sI 27 x s) R) (pc + 3) L st) : xW sc M d Q (mH s R) pc L (vI x :: vA 373 :: st) := x_putf hd hl xp_M_27 (by decide) (xm_h s R) xfit_int (by rw [xm_o27]; exact kk)
theorem xm_a28 {sc : xSc} (s : MT) (R : xH) : xat sc (mH s R) 390 = some (.inr (.int, (4, .inl (mA 28 s)))) := rfl
theorem xm_ah28 (s : MT) (R : xH) : (mH s R).1 390 = some (.inr (.int, (4, .inl (mA 28 s)))) := rfl
theorem xm_w28 (f : Nat → Int32) : xup (mH s R) 390 (.inr (.int, (4, .inl f))) = mH (sA 28 f s) R := xm_arr (s2 := sA 28 f s) (by decide) rfl rfl rfl (fun b hb => by unfold mAr; split <;> first | rfl | exact absurd rfl hb)
theorem xm_s28 {i : Int32} {x : Int32} (hd : decode M.2.1 pc = .ok (.iastore, 1)) (hin : xin i 4 = true) (kk : xW sc M d Q (mH (sA 28 (va_up (mA 28 s) i.toNatClampNeg (x)) s) R) (pc + 1) L st) : xW sc M d Q (mH s R) pc L (vI x :: vI i :: vA 390 :: st) := x_iast hd (by decide) (xm_ah28 s R) (xin_vp hin) (by rw [xm_w28]; exact kk)
theorem xm_a29 {sc : xSc} (s : MT) (R : xH) : xat sc (mH s R) 391 = some (.inr (.long, (40, .inr (.inl (mL 29 s))))) := rfl
theorem xm_ah29 (s : MT) (R : xH) : (mH s R).1 391 = some (.inr (.long, (40, .inr (.inl (mL 29 s))))) := rfl
theorem xm_w29 (f : Nat → Int64) : xup (mH s R) 391 (.inr (.long, (40, .inr (.inl f)))) = mH (sL 29 f s) R := xm_arr (s2 := sL 29 f s) (by decide) rfl rfl rfl (fun b hb => by unfold mAr; split <;> first | rfl | exact absurd rfl hb)
theorem xm_s29 {i : Int32} {x : Int64} (hd : decode M.2.1 pc = .ok (.lastore, 1)) (hin : xin i 40 = true) (kk : xW sc M d Q (mH (sL 29 (va_up (mL 29 s) i.toNatClampNeg (x)) s) R) (pc + 1) L st) : xW sc M d Q (mH s R) pc L (vL x :: vI i :: vA 391 :: st) := x_last hd (by decide) (xm_ah29 s R) (xin_vp hin) (by rw [xm_w29]; exact kk)
theorem xm_o30 (x : Int32) : xup (mH s R) 373 (.inl (1, (mFs s).set 30 (vI x))) = mH (sI 30 x s) R := xm_obj (s2 := sI 30 x s) (fun _ => rfl)
theorem xp_M_30 : xFp 1 30 false := ⟨_, rfl, by decide, tw_mem_M_30, by decide +kernel, rfl⟩
theorem xm_p30 {idx : Nat} {x : Int32} (hd : decode M.2.1 pc = .ok (.putfield idx, 3)) (hl : xFl M.1 idx 1 30) (kk : xW sc M d Q (mH (sI 30 x s) R) (pc + 3) L st) : xW sc M d Q (mH s R) pc L (vI x :: vA 373 :: st) := x_putf hd hl xp_M_30 (by decide) (xm_h s R) xfit_int (by rw [xm_o30]; exact kk)
theorem xm_o31 (x : Int32) : xup (mH s R) 373 (.inl (1, (mFs s).set 31 (vI x))) = mH (sI 31 x s) R := xm_obj (s2 := sI 31 x s) (fun _ => rfl)
theorem xp_M_31 : xFp 1 31 false := ⟨_, rfl, by decide, tw_mem_M_31, by decide +kernel, rfl⟩
theorem xm_p31 {idx : Nat} {x : Int32} (hd : decode M.2.1 pc = .ok (.putfield idx, 3)) (hl : xFl M.1 idx 1 31) (kk : xW sc M d Q (mH (sI 31 x s) R) (pc + 3) L st) : xW sc M d Q (mH s R) pc L (vI x :: vA 373 :: st) := x_putf hd hl xp_M_31 (by decide) (xm_h s R) xfit_int (by rw [xm_o31]; exact kk)
theorem xm_o32 (x : Int32) : xup (mH s R) 373 (.inl (1, (mFs s).set 32 (vI x))) = mH (sI 32 x s) R := xm_obj (s2 := sI 32 x s) (fun _ => rfl)
theorem xp_M_32 : xFp 1 32 false := ⟨_, rfl, by decide, tw_mem_M_32, by decide +kernel, rfl⟩
theorem xm_p32 {idx : Nat} {x : Int32} (hd : decode M.2.1 pc = .ok (.putfield idx, 3)) (hl : xFl M.1 idx 1 32) (kk : xW sc M d Q (mH (sI 32 x s) R) (pc + 3) L st) : xW sc M d Q (mH s R) pc L (vI x :: vA 373 :: st) := x_putf hd hl xp_M_32 (by decide) (xm_h s R) xfit_int (by rw [xm_o32]; exact kk)
theorem xm_o33 (x : Int32) : xup (mH s R) 373 (.inl (1, (mFs s).set 33 (vI x))) = mH (sI 33 x s) R := xm_obj (s2 := sI 33 x s) (fun _ => rfl)
theorem xp_M_33 : xFp 1 33 false := ⟨_, rfl, by decide, tw_mem_M_33, by decide +kernel, rfl⟩
theorem xm_p33 {idx : Nat} {x : Int32} (hd : decode M.2.1 pc = .ok (.putfield idx, 3)) (hl : xFl M.1 idx 1 33) (kk : xW sc M d Q (mH (sI 33 x s) R) (pc + 3) L st) : xW sc M d Q (mH s R) pc L (vI x :: vA 373 :: st) := x_putf hd hl xp_M_33 (by decide) (xm_h s R) xfit_int (by rw [xm_o33]; exact kk)
theorem xm_o34 (x : Int32) : xup (mH s R) 373 (.inl (1, (mFs s).set 34 (vI x))) = mH (sI 34 x s) R := xm_obj (s2 := sI 34 x s) (fun _ => rfl)
theorem xm_o35 (x : Int32) : xup (mH s R) 373 (.inl (1, (mFs s).set 35 (vI x))) = mH (sI 35 x s) R := xm_obj (s2 := sI 35 x s) (fun _ => rfl)
theorem xm_a36 {sc : xSc} (s : MT) (R : xH) : xat sc (mH s R) 392 = some (.inr (.int, (384, .inl (mA 36 s)))) := rfl
theorem xm_ah36 (s : MT) (R : xH) : (mH s R).1 392 = some (.inr (.int, (384, .inl (mA 36 s)))) := rfl
theorem xm_w36 (f : Nat → Int32) : xup (mH s R) 392 (.inr (.int, (384, .inl f))) = mH (sA 36 f s) R := xm_arr (s2 := sA 36 f s) (by decide) rfl rfl rfl (fun b hb => by unfold mAr; split <;> first | rfl | exact absurd rfl hb)
theorem xm_s36 {i : Int32} {x : Int32} (hd : decode M.2.1 pc = .ok (.iastore, 1)) (hin : xin i 384 = true) (kk : xW sc M d Q (mH (sA 36 (va_up (mA 36 s) i.toNatClampNeg (x)) s) R) (pc + 1) L st) : xW sc M d Q (mH s R) pc L (vI x :: vI i :: vA 392 :: st) := x_iast hd (by decide) (xm_ah36 s R) (xin_vp hin) (by rw [xm_w36]; exact kk)
theorem xm_o37 (x : UInt32) : xup (mH s R) 373 (.inl (1, (mFs s).set 37 (vF x))) = mH (sG x s) R := xm_obj (s2 := sG x s) (fun _ => rfl)
theorem xp_M_37 : xFp 1 37 false := ⟨_, rfl, by decide, tw_mem_M_37, by decide +kernel, rfl⟩
theorem xm_p37 {idx : Nat} {x : UInt32} (hd : decode M.2.1 pc = .ok (.putfield idx, 3)) (hl : xFl M.1 idx 1 37) (kk : xW sc M d Q (mH (sG x s) R) (pc + 3) L st) : xW sc M d Q (mH s R) pc L (vF x :: vA 373 :: st) := x_putf hd hl xp_M_37 (by decide) (xm_h s R) xfit_float (by rw [xm_o37]; exact kk)
theorem xm_a38 {sc : xSc} (s : MT) (R : xH) : xat sc (mH s R) 393 = some (.inr (.double, (30, .inr (.inr (.inr (.inl (mD 38 s))))))) := rfl
theorem xm_ah38 (s : MT) (R : xH) : (mH s R).1 393 = some (.inr (.double, (30, .inr (.inr (.inr (.inl (mD 38 s))))))) := rfl
theorem xm_w38 (f : Nat → UInt64) : xup (mH s R) 393 (.inr (.double, (30, .inr (.inr (.inr (.inl f)))))) = mH (sD 38 f s) R := xm_arr (s2 := sD 38 f s) (by decide) rfl rfl rfl (fun b hb => by unfold mAr; split <;> first | rfl | exact absurd rfl hb)
theorem xm_s38 {i : Int32} {x : UInt64} (hd : decode M.2.1 pc = .ok (.dastore, 1)) (hin : xin i 30 = true) (kk : xW sc M d Q (mH (sD 38 (va_up (mD 38 s) i.toNatClampNeg (x)) s) R) (pc + 1) L st) : xW sc M d Q (mH s R) pc L (vD x :: vI i :: vA 393 :: st) := x_dast hd (by decide) (xm_ah38 s R) (xin_vp hin) (by rw [xm_w38]; exact kk)
theorem xm_a39 {sc : xSc} (s : MT) (R : xH) : xat sc (mH s R) 394 = some (.inr (.double, (30, .inr (.inr (.inr (.inl (mD 39 s))))))) := rfl
theorem xm_ah39 (s : MT) (R : xH) : (mH s R).1 394 = some (.inr (.double, (30, .inr (.inr (.inr (.inl (mD 39 s))))))) := rfl
theorem xm_w39 (f : Nat → UInt64) : xup (mH s R) 394 (.inr (.double, (30, .inr (.inr (.inr (.inl f)))))) = mH (sD 39 f s) R := xm_arr (s2 := sD 39 f s) (by decide) rfl rfl rfl (fun b hb => by unfold mAr; split <;> first | rfl | exact absurd rfl hb)
theorem xm_s39 {i : Int32} {x : UInt64} (hd : decode M.2.1 pc = .ok (.dastore, 1)) (hin : xin i 30 = true) (kk : xW sc M d Q (mH (sD 39 (va_up (mD 39 s) i.toNatClampNeg (x)) s) R) (pc + 1) L st) : xW sc M d Q (mH s R) pc L (vD x :: vI i :: vA 394 :: st) := x_dast hd (by decide) (xm_ah39 s R) (xin_vp hin) (by rw [xm_w39]; exact kk)
theorem xm_a40 {sc : xSc} (s : MT) (R : xH) : xat sc (mH s R) 395 = some (.inr (.int, (30, .inl (mA 40 s)))) := rfl
theorem xm_ah40 (s : MT) (R : xH) : (mH s R).1 395 = some (.inr (.int, (30, .inl (mA 40 s)))) := rfl
theorem xm_w40 (f : Nat → Int32) : xup (mH s R) 395 (.inr (.int, (30, .inl f))) = mH (sA 40 f s) R := xm_arr (s2 := sA 40 f s) (by decide) rfl rfl rfl (fun b hb => by unfold mAr; split <;> first | rfl | exact absurd rfl hb)
theorem xm_s40 {i : Int32} {x : Int32} (hd : decode M.2.1 pc = .ok (.iastore, 1)) (hin : xin i 30 = true) (kk : xW sc M d Q (mH (sA 40 (va_up (mA 40 s) i.toNatClampNeg (x)) s) R) (pc + 1) L st) : xW sc M d Q (mH s R) pc L (vI x :: vI i :: vA 395 :: st) := x_iast hd (by decide) (xm_ah40 s R) (xin_vp hin) (by rw [xm_w40]; exact kk)
theorem xm_o41 (x : Int32) : xup (mH s R) 373 (.inl (1, (mFs s).set 41 (vI x))) = mH (sI 41 x s) R := xm_obj (s2 := sI 41 x s) (fun _ => rfl)
theorem xp_M_41 : xFp 1 41 false := ⟨_, rfl, by decide, tw_mem_M_41, by decide +kernel, rfl⟩
theorem xm_p41 {idx : Nat} {x : Int32} (hd : decode M.2.1 pc = .ok (.putfield idx, 3)) (hl : xFl M.1 idx 1 41) (kk : xW sc M d Q (mH (sI 41 x s) R) (pc + 3) L st) : xW sc M d Q (mH s R) pc L (vI x :: vA 373 :: st) := x_putf hd hl xp_M_41 (by decide) (xm_h s R) xfit_int (by rw [xm_o41]; exact kk)
theorem xm_a42 {sc : xSc} (s : MT) (R : xH) : xat sc (mH s R) 396 = some (.inr (.int, (33, .inl (mA 42 s)))) := rfl
theorem xm_ah42 (s : MT) (R : xH) : (mH s R).1 396 = some (.inr (.int, (33, .inl (mA 42 s)))) := rfl
theorem xm_w42 (f : Nat → Int32) : xup (mH s R) 396 (.inr (.int, (33, .inl f))) = mH (sA 42 f s) R := xm_arr (s2 := sA 42 f s) (by decide) rfl rfl rfl (fun b hb => by unfold mAr; split <;> first | rfl | exact absurd rfl hb)
theorem xm_s42 {i : Int32} {x : Int32} (hd : decode M.2.1 pc = .ok (.iastore, 1)) (hin : xin i 33 = true) (kk : xW sc M d Q (mH (sA 42 (va_up (mA 42 s) i.toNatClampNeg (x)) s) R) (pc + 1) L st) : xW sc M d Q (mH s R) pc L (vI x :: vI i :: vA 396 :: st) := x_iast hd (by decide) (xm_ah42 s R) (xin_vp hin) (by rw [xm_w42]; exact kk)
theorem xm_a43 {sc : xSc} (s : MT) (R : xH) : xat sc (mH s R) 397 = some (.inr (.long, (35, .inr (.inl (mL 43 s))))) := rfl
theorem xm_ah43 (s : MT) (R : xH) : (mH s R).1 397 = some (.inr (.long, (35, .inr (.inl (mL 43 s))))) := rfl
theorem xm_w43 (f : Nat → Int64) : xup (mH s R) 397 (.inr (.long, (35, .inr (.inl f)))) = mH (sL 43 f s) R := xm_arr (s2 := sL 43 f s) (by decide) rfl rfl rfl (fun b hb => by unfold mAr; split <;> first | rfl | exact absurd rfl hb)
theorem xm_s43 {i : Int32} {x : Int64} (hd : decode M.2.1 pc = .ok (.lastore, 1)) (hin : xin i 35 = true) (kk : xW sc M d Q (mH (sL 43 (va_up (mL 43 s) i.toNatClampNeg (x)) s) R) (pc + 1) L st) : xW sc M d Q (mH s R) pc L (vL x :: vI i :: vA 397 :: st) := x_last hd (by decide) (xm_ah43 s R) (xin_vp hin) (by rw [xm_w43]; exact kk)
theorem xm_a44 {sc : xSc} (s : MT) (R : xH) : xat sc (mH s R) 398 = some (.inr (.long, (35, .inr (.inl (mL 44 s))))) := rfl
theorem xm_ah44 (s : MT) (R : xH) : (mH s R).1 398 = some (.inr (.long, (35, .inr (.inl (mL 44 s))))) := rfl
theorem xm_w44 (f : Nat → Int64) : xup (mH s R) 398 (.inr (.long, (35, .inr (.inl f)))) = mH (sL 44 f s) R := xm_arr (s2 := sL 44 f s) (by decide) rfl rfl rfl (fun b hb => by unfold mAr; split <;> first | rfl | exact absurd rfl hb)
theorem xm_s44 {i : Int32} {x : Int64} (hd : decode M.2.1 pc = .ok (.lastore, 1)) (hin : xin i 35 = true) (kk : xW sc M d Q (mH (sL 44 (va_up (mL 44 s) i.toNatClampNeg (x)) s) R) (pc + 1) L st) : xW sc M d Q (mH s R) pc L (vL x :: vI i :: vA 398 :: st) := x_last hd (by decide) (xm_ah44 s R) (xin_vp hin) (by rw [xm_w44]; exact kk)
end XM
