/-! values that are given -/
theorem y_VR_int (g : y_GT) (c : y_CT) (s : MT) (t nd o : Nat) (x z y : Int32) (d d' : UInt64) (nm di : Option Nat) : y_VR g c s t nd o (some 72, 0, x, z, y, d, nm, di) (0, x.toInt64, d') :=
  ⟨0, 0, by decide, Or.inl rfl, rfl, rfl, rfl, rfl⟩
theorem y_VR_bool (g : y_GT) (c : y_CT) (s : MT) (t nd o : Nat) (x z y : Int32) (d d' : UInt64) (nm di : Option Nat) (h : x = 0 ∨ x = 1) : y_VR g c s t nd o (some 74, 0, x, z, y, d, nm, di) (2, x.toInt64, d') :=
  ⟨2, 0, by decide, Or.inl rfl, rfl, rfl, rfl, rfl, h⟩
theorem y_VR_mark (g : y_GT) (c : y_CT) (s : MT) (t nd o : Nat) (z y : Int32) (d d' : UInt64) (nm di : Option Nat) : y_VR g c s t nd o (some 76, 0, 0, z, y, d, nm, di) (4, 0, d') :=
  ⟨4, 0, by decide, Or.inl rfl, rfl, rfl, rfl, rfl, rfl⟩
theorem y_VR_save (g : y_GT) (c : y_CT) (s : MT) (t nd o : Nat) (x z y : Int32) (d d' : UInt64) (nm di : Option Nat) : y_VR g c s t nd o (some 79, 0, x, z, y, d, nm, di) (7, x.toInt64, d') :=
  ⟨7, 0, by decide, Or.inl rfl, rfl, rfl, rfl, rfl⟩
theorem y_VR_real (g : y_GT) (c : y_CT) (s : MT) (t nd o : Nat) (z y : Int32) (d : UInt64) (nm di : Option Nat) (h : y_RG d) : y_VR g c s t nd o (some 73, 0, 0, z, y, d, nm, di) (1, 0, d) :=
  ⟨1, 0, by decide, Or.inl rfl, rfl, rfl, rfl, rfl, rfl, rfl, h⟩
theorem y_e_give {sc : xSc} {c c' : y_CT} {k : Int32} {a : Nat} {v : y_SV} (h : f_P_place sc (y_cH c) (some 256) k = some (.inl (some a), y_cH c')) (hv : y_slv c' a = some v) (kd : Option Nat) (x : Int32) : f_P_give sc (y_cH c) (some 256) k kd x = some (.inl (), y_cH (y_tS a (some (kd, 0, x, 0, v.2.2.2.2)) c')) := by
  unfold f_P_give
  rw [if_pos (y_cis_P _ _), h, p_tBl, if_pos (y_sgis hv), y_e_set hv _ _ _ _ rfl]
  rfl
theorem y_e_give40 {sc : xSc} {c : y_CT} {m : Nat} (hF : y_FRc c) (hm : y_RMc c (m + 1)) (h9 : y_cI 9 c = nI 40) (kd : Option Nat) (x : Int32) : f_P_give sc (y_cH c) (some 256) 0 kd x = some (.inr (y_cn c), y_cH (y_thr 2 c)) := by
  unfold f_P_give
  rw [if_pos (y_cis_P _ _), y_e_place_full hF hm h9]
  rfl
theorem y_e_push {sc : xSc} {c c' : y_CT} {a b : Nat} {v w : y_SV} (h : f_P_place sc (y_cH c) (some 256) 0 = some (.inl (some a), y_cH c')) (hv : y_slv c' a = some v) (hw : y_slv c' b = some w) (hl : xbo w.2.1 = true) : f_P_push sc (y_cH c) (some 256) (some b) = some (.inl (), y_cH (y_tS a (some (y_svc v.2.2.2.2.1 w)) c')) := by
  unfold f_P_push
  rw [if_pos (y_cis_P _ _), h, p_tBl, if_pos (y_sgis hv), y_e_copy hv hw hl]
  rfl
theorem y_e_push40 {sc : xSc} {c : y_CT} {m : Nat} (hF : y_FRc c) (hm : y_RMc c (m + 1)) (h9 : y_cI 9 c = nI 40) (b : Option Nat) : f_P_push sc (y_cH c) (some 256) b = some (.inr (y_cn c), y_cH (y_thr 2 c)) := by
  unfold f_P_push
  rw [if_pos (y_cis_P _ _), y_e_place_full hF hm h9]
  rfl
theorem y_VR.live {g : y_GT} {c : y_CT} {s : MT} {t nd o : Nat} {v : y_SV} {q : Int32 × Int64 × UInt64} (h : y_VR g c s t nd o v q) : xbo v.2.1 = true := by
  obtain ⟨k, l, h1, h2, h3, h4, h5, h6⟩ := h
  rw [h4]
  rcases h2 with e | e
  · rw [e]
    rfl
  · rw [e.1]
    rfl
theorem y_VR.cm {g : y_GT} {c : y_CT} {s : MT} {t nd o : Nat} {v : y_SV} {q : Int32 × Int64 × UInt64} (h : y_VR g c s t nd o v q) : xcm v.1 = true := by
  obtain ⟨k, l, h1, h2, h3, h4, h5, h6⟩ := h
  rw [h3]
  unfold xcm
  dsimp only
  rw [decide_eq_true (by omega), Bool.true_or]
/-- give on both sides: k are taken -/
theorem y_O_give {g : y_GT} {m : Nat} {c : y_CT} {s : MT} {t nd o n k : Nat} (sc : xSc) (h : y_RR g m c s t nd o n) (hk : k ≤ n) (hj : n - k < 40) (kd : Option Nat) (x : Int32) (q : Int32 × Int64 × UInt64) (hq : ∀ y d nm di, y_VR g c s t nd o (kd, 0, x, 0, y, d, nm, di) q) :
    ∃ g' c', f_P_give sc (y_cH c) (some 256) (nI k) kd x = some (.inl (), y_cH c') ∧ y_RR g' m c' (y_sP (n - k) q (sI 4 (nI (n - k + 1)) s)) t nd o (n - k + 1) ∧ y_KP g c s g' c' (y_sP (n - k) q (sI 4 (nI (n - k + 1)) s)) ∧ y_cI 18 c' = y_cI 18 c := by
  obtain ⟨g', c', a, v, e1, e2, e3, e4, e5, e18, e6⟩ := y_R_place sc h hk hj
  obtain ⟨r1, r2⟩ := e6 (kd, 0, x, 0, v.2.2.2.2) q (hq _ _ _ _)
  exact ⟨g', _, y_e_give e1 e2 kd x, r1, r2, e18⟩
/-- push of a slot on both sides -/
theorem y_O_push {g : y_GT} {m : Nat} {c : y_CT} {s : MT} {t nd o n b : Nat} {w : y_SV} {q : Int32 × Int64 × UInt64} (sc : xSc) (h : y_RR g m c s t nd o n) (hj : n < 40) (hw : y_slv c b = some w) (hq : y_VR g c s t nd o w q) :
    ∃ g' c', f_P_push sc (y_cH c) (some 256) (some b) = some (.inl (), y_cH c') ∧ y_RR g' m c' (y_sP n q (sI 4 (nI (n + 1)) s)) t nd o (n + 1) ∧ y_KP g c s g' c' (y_sP n q (sI 4 (nI (n + 1)) s)) ∧ y_cI 18 c' = y_cI 18 c := by
  obtain ⟨g', c', a, v, e1, e2, e3, e4, e5, e18, e6⟩ := y_R_place sc h (Nat.zero_le n) (by omega)
  obtain ⟨r1, r2⟩ := e6 (y_svc v.2.2.2.2.1 w) q (y_VR_svc _ hq)
  exact ⟨g', _, y_e_push e1 e2 (e3 b w hw) hq.live, r1, r2, e18⟩
/-- giveReal on both sides; within the range -/
theorem y_O_real {g : y_GT} {m : Nat} {c : y_CT} {s : MT} {t nd o n k : Nat} (sc : xSc) (h : y_RR g m c s t nd o n) (hk : k ≤ n) (hj : n - k < 40) (d : UInt64) (hd : y_RG d) :
    ∃ g' c', f_P_giveReal sc (y_cH c) (some 256) (nI k) d = some (.inl (), y_cH c') ∧ y_RR g' m c' (y_sP (n - k) (1, 0, d) (sI 4 (nI (n - k + 1)) s)) t nd o (n - k + 1) ∧ y_KP g c s g' c' (y_sP (n - k) (1, 0, d) (sI 4 (nI (n - k + 1)) s)) ∧ y_cI 18 c' = y_cI 18 c := by
  obtain ⟨g', c', a, v, e1, e2, e3, e4, e5, e18, e6⟩ := y_R_place sc h hk hj
  obtain ⟨r1, r2⟩ := e6 (some 73, 0, 0, 0, v.2.2.2.2.1, d, v.2.2.2.2.2.2) (1, 0, d) (y_VR_real _ _ _ _ _ _ _ _ _ _ _ hd)
  refine ⟨g', _, ?_, r1, r2, e18⟩
  unfold f_P_giveReal
  rw [if_neg (fun z => by have := hd.1; rw [Int32.le_iff_toInt_le] at this; rw [Int32.lt_iff_toInt_lt] at z; omega), if_neg (fun z => by have := hd.2; rw [Int32.le_iff_toInt_le] at this; rw [Int32.lt_iff_toInt_lt] at z; omega)]
  unfold f_P_giveReal_b22
  rw [if_pos (y_cis_P _ _), y_e_need1, p_tBl, if_pos (y_cis_P _ _), e1, p_tBl, if_pos (y_sgis e2), y_e_real e2]
  rfl
theorem y_e_real0 {sc : xSc} {c : y_CT} {m : Nat} (hF : y_FRc c) (hm : y_RMc c (m + 1)) (k : Int32) {d : UInt64} (hd : ¬ y_RG d) : f_P_giveReal sc (y_cH c) (some 256) k d = some (.inr (y_cn c), y_cH (y_thr 4 c)) := by
  have e : f_P_giveReal_b21 sc (some 256) k d (some 256) (y_cH c) = some (.inr (y_cn c), y_cH (y_thr 4 c)) := by
    unfold f_P_giveReal_b21 f_P_giveReal_b22
    rw [if_pos (y_cis_P _ _), y_e_need0 4 hF hm]
    rfl
  unfold f_P_giveReal
  by_cases h1 : 0 < (Op.cmpValue (FP.dcmp d (4786511204640096256 : UInt64)) .g)
  · rw [if_pos h1, e]
  · rw [if_neg h1]
    by_cases h2 : (Op.cmpValue (FP.dcmp d (14009883241494872064 : UInt64)) .l) < 0
    · rw [if_pos h2, e]
    · exfalso
      rw [Int32.lt_iff_toInt_lt] at h1 h2
      exact hd ⟨by rw [Int32.le_iff_toInt_le]; omega, by rw [Int32.le_iff_toInt_le]; omega⟩
/-- the two orders of a comparison agree off NaN -/
theorem y_cmp_gl {x y : UInt64} (h : FP.dcmp x y ≠ none) : Op.cmpValue (FP.dcmp x y) .g = Op.cmpValue (FP.dcmp x y) .l := by
  cases e : FP.dcmp x y with
  | none => exact absurd e h
  | some r => cases r <;> rfl
/-- a number that is no NaN -/
def y_NN (d : UInt64) : Prop := ∀ y, FP.dcmp y y ≠ none → FP.dcmp d y ≠ none
