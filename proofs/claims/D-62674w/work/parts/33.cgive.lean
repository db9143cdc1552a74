/-! values that are given -/
theorem yy_VR_int (g : yy_GT) (c : yy_CT) (s : MT) (t nd o : Nat) (x z y : Int32) (d d' : UInt64) (nm di : Option Nat) : yy_VR g c s t nd o (some 72, 0, x, z, y, d, nm, di) (0, x.toInt64, d') :=
  ⟨0, 0, by decide, Or.inl rfl, rfl, rfl, rfl, rfl⟩
theorem yy_VR_bool (g : yy_GT) (c : yy_CT) (s : MT) (t nd o : Nat) (x z y : Int32) (d d' : UInt64) (nm di : Option Nat) (h : x = 0 ∨ x = 1) : yy_VR g c s t nd o (some 74, 0, x, z, y, d, nm, di) (2, x.toInt64, d') :=
  ⟨2, 0, by decide, Or.inl rfl, rfl, rfl, rfl, rfl, h⟩
theorem yy_VR_mark (g : yy_GT) (c : yy_CT) (s : MT) (t nd o : Nat) (z y : Int32) (d d' : UInt64) (nm di : Option Nat) : yy_VR g c s t nd o (some 76, 0, 0, z, y, d, nm, di) (4, 0, d') :=
  ⟨4, 0, by decide, Or.inl rfl, rfl, rfl, rfl, rfl, rfl⟩
theorem yy_VR_save (g : yy_GT) (c : yy_CT) (s : MT) (t nd o : Nat) (x z y : Int32) (d d' : UInt64) (nm di : Option Nat) : yy_VR g c s t nd o (some 79, 0, x, z, y, d, nm, di) (7, x.toInt64, d') :=
  ⟨7, 0, by decide, Or.inl rfl, rfl, rfl, rfl, rfl⟩
theorem yy_VR_real (g : yy_GT) (c : yy_CT) (s : MT) (t nd o : Nat) (z y : Int32) (d : UInt64) (nm di : Option Nat) (h : yy_RG d) : yy_VR g c s t nd o (some 73, 0, 0, z, y, d, nm, di) (1, 0, d) :=
  ⟨1, 0, by decide, Or.inl rfl, rfl, rfl, rfl, rfl, rfl, rfl, h⟩
theorem yy_e_give {sc : xSc} {c c' : yy_CT} {k : Int32} {a : Nat} {v : yy_SV} (h : f_P_place sc (yy_cH c) (some 256) k = some (.inl (some a), yy_cH c')) (hv : yy_slv c' a = some v) (kd : Option Nat) (x : Int32) : f_P_give sc (yy_cH c) (some 256) k kd x = some (.inl (), yy_cH (yy_tS a (some (kd, 0, x, 0, v.2.2.2.2)) c')) := by
  unfold f_P_give
  rw [if_pos (yy_cis_P _ _), h, p_tBl, if_pos (yy_sgis hv), yy_e_set hv _ _ _ _ rfl]
  rfl
theorem yy_e_give40 {sc : xSc} {c : yy_CT} {m : Nat} (hF : yy_FRc c) (hm : yy_RMc c (m + 1)) (h9 : yy_cI 9 c = nI 40) (kd : Option Nat) (x : Int32) : f_P_give sc (yy_cH c) (some 256) 0 kd x = some (.inr (yy_cn c), yy_cH (yy_thr 2 c)) := by
  unfold f_P_give
  rw [if_pos (yy_cis_P _ _), yy_e_place_full hF hm h9]
  rfl
theorem yy_e_push {sc : xSc} {c c' : yy_CT} {a b : Nat} {v w : yy_SV} (h : f_P_place sc (yy_cH c) (some 256) 0 = some (.inl (some a), yy_cH c')) (hv : yy_slv c' a = some v) (hw : yy_slv c' b = some w) (hl : xbo w.2.1 = true) : f_P_push sc (yy_cH c) (some 256) (some b) = some (.inl (), yy_cH (yy_tS a (some (yy_svc v.2.2.2.2.1 w)) c')) := by
  unfold f_P_push
  rw [if_pos (yy_cis_P _ _), h, p_tBl, if_pos (yy_sgis hv), yy_e_copy hv hw hl]
  rfl
theorem yy_e_push40 {sc : xSc} {c : yy_CT} {m : Nat} (hF : yy_FRc c) (hm : yy_RMc c (m + 1)) (h9 : yy_cI 9 c = nI 40) (b : Option Nat) : f_P_push sc (yy_cH c) (some 256) b = some (.inr (yy_cn c), yy_cH (yy_thr 2 c)) := by
  unfold f_P_push
  rw [if_pos (yy_cis_P _ _), yy_e_place_full hF hm h9]
  rfl
theorem yy_VR.live {g : yy_GT} {c : yy_CT} {s : MT} {t nd o : Nat} {v : yy_SV} {q : Int32 × Int64 × UInt64} (h : yy_VR g c s t nd o v q) : xbo v.2.1 = true := by
  obtain ⟨k, l, h1, h2, h3, h4, h5, h6⟩ := h
  rw [h4]
  rcases h2 with e | e
  · rw [e]
    rfl
  · rw [e.1]
    rfl
theorem yy_VR.cm {g : yy_GT} {c : yy_CT} {s : MT} {t nd o : Nat} {v : yy_SV} {q : Int32 × Int64 × UInt64} (h : yy_VR g c s t nd o v q) : xcm v.1 = true := by
  obtain ⟨k, l, h1, h2, h3, h4, h5, h6⟩ := h
  rw [h3]
  unfold xcm
  dsimp only
  rw [decide_eq_true (by omega), Bool.true_or]
/-- give on both sides: k are taken -/
theorem yy_O_give {g : yy_GT} {m : Nat} {c : yy_CT} {s : MT} {t nd o n k : Nat} (sc : xSc) (h : yy_RR g m c s t nd o n) (hk : k ≤ n) (hj : n - k < 40) (kd : Option Nat) (x : Int32) (q : Int32 × Int64 × UInt64) (hq : ∀ y d nm di, yy_VR g c s t nd o (kd, 0, x, 0, y, d, nm, di) q) :
    ∃ g' c', f_P_give sc (yy_cH c) (some 256) (nI k) kd x = some (.inl (), yy_cH c') ∧ yy_RR g' m c' (yy_sP (n - k) q (sI 4 (nI (n - k + 1)) s)) t nd o (n - k + 1) ∧ yy_KP g c s g' c' (yy_sP (n - k) q (sI 4 (nI (n - k + 1)) s)) ∧ yy_cI 18 c' = yy_cI 18 c := by
  obtain ⟨g', c', a, v, e1, e2, e3, e4, e5, e18, e6⟩ := yy_R_place sc h hk hj
  obtain ⟨r1, r2⟩ := e6 (kd, 0, x, 0, v.2.2.2.2) q (hq _ _ _ _)
  exact ⟨g', _, yy_e_give e1 e2 kd x, r1, r2, e18⟩
/-- push of a slot on both sides -/
theorem yy_O_push {g : yy_GT} {m : Nat} {c : yy_CT} {s : MT} {t nd o n b : Nat} {w : yy_SV} {q : Int32 × Int64 × UInt64} (sc : xSc) (h : yy_RR g m c s t nd o n) (hj : n < 40) (hw : yy_slv c b = some w) (hq : yy_VR g c s t nd o w q) :
    ∃ g' c', f_P_push sc (yy_cH c) (some 256) (some b) = some (.inl (), yy_cH c') ∧ yy_RR g' m c' (yy_sP n q (sI 4 (nI (n + 1)) s)) t nd o (n + 1) ∧ yy_KP g c s g' c' (yy_sP n q (sI 4 (nI (n + 1)) s)) ∧ yy_cI 18 c' = yy_cI 18 c := by
  obtain ⟨g', c', a, v, e1, e2, e3, e4, e5, e18, e6⟩ := yy_R_place sc h (Nat.zero_le n) (by omega)
  obtain ⟨r1, r2⟩ := e6 (yy_svc v.2.2.2.2.1 w) q (yy_VR_svc _ hq)
  exact ⟨g', _, yy_e_push e1 e2 (e3 b w hw) hq.live, r1, r2, e18⟩
/-- giveReal on both sides; within the range -/
theorem yy_O_real {g : yy_GT} {m : Nat} {c : yy_CT} {s : MT} {t nd o n k : Nat} (sc : xSc) (h : yy_RR g m c s t nd o n) (hk : k ≤ n) (hj : n - k < 40) (d : UInt64) (hd : yy_RG d) :
    ∃ g' c', f_P_giveReal sc (yy_cH c) (some 256) (nI k) d = some (.inl (), yy_cH c') ∧ yy_RR g' m c' (yy_sP (n - k) (1, 0, d) (sI 4 (nI (n - k + 1)) s)) t nd o (n - k + 1) ∧ yy_KP g c s g' c' (yy_sP (n - k) (1, 0, d) (sI 4 (nI (n - k + 1)) s)) ∧ yy_cI 18 c' = yy_cI 18 c := by
  obtain ⟨g', c', a, v, e1, e2, e3, e4, e5, e18, e6⟩ := yy_R_place sc h hk hj
  obtain ⟨r1, r2⟩ := e6 (some 73, 0, 0, 0, v.2.2.2.2.1, d, v.2.2.2.2.2.2) (1, 0, d) (yy_VR_real _ _ _ _ _ _ _ _ _ _ _ hd)
  refine ⟨g', _, ?_, r1, r2, e18⟩
  unfold f_P_giveReal
  rw [if_neg (fun z => by have := hd.1; rw [Int32.le_iff_toInt_le] at this; rw [Int32.lt_iff_toInt_lt] at z; omega), if_neg (fun z => by have := hd.2; rw [Int32.le_iff_toInt_le] at this; rw [Int32.lt_iff_toInt_lt] at z; omega)]
  unfold f_P_giveReal_b22
  rw [if_pos (yy_cis_P _ _), yy_e_need1, p_tBl, if_pos (yy_cis_P _ _), e1, p_tBl, if_pos (yy_sgis e2), yy_e_real e2]
  rfl
theorem yy_e_real0 {sc : xSc} {c : yy_CT} {m : Nat} (hF : yy_FRc c) (hm : yy_RMc c (m + 1)) (k : Int32) {d : UInt64} (hd : ¬ yy_RG d) : f_P_giveReal sc (yy_cH c) (some 256) k d = some (.inr (yy_cn c), yy_cH (yy_thr 4 c)) := by
  have e : f_P_giveReal_b21 sc (some 256) k d (some 256) (yy_cH c) = some (.inr (yy_cn c), yy_cH (yy_thr 4 c)) := by
    unfold f_P_giveReal_b21 f_P_giveReal_b22
    rw [if_pos (yy_cis_P _ _), yy_e_need0 4 hF hm]
    rfl
  unfold f_P_giveReal
  by_cases h1 : 0 < (Op.cmpValue (FP.dcmp d (4786511204640096256 : UInt64)) .g)
  · rw [if_pos h1, e]
  · rw [if_neg h1]
    by_cases h2 : (Op.cmpValue (FP.dcmp d (14009883241494872064 : UInt64)) .l) < 0
    · rw [if_pos h2, e]
    · exfalso
      rw [Int32.lt_iff_toInt_lt] at h1 h2
      exact hd ⟨by rw [Int32.le_iff_toInt_le]; omega, by rw [Int32.le_iff_toInt_le]; omega⟩
/-- the two orders of a comparison agree off NaN -/
theorem yy_cmp_gl {x y : UInt64} (h : FP.dcmp x y ≠ none) : Op.cmpValue (FP.dcmp x y) .g = Op.cmpValue (FP.dcmp x y) .l := by
  cases e : FP.dcmp x y with
  | none => exact absurd e h
  | some r => cases r <;> rfl
/-- a number that is no NaN -/
def yy_NN (d : UInt64) : Prop := ∀ y, FP.dcmp y y ≠ none → FP.dcmp d y ≠ none
