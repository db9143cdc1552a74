/-! kinds on both sides -/
theorem yy_nI_and7 {k l : Nat} (hk : k < 8) (hl : l = 0 ∨ l = 1) : nI (k + 8 * l) &&& 7 = nI k := by
  rcases (by omega : k = 0 ∨ k = 1 ∨ k = 2 ∨ k = 3 ∨ k = 4 ∨ k = 5 ∨ k = 6 ∨ k = 7) with e | e | e | e | e | e | e | e <;> rcases hl with f | f <;> rw [e, f] <;> decide
theorem yy_VR.kd {g : yy_GT} {c : yy_CT} {s : MT} {t nd o : Nat} {v : yy_SV} {q : Int32 × Int64 × UInt64} (h : yy_VR g c s t nd o v q) : ∃ k, k < 8 ∧ v.1 = some (72 + k) ∧ q.1 &&& 7 = nI k := by
  obtain ⟨k, l, h1, h2, h3, h4, h5, h6⟩ := h
  exact ⟨k, h1, h3, by rw [h5]; exact yy_nI_and7 h1 (h2.imp id And.left)⟩
theorem yy_VR.isk {g : yy_GT} {c : yy_CT} {s : MT} {t nd o : Nat} {v : yy_SV} {q : Int32 × Int64 × UInt64} (h : yy_VR g c s t nd o v q) {j : Nat} (hj : j < 8) : v.1 = some (72 + j) ↔ q.1 &&& 7 = nI j := by
  obtain ⟨k, h1, h2, h3⟩ := h.kd
  rw [h2, h3, yy_nI_inj (by omega) (by omega)]
  refine ⟨fun e => ?_, fun e => by rw [e]⟩
  have := Option.some.inj e
  omega
theorem yy_VR.num {g : yy_GT} {c : yy_CT} {s : MT} {t nd o : Nat} {v : yy_SV} {q : Int32 × Int64 × UInt64} (h : yy_VR g c s t nd o v q) : (v.1 = some 72 ∨ v.1 = some 73) ↔ q.1 < 2 := by
  obtain ⟨k, l, h1, h2, h3, h4, h5, h6⟩ := h
  rw [h3, h5, show (2 : Int32) = nI 2 from rfl, yy_nI_lt (by omega) (by omega)]
  constructor
  · intro e
    rcases e with e | e
    · have := Option.some.inj e
      omega
    · have := Option.some.inj e
      omega
  · intro e
    rcases (by omega : k = 0 ∨ k = 1) with f | f
    · rw [f]
      exact Or.inl rfl
    · rw [f]
      exact Or.inr rfl
theorem yy_VR.proc {g : yy_GT} {c : yy_CT} {s : MT} {t nd o : Nat} {v : yy_SV} {q : Int32 × Int64 × UInt64} (h : yy_VR g c s t nd o v q) : (v.1 = some 77 ∧ v.2.1 ≠ 0) ↔ q.1 = 13 := by
  obtain ⟨k, l, h1, h2, h3, h4, h5, h6⟩ := h
  rw [h3, h4, h5, show (13 : Int32) = nI 13 from rfl, yy_nI_inj (by omega) (by omega), show (0 : Int32) = nI 0 from rfl, Ne, yy_nI_inj (by omega) (by omega)]
  constructor
  · rintro ⟨e, f⟩
    have := Option.some.inj e
    omega
  · intro e
    have : k = 5 ∧ l = 1 := by omega
    rw [this.1, this.2]
    exact ⟨rfl, by decide⟩
theorem yy_VR.int {g : yy_GT} {c : yy_CT} {s : MT} {t nd o : Nat} {v : yy_SV} {q : Int32 × Int64 × UInt64} (h : yy_VR g c s t nd o v q) (hk : v.1 = some 72) : q.2.1 = v.2.2.1.toInt64 ∧ v.2.1 = 0 ∧ q.1 = 0 := by
  obtain ⟨k, l, h1, h2, h3, h4, h5, h6⟩ := h
  rw [hk] at h3
  have := Option.some.inj h3
  have hk0 : k = 0 := by omega
  have hl0 : l = 0 := by omega
  rw [hk0, yy_VP_0] at h6
  rw [hl0] at h4 h5
  rw [hk0] at h5
  exact ⟨h6, h4, h5⟩
/-- the heads of an operator on both sides -/
theorem yy_OP_head {rc : rcE} {sc : xSc} {g : yy_GT} {m : Nat} {c : yy_CT} {s : MT} {t nd o n k gr : Nat} {d : Int32} (op : Int32) (ds : List Nat) (h : yy_RR g (m + 1) c s t nd o n) (ho : yy_OPc sc k ds.length gr) (hk : k < 72) (hg : gr < 6) (hp : f_M_pattern s op = some (nI (yy_dg ds), s)) (hd : ∀ d ∈ ds, 1 ≤ d ∧ d ≤ 9) (h4 : ds.length ≤ 4)
    (hb : ds.length ≤ n → yy_OPS m c s (f_P_operate_b96 rc sc d (yy_opB c n ds.length) (yy_opA c n ds.length) (some k) (some 256) (some (258 + gr)) (yy_cH c)) (if yy_alls s (n - 1) ds = true then yy_oth op s else some (3, s))) :
    yy_OPS m c s (f_P_operate rc sc (yy_cH c) (some 256) (some k) d) (f_M_operate s op) := by
  have hn := h.le40
  rw [yy_e_Mop op ds hp hd h4 h.2.1.1 hn]
  rcases Nat.lt_or_ge n ds.length with e | e
  · rw [if_pos e, yy_e_under h.1.1 h.room ho hk h4 h.nine hn e]
    exact ⟨_, _, _, rfl, rfl, yy_O_thr h (by decide) (by decide)⟩
  · rw [if_neg (by omega), yy_e_operate ho hk h4 hg h.nine hn e]
    exact hb e
/-- the stack's operators -/
theorem yy_e_b96_0 (rc : rcE) (sc : xSc) (d : Int32) (t0 t1 t2 : Option Nat) (c : yy_CT) : f_P_operate_b96 rc sc d t0 t1 t2 (some 256) (some (258 + 0)) (yy_cH c) = f_Stacks_perform sc (yy_cH c) (some 258) (some 256) t2 t1 t0 d := by
  unfold f_P_operate_b96
  rw [if_pos (show xis sc (yy_cH c) 10 (some (258 + 0)) = true from rfl)]
  exact yy_tB_id _
theorem yy_e_b96_1 (rc : rcE) (sc : xSc) (d : Int32) (t0 t1 t2 : Option Nat) (c : yy_CT) : f_P_operate_b96 rc sc d t0 t1 t2 (some 256) (some (258 + 1)) (yy_cH c) = f_Numbers_perform sc (yy_cH c) (some 259) (some 256) t2 t1 t0 d := by
  unfold f_P_operate_b96
  rw [if_neg (by rw [show xis sc (yy_cH c) 10 (some (258 + 1)) = false from rfl]; decide), if_pos (show xis sc (yy_cH c) 11 (some (258 + 1)) = true from rfl)]
  exact yy_tB_id _
theorem yy_e_Mstk {s : MT} {n : Nat} (op : Int32) (h : mI 4 s = nI n) (hn : n ≤ 40) (h1 : 1 ≤ n) : f_M_stackOperator s op = f_M_stackOperator_b21 op (nI (n - 1)) (yy_pl s (n - 1)).2.1 s := by
  unfold f_M_stackOperator
  rw [h, yy_nI_sub1 h1, if_pos (by rw [show (0 : Int32) = nI 0 from rfl, yy_nI_le (by omega) (by omega)]; omega), if_pos (yy_xin_nI' (by omega) (by decide)), yy_nI_c (by omega)]
  rfl
theorem yy_e_Mstk0 {s : MT} (op : Int32) (h : mI 4 s = nI 0) : f_M_stackOperator s op = f_M_stackOperator_b21 op (-1) 0 s := by
  unfold f_M_stackOperator
  rw [h, if_neg (by decide)]
  rfl
theorem yy_oth_stk {s : MT} (op : Int32) (h1 : f_M_suitsOther s op = some (1, s)) (h2 : op < 10 ∨ 69 < op) : yy_oth op s = f_M_stackOperator s op := by
  unfold yy_oth
  rw [h1]
  dsimp only [Option.bind_some]
  rw [if_neg (by decide)]
  unfold yy_dsp
  rcases h2 with e | e
  · rw [if_pos e]
    exact yy_bind_id _
  · have e1 : ¬ op < 10 := by
      rw [Int32.lt_iff_toInt_lt] at *
      have : (69 : Int32).toInt = 69 := by decide
      have : (10 : Int32).toInt = 10 := by decide
      omega
    have e2 : ¬ op ≤ 69 := by
      rw [Int32.le_iff_toInt_le]
      rw [Int32.lt_iff_toInt_lt] at e
      omega
    rw [if_neg e1, if_neg e2]
    exact yy_bind_id _
theorem yy_O_pop {rc : rcE} {sc : xSc} {g : yy_GT} {m : Nat} {c : yy_CT} {s : MT} {t nd o n : Nat} {d : Int32} (h : yy_RR g (m + 1) c s t nd o n) : yy_OPS m c s (f_P_operate rc sc (yy_cH c) (some 256) (some 0) d) (f_M_operate s 0) := by
  have hn := h.le40
  refine yy_OP_head (gr := 0) 0 [9] h ⟨_, rfl⟩ (by decide) (by decide) rfl (by decide) (by decide) (fun hr => ?_)
  have hr : 1 ≤ n := hr
  rw [show yy_alls s (n - 1) [9] = true from rfl, if_pos rfl, yy_oth_stk 0 rfl (Or.inl (by decide)), yy_e_Mstk 0 h.2.1.1 hn hr, yy_e_b96_0]
  unfold f_Stacks_perform f_M_stackOperator_b21
  rw [if_pos (show xis sc (yy_cH c) 19 (some 0) = true from rfl), show f_Enum_ordinal19 sc (yy_cH c) (some 0) = some 0 from rfl]
  dsimp only [Option.bind_some]
  rw [if_pos rfl, if_pos rfl, yy_cgI_9]
  dsimp only [Option.bind_some]
  rw [yy_cpI_9, h.nine, h.2.1.1, yy_nI_sub1 hr]
  exact ⟨_, _, _, rfl, rfl, yy_O_ok ((yy_R_top h (Nat.sub_le n 1)).less (by omega)) ((yy_KP_t9 g c s _).trans (yy_KP_s4 g _ s _)) rfl⟩
