/-! an operator: what it takes, and the group that does it -/
theorem yy_e_at {sc : xSc} {c : yy_CT} {n j : Nat} (h9 : yy_cI 9 c = nI n) (hn : n ≤ 41) (hj : j < n) : f_P_at sc (yy_cH c) (some 256) (nI j) = some (yy_cR 269 c (n - 1 - j)) := by
  unfold f_P_at
  rw [yy_cgR_6]
  dsimp only [Option.bind_some]
  rw [yy_cgI_9]
  dsimp only [Option.bind_some]
  rw [h9, yy_nI_sub1 (by omega), yy_nI_sub (by omega), yy_caR_269 (by omega)]
  rfl
theorem yy_caR_257 {sc : xSc} {c : yy_CT} {j : Nat} (h : j < 6) : aR sc (yy_cH c) (some 257) (nI j) = some (some (258 + j)) := by
  rw [p_aR (f := fun j => some (258 + j)) (n := 6) (ty := .object "PageScribe$Group") rfl rfl (yy_xin_nI' h (by decide)), yy_nI_c (by omega)]
/-- an operator as a constant -/
def yy_OPc (sc : xSc) (k r gr : Nat) : Prop := ∃ w, xCs sc k = some (.inl (19, [vI (nI k), w, vI (nI r), vI (nI gr)]))
theorem yy_OPc.g {sc : xSc} {k r gr : Nat} (h : yy_OPc sc k r gr) (hk : k < 72) (u : xH) : gI sc u 19 0 (some k) = some (nI k) ∧ gI sc u 19 2 (some k) = some (nI r) ∧ gI sc u 19 3 (some k) = some (nI gr) ∧ xis sc u 19 (some k) = true := by
  obtain ⟨w, h⟩ := h
  have e : xat sc u k = some (.inl (19, [vI (nI k), w, vI (nI r), vI (nI gr)])) := by
    unfold xat
    rw [if_pos (by unfold xK; omega), h]
  exact ⟨p_gI e rfl, p_gI e rfl, p_gI e rfl, p_xis e⟩
/-- the lowest operand, and the one above it -/
def yy_opA (c : yy_CT) (n r : Nat) : Option Nat := if r = 0 then none else yy_cR 269 c (n - r)
def yy_opB (c : yy_CT) (n r : Nat) : Option Nat := if r ≤ 1 then yy_opA c n r else yy_cR 269 c (n - r + 1)
theorem yy_e_operate {rc : rcE} {sc : xSc} {c : yy_CT} {n k r gr : Nat} {d : Int32} (ho : yy_OPc sc k r gr) (hk : k < 72) (hr : r ≤ 4) (hg : gr < 6) (h9 : yy_cI 9 c = nI n) (hn : n ≤ 40) (h : r ≤ n) : f_P_operate rc sc (yy_cH c) (some 256) (some k) d = f_P_operate_b96 rc sc d (yy_opB c n r) (yy_opA c n r) (some k) (some 256) (some (258 + gr)) (yy_cH c) := by
  obtain ⟨o1, o2, o3, o4⟩ := ho.g hk (yy_cH c)
  unfold f_P_operate
  rw [if_neg (by simp)]
  unfold f_P_operate_b10
  rw [if_pos (yy_cis_P _ _), yy_e_need1, p_tBl, if_neg (by simp), yy_cgI_9]
  dsimp only [Option.bind_some]
  rw [o2]
  dsimp only [Option.bind_some]
  rw [h9, if_neg (fun q => by rw [yy_nI_lt (by omega) (by omega)] at q; omega)]
  unfold f_P_operate_b36
  rw [if_pos (yy_cis_P _ _), yy_e_need1, p_tBl, o2]
  dsimp only [Option.bind_some]
  have fin : ∀ t0, f_P_operate_b61 rc sc (some 256) (some k) d t0 (yy_cH c) = f_P_operate_b96 rc sc d (if r ≤ 1 then t0 else yy_cR 269 c (n - r + 1)) t0 (some k) (some 256) (some (258 + gr)) (yy_cH c) := by
    intro t0
    unfold f_P_operate_b61
    rw [yy_cgR_0]
    dsimp only [Option.bind_some]
    rw [o3]
    dsimp only [Option.bind_some]
    rw [yy_caR_257 hg]
    dsimp only [Option.bind_some]
    rw [o2]
    dsimp only [Option.bind_some]
    by_cases hr1 : r ≤ 1
    · rw [if_pos (by rw [show (1 : Int32) = nI 1 from rfl, yy_nI_le (by omega) (by omega)]; exact hr1), if_pos hr1]
    · rw [if_neg (fun q => by rw [show (1 : Int32) = nI 1 from rfl, yy_nI_le (by omega) (by omega)] at q; omega), if_neg hr1, if_pos (yy_cis_P _ _), show (2 : Int32) = nI 2 from rfl, yy_nI_sub (by omega), yy_e_at h9 (by omega) (by omega)]
      dsimp only [Option.bind_some]
      rw [show n - 1 - (r - 2) = n - r + 1 by omega]
  by_cases hr0 : r = 0
  · rw [if_pos (by rw [hr0]; rfl), fin]
    unfold yy_opB yy_opA
    rw [if_pos hr0]
  · rw [if_neg (fun q => by rw [show (0 : Int32) = nI 0 from rfl, yy_nI_inj (by omega) (by omega)] at q; omega), if_pos (yy_cis_P _ _), yy_nI_sub1 (by omega), yy_e_at h9 (by omega) (by omega)]
    dsimp only [Option.bind_some]
    rw [fin, show n - 1 - (r - 1) = n - r by omega]
    unfold yy_opB yy_opA
    rw [if_neg hr0]
theorem yy_e_under {rc : rcE} {sc : xSc} {c : yy_CT} {n k r gr m : Nat} {d : Int32} (hF : yy_FRc c) (hm : yy_RMc c (m + 1)) (ho : yy_OPc sc k r gr) (hk : k < 72) (hr : r ≤ 4) (h9 : yy_cI 9 c = nI n) (hn : n ≤ 40) (h : n < r) : f_P_operate rc sc (yy_cH c) (some 256) (some k) d = some (.inr (yy_cn c), yy_cH (yy_thr 1 c)) := by
  obtain ⟨o1, o2, o3, o4⟩ := ho.g hk (yy_cH c)
  unfold f_P_operate
  rw [if_neg (by simp)]
  unfold f_P_operate_b10
  rw [if_pos (yy_cis_P _ _), yy_e_need1, p_tBl, if_neg (by simp), yy_cgI_9]
  dsimp only [Option.bind_some]
  rw [o2]
  dsimp only [Option.bind_some]
  rw [h9, if_pos (by rw [yy_nI_lt (by omega) (by omega)]; exact h)]
  unfold f_P_operate_b36
  rw [if_pos (yy_cis_P _ _), yy_e_need0 1 hF hm]
  rfl
/-! the model's operate -/
/-- whether a kind suits a digit -/
def yy_su (q : Int32) (d : Nat) : Bool := d == 9 || (if d = 2 then decide (q < 2) else if d = 5 then decide (q = 13) else decide (q &&& 7 = nI (d - 1)))
theorem yy_e_suits {s : MT} {p d : Nat} (hp : p < 1300) (h1 : 1 ≤ d) (h2 : d ≤ 9) : f_M_suits s (nI p) (nI d) = some (if yy_su (yy_pl s p).1 d = true then 1 else 0, s) := by
  unfold f_M_suits yy_su
  have L : ∀ k : Nat, k < 10 → (nI d = nI k ↔ d = k) := fun k hk => yy_nI_inj (by omega) (by omega)
  by_cases h9 : d = 9
  · rw [h9]
    rfl
  rw [if_neg (show ¬ nI d = (9 : Int32) from fun e => h9 ((L 9 (by decide)).mp e))]
  rw [show (d == 9) = false from by rw [beq_eq_false_iff_ne]; exact h9, Bool.false_or]
  by_cases h2 : d = 2
  · rw [if_pos h2, h2, if_pos (show nI 2 = 2 from rfl)]
    unfold f_M_isNumber
    rw [if_pos (yy_xin_nI' hp (by decide)), yy_nI_c (by omega)]
    show (if 2 ≤ (yy_pl s p).1 then _ else _ : Option (Int32 × MT)).bind _ = _
    by_cases hq : (2 : Int32) ≤ (yy_pl s p).1
    · rw [if_pos hq, decide_eq_false (by rw [Int32.lt_iff_toInt_lt]; rw [Int32.le_iff_toInt_le] at hq; omega)]
      rfl
    · rw [if_neg hq, decide_eq_true (by rw [Int32.lt_iff_toInt_lt]; rw [Int32.le_iff_toInt_le] at hq; omega)]
      rfl
  rw [if_neg (show ¬ nI d = (2 : Int32) from fun e => h2 ((L 2 (by decide)).mp e)), if_neg h2]
  by_cases h5 : d = 5
  · rw [if_pos h5, h5, if_pos (show nI 5 = 5 from rfl)]
    unfold f_M_isProcedure
    rw [if_pos (yy_xin_nI' hp (by decide)), yy_nI_c (by omega)]
    show (if (yy_pl s p).1 = 13 then _ else _ : Option (Int32 × MT)).bind _ = _
    by_cases hq : (yy_pl s p).1 = 13
    · rw [if_pos hq, decide_eq_true hq]
      rfl
    · rw [if_neg hq, decide_eq_false hq]
      rfl
  rw [if_neg (show ¬ nI d = (5 : Int32) from fun e => h5 ((L 5 (by decide)).mp e)), if_neg h5]
  unfold f_M_kindOf
  rw [if_pos (yy_xin_nI' hp (by decide)), yy_nI_c (by omega)]
  dsimp only [Option.bind_some]
  rw [yy_nI_sub1 h1]
  show (if (yy_pl s p).1 &&& 7 = _ then _ else _ : Option (Int32 × MT)) = _
  by_cases hq : (yy_pl s p).1 &&& 7 = nI (d - 1)
  · rw [if_pos hq, decide_eq_true hq]
    rfl
  · rw [if_neg hq, decide_eq_false hq]
    rfl

def yy_dg : List Nat → Nat
  | [] => 0
  | d :: ds => d + 10 * yy_dg ds
theorem yy_dg_lt : ∀ (ds : List Nat), (∀ d ∈ ds, d ≤ 9) → yy_dg ds < 10 ^ ds.length
  | [], _ => by decide
  | d :: ds, h => by
    have := yy_dg_lt ds (fun x hx => h x (List.mem_cons_of_mem _ hx))
    have := h d (List.mem_cons_self ..)
    unfold yy_dg
    rw [List.length_cons, Nat.pow_succ]
    omega
theorem yy_nI_div10 {a : Nat} (h : a < 2147483648) : nI a / 10 = nI (a / 10) := by
  rw [← Int32.toInt_inj, Int32.toInt_div_of_ne_right _ _ (by decide), yy_nI_toInt h, yy_nI_toInt (by omega)]
  show Int.tdiv (a : Int) 10 = _
  rw [Int.tdiv_eq_ediv_of_nonneg (by omega)]
  omega
theorem yy_nI_mul (a b : Nat) : nI a * nI b = nI (a * b) := by
  unfold nI
  exact (Int32.ofNat_mul a b).symm
theorem yy_nI_mod10 {a : Nat} (h : a < 2147483648) : nI a - nI a / 10 * 10 = nI (a % 10) := by
  rw [yy_nI_div10 h, show (10 : Int32) = nI 10 from rfl, yy_nI_mul, yy_nI_sub (by omega)]
  congr 1
  omega
/-- what an operator does, once its operands suit -/
def yy_dsp (l1 : Int32) (s4 : MT) : Option (Int32 × MT) := (if l1 < (10 : Int32) then f_M_operate_b135 l1 s4 else (if l1 ≤ (69 : Int32) then (if (21 : Int32) ≤ l1 then (if (37 : Int32) ≤ l1 then (if (43 : Int32) ≤ l1 then (if (50 : Int32) ≤ l1 then (if (63 : Int32) ≤ l1 then f_M_paint s4 l1 else (if (57 : Int32) ≤ l1 then f_M_control s4 l1 else f_M_begins s4 l1)) else f_M_dictOperator s4 l1) else f_M_arrayOperator s4 l1) else f_M_truth s4 l1) else (if (16 : Int32) ≤ l1 then f_M_single s4 l1 else f_M_sum s4 l1)) else f_M_operate_b135 l1 s4))
theorem yy_bind_id {α : Type} (x : Option (Int32 × α)) : (x.bind fun (v, s) => some (v, s)) = x := by
  match x with
  | none => rfl
  | some (_, _) => rfl
def yy_oth (l1 : Int32) (s : MT) : Option (Int32 × MT) := (f_M_suitsOther s l1).bind fun (v, s4) => if v = 0 then some (3, s4) else yy_dsp l1 s4
def yy_alls (s : MT) : Nat → List Nat → Bool
  | _, [] => true
  | p, d :: ds => yy_su (yy_pl s p).1 d && yy_alls s (p - 1) ds
theorem yy_e_b68 : ∀ (ds : List Nat) (n : Nat) (l1 l4 l5 : Int32) (p : Nat) (s : MT), (∀ d ∈ ds, 1 ≤ d ∧ d ≤ 9) → ds.length ≤ p + 1 → p < 1000 → ds.length ≤ 4 → l4 = 0 ∨ l4 = 1 → (ds ≠ [] → l5 = nI p) →
    f_M_operate_b68 (n + ds.length + 1) l1 (nI (yy_dg ds)) l4 l5 s = if l4 = 1 ∧ yy_alls s p ds = true then yy_oth l1 s else some (3, s)
  | [], n, l1, l4, l5, p, s, _, _, _, _, h4, _ => by
    show f_M_operate_b68 (n + 1) l1 (nI 0) l4 l5 s = _
    unfold f_M_operate_b68
    rw [if_pos (show nI 0 ≤ 0 by decide)]
    rcases h4 with e | e
    · rw [if_pos e, if_neg (fun q => by rw [e] at q; exact absurd q.1 (by decide))]
      rfl
    · rw [if_neg (by rw [e]; decide), if_pos ⟨e, rfl⟩]
      unfold yy_oth yy_dsp f_M_operate_b228 f_M_operate_b166 f_M_operate_b121
      simp only [yy_bind_id]
  | d :: ds, n, l1, l4, l5, p, s, hd, hl, hp, h5, h4, h6 => by
    have hd1 := hd d (List.mem_cons_self ..)
    have hd2 : ∀ x ∈ ds, 1 ≤ x ∧ x ≤ 9 := fun x hx => hd x (List.mem_cons_of_mem _ hx)
    have hb : yy_dg (d :: ds) < 10 ^ (d :: ds).length := yy_dg_lt _ (fun x hx => (hd x hx).2)
    have hb2 : yy_dg (d :: ds) < 10000 := Nat.lt_of_lt_of_le hb (Nat.pow_le_pow_right (by decide) h5 : 10 ^ (d :: ds).length ≤ 10 ^ 4)
    have e1 : yy_dg (d :: ds) = d + 10 * yy_dg ds := rfl
    have e2 : yy_dg (d :: ds) / 10 = yy_dg ds := by omega
    have e3 : yy_dg (d :: ds) % 10 = d := by omega
    have hl' : ds.length ≤ p := by
      rw [List.length_cons] at hl
      omega
    have h5' : ds.length ≤ 4 := by
      rw [List.length_cons] at h5
      omega
    have h6' : l5 = nI p := h6 (by simp)
    have next : ∀ (z : Int32) (s' : MT), z = 0 ∨ z = 1 → f_M_operate_b95 (f_M_operate_b68 (n + ds.length + 1)) l1 (nI (yy_dg (d :: ds))) l5 z s' = if z = 1 ∧ yy_alls s' (p - 1) ds = true then yy_oth l1 s' else some (3, s') := by
      intro z s' hz
      unfold f_M_operate_b95
      rw [if_neg (by decide), yy_nI_div10 (by omega), e2]
      refine yy_e_b68 ds n l1 z _ (p - 1) s' hd2 (by omega) (by omega) h5' hz (fun hne => ?_)
      have : 1 ≤ ds.length := List.length_pos_iff.mpr hne
      rw [h6', show Int32.ofInt (-1) = -1 from rfl, ← Int32.sub_eq_add_neg, yy_nI_sub1 (by omega)]
    show f_M_operate_b68 (n + ds.length + 1 + 1) l1 (nI (yy_dg (d :: ds))) l4 l5 s = _
    unfold f_M_operate_b68
    rw [if_neg (fun q => by rw [show (0 : Int32) = nI 0 from rfl, yy_nI_le (by omega) (by omega)] at q; omega)]
    rcases h4 with e | e
    · rw [if_pos e, if_neg (fun q => by rw [e] at q; exact absurd q.1 (by decide))]
      unfold f_M_operate_b94
      rw [next 0 s (Or.inl rfl), if_neg (fun q => absurd q.1 (by decide))]
    · rw [if_neg (by rw [e]; decide), if_neg (by decide), yy_nI_mod10 (by omega), e3, h6', yy_e_suits (by omega) hd1.1 hd1.2]
      dsimp only [Option.bind_some]
      by_cases hs : yy_su (yy_pl s p).1 d = true
      · rw [if_pos hs, if_neg (by decide), ← h6', next 1 s (Or.inr rfl)]
        have : yy_alls s p (d :: ds) = yy_alls s (p - 1) ds := by
          show (yy_su (yy_pl s p).1 d && yy_alls s (p - 1) ds) = _
          rw [hs, Bool.true_and]
        rw [this, e]
      · rw [if_neg hs, if_pos rfl, ← h6']
        unfold f_M_operate_b94
        rw [next 0 s (Or.inl rfl), if_neg (fun q => absurd q.1 (by decide)), if_neg]
        intro q
        have := q.2
        unfold yy_alls at this
        rw [Bool.and_eq_true] at this
        exact hs this.1
theorem yy_e_Mop {s : MT} {n : Nat} (op : Int32) (ds : List Nat) (hp : f_M_pattern s op = some (nI (yy_dg ds), s)) (hd : ∀ d ∈ ds, 1 ≤ d ∧ d ≤ 9) (h4 : ds.length ≤ 4) (h : mI 4 s = nI n) (hn : n ≤ 40) : f_M_operate s op = if n < ds.length then some (1, s) else if yy_alls s (n - 1) ds = true then yy_oth op s else some (3, s) := by
  have key : f_M_operate_b46 op (nI (yy_dg ds)) (nI ds.length) s = if n < ds.length then some (1, s) else if yy_alls s (n - 1) ds = true then yy_oth op s else some (3, s) := by
    unfold f_M_operate_b46
    rw [h]
    by_cases c : n < ds.length
    · rw [if_pos c, if_neg (fun q => by rw [yy_nI_le (by omega) (by omega)] at q; omega)]
    · rw [if_neg c, if_pos (by rw [yy_nI_le (by omega) (by omega)]; omega), show mF = (mF - ds.length - 1) + ds.length + 1 from by unfold mF; omega, yy_e_b68 ds _ op 1 _ (n - 1) s hd (by omega) (by omega) h4 (Or.inr rfl) (fun hne => by have : 1 ≤ ds.length := List.length_pos_iff.mpr hne; exact yy_nI_sub1 (by omega))]
      by_cases c2 : yy_alls s (n - 1) ds = true
      · rw [if_pos c2, if_pos ⟨rfl, c2⟩]
      · rw [if_neg c2, if_neg (fun q => c2 q.2)]
  unfold f_M_operate
  rw [hp]
  dsimp only [Option.bind_some]
  have hb : yy_dg ds < 10 ^ ds.length := yy_dg_lt _ (fun x hx => (hd x hx).2)
  have hb2 : yy_dg ds < 10000 := Nat.lt_of_lt_of_le hb (Nat.pow_le_pow_right (by decide) h4 : 10 ^ ds.length ≤ 10 ^ 4)
  have E : ∀ k : Nat, k < 100000 → ((nI (yy_dg ds) = nI k ↔ yy_dg ds = k) ∧ (nI k ≤ nI (yy_dg ds) ↔ k ≤ yy_dg ds)) := fun k hk => ⟨yy_nI_inj (by omega) (by omega), yy_nI_le (by omega) (by omega)⟩
  match ds, hd, h4, hb, hb2, E, key with
  | [], _, _, _, _, E, key =>
    rw [if_pos (show nI (yy_dg []) = 0 from rfl)]
    exact key
  | [d], hd, _, _, _, E, key =>
    have := hd d (by simp)
    have e : yy_dg [d] = d := by simp [yy_dg]
    rw [if_neg (show ¬ nI (yy_dg [d]) = (0 : Int32) from fun q => by rw [show (0 : Int32) = nI 0 from rfl, (E 0 (by decide)).1] at q; omega), if_neg (show ¬ (10 : Int32) ≤ nI (yy_dg [d]) from fun q => by rw [show (10 : Int32) = nI 10 from rfl, (E 10 (by decide)).2] at q; omega)]
    exact key
  | [d, d2], hd, _, _, _, E, key =>
    have := hd d (by simp)
    have := hd d2 (by simp)
    have e : yy_dg [d, d2] = d + 10 * d2 := by simp [yy_dg]
    rw [if_neg (show ¬ nI (yy_dg [d, d2]) = (0 : Int32) from fun q => by rw [show (0 : Int32) = nI 0 from rfl, (E 0 (by decide)).1] at q; omega), if_pos (show (10 : Int32) ≤ nI (yy_dg [d, d2]) from by rw [show (10 : Int32) = nI 10 from rfl, (E 10 (by decide)).2]; omega), if_neg (show ¬ (100 : Int32) ≤ nI (yy_dg [d, d2]) from fun q => by rw [show (100 : Int32) = nI 100 from rfl, (E 100 (by decide)).2] at q; omega)]
    exact key
  | [d, d2, d3], hd, _, _, _, E, key =>
    have := hd d (by simp)
    have := hd d2 (by simp)
    have := hd d3 (by simp)
    have e : yy_dg [d, d2, d3] = d + 10 * (d2 + 10 * d3) := by simp [yy_dg]
    rw [if_neg (show ¬ nI (yy_dg [d, d2, d3]) = (0 : Int32) from fun q => by rw [show (0 : Int32) = nI 0 from rfl, (E 0 (by decide)).1] at q; omega), if_pos (show (10 : Int32) ≤ nI (yy_dg [d, d2, d3]) from by rw [show (10 : Int32) = nI 10 from rfl, (E 10 (by decide)).2]; omega), if_pos (show (100 : Int32) ≤ nI (yy_dg [d, d2, d3]) from by rw [show (100 : Int32) = nI 100 from rfl, (E 100 (by decide)).2]; omega), if_neg (show ¬ (1000 : Int32) ≤ nI (yy_dg [d, d2, d3]) from fun q => by rw [show (1000 : Int32) = nI 1000 from rfl, (E 1000 (by decide)).2] at q; omega)]
    exact key
  | [d, d2, d3, d4], hd, _, _, _, E, key =>
    have := hd d (by simp)
    have := hd d2 (by simp)
    have := hd d3 (by simp)
    have := hd d4 (by simp)
    have e : yy_dg [d, d2, d3, d4] = d + 10 * (d2 + 10 * (d3 + 10 * d4)) := by simp [yy_dg]
    rw [if_neg (show ¬ nI (yy_dg [d, d2, d3, d4]) = (0 : Int32) from fun q => by rw [show (0 : Int32) = nI 0 from rfl, (E 0 (by decide)).1] at q; omega), if_pos (show (10 : Int32) ≤ nI (yy_dg [d, d2, d3, d4]) from by rw [show (10 : Int32) = nI 10 from rfl, (E 10 (by decide)).2]; omega), if_pos (show (100 : Int32) ≤ nI (yy_dg [d, d2, d3, d4]) from by rw [show (100 : Int32) = nI 100 from rfl, (E 100 (by decide)).2]; omega), if_pos (show (1000 : Int32) ≤ nI (yy_dg [d, d2, d3, d4]) from by rw [show (1000 : Int32) = nI 1000 from rfl, (E 1000 (by decide)).2]; omega)]
    exact key
