/-! finding a name -/
theorem yy_en_g {sc : xSc} {c : yy_CT} {a : Nat} {k v x : Option Nat} (h : yy_ov c a = some (.inl (5, [vR k, vR v, vR x]))) : xis sc (yy_cH c) 5 (some a) = true ∧ f_Entry_key sc (yy_cH c) (some a) = some k ∧ f_Entry_value sc (yy_cH c) (some a) = some v ∧ f_Entry_next sc (yy_cH c) (some a) = some x := by
  have e := yy_ov_a (sc := sc) h
  refine ⟨p_xis e, ?_, ?_, ?_⟩
  · unfold f_Entry_key
    rw [p_gR e rfl]
    rfl
  · unfold f_Entry_value
    rw [p_gR e rfl]
    rfl
  · unfold f_Entry_next
    rw [p_gR e rfl]
    rfl
/-- the slot of a key in a list of entries -/
def yy_fnd (key : Nat) : List (Nat × Nat × Nat) → Option Nat
  | [] => none
  | e :: L => if e.2.1 = key then some e.2.2 else yy_fnd key L
theorem yy_find_chain {sc : xSc} {c : yy_CT} {key : Nat} (hk : xcm (some key) = true) : ∀ (L : List (Nat × Nat × Nat)) (r : Option Nat) (f : Nat), yy_CH c r L → (∀ e ∈ L, xcm (some e.2.1) = true) → f_Dict_find_b5 sc (yy_cH c) (f + L.length + 1) (some key) r = some (yy_fnd key L)
  | [], r, f, h, _ => by
    have e : r = none := h
    subst e
    rfl
  | e :: L, r, f, h, hx => by
    obtain ⟨h1, x, h2, h3⟩ := h
    obtain ⟨g1, g2, g3, g4⟩ := yy_en_g (sc := sc) h2
    subst h1
    show (if (some e.1 : Option Nat) = none then _ else _) = _
    rw [if_neg (by simp), if_pos g1, g2, Option.bind_some, if_pos (hx e (List.mem_cons_self ..)), if_pos hk]
    unfold yy_fnd
    by_cases z : e.2.1 = key
    · rw [if_pos (by rw [z]), if_pos z]
      unfold f_Dict_find_b25
      rw [if_neg (by simp), if_pos g1, g3]
      rfl
    · rw [if_neg (fun q => z (Option.some.inj q)), if_neg z, if_pos g1, g4, Option.bind_some]
      exact yy_find_chain hk L x f h3 (fun e' he => hx e' (List.mem_cons_of_mem _ he))
theorem yy_base_e {d : Nat} (hd : d < 7) : f_M_base (nI d) = some (nI (yy_bs d)) := by
  unfold f_M_base f_M_base_b15 yy_bs
  by_cases h : d = 0
  · rw [if_pos (by rw [h]; rfl), if_pos h]
    rfl
  · rw [if_neg (fun z => by rw [show (0 : Int32) = nI 0 from rfl, yy_nI_inj (by omega) (by omega)] at z; exact h z), if_neg h, show (10 : Int32) = nI 10 from rfl, yy_nI_mul, yy_nI_add]
/-- the model's search: from place i on -/
theorem yy_entry_loop {s : MT} {d l : Nat} {w : Int64} (hd : d < 7) (hl : yy_bs d + l ≤ 80) (h7 : mA 7 s d = nI l) : ∀ (r j f : Nat), j + r = l → (∀ i, i < j → mL 6 s (yy_bs d + i) ≠ w) → (∃ i, i < l ∧ mL 6 s (yy_bs d + i) = w ∧ f_M_entry_b6 (f + r + 1) (nI d) w (nI (yy_bs d + j)) s = some (nI (250 + (yy_bs d + i)), s)) ∨ ((∀ i, i < l → mL 6 s (yy_bs d + i) ≠ w) ∧ f_M_entry_b6 (f + r + 1) (nI d) w (nI (yy_bs d + j)) s = some (-1, s))
  | 0, j, f, hj, hn => by
    right
    refine ⟨fun i hi => hn i (by omega), ?_⟩
    show (f_M_base (nI d)).bind _ = _
    rw [yy_base_e hd, Option.bind_some, if_pos (yy_xin_nI' (by omega) (by decide)), yy_nI_c (by omega), h7, yy_nI_add, if_pos (by rw [yy_nI_le (by omega) (by omega)]; omega)]
  | r + 1, j, f, hj, hn => by
    have st : f_M_entry_b6 (f + (r + 1) + 1) (nI d) w (nI (yy_bs d + j)) s = if lg_cmp (mL 6 s (yy_bs d + j)) w = 0 then some (nI (250 + (yy_bs d + j)), s) else f_M_entry_b6 (f + r + 1) (nI d) w (nI (yy_bs d + (j + 1))) s := by
      show (f_M_base (nI d)).bind _ = _
      rw [yy_base_e hd, Option.bind_some, if_pos (yy_xin_nI' (by omega) (by decide)), yy_nI_c (by omega), h7, yy_nI_add, if_neg (fun z => by rw [yy_nI_le (by omega) (by omega)] at z; omega), if_pos (yy_xin_nI' (by omega) (by decide)), yy_nI_c (by omega), show (250 : Int32) = nI 250 from rfl, yy_nI_add, show Int32.ofInt 1 = 1 from rfl, yy_nI_add1]
      rfl
    by_cases e : mL 6 s (yy_bs d + j) = w
    · left
      exact ⟨j, by omega, e, by rw [st, if_pos (yy_lgc_eq.mpr e)]⟩
    · rw [st, if_neg (fun z => e (yy_lgc_eq.mp z))]
      exact yy_entry_loop hd hl h7 r (j + 1) f (by omega) (fun i hi => by
        by_cases q : i = j
        · rw [q]
          exact e
        · exact hn i (by omega))
theorem yy_fnd_some {key x : Nat} : ∀ {L : List (Nat × Nat × Nat)}, yy_fnd key L = some x → ∃ (i : Nat) (e : Nat × Nat × Nat), L[i]? = some e ∧ e.2.1 = key ∧ e.2.2 = x
  | [], h => by cases h
  | e :: L, h => by
    unfold yy_fnd at h
    by_cases z : e.2.1 = key
    · rw [if_pos z] at h
      exact ⟨0, e, rfl, z, Option.some.inj h⟩
    · rw [if_neg z] at h
      obtain ⟨i, e', h1, h2, h3⟩ := yy_fnd_some h
      exact ⟨i + 1, e', h1, h2, h3⟩
theorem yy_fnd_none {key : Nat} : ∀ {L : List (Nat × Nat × Nat)}, yy_fnd key L = none → ∀ (i : Nat) (e : Nat × Nat × Nat), L[i]? = some e → e.2.1 ≠ key
  | [], _, i, e, he => by simp at he
  | e0 :: L, h, i, e, he => by
    unfold yy_fnd at h
    by_cases z : e0.2.1 = key
    · rw [if_pos z] at h
      cases h
    · rw [if_neg z] at h
      match i, he with
      | 0, he =>
        have : e0 = e := by simpa using he
        rw [← this]
        exact z
      | i + 1, he => exact yy_fnd_none h i e (by simpa using he)
/-- a name in a dict, on both sides -/
theorem yy_D_find {g : yy_GT} {m : Nat} {c : yy_CT} {s : MT} {t nd o n d a key : Nat} {w : Int64} (sc : xSc) (h : yy_RR g m c s t nd o n) (hd : d < nd) (ha : yy_cR 273 c d = some a) (hk : (key, w) ∈ yy_gnm g) :
    (∃ e v j, f_Dict_find sc (yy_cH c) (some a) (some key) = some (some e) ∧ f_M_entry s (nI d) w = some (nI (250 + (yy_bs d + j)), s) ∧ yy_slv c e = some v ∧ (yy_gow g e).1 = 3 ∧ yy_VR g c s t nd o v (yy_pl s (250 + (yy_bs d + j))) ∧ yy_bs d + j < 80) ∨ (f_Dict_find sc (yy_cH c) (some a) (some key) = some none ∧ f_M_entry s (nI d) w = some (-1, s)) := by
  obtain ⟨n1, n2, n3⟩ := h.2.2.2.2.2.2.2.1
  obtain ⟨a', r, f, L, e1, e2, e3, e4, e5, e6, e7, e8⟩ := n3 d hd
  rw [ha] at e1
  cases e1
  have hb := yy_bs_le hd n1.2 e3.2.1 e3.2.2
  have hx : ∀ e ∈ L, xcm (some e.2.1) = true := fun e he => by
    obtain ⟨i, hi⟩ := List.getElem?_of_mem he
    exact h.nm.xcm (e8 i e hi).1
  have hL : L.length ≤ 20 := by
    have := e3.2.1
    have := e3.2.2
    split at * <;> omega
  have hf : f_Dict_find sc (yy_cH c) (some a) (some key) = some (yy_fnd key L) := by
    unfold f_Dict_find
    rw [p_gR (yy_dcv_a e2) rfl, Option.bind_some, show mF = (mF - L.length - 1) + L.length + 1 by unfold mF; omega]
    exact yy_find_chain (h.nm.xcm hk) L f _ e6 hx
  have he : f_M_entry s (nI d) w = f_M_entry_b6 ((mF - L.length - 1) + L.length + 1) (nI d) w (nI (yy_bs d + 0)) s := by
    unfold f_M_entry
    rw [yy_base_e (by omega), Option.bind_some, show (mF - L.length - 1) + L.length + 1 = mF by unfold mF; omega]
    rfl
  have e5' : mA 7 s d = nI L.length := by
    rw [Nat.mul_zero, Nat.zero_add] at e5
    exact e5
  have loop := yy_entry_loop (s := s) (w := w) (show d < 7 by omega) hb e5' L.length 0 (mF - L.length - 1) (by omega) (fun i hi => absurd hi (Nat.not_lt_zero i))
  rw [he, hf]
  rcases hfn : yy_fnd key L with _ | x
  · right
    refine ⟨rfl, ?_⟩
    rcases loop with ⟨i, l1, l2, l3⟩ | ⟨l1, l2⟩
    · exfalso
      have hlt : L.length - 1 - i < L.length := by omega
      have hg : L[L.length - 1 - i]? = some L[L.length - 1 - i] := List.getElem?_eq_getElem hlt
      have q := (e8 _ _ hg).1
      rw [show L.length - 1 - (L.length - 1 - i) = i by omega, Nat.mul_zero, Nat.zero_add, l2] at q
      exact yy_fnd_none hfn _ _ hg ((h.nm.2.1 _ _ q hk).mpr rfl)
    · exact l2
  · left
    obtain ⟨i, e, f1, f2, f3⟩ := yy_fnd_some hfn
    obtain ⟨q1, q2, q3, v, q4, q5, q6⟩ := e8 i e f1
    have hi : i < L.length := by
      rcases Nat.lt_or_ge i L.length with z | z
      · exact z
      · rw [List.getElem?_eq_none z] at f1
        cases f1
    rw [Nat.mul_zero, Nat.zero_add] at q1 e7
    have hw : mL 6 s (yy_bs d + (L.length - 1 - i)) = w := (h.nm.2.1 _ _ q1 hk).mp f2
    rcases loop with ⟨j, l1, l2, l3⟩ | ⟨l1, l2⟩
    · have hj : j = L.length - 1 - i := e7 j (L.length - 1 - i) l1 (by omega) (l2.trans hw.symm)
      subst hj
      refine ⟨x, v, L.length - 1 - i, rfl, l3, by rw [← f3]; exact q4, by rw [← f3, q3], ?_, by omega⟩
      have ep : yy_cpl 0 (200 + yy_bs d + (L.length - 1 - i)) = 250 + (yy_bs d + (L.length - 1 - i)) := by
        unfold yy_cpl
        rw [if_pos rfl]
        omega
      rw [ep] at q5
      exact q5
    · exact absurd hw (l1 _ (by omega))
/-- a name by the stack of dicts, on both sides -/
theorem yy_P_find {g : yy_GT} {m : Nat} {c : yy_CT} {s : MT} {t nd o n key : Nat} {w : Int64} (sc : xSc) (h : yy_RR g m c s t nd o n) (hk : (key, w) ∈ yy_gnm g) :
    (∃ e v j, f_P_find sc (yy_cH c) (some 256) (some key) = some (some e) ∧ f_M_found s w = some (nI (250 + j), s) ∧ yy_slv c e = some v ∧ (yy_gow g e).1 = 3 ∧ yy_VR g c s t nd o v (yy_pl s (250 + j)) ∧ j < 80) ∨ (f_P_find sc (yy_cH c) (some 256) (some key) = some none ∧ f_M_found s w = some (-1, s)) := by
  obtain ⟨k, k1, k2, k3⟩ := h.2.2.2.2.2.2.2.2.1
  have key' : ∀ (j f : Nat), j ≤ k → (∃ e v i, f_P_find_b9 sc (yy_cH c) (f + j + 1 + 1) (some 256) (some key) none (nI j - 1) = some (some e) ∧ f_M_found_b7 (f + j + 1 + 1) w (nI j - 1) s = some (nI (250 + i), s) ∧ yy_slv c e = some v ∧ (yy_gow g e).1 = 3 ∧ yy_VR g c s t nd o v (yy_pl s (250 + i)) ∧ i < 80) ∨ (f_P_find_b9 sc (yy_cH c) (f + j + 1 + 1) (some 256) (some key) none (nI j - 1) = some none ∧ f_M_found_b7 (f + j + 1 + 1) w (nI j - 1) s = some (-1, s)) := by
    intro j
    induction j with
    | zero =>
      intro f _
      right
      exact ⟨rfl, rfl⟩
    | succ j ih =>
      intro f hj
      obtain ⟨d, a, d1, d2, d3, d4⟩ := k3 j (by omega)
      have n7 := h.2.2.2.2.2.2.2.1.1.2
      obtain ⟨a', r, ff, L, e1, e2, _⟩ := h.2.2.2.2.2.2.2.1.2.2 d d1
      rw [d3] at e1
      cases e1
      have sC : f_P_find_b9 sc (yy_cH c) (f + (j + 1) + 1 + 1) (some 256) (some key) none (nI (j + 1) - 1) = (f_Dict_find sc (yy_cH c) (some a) (some key)).bind fun v8 => f_P_find_b9 sc (yy_cH c) (f + j + 1 + 1) (some 256) (some key) v8 (nI j - 1) := by
        show (if nI (j + 1) - 1 < 0 then _ else _) = _
        rw [yy_nI_sub1 (by omega), Nat.add_sub_cancel, if_neg (fun z => by rw [show (0 : Int32) = nI 0 from rfl, yy_nI_lt (by omega) (by omega)] at z; omega), if_pos rfl, yy_cgR_13, Option.bind_some, yy_caR_274 (by omega), Option.bind_some, d4, if_pos (p_xis (yy_dcv_a e2)), show Int32.ofInt (-1) = -1 from rfl, ← Int32.sub_eq_add_neg]
        rfl
      have sM : f_M_found_b7 (f + (j + 1) + 1 + 1) w (nI (j + 1) - 1) s = (f_M_entry s (nI d) w).bind fun (v5, s4) => (if v5 = (-1 : Int32) then (f_M_found_b7 (f + j + 1 + 1)) w (nI j - 1) s4 else some (v5, s4)) := by
        show (if nI (j + 1) - 1 < 0 then _ else _) = _
        rw [yy_nI_sub1 (by omega), Nat.add_sub_cancel, if_neg (fun z => by rw [show (0 : Int32) = nI 0 from rfl, yy_nI_lt (by omega) (by omega)] at z; omega), if_pos (yy_xin_nI' (by omega) (by decide)), yy_nI_c (by omega), d2, show Int32.ofInt (-1) = -1 from rfl, ← Int32.sub_eq_add_neg]
        rfl
      rw [sC, sM]
      rcases yy_D_find sc h d1 d3 hk with ⟨e, v, i, f1, f2, f3, f4, f5, f6⟩ | ⟨f1, f2⟩
      · left
        refine ⟨e, v, yy_bs d + i, ?_, ?_, f3, f4, f5, f6⟩
        · rw [f1, Option.bind_some]
          show (if nI j - 1 < 0 then f_P_find_b34 sc (yy_cH c) (some e) else (if (some e : Option Nat) = none then _ else f_P_find_b34 sc (yy_cH c) (some e))) = _
          by_cases z : nI j - 1 < 0
          · rw [if_pos z]
            rfl
          · rw [if_neg z, if_neg (by simp)]
            rfl
        · rw [f2, Option.bind_some]
          show (if nI (250 + (yy_bs d + i)) = -1 then _ else _) = _
          rw [if_neg]
          intro z
          have := congrArg Int32.toInt z
          rw [yy_nI_toInt (by omega), show (-1 : Int32).toInt = -1 from by decide] at this
          omega
      · rw [f1, f2, Option.bind_some, Option.bind_some]
        show (∃ e v i, _ ∧ (if (-1 : Int32) = -1 then f_M_found_b7 (f + j + 1 + 1) w (nI j - 1) s else _) = _ ∧ _) ∨ (_ ∧ (if (-1 : Int32) = -1 then f_M_found_b7 (f + j + 1 + 1) w (nI j - 1) s else _) = _)
        rw [if_pos rfl]
        exact ih f (by omega)
  have st : yy_cI 14 c = nI k := h.2.1.2.2.2.1.trans k2
  have c1 : f_P_find sc (yy_cH c) (some 256) (some key) = f_P_find_b9 sc (yy_cH c) ((mF - k - 2) + k + 1 + 1) (some 256) (some key) none (nI k - 1) := by
    unfold f_P_find
    rw [yy_cgI_14, Option.bind_some, st, show (mF - k - 2) + k + 1 + 1 = mF by unfold mF; omega]
  have c2 : f_M_found s w = f_M_found_b7 ((mF - k - 2) + k + 1 + 1) w (nI k - 1) s := by
    unfold f_M_found
    rw [k2, show (mF - k - 2) + k + 1 + 1 = mF by unfold mF; omega]
  rw [c1, c2]
  exact key' k (mF - k - 2) (Nat.le_refl k)
