/-! the launch as xGF -/
def xStO (q : String × String × String × xV) (a b c : String) (v : xV) : Bool := q.1 == a && q.2.1 == b && q.2.2.1 == c && decide (q.2.2.2 = v)
theorem xStO_s {q : String × String × String × xV} {a b c : String} {v : xV} (h : xStO q a b c v = true) : q = (a, b, c, v) := by
  unfold xStO at h
  rw [Bool.and_eq_true, Bool.and_eq_true, Bool.and_eq_true, decide_eq_true_eq] at h
  obtain ⟨⟨⟨h1, h2⟩, h3⟩, h4⟩ := h
  exact Prod.ext (eq_of_beq h1) (Prod.ext (eq_of_beq h2) (Prod.ext (eq_of_beq h3) h4))
def xStG (i : Nat) (a b c : String) (v : xV) : Bool := match xSt[i]? with
  | some q => xStO q a b c v
  | none => false
theorem xStG_s {i : Nat} {a b c : String} {v : xV} (h : xStG i a b c v = true) : xSt[i]? = some (a, b, c, v) := by
  unfold xStG at h
  split at h
  · next q e =>
    rw [e, xStO_s h]
  · cases h
theorem xSt_op1 : ∀ i, i < 72 → xStG i "PageScribe$Op" (opNm.getD i "") "LPageScribe$Op;" (vA i) = true := by decide +kernel
theorem xSt_kd1 : ∀ i, i < 8 → xStG (72 + i) "PageScribe$Kind" (kdNm.getD i "") "LPageScribe$Kind;" (vA (72 + i)) = true := by decide +kernel
theorem xSt_op (i : Nat) (h : i < 72) : xSt[i]? = some ("PageScribe$Op", opNm.getD i "", "LPageScribe$Op;", vA i) := xStG_s (xSt_op1 i h)
theorem xSt_kd (i : Nat) (h : i < 8) : xSt[72 + i]? = some ("PageScribe$Kind", kdNm.getD i "", "LPageScribe$Kind;", vA (72 + i)) := xStG_s (xSt_kd1 i h)
theorem xSt_ar : xSt[80]? = some ("PageScribe", "OPS", "[LPageScribe$Op;", vA 224) := rfl
theorem xSt_cs : xSt[81]? = some ("java/lang/String", "COMPACT_STRINGS", "Z", vI 1) := rfl
theorem xSt_len : xSt.length = 82 := by decide +kernel
def xcst (adO adK adS adV : Nat → Nat) (aA b fm a : Nat) : Nat := if a < 72 then adO a else if a < 80 then adK (a - 72) else if a < 152 then adS (a - 80) else if a < 224 then adV (a - 152) else if a = 224 then aA else if a = 225 then b else fm
section XK
variable {adO adK adS adV : Nat → Nat} {aA b fm i : Nat}
theorem xcst_o (h : i < 72) : xcst adO adK adS adV aA b fm i = adO i := if_pos h
theorem xcst_k (h : i < 8) : xcst adO adK adS adV aA b fm (72 + i) = adK i := by
  unfold xcst
  rw [if_neg (by omega), if_pos (by omega), show 72 + i - 72 = i by omega]
theorem xcst_s (h : i < 72) : xcst adO adK adS adV aA b fm (80 + i) = adS i := by
  unfold xcst
  rw [if_neg (by omega), if_neg (by omega), if_pos (by omega), show 80 + i - 80 = i by omega]
theorem xcst_v (h : i < 72) : xcst adO adK adS adV aA b fm (152 + i) = adV i := by
  unfold xcst
  rw [if_neg (by omega), if_neg (by omega), if_neg (by omega), if_pos (by omega), show 152 + i - 152 = i by omega]
end XK
theorem xCl_lt {c : Nat} {q : vw_C} (h : xCl[c]? = some q) : c < 25 := (List.getElem?_eq_some_iff.mp h).1
theorem x_launch {s : State} {b L : Nat} {xs : Nat → Int32} (hts : ∀ w ∈ lw_tbl, w.before #[Value.ref b] s = true) (hX : va_X b L xs s s.heap) (hb : b < s.heap.size) (hgv : (Jvm.Cond.and given_1 narrow_1).before #[Value.ref b] s = true) : ∃ G : xG, G.1 = s ∧ G.2.1 225 = b ∧ xGF G (L, xs) := by
  have hn : ∀ {k : Nat} {c : Cond}, nN[k]? = some c → c.before #[Value.ref b] s = true := fun h => flat_of_before _ hgv _ (List.mem_of_getElem? h)
  have hA : ∀ a : Nat, a < s.heap.size → ¬ s.heap.size ≤ a := fun a h1 h2 => by omega
  have hO : ∀ i : Nat, ∃ a : Nat, i < 72 → (tO i).eval #[Value.ref b] s none [] s = some (.ref a) ∧ ∃ c cell k, s.vm.findClass "PageScribe$Op" = some c ∧ s.heap[a]? = some cell ∧ s.vm.classes[c]? = some k ∧ cell.vm.isStatics = false ∧ cell.cls = c := by
    intro i
    by_cases hi : i < 72
    · obtain ⟨a, c, cell, k, q1, q2, q3, q4, q5, q6, -⟩ := Cond.exactly_spec (hn (nn_oe i hi))
      exact ⟨a, fun _ => ⟨q1, c, cell, k, q2, q3, q4, q5, q6⟩⟩
    · exact ⟨0, fun h => absurd h hi⟩
  obtain ⟨adO, hO⟩ := Classical.axiomOfChoice hO
  have hK : ∀ i : Nat, ∃ a : Nat, i < 8 → (tK i).eval #[Value.ref b] s none [] s = some (.ref a) ∧ ∃ c cell k, s.vm.findClass "PageScribe$Kind" = some c ∧ s.heap[a]? = some cell ∧ s.vm.classes[c]? = some k ∧ cell.vm.isStatics = false ∧ cell.cls = c := by
    intro i
    by_cases hi : i < 8
    · obtain ⟨a, c, cell, k, q1, q2, q3, q4, q5, q6, -⟩ := Cond.exactly_spec (hn (nn_ke i hi))
      exact ⟨a, fun _ => ⟨q1, c, cell, k, q2, q3, q4, q5, q6⟩⟩
    · exact ⟨0, fun h => absurd h hi⟩
  obtain ⟨adK, hK⟩ := Classical.axiomOfChoice hK
  have hS : ∀ i : Nat, ∃ a : Nat, i < 72 → (tS i).eval #[Value.ref b] s none [] s = some (.ref a) ∧ ∃ c cell k, s.vm.findClass "java/lang/String" = some c ∧ s.heap[a]? = some cell ∧ s.vm.classes[c]? = some k ∧ cell.vm.isStatics = false ∧ cell.cls = c := by
    intro i
    by_cases hi : i < 72
    · obtain ⟨a, c, cell, k, q1, q2, q3, q4, q5, q6, -⟩ := Cond.exactly_spec (hn (nn_se i hi))
      exact ⟨a, fun _ => ⟨q1, c, cell, k, q2, q3, q4, q5, q6⟩⟩
    · exact ⟨0, fun h => absurd h hi⟩
  obtain ⟨adS, hS⟩ := Classical.axiomOfChoice hS
  have hV : ∀ i : Nat, ∃ a : Nat, i < 72 → (tV i).eval #[Value.ref b] s none [] s = some (.ref a) ∧ va_T .byte a (opAt i).2.2.length (fun j => .int ((opAt i).2.2.getD j 0)) (fun a => s.heap.size ≤ a) s s.heap := by
    intro i
    by_cases hi : i < 72
    · obtain ⟨t, h1, h2⟩ := va_Tof (f := fun j => .int ((opAt i).2.2.getD j 0)) (A := fun a => s.heap.size ≤ a) (by have := nn_sz i hi; omega) (hn (nn_sa i hi)) (va_eqt (hn (nn_sl i hi))) (fun j hj => va_eqt (hn (nn_sb i hi j hj))) hA
      exact ⟨t, fun _ => ⟨h1, h2⟩⟩
    · exact ⟨0, fun h => absurd h hi⟩
  obtain ⟨adV, hV⟩ := Classical.axiomOfChoice hV
  obtain ⟨aA, hA1, hA2⟩ := va_Tof (tm := tA) (ty := .object "PageScribe$Op") (N := 72) (f := fun j => .ref (adO j)) (A := fun a => s.heap.size ≤ a) (by decide) (hn nn_aa) (va_eqt (hn nn_al)) (fun j hj => x_eqtt (hn (nn_ae j hj)) (hO j hj).1) hA
  have hfo : ∀ i, i < 72 → va_OF "java/lang/Enum" "ordinal" "I" (.int (nI i)) (adO i) (fun a => s.heap.size ≤ a) s s.heap := fun i hi => vk_OFof (hO i hi).1 (va_eqt (hn (nn_oo i hi))) hA
  have hfw : ∀ i, i < 72 → va_OF "PageScribe$Op" "word" "Ljava/lang/String;" (.ref (adS i)) (adO i) (fun a => s.heap.size ≤ a) s s.heap := fun i hi => vk_OFof (hO i hi).1 (x_eqtt (hn (nn_ow i hi)) (hS i hi).1) hA
  have hft : ∀ i, i < 72 → va_OF "PageScribe$Op" "takes" "I" (.int (opAt i).1) (adO i) (fun a => s.heap.size ≤ a) s s.heap := fun i hi => vk_OFof (hO i hi).1 (va_eqt (hn (nn_ot i hi))) hA
  have hfg : ∀ i, i < 72 → va_OF "PageScribe$Op" "group" "I" (.int (opAt i).2.1) (adO i) (fun a => s.heap.size ≤ a) s s.heap := fun i hi => vk_OFof (hO i hi).1 (va_eqt (hn (nn_og i hi))) hA
  have hfk : ∀ i, i < 8 → va_OF "java/lang/Enum" "ordinal" "I" (.int (nI i)) (adK i) (fun a => s.heap.size ≤ a) s s.heap := fun i hi => vk_OFof (hK i hi).1 (va_eqt (hn (nn_ko i hi))) hA
  have hfc : ∀ i, i < 72 → va_OF "java/lang/String" "coder" "B" (.int 0) (adS i) (fun a => s.heap.size ≤ a) s s.heap := fun i hi => vk_OFof (hS i hi).1 (va_eqt (hn (nn_sc i hi))) hA
  have hfv : ∀ i, i < 72 → va_OF "java/lang/String" "value" "[B" (.ref (adV i)) (adS i) (fun a => s.heap.size ≤ a) s s.heap := fun i hi => vk_OFof (hS i hi).1 (hV i hi).1 hA
  have hC : ∀ c : Nat, ∃ z : ClassId × (Nat → Nat), c < 25 → xcf s c z := by
    intro c
    by_cases h1 : c = 19
    · subst h1
      obtain ⟨-, c0, cell, k0, q1, q2, q3, q4, q5⟩ := hO 1 (by decide)
      obtain ⟨_, _, _, f0, e0, a1, a2, a3, a4, a5, -⟩ := hfo 1 (by decide)
      obtain ⟨_, _, _, f1, e1, b1, b2, b3, b4, b5, -⟩ := hfw 1 (by decide)
      obtain ⟨_, _, _, f2, e2, c1, c2, c3, c4, c5, -⟩ := hft 1 (by decide)
      obtain ⟨_, _, _, f3, e3, d1, d2, d3, d4, d5, -⟩ := hfg 1 (by decide)
      cases q2.symm.trans a3
      cases q2.symm.trans b3
      cases q2.symm.trans c3
      cases q2.symm.trans d3
      refine ⟨(c0, fun k => match k with | 0 => f0.slot | 1 => f1.slot | 2 => f2.slot | _ => f3.slot), fun _ q hq => ?_⟩
      cases hq
      refine ⟨⟨q1, k0, q3, fun z => absurd rfl z.1⟩, fun k hk => ?_, fun i j hi hj hne => ?_⟩
      · match k, hk with
        | 0, _ => exact ⟨_, _, _, _, a1, rfl, a2⟩
        | 1, _ => exact ⟨_, _, _, _, b1, rfl, b2⟩
        | 2, _ => exact ⟨_, _, _, _, c1, rfl, c2⟩
        | 3, _ => exact ⟨_, _, _, _, d1, rfl, d2⟩
        | k + 4, hk => exact absurd hk (by show ¬ k + 4 < 4; omega)
      · have v1 : (opAt 1).1 = 2 := by decide +kernel
        have v2 : (opAt 1).2.1 = 0 := by decide +kernel
        rw [v1] at c5
        rw [v2] at d5
        have n01 : f0.slot ≠ f1.slot := fun z => by rw [z, b5] at a5; cases a5
        have n02 : f0.slot ≠ f2.slot := fun z => by rw [z, c5] at a5; revert a5; decide
        have n03 : f0.slot ≠ f3.slot := fun z => by rw [z, d5] at a5; revert a5; decide
        have n12 : f1.slot ≠ f2.slot := fun z => by rw [z, c5] at b5; cases b5
        have n13 : f1.slot ≠ f3.slot := fun z => by rw [z, d5] at b5; cases b5
        have n23 : f2.slot ≠ f3.slot := fun z => by rw [z, d5] at c5; revert c5; decide
        have hi' : i < 4 := hi
        have hj' : j < 4 := hj
        have ci : i = 0 ∨ i = 1 ∨ i = 2 ∨ i = 3 := by omega
        have cj : j = 0 ∨ j = 1 ∨ j = 2 ∨ j = 3 := by omega
        rcases ci with rfl | rfl | rfl | rfl <;> rcases cj with rfl | rfl | rfl | rfl <;> first | exact absurd rfl hne | exact n01 | exact n02 | exact n03 | exact n12 | exact n13 | exact n23 | exact n01.symm | exact n02.symm | exact n03.symm | exact n12.symm | exact n13.symm | exact n23.symm
    · by_cases h2 : c = 20
      · subst h2
        obtain ⟨-, c0, cell, k0, q1, q2, q3, q4, q5⟩ := hK 0 (by decide)
        obtain ⟨_, _, _, f0, e0, a1, a2, a3, a4, a5, -⟩ := hfk 0 (by decide)
        refine ⟨(c0, fun _ => f0.slot), fun _ q hq => ?_⟩
        cases hq
        refine ⟨⟨q1, k0, q3, fun z => absurd rfl z.2⟩, fun k hk => ?_, fun i j hi hj hne => ?_⟩
        · have hk' : k < 1 := hk
          have : k = 0 := by omega
          subst this
          exact ⟨_, _, _, _, a1, rfl, a2⟩
        · have hi' : i < 1 := hi
          have hj' : j < 1 := hj
          exact absurd (by omega) hne
      · by_cases h3 : c < 25
        · obtain ⟨z, hz⟩ := x_cls hts c h3 h1 h2
          exact ⟨z, fun _ => hz⟩
        · exact ⟨(0, fun _ => 0), fun h => absurd h h3⟩
  obtain ⟨z, hz⟩ := Classical.axiomOfChoice hC
  have hq0 : va_Zq "jdk/internal/util/Preconditions" "SIOOBE_FORMATTER" "Ljava/util/function/BiFunction;" (fun a => s.heap.size ≤ a) s s.heap := va_Zqof (hts _ tb_lf) (hts _ tb_if) (hn nn_sf) hA
  have hF : ∃ (fm : Nat) (r : Option Nat), va_Z "jdk/internal/util/Preconditions" "SIOOBE_FORMATTER" "Ljava/util/function/BiFunction;" (va_rf (r.map fun _ => fm)) (fun a => s.heap.size ≤ a) s s.heap ∧ (r = none ∨ r = some 226) := by
    rcases hq0 with h | ⟨t, h⟩
    · exact ⟨0, none, h, Or.inl rfl⟩
    · exact ⟨t, some 226, h, Or.inr rfl⟩
  obtain ⟨fm, rF, hF, hrF⟩ := hF
  have hsl : ∀ {c k : Nat} {q : vw_C} {O f d : String} {v : Value} {t : Nat}, xCl[c]? = some q → k < q.2.2 → (q.2.1 k).1 = O → (q.2.1 k).2.1 = f → (q.2.1 k).2.2.1 = d → va_OF O f d v t (fun a => s.heap.size ≤ a) s s.heap → ∃ cell : Cell, s.heap[t]? = some cell ∧ cell.vm ≠ .unknown ∧ cell.slots[(z c).2 k]? = some v := by
    intro c k q O f d v t hq hk e1 e2 e3 hof
    subst e1 e2 e3
    obtain ⟨cf, kk, i, fd, cell, h1, h2, h3, h4, h5, -⟩ := hof
    obtain ⟨_, _, _, fd', g1, g2, -⟩ := (hz c (xCl_lt hq) q hq).2.1 k hk
    cases h1.symm.trans g1
    exact ⟨cell, h3, h4, by rw [← g2]; exact h5⟩
  obtain ⟨G, hG⟩ : ∃ G : xG, G = (s, xcst adO adK adS adV aA b fm, fun c => (z c).1, fun c => (z c).2) := ⟨_, rfl⟩
  have hGs : G.s = s := by rw [hG]
  have hGd : ∀ c, G.dC c = (z c).1 := fun c => by rw [hG]
  have hGi : ∀ c k, G.dI c k = (z c).2 k := fun c k => by rw [hG]
  have hxr : ∀ a, a < 256 → xr G a = xcst adO adK adS adV aA b fm a := fun a ha => by
    rw [hG]
    exact if_pos ha
  have hcs : ∀ a, G.cst a = xcst adO adK adS adV aA b fm a := fun a => by rw [hG]
  have hzc : ∀ (c : Nat) (q : vw_C), xCl[c]? = some q → s.vm.findClass q.1 = some (z c).1 := fun c q hq => (hz c (xCl_lt hq) q hq).1.1
  have hlt : ∀ {a : Nat} {cell : Cell}, s.heap[a]? = some cell → a < s.heap.size := fun h => (Array.getElem?_eq_some_iff.mp h).1
  have kO : ∀ i, i < 72 → ∃ cell : Cell, s.heap[adO i]? = some cell ∧ cell.cls = (z 19).1 ∧ cell.vm ≠ .unknown ∧ cell.vm.isStatics = false ∧ cell.slots[(z 19).2 0]? = some (.int (nI i)) ∧ cell.slots[(z 19).2 1]? = some (.ref (adS i)) ∧ cell.slots[(z 19).2 2]? = some (.int (opAt i).1) ∧ cell.slots[(z 19).2 3]? = some (.int (opAt i).2.1) := by
    intro i hi
    obtain ⟨-, c0, cell, k0, q1, q2, q3, q4, q5⟩ := hO i hi
    obtain ⟨e0, a1, a2, a3⟩ := hsl (c := 19) (k := 0) rfl (by decide) rfl rfl rfl (hfo i hi)
    obtain ⟨e1, b1, b2, b3⟩ := hsl (c := 19) (k := 1) rfl (by decide) rfl rfl rfl (hfw i hi)
    obtain ⟨e2, c1, c2, c3⟩ := hsl (c := 19) (k := 2) rfl (by decide) rfl rfl rfl (hft i hi)
    obtain ⟨e3, d1, d2, d3⟩ := hsl (c := 19) (k := 3) rfl (by decide) rfl rfl rfl (hfg i hi)
    cases q2.symm.trans a1
    cases q2.symm.trans b1
    cases q2.symm.trans c1
    cases q2.symm.trans d1
    have h9 := hzc 19 _ rfl
    cases q1.symm.trans h9
    exact ⟨cell, q2, q5, a2, q4, a3, b3, c3, d3⟩
  have kK : ∀ i, i < 8 → ∃ cell : Cell, s.heap[adK i]? = some cell ∧ cell.cls = (z 20).1 ∧ cell.vm ≠ .unknown ∧ cell.vm.isStatics = false ∧ cell.slots[(z 20).2 0]? = some (.int (nI i)) := by
    intro i hi
    obtain ⟨-, c0, cell, k0, q1, q2, q3, q4, q5⟩ := hK i hi
    obtain ⟨e0, a1, a2, a3⟩ := hsl (c := 20) (k := 0) rfl (by decide) rfl rfl rfl (hfk i hi)
    cases q2.symm.trans a1
    have h9 := hzc 20 _ rfl
    cases q1.symm.trans h9
    exact ⟨cell, q2, q5, a2, q4, a3⟩
  refine ⟨G, hGs, (hcs 225).trans rfl, fun c q hq => ?_, fun a e ha he => ?_, ⟨fun w hw => ?_, ?_, ?_, ?_, rF, ?_⟩, fun q hq => ?_, fun i j hi hj e => ?_⟩
  · rw [hGs, hGd]
    have h9 := hz c (xCl_lt hq) q hq
    exact ⟨h9.1, fun k hk => by rw [hGi]; exact h9.2.1 k hk, fun i j hi hj hne => by rw [hGi, hGi]; exact h9.2.2 i j hi hj hne⟩
  · rw [hGs, hcs]
    have ha' : a < 256 := ha
    unfold xCs at he
    by_cases c1 : a < 72
    · rw [if_pos c1] at he
      cases he
      obtain ⟨cell, q1, q2, q3, q4, v0, v1, v2, v3⟩ := kO a c1
      rw [xcst_o c1]
      refine ⟨⟨cell, _, rfl, by rw [hxr a ha', xcst_o c1]; exact q1, by rw [hGd]; exact q2, fun z => absurd z (by show ¬ 256 ≤ a; omega), q3, q4, rfl, fun k hk => ?_⟩, hlt q1⟩
      rw [hGi]
      match k, hk with
      | 0, _ => exact v0
      | 1, _ =>
        show _ = some (Value.ref (xr G (80 + a)))
        rw [hxr _ (by omega), xcst_s c1]
        exact v1
      | 2, _ => exact v2
      | 3, _ => exact v3
      | k + 4, hk => exact absurd hk (by show ¬ k + 4 < 4; omega)
    · rw [if_neg c1] at he
      by_cases c2 : a < 80
      · rw [if_pos c2] at he
        cases he
        obtain ⟨i, rfl⟩ : ∃ i, a = 72 + i := ⟨a - 72, by omega⟩
        have hi : i < 8 := by omega
        obtain ⟨cell, q1, q2, q3, q4, v0⟩ := kK i hi
        rw [xcst_k hi]
        refine ⟨⟨cell, _, rfl, by rw [hxr _ ha', xcst_k hi]; exact q1, by rw [hGd]; exact q2, fun z => absurd z (by show ¬ 256 ≤ _; omega), q3, q4, rfl, fun k hk => ?_⟩, hlt q1⟩
        rw [hGi]
        have hk' : k < 1 := hk
        have : k = 0 := by omega
        subst this
        show _ = some (Value.int (nI (72 + i - 72)))
        rw [show 72 + i - 72 = i by omega]
        exact v0
      · rw [if_neg c2] at he
        by_cases c3 : a < 152
        · rw [if_pos c3] at he
          cases he
          obtain ⟨i, rfl⟩ : ∃ i, a = 80 + i := ⟨a - 80, by omega⟩
          have hi : i < 72 := by omega
          obtain ⟨-, c0, cell, k0, q1, q2, q3, q4, q5⟩ := hS i hi
          obtain ⟨e0, a1, a2, a3⟩ := hsl (c := 18) (k := 0) rfl (by decide) rfl rfl rfl (hfv i hi)
          obtain ⟨e1, b1, b2, b3⟩ := hsl (c := 18) (k := 1) rfl (by decide) rfl rfl rfl (hfc i hi)
          cases q2.symm.trans a1
          cases q2.symm.trans b1
          have h9 := hzc 18 _ rfl
          cases q1.symm.trans h9
          rw [xcst_s hi]
          refine ⟨⟨cell, _, rfl, by rw [hxr _ ha', xcst_s hi]; exact q2, by rw [hGd]; exact q5, fun z => absurd z (by show ¬ 256 ≤ _; omega), a2, q4, rfl, fun k hk => ?_⟩, hlt q2⟩
          rw [hGi]
          match k, hk with
          | 0, _ =>
            show _ = some (Value.ref (xr G (72 + (80 + i))))
            rw [hxr _ (by omega), show 72 + (80 + i) = 152 + i by omega, xcst_v hi]
            exact a3
          | 1, _ => exact b3
          | k + 2, hk => exact absurd hk (by show ¬ k + 2 < 2; omega)
        · rw [if_neg c3] at he
          by_cases c4 : a < 224
          · rw [if_pos c4] at he
            obtain ⟨i, rfl⟩ : ∃ i, a = 152 + i := ⟨a - 152, by omega⟩
            have hi : i < 72 := by omega
            rw [show 152 + i - 152 = i by omega] at he
            cases he
            obtain ⟨-, cell, q1, q2, q3, q4, q5, q6, -⟩ := hV i hi
            rw [xcst_v hi]
            exact ⟨⟨cell, by rw [hxr _ ha', xcst_v hi]; exact q1, by rw [hGs]; exact q2, q3, ⟨q4, q5, fun z => absurd z (by show ¬ 256 ≤ _; omega)⟩, fun j hj => q6 j hj, fun z => absurd z (by show ¬ 256 ≤ _; omega)⟩, hlt q1⟩
          · rw [if_neg c4] at he
            by_cases c5 : a = 224
            · rw [if_pos c5] at he
              cases he
              subst c5
              obtain ⟨cell, q1, q2, q3, q4, q5, q6, -⟩ := hA2
              refine ⟨⟨cell, by rw [hxr _ ha']; exact q1, by rw [hGs]; exact q2, q3, ⟨q4, q5, fun z => absurd z (by decide)⟩, fun j hj => ?_, fun z => absurd z (by decide)⟩, hlt q1⟩
              have hj' : j < 72 := hj
              show _ = some (Value.ref (xr G j))
              rw [hxr _ (by omega), xcst_o hj']
              exact q6 j hj'
            · rw [if_neg c5] at he
              by_cases c6 : a = 225
              · rw [if_pos c6] at he
                cases he
                subst c6
                obtain ⟨cell, q1, q2, q3, q4, q5⟩ := hX
                exact ⟨⟨cell, by rw [hxr _ ha']; exact q1, by rw [hGs]; exact q2, q3, xsz_of q4, fun j hj => q5 j hj, fun z => absurd z (by decide)⟩, hb⟩
              · rw [if_neg c6] at he
                cases he
  · rw [hGs]; exact x_args0 hw (hts w hw)
  · rw [hGs]; exact va_Zqof (hts _ tb_lu) (hts _ tb_it) (hn nn_us) hA
  · rw [hGs]; exact va_Zqof (hts _ tb_ls) (hts _ tb_it) (hn nn_ss) hA
  · rw [hGs]; exact va_Nc.of (hn nn_nc)
  · rw [hGs]
    have e9 : xv G (vR rF) = va_rf (rF.map fun _ => fm) := by
      rcases hrF with rfl | rfl
      · rfl
      · show Value.ref (xr G 226) = Value.ref fm
        rw [hxr 226 (by decide)]
        rfl
    rw [e9]
    exact hF
  · rw [hGs]
    obtain ⟨i, hi⟩ := List.getElem?_of_mem hq
    have hi82 : i < 82 := by rw [← xSt_len]; exact (List.getElem?_eq_some_iff.mp hi).1
    by_cases c1 : i < 72
    · cases hi.symm.trans (xSt_op i c1)
      show va_Z "PageScribe$Op" (opNm.getD i "") "LPageScribe$Op;" (Value.ref (xr G i)) _ _ _
      rw [hxr i (by omega), xcst_o c1]
      exact va_Zref (hts _ (List.mem_append_right _ (List.mem_of_getElem? (tb_lo i c1)))) (hts _ tb_io) (hO i c1).1 hA
    · by_cases c2 : i < 80
      · obtain ⟨j, rfl⟩ : ∃ j, i = 72 + j := ⟨i - 72, by omega⟩
        have hj : j < 8 := by omega
        cases hi.symm.trans (xSt_kd j hj)
        show va_Z "PageScribe$Kind" (kdNm.getD j "") "LPageScribe$Kind;" (Value.ref (xr G (72 + j))) _ _ _
        rw [hxr _ (by omega), xcst_k hj]
        exact va_Zref (hts _ (List.mem_append_right _ (List.mem_of_getElem? (tb_lk j hj)))) (hts _ tb_ik) (hK j hj).1 hA
      · by_cases c3 : i = 80
        · subst c3
          cases hi.symm.trans xSt_ar
          show va_Z "PageScribe" "OPS" "[LPageScribe$Op;" (Value.ref (xr G 224)) _ _ _
          rw [hxr 224 (by decide)]
          exact va_Zref (hts _ tb_la) (hts _ tb_ip) hA1 hA
        · have c4 : i = 81 := by omega
          subst c4
          cases hi.symm.trans xSt_cs
          exact va_Zof (hts _ tb_lc) (hts _ tb_is) (va_eqi (hn nn_cs)) hA
  · rw [hcs, hcs] at e
    have hnI : ∀ a b : Nat, a < 100 → b < 100 → nI a = nI b → a = b := fun a b h1 h2 h3 => by
      have := congrArg Int32.toInt h3
      rw [nI_toInt (by omega), nI_toInt (by omega)] at this
      omega
    have hne : (z 19).1 ≠ (z 20).1 := fun h => by
      have h1 := hzc 19 _ rfl
      have h2 := hzc 20 _ rfl
      rw [h] at h1
      obtain ⟨k1, g1, g2⟩ := Vm.findClass_spec h1
      obtain ⟨k2, g3, g4⟩ := Vm.findClass_spec h2
      cases g1.symm.trans g3
      rw [g2] at g4
      revert g4
      decide +kernel
    by_cases c1 : i < 72 <;> by_cases c2 : j < 72
    · rw [xcst_o c1, xcst_o c2] at e
      obtain ⟨ca, p1, -, -, -, p2, -⟩ := kO i c1
      obtain ⟨cb, r1, -, -, -, r2, -⟩ := kO j c2
      rw [e] at p1
      cases p1.symm.trans r1
      rw [p2] at r2
      exact hnI i j (by omega) (by omega) (by simpa using r2)
    · obtain ⟨j', rfl⟩ : ∃ j', j = 72 + j' := ⟨j - 72, by omega⟩
      rw [xcst_o c1, xcst_k (by omega)] at e
      obtain ⟨ca, p1, p2, -⟩ := kO i c1
      obtain ⟨cb, r1, r2, -⟩ := kK j' (by omega)
      rw [e] at p1
      cases p1.symm.trans r1
      exact absurd (p2.symm.trans r2) hne
    · obtain ⟨i', rfl⟩ : ∃ i', i = 72 + i' := ⟨i - 72, by omega⟩
      rw [xcst_o c2, xcst_k (by omega)] at e
      obtain ⟨ca, p1, p2, -⟩ := kO j c2
      obtain ⟨cb, r1, r2, -⟩ := kK i' (by omega)
      rw [e] at r1
      cases p1.symm.trans r1
      exact absurd (p2.symm.trans r2) hne
    · obtain ⟨i', rfl⟩ : ∃ i', i = 72 + i' := ⟨i - 72, by omega⟩
      obtain ⟨j', rfl⟩ : ∃ j', j = 72 + j' := ⟨j - 72, by omega⟩
      rw [xcst_k (by omega), xcst_k (by omega)] at e
      obtain ⟨ca, p1, -, -, -, p2⟩ := kK i' (by omega)
      obtain ⟨cb, r1, -, -, -, r2⟩ := kK j' (by omega)
      rw [e] at p1
      cases p1.symm.trans r1
      rw [p2] at r2
      have := hnI i' j' (by omega) (by omega) (by simpa using r2)
      omega
