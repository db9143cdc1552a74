/-! getstatic of the formatter; System.arraycopy of bytes -/
def xCpOk (f : Nat → Int32) (n0 n1 : Nat) (sp dp n : Int32) : Bool := decide (0 ≤ sp) && decide (0 ≤ dp) && decide (0 ≤ n) && decide (sp.toNatClampNeg + n.toNatClampNeg ≤ n0) && decide (dp.toNatClampNeg + n.toNatClampNeg ≤ n1) && (List.range n.toNatClampNeg).all fun i => xby (f (sp.toNatClampNeg + i))
def xCpy (sc : xSc) (u : xH) (src : Option Nat) (sp : Int32) (dst : Option Nat) (dp n : Int32) : Option xH := (aO sc u src).bind fun A => (qO u dst).bind fun q => match A, q with
  | (.byte, (n0, .inl f)), (b, (.byte, (n1, .inl g))) => if xCpOk f n0 n1 sp dp n = true then some (xup u b (.inr (.byte, (n1, .inl (va_cpy f g sp.toNatClampNeg dp.toNatClampNeg n.toNatClampNeg))))) else none
  | _, _ => none
theorem xCpy_s {sc : xSc} {u w : xH} {src dst : Option Nat} {sp dp n : Int32} (h : xCpy sc u src sp dst dp n = some w) : ∃ a b n0 n1 f g, src = some a ∧ dst = some b ∧ xat sc u a = some (.inr (.byte, (n0, .inl f))) ∧ xK ≤ b ∧ u.1 b = some (.inr (.byte, (n1, .inl g))) ∧ xCpOk f n0 n1 sp dp n = true ∧ w = xup u b (.inr (.byte, (n1, .inl (va_cpy f g sp.toNatClampNeg dp.toNatClampNeg n.toNatClampNeg)))) := by
  obtain ⟨A, h1, h⟩ := Option.bind_eq_some_iff.mp h
  obtain ⟨q, h2, h⟩ := Option.bind_eq_some_iff.mp h
  obtain ⟨a, e1, e2⟩ := aO_s h1
  obtain ⟨e3, e4, e5⟩ := qO_s h2
  split at h
  · obtain ⟨h3, h4⟩ := ite_some h
    exact ⟨a, _, _, _, _, _, e1, e3, e2, e4, e5, h3, (Option.some.inj h4).symm⟩
  · cases h
theorem xle_nn {z : Int32} (h : 0 ≤ z) : ¬ z < 0 ∧ z.toInt = (z.toNatClampNeg : Int) := by
  have h1 : (0 : Int) ≤ z.toInt := by simpa using Int32.le_iff_toInt_le.mp h
  refine ⟨fun q => ?_, ?_⟩
  · have := Int32.lt_iff_toInt_lt.mp q
    have e0 : (0 : Int32).toInt = 0 := rfl
    omega
  · show z.toInt = ((z.toInt.toNat : Nat) : Int)
    omega
theorem acp_1 : Cond.native arraycopyName ∈ lw_tbl := tw_2 (List.mem_of_getElem? (i := 8) rfl)
theorem acp_2 : Cond.static arraycopyName ∈ lw_tbl := tw_2 (List.mem_of_getElem? (i := 7) rfl)
theorem acp_3 : Cond.initialized "java/lang/System" ∈ lw_tbl := tw_1 (List.mem_of_getElem? (i := 23) rfl)
section CY
variable {sc : xSc} {M : xM} {d : Nat} {Q : xR → xH → Prop} {h : xH} {pc : Nat} {L : List (Option xV)} {st : List xV}
theorem x_getsF {idx : Nat} (hd : decode M.2.1 pc = .ok (.getstatic idx, 3)) (hl : Cond.fieldLink M.1 idx "jdk/internal/util/Preconditions" "SIOOBE_FORMATTER" "Ljava/util/function/BiFunction;" ∈ lw_tbl) (kk : ∀ r : Option Nat, xW sc M d Q h (pc + 3) L (vR r :: st)) : xW sc M d Q h pc L st := by
  intro G p l e R s m args below meth cd H locs cells slots ls n0 s0 g1 g2 g3 g4 g5 g6 g7 g8 g9
  have hF : xFS G s := g2.2.2.2.2.2.2.2.2.1
  obtain ⟨r, hz⟩ := g1.2.2.1.2.2.2.2
  obtain ⟨cf, kf, fi, f, a, cell, h1, h2, h3, h4, h5, h6, h7, h8⟩ := va_Z.moved hF.1 hz
  have h5' : H[a]? = some cell := by rw [g3.2.2.2 a (by omega)]; exact h5
  have K := kk r G p l e R s m args below meth cd H locs cells slots ls n0 s0 g1 g2 g3 g4 g5 g6 g7 g8 g9
  exact W.gets g2.1 g2.2.1 g2.2.2.2.2.2.2.2.1 (hF.2.2 _ hl (by rfl) _) h1 h2 h3 h4 h5' (fun z => by rw [z] at h6; cases h6) h7 rfl hd K
theorem c_acopy {idx : Nat} {src dst : Option Nat} {sp dp n : Int32} {w : xH} (hd : decode M.2.1 pc = .ok (.invokestatic idx, 3)) (hl : Cond.methodLink M.1 idx arraycopyName ∈ lw_tbl) (hroom : (st.map xcat).sum + 30 ≤ 46) (hg : xCpy sc h src sp dst dp n = some w) (kk : xW sc M (d + 1) Q w (pc + 3) L st) : xW sc M (d + 1) Q h pc L (vI n :: vI dp :: vR dst :: vI sp :: vR src :: st) := by
  obtain ⟨a, b, n0', n1, f, g, rfl, rfl, ha, hK, hb, hok, rfl⟩ := xCpy_s hg
  unfold xCpOk at hok
  simp only [Bool.and_eq_true, decide_eq_true_eq] at hok
  obtain ⟨⟨⟨⟨⟨o1, o2⟩, o3⟩, o4⟩, o5⟩, o6⟩ := hok
  have o6' : ∀ i, i < n.toNatClampNeg → xby (f (sp.toNatClampNeg + i)) = true := fun i hi => List.all_eq_true.mp o6 i (List.mem_range.mpr hi)
  intro G p l e R s m args below meth cd H locs cells slots ls n0 s0 g1 g2 g3 g4 g5 g6 g7 g8 g9 T hT X
  have hF : xFS G s := g2.2.2.2.2.2.2.2.2.1
  obtain ⟨ca, a1, a2, a3, a4, a5, a6⟩ : xarr G H a .byte (n0', .inl f) := x_look g1 g3 ha
  obtain ⟨cb, b1, b2, b3, b4, b5, b6⟩ : xarr G H b .byte (n1, .inl g) := (g3.2.2.1 b _ hK hb).2
  obtain ⟨a7, k0, hk0, cm0, hkk0⟩ := State.isArrayOf_alike hF.1 a2
  obtain ⟨b7, k1, hk1, cm1, hkk1⟩ := State.isArrayOf_alike hF.1 b2
  obtain ⟨q1, r1⟩ := xle_nn o1
  obtain ⟨q2, r2⟩ := xle_nn o2
  obtain ⟨q3, r3⟩ := xle_nn o3
  have a4' : n0' ≤ ca.slots.size := a4.1
  have b4' : cb.slots.size = n1 := b4.2.2 hK
  have es : ∀ i, i < n.toNatClampNeg → ca.slots.getD (sp.toNatClampNeg + i) .null = .int (f (sp.toNatClampNeg + i)) := fun i hi => by
    rw [Array.getD_eq_getD_getElem?, a5 _ (show _ < n0' by omega)]
    rfl
  obtain ⟨vm', X', step⟩ := X.arraycopy g2.1 g2.2.2.2.2.2.2.2.1 (hF.2.2 _ hl (by rfl) _) (hF.2.2 _ acp_1 (by rfl) _) (hF.2.2 _ acp_2 (by rfl) _) (hF.2.2 _ acp_3 (by rfl) _) (src := xr G a) (dst := xr G b) (cs := ca) (cd := cb) (srcPos := sp) (destPos := dp) (n := n) (by rw [hT]; exact a1) (by rw [hT]; exact b1)
    a7 b7 a3 b3 hk0 hk1 hkk0 hkk1 (by simp [refKind]) q1 q2 q3
    (by rw [r1, r3]; omega) (by rw [r2, r3, b4']; omega)
    (fun vm₁ _ i hi => by
      rw [es i hi]
      exact ⟨(xfit_byte (eq_of_beq (o6' i hi)) G).2, trivial⟩)
    (g := F0 m pc ls ((vI n :: vI dp :: vA b :: vI sp :: vA a :: st).map (xv G))) rfl (by rw [g2.2.2.1, g4.1]) (rest := st.map (xv G)) rfl (by rw [g2.2.1]; exact hd) (Nat.le_trans (Nat.le_add_left 1 d) g2.2.2.2.2.2.2.2.2.2.1)
    (by
      have e1 : ((st.map (xv G)).map fun v => v.category).sum = (st.map xcat).sum := by
        rw [List.map_map]
        congr 1
        refine List.map_congr_left fun v _ => ?_
        exact xcat_v G v
      have e2 := g2.2.2.2.2.2.2.2.2.2.2.1
      have e3 : nativeFrameWords "java/lang/System" "arraycopy" 5 + 11 ≤ 30 := by decide
      show 2 * 0 + _ + _ ≤ _
      rw [e1]
      omega)
  have hl : xr G b < H.size := (Array.getElem?_eq_some_iff.mp b1).1
  have hheap : ((T.setVm vm').setCell (xr G b) (copied ca cb sp dp n)).heap = H.setIfInBounds (xr G b) (copied ca cb sp dp n) := by rw [← hT]; rfl
  have hself : (H.setIfInBounds (xr G b) (copied ca cb sp dp n))[xr G b]? = some (copied ca cb sp dp n) := by simp [Array.getElem?_setIfInBounds, hl]
  have oq : ∀ q : Nat, q ≠ xr G b → (H.setIfInBounds (xr G b) (copied ca cb sp dp n))[q]? = H[q]? := fun q hq => by simp [Array.getElem?_setIfInBounds, Ne.symm hq]
  have hfacts := Cell.storeRun_facts cb dp.toNatClampNeg (ca.stretch sp.toNatClampNeg n.toNatClampNeg)
  have hcell : xcell G (H.setIfInBounds (xr G b) (copied ca cb sp dp n)) b (.inr (.byte, (n1, .inl (va_cpy f g sp.toNatClampNeg dp.toNatClampNeg n.toNatClampNeg)))) := by
    refine ⟨_, hself, ?_, ?_, ?_, fun j hj => ?_, fun _ z => by cases z⟩
    · unfold State.isArrayOf
      rw [show (copied ca cb sp dp n).cls = cb.cls from hfacts.1, show (copied ca cb sp dp n).vm = cb.vm from hfacts.2.1]
      exact b2
    · rw [show (copied ca cb sp dp n).vm = cb.vm from hfacts.2.1]
      exact b3
    · exact xsz_of (hfacts.2.2.1.trans b4')
    · show (cb.storeRun _ _).slots[j]? = some (.int (va_cpy f g _ _ _ j))
      rw [Cell.storeRun_get _ _ _ _ (by rw [Cell.stretch_length, b4']; exact o5), Cell.stretch_length]
      unfold va_cpy
      by_cases hc : dp.toNatClampNeg ≤ j ∧ j < dp.toNatClampNeg + n.toNatClampNeg
      · rw [if_pos hc, if_pos hc]
        unfold Cell.stretch
        rw [List.getElem?_map, List.getElem?_range (by omega)]
        exact congrArg some (es (j - dp.toNatClampNeg) (by omega))
      · rw [if_neg hc, if_neg hc]
        exact b5 j hj
  obtain ⟨t, t1, t2⟩ := kk G p l e R s m args below meth cd _ _ cells slots ls n0 s0 g1 g2 (x_rr_up g3 hK hb (by simp) oq hcell) g4 g5 g6 g7 g8 (fun q hq => by
    rcases List.mem_append.mp hq with z | z
    · exact g9 q z
    · obtain ⟨y, -, hy⟩ := List.mem_map.mp z
      rw [← hy]
      show _ ≤ xr G b
      rw [xr_hi hK]
      omega) _ hheap X'
  exact ⟨t, step t t1, t2⟩
end CY
