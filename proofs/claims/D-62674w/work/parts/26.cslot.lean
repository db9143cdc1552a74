/-! slots, dicts and other cells over y_cH -/
theorem y_cX_ge {a : Nat} (h : y_cX a = false) : 256 ≤ a := by
  unfold y_cX at h
  rcases Nat.lt_or_ge a 256 with h1 | h1
  · exfalso
    have e1 : Nat.blt a 300 = true := by rw [Nat.blt_eq]; omega
    have e2 : Nat.beq a 266 = false := by
      rw [← Bool.not_eq_true, Nat.beq_eq]
      omega
    rw [e1, e2] at h
    cases h
  · exact h1
theorem y_cX_of {a : Nat} (h : 300 ≤ a) : y_cX a = false := by
  unfold y_cX
  have e1 : Nat.blt a 300 = false := by rw [← Bool.not_eq_true, Nat.blt_eq]; omega
  rw [e1, Bool.false_and]
theorem y_slv_iff {c : y_CT} {a : Nat} {v : y_SV} : y_slv c a = some v ↔ y_cX a = false ∧ a ≠ (y_cb c).1 ∧ y_cS c a = some v := by
  unfold y_slv
  by_cases h : y_cX a = false ∧ a ≠ (y_cb c).1
  · rw [if_pos h]
    exact ⟨fun e => ⟨h.1, h.2, e⟩, fun e => e.2.2⟩
  · rw [if_neg h]
    exact ⟨fun e => by (cases e), fun e => absurd ⟨e.1, e.2.1⟩ h⟩
theorem y_dcv_iff {c : y_CT} {a : Nat} {v : y_DV} : y_dcv c a = some v ↔ y_cX a = false ∧ a ≠ (y_cb c).1 ∧ y_cS c a = none ∧ y_cT c a = some v := by
  unfold y_dcv
  by_cases h : y_cX a = false ∧ a ≠ (y_cb c).1 ∧ y_cS c a = none
  · rw [if_pos h]
    exact ⟨fun e => ⟨h.1, h.2.1, h.2.2, e⟩, fun e => e.2.2.2⟩
  · rw [if_neg h]
    exact ⟨fun e => by (cases e), fun e => absurd ⟨e.1, e.2.1, e.2.2.1⟩ h⟩
theorem y_ov_iff {c : y_CT} {a : Nat} {v : xE} : y_ov c a = some v ↔ y_cX a = false ∧ a ≠ (y_cb c).1 ∧ y_cS c a = none ∧ y_cT c a = none ∧ y_cO c a = some v := by
  unfold y_ov
  by_cases h : y_cX a = false ∧ a ≠ (y_cb c).1 ∧ y_cS c a = none ∧ y_cT c a = none
  · rw [if_pos h]
    exact ⟨fun e => ⟨h.1, h.2.1, h.2.2.1, h.2.2.2, e⟩, fun e => e.2.2.2.2⟩
  · rw [if_neg h]
    exact ⟨fun e => by (cases e), fun e => absurd ⟨e.1, e.2.1, e.2.2.1, e.2.2.2.1⟩ h⟩
theorem y_slv_M {c : y_CT} {a : Nat} {v : y_SV} (h : y_slv c a = some v) : y_cM c a = some (.inl (2, y_slV v)) := by
  obtain ⟨h1, h2, h3⟩ := y_slv_iff.mp h
  unfold y_cM
  rw [if_neg (by rw [h1]; decide), if_neg h2, h3]
theorem y_dcv_M {c : y_CT} {a : Nat} {v : y_DV} (h : y_dcv c a = some v) : y_cM c a = some (.inl (4, y_dcV v)) := by
  obtain ⟨h1, h2, h3, h4⟩ := y_dcv_iff.mp h
  unfold y_cM
  rw [if_neg (by rw [h1]; decide), if_neg h2, h3]
  dsimp only
  rw [h4]
theorem y_ov_M {c : y_CT} {a : Nat} {v : xE} (h : y_ov c a = some v) : y_cM c a = some v := by
  obtain ⟨h1, h2, h3, h4, h5⟩ := y_ov_iff.mp h
  unfold y_cM
  rw [if_neg (by rw [h1]; decide), if_neg h2, h3]
  dsimp only
  rw [h4]
  dsimp only
  exact h5
theorem y_slv_a {sc : xSc} {c : y_CT} {a : Nat} {v : y_SV} (h : y_slv c a = some v) : xat sc (y_cH c) a = some (.inl (2, y_slV v)) := by
  rw [p_at (y_cX_ge (y_slv_iff.mp h).1)]
  exact y_slv_M h
theorem y_dcv_a {sc : xSc} {c : y_CT} {a : Nat} {v : y_DV} (h : y_dcv c a = some v) : xat sc (y_cH c) a = some (.inl (4, y_dcV v)) := by
  rw [p_at (y_cX_ge (y_dcv_iff.mp h).1)]
  exact y_dcv_M h
theorem y_ov_a {sc : xSc} {c : y_CT} {a : Nat} {v : xE} (h : y_ov c a = some v) : xat sc (y_cH c) a = some v := by
  rw [p_at (y_cX_ge (y_ov_iff.mp h).1)]
  exact y_ov_M h
theorem y_va_upup {α : Type} (f : Nat → α) (k : Nat) (x y : α) : va_up (va_up f k x) k y = va_up f k y := by
  funext j
  unfold va_up
  by_cases h : j = k
  · rw [if_pos h, if_pos h]
  · rw [if_neg h, if_neg h, if_neg h]
theorem y_tS_tS (a : Nat) (x y : Option y_SV) (c : y_CT) : y_tS a x (y_tS a y c) = y_tS a x c := by
  unfold y_tS
  dsimp only
  rw [y_va_upup]
theorem y_tI_tI (k : Nat) (x y : Int32) (c : y_CT) : y_tI k x (y_tI k y c) = y_tI k x c := by
  unfold y_tI
  dsimp only
  rw [y_va_upup]
theorem y_tR_tR (k : Nat) (x y : Nat → Option Nat) (c : y_CT) : y_tR k x (y_tR k y c) = y_tR k x c := by
  unfold y_tR
  dsimp only
  rw [y_va_upup]
theorem y_tS_up {c : y_CT} {a : Nat} {v w : y_SV} (h : y_slv c a = some v) : xup (y_cH c) a (.inl (2, y_slV w)) = y_cH (y_tS a (some w) c) := by
  obtain ⟨h1, h2, h3⟩ := y_slv_iff.mp h
  refine y_c_up ?_ (fun b hb => ?_) rfl rfl
  · unfold y_cM
    rw [if_neg (by rw [h1]; decide), y_cb_tS, if_neg h2, y_cS_tS, if_pos rfl]
  · unfold y_cM
    rw [y_cb_tS, y_cS_tS, if_neg hb]
    rfl
theorem y_slv_tS {c : y_CT} {a : Nat} {v w : y_SV} (h : y_slv c a = some v) : y_slv (y_tS a (some w) c) a = some w := by
  obtain ⟨h1, h2, h3⟩ := y_slv_iff.mp h
  exact y_slv_iff.mpr ⟨h1, h2, by rw [y_cS_tS, if_pos rfl]⟩
theorem y_slv_tS_ne {c : y_CT} {a b : Nat} {w : Option y_SV} (h : b ≠ a) : y_slv (y_tS a w c) b = y_slv c b := by
  unfold y_slv
  rw [y_cS_tS, if_neg h]
  rfl
theorem y_slv_tI (k : Nat) (x : Int32) (c : y_CT) (a : Nat) : y_slv (y_tI k x c) a = y_slv c a := rfl
theorem y_slv_tA (k : Nat) (x : Nat → Int32) (c : y_CT) (a : Nat) : y_slv (y_tA k x c) a = y_slv c a := rfl
theorem y_slv_tD (k : Nat) (x : Nat → UInt64) (c : y_CT) (a : Nat) : y_slv (y_tD k x c) a = y_slv c a := rfl
theorem y_slv_tR (k : Nat) (x : Nat → Option Nat) (c : y_CT) (a : Nat) : y_slv (y_tR k x c) a = y_slv c a := rfl
theorem y_slv_tl (x : Option Nat) (c : y_CT) (a : Nat) : y_slv (y_tl x c) a = y_slv c a := rfl
theorem y_slv_tg (x : UInt32) (c : y_CT) (a : Nat) : y_slv (y_tg x c) a = y_slv c a := rfl
theorem y_slv_tT (b : Nat) (x : Option y_DV) (c : y_CT) (a : Nat) : y_slv (y_tT b x c) a = y_slv c a := rfl
theorem y_slv_tO (b : Nat) (x : Option xE) (c : y_CT) (a : Nat) : y_slv (y_tO b x c) a = y_slv c a := rfl
theorem y_slv_tn (x : Nat) (c : y_CT) (a : Nat) : y_slv (y_tn x c) a = y_slv c a := rfl
theorem y_slv_tz (x : Nat) (c : y_CT) (a : Nat) : y_slv (y_tz x c) a = y_slv c a := rfl
section SLOT
variable {sc : xSc} {c : y_CT} {a : Nat} {v : y_SV}
theorem y_sg0 (h : y_slv c a = some v) : gR sc (y_cH c) 2 0 (some a) = some v.1 := p_gR (y_slv_a h) rfl
theorem y_sg1 (h : y_slv c a = some v) : gI sc (y_cH c) 2 1 (some a) = some v.2.1 := p_gI (y_slv_a h) rfl
theorem y_sg2 (h : y_slv c a = some v) : gI sc (y_cH c) 2 2 (some a) = some v.2.2.1 := p_gI (y_slv_a h) rfl
theorem y_sg3 (h : y_slv c a = some v) : gI sc (y_cH c) 2 3 (some a) = some v.2.2.2.1 := p_gI (y_slv_a h) rfl
theorem y_sg4 (h : y_slv c a = some v) : gI sc (y_cH c) 2 4 (some a) = some v.2.2.2.2.1 := p_gI (y_slv_a h) rfl
theorem y_sg5 (h : y_slv c a = some v) : gD sc (y_cH c) 2 5 (some a) = some v.2.2.2.2.2.1 := p_gD (y_slv_a h) rfl
theorem y_sg6 (h : y_slv c a = some v) : gR sc (y_cH c) 2 6 (some a) = some v.2.2.2.2.2.2.1 := p_gR (y_slv_a h) rfl
theorem y_sg7 (h : y_slv c a = some v) : gR sc (y_cH c) 2 7 (some a) = some v.2.2.2.2.2.2.2 := p_gR (y_slv_a h) rfl
theorem y_sgis (h : y_slv c a = some v) : xis sc (y_cH c) 2 (some a) = true := p_xis (y_slv_a h)
theorem y_sp (h : y_slv c a = some v) {k : Nat} {x : xV} {w : y_SV} (hw : (y_slV v).set k x = y_slV w) : pV (y_cH c) 2 k (some a) x = some (y_cH (y_tS a (some w) c)) := by
  rw [p_pV (y_cX_ge (y_slv_iff.mp h).1) (show (y_cH c).1 a = _ from y_slv_M h), hw, y_tS_up h]
theorem y_sp0 (h : y_slv c a = some v) (x : Option Nat) : pV (y_cH c) 2 0 (some a) (vR x) = some (y_cH (y_tS a (some (x, v.2)) c)) := y_sp h rfl
theorem y_sp1 (h : y_slv c a = some v) (x : Int32) : pV (y_cH c) 2 1 (some a) (vI x) = some (y_cH (y_tS a (some (v.1, x, v.2.2)) c)) := y_sp h rfl
theorem y_sp2 (h : y_slv c a = some v) (x : Int32) : pV (y_cH c) 2 2 (some a) (vI x) = some (y_cH (y_tS a (some (v.1, v.2.1, x, v.2.2.2)) c)) := y_sp h rfl
theorem y_sp3 (h : y_slv c a = some v) (x : Int32) : pV (y_cH c) 2 3 (some a) (vI x) = some (y_cH (y_tS a (some (v.1, v.2.1, v.2.2.1, x, v.2.2.2.2)) c)) := y_sp h rfl
theorem y_sp4 (h : y_slv c a = some v) (x : Int32) : pV (y_cH c) 2 4 (some a) (vI x) = some (y_cH (y_tS a (some (v.1, v.2.1, v.2.2.1, v.2.2.2.1, x, v.2.2.2.2.2)) c)) := y_sp h rfl
theorem y_sp5 (h : y_slv c a = some v) (x : UInt64) : pV (y_cH c) 2 5 (some a) (vD x) = some (y_cH (y_tS a (some (v.1, v.2.1, v.2.2.1, v.2.2.2.1, v.2.2.2.2.1, x, v.2.2.2.2.2.2)) c)) := y_sp h rfl
theorem y_sp6 (h : y_slv c a = some v) (x : Option Nat) : pV (y_cH c) 2 6 (some a) (vR x) = some (y_cH (y_tS a (some (v.1, v.2.1, v.2.2.1, v.2.2.2.1, v.2.2.2.2.1, v.2.2.2.2.2.1, x, v.2.2.2.2.2.2.2)) c)) := y_sp h rfl
theorem y_sp7 (h : y_slv c a = some v) (x : Option Nat) : pV (y_cH c) 2 7 (some a) (vR x) = some (y_cH (y_tS a (some (v.1, v.2.1, v.2.2.1, v.2.2.2.1, v.2.2.2.2.1, v.2.2.2.2.2.1, v.2.2.2.2.2.2.1, x)) c)) := y_sp h rfl
theorem y_e_set (h : y_slv c a = some v) (k : Option Nat) (n z l : Int32) (hl : xbo l = true) : f_Slot_set sc (y_cH c) (some a) k n z l = some (y_cH (y_tS a (some (k, l, n, z, v.2.2.2.2)) c)) := by
  unfold f_Slot_set
  rw [y_sp0 h]
  dsimp only [Option.bind_some]
  rw [y_sp2 (y_slv_tS h), y_tS_tS]
  dsimp only [Option.bind_some]
  rw [y_sp3 (y_slv_tS h), y_tS_tS]
  dsimp only [Option.bind_some]
  rw [if_pos hl, y_sp1 (y_slv_tS h), y_tS_tS]
  rfl
theorem y_e_real (h : y_slv c a = some v) (d : UInt64) : f_Slot_makeReal sc (y_cH c) (some a) d = some (y_cH (y_tS a (some (some 73, 0, 0, 0, v.2.2.2.2.1, d, v.2.2.2.2.2.2)) c)) := by
  unfold f_Slot_makeReal
  rw [if_pos (y_sgis h), y_e_set h _ _ _ _ rfl]
  dsimp only [Option.bind_some]
  rw [y_sp5 (y_slv_tS h), y_tS_tS]
  rfl
theorem y_e_named (h : y_slv c a = some v) (nm : Option Nat) (l : Int32) (hl : xbo l = true) : f_Slot_named sc (y_cH c) (some a) nm l = some (y_cH (y_tS a (some (some 75, l, 0, 0, v.2.2.2.2.1, v.2.2.2.2.2.1, nm, v.2.2.2.2.2.2.2)) c)) := by
  unfold f_Slot_named
  rw [if_pos (y_sgis h), y_e_set h _ _ _ _ hl]
  dsimp only [Option.bind_some]
  rw [y_sp6 (y_slv_tS h), y_tS_tS]
  rfl
/-- the value of a slot, under the stamp of another -/
def y_svc (t : Int32) (v : y_SV) : y_SV := (v.1, v.2.1, v.2.2.1, v.2.2.2.1, t, v.2.2.2.2.2)
theorem y_e_copy {b : Nat} {w : y_SV} (h : y_slv c a = some v) (hb : y_slv c b = some w) (hl : xbo w.2.1 = true) : f_Slot_copy sc (y_cH c) (some a) (some b) = some (y_cH (y_tS a (some (y_svc v.2.2.2.2.1 w)) c)) := by
  unfold f_Slot_copy
  rw [y_sg0 hb]
  dsimp only [Option.bind_some]
  rw [y_sg2 hb]
  dsimp only [Option.bind_some]
  rw [y_sg3 hb]
  dsimp only [Option.bind_some]
  rw [y_sg1 hb]
  dsimp only [Option.bind_some]
  rw [if_pos (y_sgis h), y_e_set h _ _ _ _ hl]
  dsimp only [Option.bind_some]
  by_cases e : b = a
  · subst e
    rw [h] at hb
    cases hb
    rw [y_sg5 (y_slv_tS h)]
    dsimp only [Option.bind_some]
    rw [y_sp5 (y_slv_tS h), y_tS_tS]
    dsimp only [Option.bind_some]
    rw [y_sg6 (y_slv_tS h)]
    dsimp only [Option.bind_some]
    rw [y_sp6 (y_slv_tS h), y_tS_tS]
    dsimp only [Option.bind_some]
    rw [y_sg7 (y_slv_tS h)]
    dsimp only [Option.bind_some]
    rw [y_sp7 (y_slv_tS h), y_tS_tS]
    rfl
  · have q : ∀ x, y_slv (y_tS a (some x) c) b = some w := fun x => by rw [y_slv_tS_ne e]; exact hb
    rw [y_sg5 (q _)]
    dsimp only [Option.bind_some]
    rw [y_sp5 (y_slv_tS h), y_tS_tS]
    dsimp only [Option.bind_some]
    rw [y_sg6 (q _)]
    dsimp only [Option.bind_some]
    rw [y_sp6 (y_slv_tS h), y_tS_tS]
    dsimp only [Option.bind_some]
    rw [y_sg7 (q _)]
    dsimp only [Option.bind_some]
    rw [y_sp7 (y_slv_tS h), y_tS_tS]
    rfl
theorem y_e_is (h : y_slv c a = some v) (j : Option Nat) (h1 : xcm v.1 = true) (h2 : xcm j = true) : f_Slot_is sc (y_cH c) (some a) j = some (if v.1 = j then 1 else 0) := by
  unfold f_Slot_is
  rw [y_sg0 h]
  dsimp only [Option.bind_some]
  rw [if_pos h1, if_pos h2]
  by_cases e : v.1 = j
  · rw [if_pos e, if_pos e]
    rfl
  · rw [if_neg e, if_neg e]
    rfl
theorem y_e_isProc (h : y_slv c a = some v) (h1 : xcm v.1 = true) : f_Slot_isProcedure sc (y_cH c) (some a) = some (if v.1 = some 77 ∧ v.2.1 ≠ 0 then 1 else 0) := by
  unfold f_Slot_isProcedure
  rw [y_sg0 h]
  dsimp only [Option.bind_some]
  rw [if_pos h1, if_pos (show xcm (some 77) = true from rfl)]
  by_cases e : v.1 = some 77
  · rw [if_pos e, y_sg1 h]
    dsimp only [Option.bind_some]
    by_cases e2 : v.2.1 = 0
    · rw [if_pos e2, if_neg (fun q => q.2 e2)]
      rfl
    · rw [if_neg e2, if_pos ⟨e, e2⟩]
      rfl
  · rw [if_neg e, if_neg (fun q => e q.1)]
    rfl
end SLOT
