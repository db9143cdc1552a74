/-! slots, dicts and other cells over yy_cH -/
theorem yy_cX_ge {a : Nat} (h : yy_cX a = false) : 256 ≤ a := by
  unfold yy_cX at h
  rcases Nat.lt_or_ge a 256 with h1 | h1
  · exfalso
    have e1 : Nat.blt a 300 = true := by rw [Nat.blt_eq]; omega
    have e2 : Nat.beq a 266 = false := by
      rw [← Bool.not_eq_true, Nat.beq_eq]
      omega
    rw [e1, e2] at h
    cases h
  · exact h1
theorem yy_cX_of {a : Nat} (h : 300 ≤ a) : yy_cX a = false := by
  unfold yy_cX
  have e1 : Nat.blt a 300 = false := by rw [← Bool.not_eq_true, Nat.blt_eq]; omega
  rw [e1, Bool.false_and]
theorem yy_slv_iff {c : yy_CT} {a : Nat} {v : yy_SV} : yy_slv c a = some v ↔ yy_cX a = false ∧ a ≠ (yy_cb c).1 ∧ yy_cS c a = some v := by
  unfold yy_slv
  by_cases h : yy_cX a = false ∧ a ≠ (yy_cb c).1
  · rw [if_pos h]
    exact ⟨fun e => ⟨h.1, h.2, e⟩, fun e => e.2.2⟩
  · rw [if_neg h]
    exact ⟨fun e => by (cases e), fun e => absurd ⟨e.1, e.2.1⟩ h⟩
theorem yy_dcv_iff {c : yy_CT} {a : Nat} {v : yy_DV} : yy_dcv c a = some v ↔ yy_cX a = false ∧ a ≠ (yy_cb c).1 ∧ yy_cS c a = none ∧ yy_cT c a = some v := by
  unfold yy_dcv
  by_cases h : yy_cX a = false ∧ a ≠ (yy_cb c).1 ∧ yy_cS c a = none
  · rw [if_pos h]
    exact ⟨fun e => ⟨h.1, h.2.1, h.2.2, e⟩, fun e => e.2.2.2⟩
  · rw [if_neg h]
    exact ⟨fun e => by (cases e), fun e => absurd ⟨e.1, e.2.1, e.2.2.1⟩ h⟩
theorem yy_ov_iff {c : yy_CT} {a : Nat} {v : xE} : yy_ov c a = some v ↔ yy_cX a = false ∧ a ≠ (yy_cb c).1 ∧ yy_cS c a = none ∧ yy_cT c a = none ∧ yy_cO c a = some v := by
  unfold yy_ov
  by_cases h : yy_cX a = false ∧ a ≠ (yy_cb c).1 ∧ yy_cS c a = none ∧ yy_cT c a = none
  · rw [if_pos h]
    exact ⟨fun e => ⟨h.1, h.2.1, h.2.2.1, h.2.2.2, e⟩, fun e => e.2.2.2.2⟩
  · rw [if_neg h]
    exact ⟨fun e => by (cases e), fun e => absurd ⟨e.1, e.2.1, e.2.2.1, e.2.2.2.1⟩ h⟩
theorem yy_slv_M {c : yy_CT} {a : Nat} {v : yy_SV} (h : yy_slv c a = some v) : yy_cM c a = some (.inl (2, yy_slV v)) := by
  obtain ⟨h1, h2, h3⟩ := yy_slv_iff.mp h
  unfold yy_cM
  rw [if_neg (by rw [h1]; decide), if_neg h2, h3]
theorem yy_dcv_M {c : yy_CT} {a : Nat} {v : yy_DV} (h : yy_dcv c a = some v) : yy_cM c a = some (.inl (4, yy_dcV v)) := by
  obtain ⟨h1, h2, h3, h4⟩ := yy_dcv_iff.mp h
  unfold yy_cM
  rw [if_neg (by rw [h1]; decide), if_neg h2, h3]
  dsimp only
  rw [h4]
theorem yy_ov_M {c : yy_CT} {a : Nat} {v : xE} (h : yy_ov c a = some v) : yy_cM c a = some v := by
  obtain ⟨h1, h2, h3, h4, h5⟩ := yy_ov_iff.mp h
  unfold yy_cM
  rw [if_neg (by rw [h1]; decide), if_neg h2, h3]
  dsimp only
  rw [h4]
  dsimp only
  exact h5
theorem yy_slv_a {sc : xSc} {c : yy_CT} {a : Nat} {v : yy_SV} (h : yy_slv c a = some v) : xat sc (yy_cH c) a = some (.inl (2, yy_slV v)) := by
  rw [p_at (yy_cX_ge (yy_slv_iff.mp h).1)]
  exact yy_slv_M h
theorem yy_dcv_a {sc : xSc} {c : yy_CT} {a : Nat} {v : yy_DV} (h : yy_dcv c a = some v) : xat sc (yy_cH c) a = some (.inl (4, yy_dcV v)) := by
  rw [p_at (yy_cX_ge (yy_dcv_iff.mp h).1)]
  exact yy_dcv_M h
theorem yy_ov_a {sc : xSc} {c : yy_CT} {a : Nat} {v : xE} (h : yy_ov c a = some v) : xat sc (yy_cH c) a = some v := by
  rw [p_at (yy_cX_ge (yy_ov_iff.mp h).1)]
  exact yy_ov_M h
theorem yy_va_upup {α : Type} (f : Nat → α) (k : Nat) (x y : α) : va_up (va_up f k x) k y = va_up f k y := by
  funext j
  unfold va_up
  by_cases h : j = k
  · rw [if_pos h, if_pos h]
  · rw [if_neg h, if_neg h, if_neg h]
theorem yy_tS_tS (a : Nat) (x y : Option yy_SV) (c : yy_CT) : yy_tS a x (yy_tS a y c) = yy_tS a x c := by
  unfold yy_tS
  dsimp only
  rw [yy_va_upup]
theorem yy_tI_tI (k : Nat) (x y : Int32) (c : yy_CT) : yy_tI k x (yy_tI k y c) = yy_tI k x c := by
  unfold yy_tI
  dsimp only
  rw [yy_va_upup]
theorem yy_tR_tR (k : Nat) (x y : Nat → Option Nat) (c : yy_CT) : yy_tR k x (yy_tR k y c) = yy_tR k x c := by
  unfold yy_tR
  dsimp only
  rw [yy_va_upup]
theorem yy_tS_up {c : yy_CT} {a : Nat} {v w : yy_SV} (h : yy_slv c a = some v) : xup (yy_cH c) a (.inl (2, yy_slV w)) = yy_cH (yy_tS a (some w) c) := by
  obtain ⟨h1, h2, h3⟩ := yy_slv_iff.mp h
  refine yy_c_up ?_ (fun b hb => ?_) rfl rfl
  · unfold yy_cM
    rw [if_neg (by rw [h1]; decide), yy_cb_tS, if_neg h2, yy_cS_tS, if_pos rfl]
  · unfold yy_cM
    rw [yy_cb_tS, yy_cS_tS, if_neg hb]
    rfl
theorem yy_slv_tS {c : yy_CT} {a : Nat} {v w : yy_SV} (h : yy_slv c a = some v) : yy_slv (yy_tS a (some w) c) a = some w := by
  obtain ⟨h1, h2, h3⟩ := yy_slv_iff.mp h
  exact yy_slv_iff.mpr ⟨h1, h2, by rw [yy_cS_tS, if_pos rfl]⟩
theorem yy_slv_tS_ne {c : yy_CT} {a b : Nat} {w : Option yy_SV} (h : b ≠ a) : yy_slv (yy_tS a w c) b = yy_slv c b := by
  unfold yy_slv
  rw [yy_cS_tS, if_neg h]
  rfl
theorem yy_slv_tI (k : Nat) (x : Int32) (c : yy_CT) (a : Nat) : yy_slv (yy_tI k x c) a = yy_slv c a := rfl
theorem yy_slv_tA (k : Nat) (x : Nat → Int32) (c : yy_CT) (a : Nat) : yy_slv (yy_tA k x c) a = yy_slv c a := rfl
theorem yy_slv_tD (k : Nat) (x : Nat → UInt64) (c : yy_CT) (a : Nat) : yy_slv (yy_tD k x c) a = yy_slv c a := rfl
theorem yy_slv_tR (k : Nat) (x : Nat → Option Nat) (c : yy_CT) (a : Nat) : yy_slv (yy_tR k x c) a = yy_slv c a := rfl
theorem yy_slv_tl (x : Option Nat) (c : yy_CT) (a : Nat) : yy_slv (yy_tl x c) a = yy_slv c a := rfl
theorem yy_slv_tg (x : UInt32) (c : yy_CT) (a : Nat) : yy_slv (yy_tg x c) a = yy_slv c a := rfl
theorem yy_slv_tT (b : Nat) (x : Option yy_DV) (c : yy_CT) (a : Nat) : yy_slv (yy_tT b x c) a = yy_slv c a := rfl
theorem yy_slv_tO (b : Nat) (x : Option xE) (c : yy_CT) (a : Nat) : yy_slv (yy_tO b x c) a = yy_slv c a := rfl
theorem yy_slv_tn (x : Nat) (c : yy_CT) (a : Nat) : yy_slv (yy_tn x c) a = yy_slv c a := rfl
theorem yy_slv_tz (x : Nat) (c : yy_CT) (a : Nat) : yy_slv (yy_tz x c) a = yy_slv c a := rfl
section SLOT
variable {sc : xSc} {c : yy_CT} {a : Nat} {v : yy_SV}
theorem yy_sg0 (h : yy_slv c a = some v) : gR sc (yy_cH c) 2 0 (some a) = some v.1 := p_gR (yy_slv_a h) rfl
theorem yy_sg1 (h : yy_slv c a = some v) : gI sc (yy_cH c) 2 1 (some a) = some v.2.1 := p_gI (yy_slv_a h) rfl
theorem yy_sg2 (h : yy_slv c a = some v) : gI sc (yy_cH c) 2 2 (some a) = some v.2.2.1 := p_gI (yy_slv_a h) rfl
theorem yy_sg3 (h : yy_slv c a = some v) : gI sc (yy_cH c) 2 3 (some a) = some v.2.2.2.1 := p_gI (yy_slv_a h) rfl
theorem yy_sg4 (h : yy_slv c a = some v) : gI sc (yy_cH c) 2 4 (some a) = some v.2.2.2.2.1 := p_gI (yy_slv_a h) rfl
theorem yy_sg5 (h : yy_slv c a = some v) : gD sc (yy_cH c) 2 5 (some a) = some v.2.2.2.2.2.1 := p_gD (yy_slv_a h) rfl
theorem yy_sg6 (h : yy_slv c a = some v) : gR sc (yy_cH c) 2 6 (some a) = some v.2.2.2.2.2.2.1 := p_gR (yy_slv_a h) rfl
theorem yy_sg7 (h : yy_slv c a = some v) : gR sc (yy_cH c) 2 7 (some a) = some v.2.2.2.2.2.2.2 := p_gR (yy_slv_a h) rfl
theorem yy_sgis (h : yy_slv c a = some v) : xis sc (yy_cH c) 2 (some a) = true := p_xis (yy_slv_a h)
theorem yy_sp (h : yy_slv c a = some v) {k : Nat} {x : xV} {w : yy_SV} (hw : (yy_slV v).set k x = yy_slV w) : pV (yy_cH c) 2 k (some a) x = some (yy_cH (yy_tS a (some w) c)) := by
  rw [p_pV (yy_cX_ge (yy_slv_iff.mp h).1) (show (yy_cH c).1 a = _ from yy_slv_M h), hw, yy_tS_up h]
theorem yy_sp0 (h : yy_slv c a = some v) (x : Option Nat) : pV (yy_cH c) 2 0 (some a) (vR x) = some (yy_cH (yy_tS a (some (x, v.2)) c)) := yy_sp h rfl
theorem yy_sp1 (h : yy_slv c a = some v) (x : Int32) : pV (yy_cH c) 2 1 (some a) (vI x) = some (yy_cH (yy_tS a (some (v.1, x, v.2.2)) c)) := yy_sp h rfl
theorem yy_sp2 (h : yy_slv c a = some v) (x : Int32) : pV (yy_cH c) 2 2 (some a) (vI x) = some (yy_cH (yy_tS a (some (v.1, v.2.1, x, v.2.2.2)) c)) := yy_sp h rfl
theorem yy_sp3 (h : yy_slv c a = some v) (x : Int32) : pV (yy_cH c) 2 3 (some a) (vI x) = some (yy_cH (yy_tS a (some (v.1, v.2.1, v.2.2.1, x, v.2.2.2.2)) c)) := yy_sp h rfl
theorem yy_sp4 (h : yy_slv c a = some v) (x : Int32) : pV (yy_cH c) 2 4 (some a) (vI x) = some (yy_cH (yy_tS a (some (v.1, v.2.1, v.2.2.1, v.2.2.2.1, x, v.2.2.2.2.2)) c)) := yy_sp h rfl
theorem yy_sp5 (h : yy_slv c a = some v) (x : UInt64) : pV (yy_cH c) 2 5 (some a) (vD x) = some (yy_cH (yy_tS a (some (v.1, v.2.1, v.2.2.1, v.2.2.2.1, v.2.2.2.2.1, x, v.2.2.2.2.2.2)) c)) := yy_sp h rfl
theorem yy_sp6 (h : yy_slv c a = some v) (x : Option Nat) : pV (yy_cH c) 2 6 (some a) (vR x) = some (yy_cH (yy_tS a (some (v.1, v.2.1, v.2.2.1, v.2.2.2.1, v.2.2.2.2.1, v.2.2.2.2.2.1, x, v.2.2.2.2.2.2.2)) c)) := yy_sp h rfl
theorem yy_sp7 (h : yy_slv c a = some v) (x : Option Nat) : pV (yy_cH c) 2 7 (some a) (vR x) = some (yy_cH (yy_tS a (some (v.1, v.2.1, v.2.2.1, v.2.2.2.1, v.2.2.2.2.1, v.2.2.2.2.2.1, v.2.2.2.2.2.2.1, x)) c)) := yy_sp h rfl
theorem yy_e_set (h : yy_slv c a = some v) (k : Option Nat) (n z l : Int32) (hl : xbo l = true) : f_Slot_set sc (yy_cH c) (some a) k n z l = some (yy_cH (yy_tS a (some (k, l, n, z, v.2.2.2.2)) c)) := by
  unfold f_Slot_set
  rw [yy_sp0 h]
  dsimp only [Option.bind_some]
  rw [yy_sp2 (yy_slv_tS h), yy_tS_tS]
  dsimp only [Option.bind_some]
  rw [yy_sp3 (yy_slv_tS h), yy_tS_tS]
  dsimp only [Option.bind_some]
  rw [if_pos hl, yy_sp1 (yy_slv_tS h), yy_tS_tS]
  rfl
theorem yy_e_real (h : yy_slv c a = some v) (d : UInt64) : f_Slot_makeReal sc (yy_cH c) (some a) d = some (yy_cH (yy_tS a (some (some 73, 0, 0, 0, v.2.2.2.2.1, d, v.2.2.2.2.2.2)) c)) := by
  unfold f_Slot_makeReal
  rw [if_pos (yy_sgis h), yy_e_set h _ _ _ _ rfl]
  dsimp only [Option.bind_some]
  rw [yy_sp5 (yy_slv_tS h), yy_tS_tS]
  rfl
theorem yy_e_named (h : yy_slv c a = some v) (nm : Option Nat) (l : Int32) (hl : xbo l = true) : f_Slot_named sc (yy_cH c) (some a) nm l = some (yy_cH (yy_tS a (some (some 75, l, 0, 0, v.2.2.2.2.1, v.2.2.2.2.2.1, nm, v.2.2.2.2.2.2.2)) c)) := by
  unfold f_Slot_named
  rw [if_pos (yy_sgis h), yy_e_set h _ _ _ _ hl]
  dsimp only [Option.bind_some]
  rw [yy_sp6 (yy_slv_tS h), yy_tS_tS]
  rfl
/-- the value of a slot, under the stamp of another -/
def yy_svc (t : Int32) (v : yy_SV) : yy_SV := (v.1, v.2.1, v.2.2.1, v.2.2.2.1, t, v.2.2.2.2.2)
theorem yy_e_copy {b : Nat} {w : yy_SV} (h : yy_slv c a = some v) (hb : yy_slv c b = some w) (hl : xbo w.2.1 = true) : f_Slot_copy sc (yy_cH c) (some a) (some b) = some (yy_cH (yy_tS a (some (yy_svc v.2.2.2.2.1 w)) c)) := by
  unfold f_Slot_copy
  rw [yy_sg0 hb]
  dsimp only [Option.bind_some]
  rw [yy_sg2 hb]
  dsimp only [Option.bind_some]
  rw [yy_sg3 hb]
  dsimp only [Option.bind_some]
  rw [yy_sg1 hb]
  dsimp only [Option.bind_some]
  rw [if_pos (yy_sgis h), yy_e_set h _ _ _ _ hl]
  dsimp only [Option.bind_some]
  by_cases e : b = a
  · subst e
    rw [h] at hb
    cases hb
    rw [yy_sg5 (yy_slv_tS h)]
    dsimp only [Option.bind_some]
    rw [yy_sp5 (yy_slv_tS h), yy_tS_tS]
    dsimp only [Option.bind_some]
    rw [yy_sg6 (yy_slv_tS h)]
    dsimp only [Option.bind_some]
    rw [yy_sp6 (yy_slv_tS h), yy_tS_tS]
    dsimp only [Option.bind_some]
    rw [yy_sg7 (yy_slv_tS h)]
    dsimp only [Option.bind_some]
    rw [yy_sp7 (yy_slv_tS h), yy_tS_tS]
    rfl
  · have q : ∀ x, yy_slv (yy_tS a (some x) c) b = some w := fun x => by rw [yy_slv_tS_ne e]; exact hb
    rw [yy_sg5 (q _)]
    dsimp only [Option.bind_some]
    rw [yy_sp5 (yy_slv_tS h), yy_tS_tS]
    dsimp only [Option.bind_some]
    rw [yy_sg6 (q _)]
    dsimp only [Option.bind_some]
    rw [yy_sp6 (yy_slv_tS h), yy_tS_tS]
    dsimp only [Option.bind_some]
    rw [yy_sg7 (q _)]
    dsimp only [Option.bind_some]
    rw [yy_sp7 (yy_slv_tS h), yy_tS_tS]
    rfl
theorem yy_e_is (h : yy_slv c a = some v) (j : Option Nat) (h1 : xcm v.1 = true) (h2 : xcm j = true) : f_Slot_is sc (yy_cH c) (some a) j = some (if v.1 = j then 1 else 0) := by
  unfold f_Slot_is
  rw [yy_sg0 h]
  dsimp only [Option.bind_some]
  rw [if_pos h1, if_pos h2]
  by_cases e : v.1 = j
  · rw [if_pos e, if_pos e]
    rfl
  · rw [if_neg e, if_neg e]
    rfl
theorem yy_e_isProc (h : yy_slv c a = some v) (h1 : xcm v.1 = true) : f_Slot_isProcedure sc (yy_cH c) (some a) = some (if v.1 = some 77 ∧ v.2.1 ≠ 0 then 1 else 0) := by
  unfold f_Slot_isProcedure
  rw [yy_sg0 h]
  dsimp only [Option.bind_some]
  rw [if_pos h1, if_pos (show xcm (some 77) = true from rfl)]
  by_cases e : v.1 = some 77
  · rw [if_pos e, yy_sg1 h]
    dsimp only [Option.bind_some]
    by_cases e2 : v.2.1 = 0
    · rw [if_pos e2, if_neg (fun q => q.2 e2)]
      rfl
    · rw [if_neg e2, if_pos ⟨e, e2⟩]
      rfl
  · rw [if_neg e, if_neg (fun q => e q.1)]
    rfl
end SLOT
