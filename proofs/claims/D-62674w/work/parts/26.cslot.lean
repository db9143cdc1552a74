/-! slots, dicts and other cells over cH -/
theorem cX_ge {a : Nat} (h : cX a = false) : 256 ≤ a := by
  unfold cX at h
  rcases Nat.lt_or_ge a 256 with h1 | h1
  · exfalso
    have e1 : Nat.blt a 300 = true := by rw [Nat.blt_eq]; omega
    have e2 : Nat.beq a 266 = false := by
      rw [← Bool.not_eq_true, Nat.beq_eq]
      omega
    rw [e1, e2] at h
    cases h
  · exact h1
theorem cX_of {a : Nat} (h : 300 ≤ a) : cX a = false := by
  unfold cX
  have e1 : Nat.blt a 300 = false := by rw [← Bool.not_eq_true, Nat.blt_eq]; omega
  rw [e1, Bool.false_and]
theorem slv_iff {c : CT} {a : Nat} {v : SV} : slv c a = some v ↔ cX a = false ∧ a ≠ (cb c).1 ∧ cS c a = some v := by
  unfold slv
  by_cases h : cX a = false ∧ a ≠ (cb c).1
  · rw [if_pos h]
    exact ⟨fun e => ⟨h.1, h.2, e⟩, fun e => e.2.2⟩
  · rw [if_neg h]
    exact ⟨fun e => by (cases e), fun e => absurd ⟨e.1, e.2.1⟩ h⟩
theorem dcv_iff {c : CT} {a : Nat} {v : DV} : dcv c a = some v ↔ cX a = false ∧ a ≠ (cb c).1 ∧ cS c a = none ∧ cT c a = some v := by
  unfold dcv
  by_cases h : cX a = false ∧ a ≠ (cb c).1 ∧ cS c a = none
  · rw [if_pos h]
    exact ⟨fun e => ⟨h.1, h.2.1, h.2.2, e⟩, fun e => e.2.2.2⟩
  · rw [if_neg h]
    exact ⟨fun e => by (cases e), fun e => absurd ⟨e.1, e.2.1, e.2.2.1⟩ h⟩
theorem ov_iff {c : CT} {a : Nat} {v : xE} : ov c a = some v ↔ cX a = false ∧ a ≠ (cb c).1 ∧ cS c a = none ∧ cT c a = none ∧ cO c a = some v := by
  unfold ov
  by_cases h : cX a = false ∧ a ≠ (cb c).1 ∧ cS c a = none ∧ cT c a = none
  · rw [if_pos h]
    exact ⟨fun e => ⟨h.1, h.2.1, h.2.2.1, h.2.2.2, e⟩, fun e => e.2.2.2.2⟩
  · rw [if_neg h]
    exact ⟨fun e => by (cases e), fun e => absurd ⟨e.1, e.2.1, e.2.2.1, e.2.2.2.1⟩ h⟩
theorem slv_M {c : CT} {a : Nat} {v : SV} (h : slv c a = some v) : cM c a = some (.inl (2, slV v)) := by
  obtain ⟨h1, h2, h3⟩ := slv_iff.mp h
  unfold cM
  rw [if_neg (by rw [h1]; decide), if_neg h2, h3]
theorem dcv_M {c : CT} {a : Nat} {v : DV} (h : dcv c a = some v) : cM c a = some (.inl (4, dcV v)) := by
  obtain ⟨h1, h2, h3, h4⟩ := dcv_iff.mp h
  unfold cM
  rw [if_neg (by rw [h1]; decide), if_neg h2, h3]
  dsimp only
  rw [h4]
theorem ov_M {c : CT} {a : Nat} {v : xE} (h : ov c a = some v) : cM c a = some v := by
  obtain ⟨h1, h2, h3, h4, h5⟩ := ov_iff.mp h
  unfold cM
  rw [if_neg (by rw [h1]; decide), if_neg h2, h3]
  dsimp only
  rw [h4]
  dsimp only
  exact h5
theorem slv_a {sc : xSc} {c : CT} {a : Nat} {v : SV} (h : slv c a = some v) : xat sc (cH c) a = some (.inl (2, slV v)) := by
  rw [p_at (cX_ge (slv_iff.mp h).1)]
  exact slv_M h
theorem dcv_a {sc : xSc} {c : CT} {a : Nat} {v : DV} (h : dcv c a = some v) : xat sc (cH c) a = some (.inl (4, dcV v)) := by
  rw [p_at (cX_ge (dcv_iff.mp h).1)]
  exact dcv_M h
theorem ov_a {sc : xSc} {c : CT} {a : Nat} {v : xE} (h : ov c a = some v) : xat sc (cH c) a = some v := by
  rw [p_at (cX_ge (ov_iff.mp h).1)]
  exact ov_M h
theorem va_upup {α : Type} (f : Nat → α) (k : Nat) (x y : α) : va_up (va_up f k x) k y = va_up f k y := by
  funext j
  unfold va_up
  by_cases h : j = k
  · rw [if_pos h, if_pos h]
  · rw [if_neg h, if_neg h, if_neg h]
theorem tS_tS (a : Nat) (x y : Option SV) (c : CT) : tS a x (tS a y c) = tS a x c := by
  unfold tS
  dsimp only
  rw [va_upup]
theorem tI_tI (k : Nat) (x y : Int32) (c : CT) : tI k x (tI k y c) = tI k x c := by
  unfold tI
  dsimp only
  rw [va_upup]
theorem tR_tR (k : Nat) (x y : Nat → Option Nat) (c : CT) : tR k x (tR k y c) = tR k x c := by
  unfold tR
  dsimp only
  rw [va_upup]
theorem tS_up {c : CT} {a : Nat} {v w : SV} (h : slv c a = some v) : xup (cH c) a (.inl (2, slV w)) = cH (tS a (some w) c) := by
  obtain ⟨h1, h2, h3⟩ := slv_iff.mp h
  refine c_up ?_ (fun b hb => ?_) rfl rfl
  · unfold cM
    rw [if_neg (by rw [h1]; decide), cb_tS, if_neg h2, cS_tS, if_pos rfl]
  · unfold cM
    rw [cb_tS, cS_tS, if_neg hb]
    rfl
theorem slv_tS {c : CT} {a : Nat} {v w : SV} (h : slv c a = some v) : slv (tS a (some w) c) a = some w := by
  obtain ⟨h1, h2, h3⟩ := slv_iff.mp h
  exact slv_iff.mpr ⟨h1, h2, by rw [cS_tS, if_pos rfl]⟩
theorem slv_tS_ne {c : CT} {a b : Nat} {w : Option SV} (h : b ≠ a) : slv (tS a w c) b = slv c b := by
  unfold slv
  rw [cS_tS, if_neg h]
  rfl
theorem slv_tI (k : Nat) (x : Int32) (c : CT) (a : Nat) : slv (tI k x c) a = slv c a := rfl
theorem slv_tA (k : Nat) (x : Nat → Int32) (c : CT) (a : Nat) : slv (tA k x c) a = slv c a := rfl
theorem slv_tD (k : Nat) (x : Nat → UInt64) (c : CT) (a : Nat) : slv (tD k x c) a = slv c a := rfl
theorem slv_tR (k : Nat) (x : Nat → Option Nat) (c : CT) (a : Nat) : slv (tR k x c) a = slv c a := rfl
theorem slv_tl (x : Option Nat) (c : CT) (a : Nat) : slv (tl x c) a = slv c a := rfl
theorem slv_tg (x : UInt32) (c : CT) (a : Nat) : slv (tg x c) a = slv c a := rfl
theorem slv_tT (b : Nat) (x : Option DV) (c : CT) (a : Nat) : slv (tT b x c) a = slv c a := rfl
theorem slv_tO (b : Nat) (x : Option xE) (c : CT) (a : Nat) : slv (tO b x c) a = slv c a := rfl
theorem slv_tn (x : Nat) (c : CT) (a : Nat) : slv (tn x c) a = slv c a := rfl
theorem slv_tz (x : Nat) (c : CT) (a : Nat) : slv (tz x c) a = slv c a := rfl
section SLOT
variable {sc : xSc} {c : CT} {a : Nat} {v : SV}
theorem sg0 (h : slv c a = some v) : gR sc (cH c) 2 0 (some a) = some v.1 := p_gR (slv_a h) rfl
theorem sg1 (h : slv c a = some v) : gI sc (cH c) 2 1 (some a) = some v.2.1 := p_gI (slv_a h) rfl
theorem sg2 (h : slv c a = some v) : gI sc (cH c) 2 2 (some a) = some v.2.2.1 := p_gI (slv_a h) rfl
theorem sg3 (h : slv c a = some v) : gI sc (cH c) 2 3 (some a) = some v.2.2.2.1 := p_gI (slv_a h) rfl
theorem sg4 (h : slv c a = some v) : gI sc (cH c) 2 4 (some a) = some v.2.2.2.2.1 := p_gI (slv_a h) rfl
theorem sg5 (h : slv c a = some v) : gD sc (cH c) 2 5 (some a) = some v.2.2.2.2.2.1 := p_gD (slv_a h) rfl
theorem sg6 (h : slv c a = some v) : gR sc (cH c) 2 6 (some a) = some v.2.2.2.2.2.2.1 := p_gR (slv_a h) rfl
theorem sg7 (h : slv c a = some v) : gR sc (cH c) 2 7 (some a) = some v.2.2.2.2.2.2.2 := p_gR (slv_a h) rfl
theorem sgis (h : slv c a = some v) : xis sc (cH c) 2 (some a) = true := p_xis (slv_a h)
theorem sp (h : slv c a = some v) {k : Nat} {x : xV} {w : SV} (hw : (slV v).set k x = slV w) : pV (cH c) 2 k (some a) x = some (cH (tS a (some w) c)) := by
  rw [p_pV (cX_ge (slv_iff.mp h).1) (show (cH c).1 a = _ from slv_M h), hw, tS_up h]
theorem sp0 (h : slv c a = some v) (x : Option Nat) : pV (cH c) 2 0 (some a) (vR x) = some (cH (tS a (some (x, v.2)) c)) := sp h rfl
theorem sp1 (h : slv c a = some v) (x : Int32) : pV (cH c) 2 1 (some a) (vI x) = some (cH (tS a (some (v.1, x, v.2.2)) c)) := sp h rfl
theorem sp2 (h : slv c a = some v) (x : Int32) : pV (cH c) 2 2 (some a) (vI x) = some (cH (tS a (some (v.1, v.2.1, x, v.2.2.2)) c)) := sp h rfl
theorem sp3 (h : slv c a = some v) (x : Int32) : pV (cH c) 2 3 (some a) (vI x) = some (cH (tS a (some (v.1, v.2.1, v.2.2.1, x, v.2.2.2.2)) c)) := sp h rfl
theorem sp4 (h : slv c a = some v) (x : Int32) : pV (cH c) 2 4 (some a) (vI x) = some (cH (tS a (some (v.1, v.2.1, v.2.2.1, v.2.2.2.1, x, v.2.2.2.2.2)) c)) := sp h rfl
theorem sp5 (h : slv c a = some v) (x : UInt64) : pV (cH c) 2 5 (some a) (vD x) = some (cH (tS a (some (v.1, v.2.1, v.2.2.1, v.2.2.2.1, v.2.2.2.2.1, x, v.2.2.2.2.2.2)) c)) := sp h rfl
theorem sp6 (h : slv c a = some v) (x : Option Nat) : pV (cH c) 2 6 (some a) (vR x) = some (cH (tS a (some (v.1, v.2.1, v.2.2.1, v.2.2.2.1, v.2.2.2.2.1, v.2.2.2.2.2.1, x, v.2.2.2.2.2.2.2)) c)) := sp h rfl
theorem sp7 (h : slv c a = some v) (x : Option Nat) : pV (cH c) 2 7 (some a) (vR x) = some (cH (tS a (some (v.1, v.2.1, v.2.2.1, v.2.2.2.1, v.2.2.2.2.1, v.2.2.2.2.2.1, v.2.2.2.2.2.2.1, x)) c)) := sp h rfl
theorem e_set (h : slv c a = some v) (k : Option Nat) (n z l : Int32) (hl : xbo l = true) : f_Slot_set sc (cH c) (some a) k n z l = some (cH (tS a (some (k, l, n, z, v.2.2.2.2)) c)) := by
  unfold f_Slot_set
  rw [sp0 h]
  dsimp only [Option.bind_some]
  rw [sp2 (slv_tS h), tS_tS]
  dsimp only [Option.bind_some]
  rw [sp3 (slv_tS h), tS_tS]
  dsimp only [Option.bind_some]
  rw [if_pos hl, sp1 (slv_tS h), tS_tS]
  rfl
theorem e_real (h : slv c a = some v) (d : UInt64) : f_Slot_makeReal sc (cH c) (some a) d = some (cH (tS a (some (some 73, 0, 0, 0, v.2.2.2.2.1, d, v.2.2.2.2.2.2)) c)) := by
  unfold f_Slot_makeReal
  rw [if_pos (sgis h), e_set h _ _ _ _ rfl]
  dsimp only [Option.bind_some]
  rw [sp5 (slv_tS h), tS_tS]
  rfl
theorem e_named (h : slv c a = some v) (nm : Option Nat) (l : Int32) (hl : xbo l = true) : f_Slot_named sc (cH c) (some a) nm l = some (cH (tS a (some (some 75, l, 0, 0, v.2.2.2.2.1, v.2.2.2.2.2.1, nm, v.2.2.2.2.2.2.2)) c)) := by
  unfold f_Slot_named
  rw [if_pos (sgis h), e_set h _ _ _ _ hl]
  dsimp only [Option.bind_some]
  rw [sp6 (slv_tS h), tS_tS]
  rfl
/-- the value of a slot, under the stamp of another -/
def svc (t : Int32) (v : SV) : SV := (v.1, v.2.1, v.2.2.1, v.2.2.2.1, t, v.2.2.2.2.2)
theorem e_copy {b : Nat} {w : SV} (h : slv c a = some v) (hb : slv c b = some w) (hl : xbo w.2.1 = true) : f_Slot_copy sc (cH c) (some a) (some b) = some (cH (tS a (some (svc v.2.2.2.2.1 w)) c)) := by
  unfold f_Slot_copy
  rw [sg0 hb]
  dsimp only [Option.bind_some]
  rw [sg2 hb]
  dsimp only [Option.bind_some]
  rw [sg3 hb]
  dsimp only [Option.bind_some]
  rw [sg1 hb]
  dsimp only [Option.bind_some]
  rw [if_pos (sgis h), e_set h _ _ _ _ hl]
  dsimp only [Option.bind_some]
  by_cases e : b = a
  · subst e
    rw [h] at hb
    cases hb
    rw [sg5 (slv_tS h)]
    dsimp only [Option.bind_some]
    rw [sp5 (slv_tS h), tS_tS]
    dsimp only [Option.bind_some]
    rw [sg6 (slv_tS h)]
    dsimp only [Option.bind_some]
    rw [sp6 (slv_tS h), tS_tS]
    dsimp only [Option.bind_some]
    rw [sg7 (slv_tS h)]
    dsimp only [Option.bind_some]
    rw [sp7 (slv_tS h), tS_tS]
    rfl
  · have q : ∀ x, slv (tS a (some x) c) b = some w := fun x => by rw [slv_tS_ne e]; exact hb
    rw [sg5 (q _)]
    dsimp only [Option.bind_some]
    rw [sp5 (slv_tS h), tS_tS]
    dsimp only [Option.bind_some]
    rw [sg6 (q _)]
    dsimp only [Option.bind_some]
    rw [sp6 (slv_tS h), tS_tS]
    dsimp only [Option.bind_some]
    rw [sg7 (q _)]
    dsimp only [Option.bind_some]
    rw [sp7 (slv_tS h), tS_tS]
    rfl
theorem e_is (h : slv c a = some v) (j : Option Nat) (h1 : xcm v.1 = true) (h2 : xcm j = true) : f_Slot_is sc (cH c) (some a) j = some (if v.1 = j then 1 else 0) := by
  unfold f_Slot_is
  rw [sg0 h]
  dsimp only [Option.bind_some]
  rw [if_pos h1, if_pos h2]
  by_cases e : v.1 = j
  · rw [if_pos e, if_pos e]
    rfl
  · rw [if_neg e, if_neg e]
    rfl
theorem e_isProc (h : slv c a = some v) (h1 : xcm v.1 = true) : f_Slot_isProcedure sc (cH c) (some a) = some (if v.1 = some 77 ∧ v.2.1 ≠ 0 then 1 else 0) := by
  unfold f_Slot_isProcedure
  rw [sg0 h]
  dsimp only [Option.bind_some]
  rw [if_pos h1, if_pos (show xcm (some 77) = true from rfl)]
  by_cases e : v.1 = some 77
  · rw [if_pos e, sg1 h]
    dsimp only [Option.bind_some]
    by_cases e2 : v.2.1 = 0
    · rw [if_pos e2, if_neg (fun q => q.2 e2)]
      rfl
    · rw [if_neg e2, if_pos ⟨e, e2⟩]
      rfl
  · rw [if_neg e, if_neg (fun q => e q.1)]
    rfl
end SLOT
