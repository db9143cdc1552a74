/-! slots -/
theorem p_up_up (u : xH) (a : Nat) (e1 e2 : xE) : xup (xup u a e1) a e2 = xup u a e2 := by
  unfold xup
  refine congrArg (fun z => (z, u.2)) (funext fun b => ?_)
  unfold va_up
  by_cases h : b = a
  · rw [if_pos h, if_pos h]
  · rw [if_neg h, if_neg h]
    exact if_neg h
/-- the fields of a slot: kind, live, n, size, stamp, d, name, dict -/
def slF (k : Option Nat) (l n z t : Int32) (d : UInt64) (nm di : Option Nat) : List xV := [vR k, vI l, vI n, vI z, vI t, vD d, vR nm, vR di]
theorem s_set {sc : xSc} {u : xH} {a : Nat} {k0 k nm di : Option Nat} {l0 n0 z0 t l n z : Int32} {d : UInt64} (ha : 256 ≤ a) (h : u.1 a = some (.inl (2, slF k0 l0 n0 z0 t d nm di))) (hl : xbo l = true) : f_Slot_set sc u (some a) k n z l = some (xup u a (.inl (2, slF k l n z t d nm di))) := by
  unfold f_Slot_set
  rw [p_pV ha h]
  dsimp only [Option.bind_some]
  rw [p_pV ha (p_up_same _ _ _), p_up_up]
  dsimp only [Option.bind_some]
  rw [p_pV ha (p_up_same _ _ _), p_up_up]
  dsimp only [Option.bind_some]
  rw [if_pos hl, p_pV ha (p_up_same _ _ _), p_up_up]
  rfl
theorem s_is {sc : xSc} {u : xH} {a : Nat} {k j : Option Nat} {nm di : Option Nat} {l n z t : Int32} {d : UInt64} (ha : 256 ≤ a) (h : u.1 a = some (.inl (2, slF k l n z t d nm di))) (h1 : xcm k = true) (h2 : xcm j = true) : f_Slot_is sc u (some a) j = some (if k = j then 1 else 0) := by
  unfold f_Slot_is
  rw [p_gR (x := k) (by rw [p_at ha]; exact h) rfl]
  dsimp only [Option.bind_some]
  rw [if_pos h1, if_pos h2]
  by_cases c : k = j
  · rw [if_pos c, if_pos c]
    rfl
  · rw [if_neg c, if_neg c]
    rfl
theorem s_copy {sc : xSc} {u : xH} {a b : Nat} {k0 k nm0 nm di0 di : Option Nat} {l0 n0 z0 t0 l n z t : Int32} {d0 d : UInt64} (ha : 256 ≤ a) (hb : 256 ≤ b) (hab : b ≠ a) (h0 : u.1 a = some (.inl (2, slF k0 l0 n0 z0 t0 d0 nm0 di0))) (h : u.1 b = some (.inl (2, slF k l n z t d nm di))) (hl : xbo l = true) : f_Slot_copy sc u (some a) (some b) = some (xup u a (.inl (2, slF k l n z t0 d nm di))) := by
  have hB : xat sc u b = some (.inl (2, slF k l n z t d nm di)) := by rw [p_at hb]; exact h
  have hU : ∀ e, xat sc (xup u a e) b = some (.inl (2, slF k l n z t d nm di)) := fun e => by rw [p_at hb, p_up_ne hab]; exact h
  unfold f_Slot_copy
  rw [p_gR (x := k) hB rfl]
  dsimp only [Option.bind_some]
  rw [p_gI (x := n) hB rfl]
  dsimp only [Option.bind_some]
  rw [p_gI (x := z) hB rfl]
  dsimp only [Option.bind_some]
  rw [p_gI (x := l) hB rfl]
  dsimp only [Option.bind_some]
  rw [if_pos (p_xis (by rw [p_at ha]; exact h0)), s_set ha h0 hl]
  dsimp only [Option.bind_some]
  rw [p_gD (x := d) (hU _) rfl]
  dsimp only [Option.bind_some]
  rw [p_pV ha (p_up_same _ _ _), p_up_up]
  dsimp only [Option.bind_some]
  rw [p_gR (x := nm) (hU _) rfl]
  dsimp only [Option.bind_some]
  rw [p_pV ha (p_up_same _ _ _), p_up_up]
  dsimp only [Option.bind_some]
  rw [p_gR (x := di) (hU _) rfl]
  dsimp only [Option.bind_some]
  rw [p_pV ha (p_up_same _ _ _), p_up_up]
  rfl
