/-! branches of the switches -/
theorem yy_Cp_0 (sc : xSc) (c : yy_CT) (gg a3 a4 : Option Nat) (d : Int32) : f_Stacks_perform sc (yy_cH c) gg (some 256) (some 0) a3 a4 d = (gI sc (yy_cH c) 0 9 (some 256)).bind fun v5 => (pV (yy_cH c) 0 9 (some 256) (vI (v5 - (1 : Int32)))).bind fun u7 => f_Stacks_perform_b240 sc u7 := by
  unfold f_Stacks_perform
  rw [if_pos (show xis sc (yy_cH c) 19 (some 0) = true from rfl), show f_Enum_ordinal19 sc (yy_cH c) (some 0) = some 0 from rfl, Option.bind_some, if_pos rfl]
theorem yy_Cp_1 (sc : xSc) (c : yy_CT) (gg a3 a4 : Option Nat) (d : Int32) : f_Stacks_perform sc (yy_cH c) gg (some 256) (some 1) a3 a4 d = (gI sc (yy_cH c) 0 9 (some 256)).bind fun v10 => (gI sc (yy_cH c) 0 9 (some 256)).bind fun v12 => (if xis sc (yy_cH c) 0 (some 256) = true then (f_P_swap sc (yy_cH c) (some 256) (v10 - (2 : Int32)) (v12 - (1 : Int32))).bind fun u15 => f_Stacks_perform_b240 sc u15 else none) := by
  unfold f_Stacks_perform
  rw [if_pos (show xis sc (yy_cH c) 19 (some 1) = true from rfl), show f_Enum_ordinal19 sc (yy_cH c) (some 1) = some 1 from rfl, Option.bind_some, if_neg (by decide), if_pos rfl]
theorem yy_Cp_2 (sc : xSc) (c : yy_CT) (gg a3 a4 : Option Nat) (d : Int32) : f_Stacks_perform sc (yy_cH c) gg (some 256) (some 2) a3 a4 d = (if xis sc (yy_cH c) 0 (some 256) = true then tB (f_P_push sc (yy_cH c) (some 256) a3) (fun v20 u19 => f_Stacks_perform_b240 sc u19) (fun a22 u23 => some (.inr a22, u23)) else none) := by
  unfold f_Stacks_perform
  rw [if_pos (show xis sc (yy_cH c) 19 (some 2) = true from rfl), show f_Enum_ordinal19 sc (yy_cH c) (some 2) = some 2 from rfl, Option.bind_some, if_neg (by decide), if_neg (by decide), if_pos rfl]
theorem yy_Cp_3 (sc : xSc) (c : yy_CT) (gg a3 a4 : Option Nat) (d : Int32) : f_Stacks_perform sc (yy_cH c) gg (some 256) (some 3) a3 a4 d = tB (f_Stacks_copy sc (yy_cH c) (some 256) a3) (fun v26 u25 => f_Stacks_perform_b240 sc u25) (fun a28 u29 => some (.inr a28, u29)) := by
  unfold f_Stacks_perform
  rw [if_pos (show xis sc (yy_cH c) 19 (some 3) = true from rfl), show f_Enum_ordinal19 sc (yy_cH c) (some 3) = some 3 from rfl, Option.bind_some, if_neg (by decide), if_neg (by decide), if_neg (by decide), if_pos rfl]
theorem yy_Cp_4 (sc : xSc) (c : yy_CT) (gg a3 a4 : Option Nat) (d : Int32) : f_Stacks_perform sc (yy_cH c) gg (some 256) (some 4) a3 a4 d = (if xis sc (yy_cH c) 2 a3 = true then (f_Slot_is sc (yy_cH c) a3 (some 72)).bind fun v32 => (if xis sc (yy_cH c) 0 (some 256) = true then tB (f_P_type sc (yy_cH c) (some 256) v32) (fun v36 u35 => (gI sc u35 2 2 a3).bind fun v40 => (if v40 < 0 then f_Stacks_perform_b152 sc (some 256) a3 (some 256) u35 else (gI sc u35 2 2 a3).bind fun v43 => (gI sc u35 0 9 (some 256)).bind fun v45 => (if (v45 - (1 : Int32)) ≤ v43 then f_Stacks_perform_b152 sc (some 256) a3 (some 256) u35 else f_Stacks_perform_b153 sc (some 256) a3 (1 : Int32) (some 256) u35))) (fun a38 u39 => some (.inr a38, u39)) else none) else none) := by
  unfold f_Stacks_perform
  rw [if_pos (show xis sc (yy_cH c) 19 (some 4) = true from rfl), show f_Enum_ordinal19 sc (yy_cH c) (some 4) = some 4 from rfl, Option.bind_some, if_neg (by decide), if_neg (by decide), if_neg (by decide), if_neg (by decide), if_pos rfl]
theorem yy_Cp_5 (sc : xSc) (c : yy_CT) (gg a3 a4 : Option Nat) (d : Int32) : f_Stacks_perform sc (yy_cH c) gg (some 256) (some 5) a3 a4 d = tB (f_Stacks_roll sc (yy_cH c) (some 256) a3 a4) (fun v50 u49 => f_Stacks_perform_b240 sc u49) (fun a52 u53 => some (.inr a52, u53)) := by
  unfold f_Stacks_perform
  rw [if_pos (show xis sc (yy_cH c) 19 (some 5) = true from rfl), show f_Enum_ordinal19 sc (yy_cH c) (some 5) = some 5 from rfl, Option.bind_some, if_neg (by decide), if_neg (by decide), if_neg (by decide), if_neg (by decide), if_neg (by decide), if_pos rfl]
theorem yy_Cp_6 (sc : xSc) (c : yy_CT) (gg a3 a4 : Option Nat) (d : Int32) : f_Stacks_perform sc (yy_cH c) gg (some 256) (some 6) a3 a4 d = (pV (yy_cH c) 0 9 (some 256) (vI (0 : Int32))).bind fun u55 => f_Stacks_perform_b240 sc u55 := by
  unfold f_Stacks_perform
  rw [if_pos (show xis sc (yy_cH c) 19 (some 6) = true from rfl), show f_Enum_ordinal19 sc (yy_cH c) (some 6) = some 6 from rfl, Option.bind_some, if_neg (by decide), if_neg (by decide), if_neg (by decide), if_neg (by decide), if_neg (by decide), if_neg (by decide), if_pos rfl]
theorem yy_Cp_7 (sc : xSc) (c : yy_CT) (gg a3 a4 : Option Nat) (d : Int32) : f_Stacks_perform sc (yy_cH c) gg (some 256) (some 7) a3 a4 d = (gI sc (yy_cH c) 0 9 (some 256)).bind fun v58 => (if xis sc (yy_cH c) 0 (some 256) = true then tB (f_P_give sc (yy_cH c) (some 256) (0 : Int32) (some 72) v58) (fun v62 u61 => f_Stacks_perform_b240 sc u61) (fun a64 u65 => some (.inr a64, u65)) else none) := by
  unfold f_Stacks_perform
  rw [if_pos (show xis sc (yy_cH c) 19 (some 7) = true from rfl), show f_Enum_ordinal19 sc (yy_cH c) (some 7) = some 7 from rfl, Option.bind_some, if_neg (by decide), if_neg (by decide), if_neg (by decide), if_neg (by decide), if_neg (by decide), if_neg (by decide), if_neg (by decide), if_pos rfl]
theorem yy_Cp_8 (sc : xSc) (c : yy_CT) (gg a3 a4 : Option Nat) (d : Int32) : f_Stacks_perform sc (yy_cH c) gg (some 256) (some 8) a3 a4 d = f_Stacks_perform_b231 sc (some 256) (yy_cH c) := by
  unfold f_Stacks_perform
  rw [if_pos (show xis sc (yy_cH c) 19 (some 8) = true from rfl), show f_Enum_ordinal19 sc (yy_cH c) (some 8) = some 8 from rfl, Option.bind_some, if_neg (by decide), if_neg (by decide), if_neg (by decide), if_neg (by decide), if_neg (by decide), if_neg (by decide), if_neg (by decide), if_neg (by decide), if_pos rfl]
theorem yy_Cp_9 (sc : xSc) (c : yy_CT) (gg a3 a4 : Option Nat) (d : Int32) : f_Stacks_perform sc (yy_cH c) gg (some 256) (some 9) a3 a4 d = f_Stacks_perform_b231 sc (some 256) (yy_cH c) := by
  unfold f_Stacks_perform
  rw [if_pos (show xis sc (yy_cH c) 19 (some 9) = true from rfl), show f_Enum_ordinal19 sc (yy_cH c) (some 9) = some 9 from rfl, Option.bind_some, if_neg (by decide), if_neg (by decide), if_neg (by decide), if_neg (by decide), if_neg (by decide), if_neg (by decide), if_neg (by decide), if_neg (by decide), if_neg (by decide), if_pos rfl]
theorem yy_Cp_10 (sc : xSc) (c : yy_CT) (gg a3 a4 : Option Nat) (d : Int32) : f_Stacks_perform sc (yy_cH c) gg (some 256) (some 10) a3 a4 d = tB (f_Stacks_marked sc (yy_cH c) (some 256)) (fun v70 u69 => (pV u69 0 9 (some 256) (vI v70)).bind fun u74 => f_Stacks_perform_b240 sc u74) (fun a72 u73 => some (.inr a72, u73)) := by
  unfold f_Stacks_perform
  rw [if_pos (show xis sc (yy_cH c) 19 (some 10) = true from rfl), show f_Enum_ordinal19 sc (yy_cH c) (some 10) = some 10 from rfl, Option.bind_some, if_neg (by decide), if_neg (by decide), if_neg (by decide), if_neg (by decide), if_neg (by decide), if_neg (by decide), if_neg (by decide), if_neg (by decide), if_neg (by decide), if_neg (by decide), if_pos rfl]
theorem yy_Cp_11 (sc : xSc) (c : yy_CT) (gg a3 a4 : Option Nat) (d : Int32) : f_Stacks_perform sc (yy_cH c) gg (some 256) (some 11) a3 a4 d = tB (f_Stacks_marked sc (yy_cH c) (some 256)) (fun v78 u77 => tB (f_Stacks_close sc u77 (some 256) (v78 + (1 : Int32))) (fun v83 u82 => f_Stacks_perform_b240 sc u82) (fun a85 u86 => some (.inr a85, u86))) (fun a80 u81 => some (.inr a80, u81)) := by
  unfold f_Stacks_perform
  rw [if_pos (show xis sc (yy_cH c) 19 (some 11) = true from rfl), show f_Enum_ordinal19 sc (yy_cH c) (some 11) = some 11 from rfl, Option.bind_some, if_neg (by decide), if_neg (by decide), if_neg (by decide), if_neg (by decide), if_neg (by decide), if_neg (by decide), if_neg (by decide), if_neg (by decide), if_neg (by decide), if_neg (by decide), if_neg (by decide), if_pos rfl]
theorem yy_Cp_23 (sc : xSc) (c : yy_CT) (gg a3 a4 : Option Nat) (d : Int32) : f_Truths_perform sc (yy_cH c) gg (some 256) (some 23) a3 a4 d = f_Truths_perform_b84 sc (some 256) (some 23) (yy_cH c) := by
  unfold f_Truths_perform
  rw [if_pos (show xis sc (yy_cH c) 19 (some 23) = true from rfl), show f_Enum_ordinal19 sc (yy_cH c) (some 23) = some 23 from rfl, Option.bind_some, if_pos rfl]
theorem yy_Cp_24 (sc : xSc) (c : yy_CT) (gg a3 a4 : Option Nat) (d : Int32) : f_Truths_perform sc (yy_cH c) gg (some 256) (some 24) a3 a4 d = f_Truths_perform_b84 sc (some 256) (some 24) (yy_cH c) := by
  unfold f_Truths_perform
  rw [if_pos (show xis sc (yy_cH c) 19 (some 24) = true from rfl), show f_Enum_ordinal19 sc (yy_cH c) (some 24) = some 24 from rfl, Option.bind_some, if_neg (by decide), if_pos rfl]
theorem yy_Cp_25 (sc : xSc) (c : yy_CT) (gg a3 a4 : Option Nat) (d : Int32) : f_Truths_perform sc (yy_cH c) gg (some 256) (some 25) a3 a4 d = f_Truths_perform_b104 sc (some 256) (some 25) a3 a4 (yy_cH c) := by
  unfold f_Truths_perform
  rw [if_pos (show xis sc (yy_cH c) 19 (some 25) = true from rfl), show f_Enum_ordinal19 sc (yy_cH c) (some 25) = some 25 from rfl, Option.bind_some, if_neg (by decide), if_neg (by decide), if_pos rfl]
theorem yy_Cp_26 (sc : xSc) (c : yy_CT) (gg a3 a4 : Option Nat) (d : Int32) : f_Truths_perform sc (yy_cH c) gg (some 256) (some 26) a3 a4 d = f_Truths_perform_b104 sc (some 256) (some 26) a3 a4 (yy_cH c) := by
  unfold f_Truths_perform
  rw [if_pos (show xis sc (yy_cH c) 19 (some 26) = true from rfl), show f_Enum_ordinal19 sc (yy_cH c) (some 26) = some 26 from rfl, Option.bind_some, if_neg (by decide), if_neg (by decide), if_neg (by decide), if_pos rfl]
theorem yy_Cp_27 (sc : xSc) (c : yy_CT) (gg a3 a4 : Option Nat) (d : Int32) : f_Truths_perform sc (yy_cH c) gg (some 256) (some 27) a3 a4 d = f_Truths_perform_b414 sc (some 256) (some 27) a3 a4 (yy_cH c) := by
  unfold f_Truths_perform
  rw [if_pos (show xis sc (yy_cH c) 19 (some 27) = true from rfl), show f_Enum_ordinal19 sc (yy_cH c) (some 27) = some 27 from rfl, Option.bind_some, if_neg (by decide), if_neg (by decide), if_neg (by decide), if_neg (by decide), if_pos rfl]
theorem yy_Cp_28 (sc : xSc) (c : yy_CT) (gg a3 a4 : Option Nat) (d : Int32) : f_Truths_perform sc (yy_cH c) gg (some 256) (some 28) a3 a4 d = f_Truths_perform_b414 sc (some 256) (some 28) a3 a4 (yy_cH c) := by
  unfold f_Truths_perform
  rw [if_pos (show xis sc (yy_cH c) 19 (some 28) = true from rfl), show f_Enum_ordinal19 sc (yy_cH c) (some 28) = some 28 from rfl, Option.bind_some, if_neg (by decide), if_neg (by decide), if_neg (by decide), if_neg (by decide), if_neg (by decide), if_pos rfl]
theorem yy_Cp_29 (sc : xSc) (c : yy_CT) (gg a3 a4 : Option Nat) (d : Int32) : f_Truths_perform sc (yy_cH c) gg (some 256) (some 29) a3 a4 d = f_Truths_perform_b414 sc (some 256) (some 29) a3 a4 (yy_cH c) := by
  unfold f_Truths_perform
  rw [if_pos (show xis sc (yy_cH c) 19 (some 29) = true from rfl), show f_Enum_ordinal19 sc (yy_cH c) (some 29) = some 29 from rfl, Option.bind_some, if_neg (by decide), if_neg (by decide), if_neg (by decide), if_neg (by decide), if_neg (by decide), if_neg (by decide), if_pos rfl]
theorem yy_Cp_30 (sc : xSc) (c : yy_CT) (gg a3 a4 : Option Nat) (d : Int32) : f_Truths_perform sc (yy_cH c) gg (some 256) (some 30) a3 a4 d = f_Truths_perform_b414 sc (some 256) (some 30) a3 a4 (yy_cH c) := by
  unfold f_Truths_perform
  rw [if_pos (show xis sc (yy_cH c) 19 (some 30) = true from rfl), show f_Enum_ordinal19 sc (yy_cH c) (some 30) = some 30 from rfl, Option.bind_some, if_neg (by decide), if_neg (by decide), if_neg (by decide), if_neg (by decide), if_neg (by decide), if_neg (by decide), if_neg (by decide), if_pos rfl]
theorem yy_Cp_31 (sc : xSc) (c : yy_CT) (gg a3 a4 : Option Nat) (d : Int32) : f_Truths_perform sc (yy_cH c) gg (some 256) (some 31) a3 a4 d = f_Truths_perform_b138 sc (some 256) (some 31) a3 a4 (yy_cH c) := by
  unfold f_Truths_perform
  rw [if_pos (show xis sc (yy_cH c) 19 (some 31) = true from rfl), show f_Enum_ordinal19 sc (yy_cH c) (some 31) = some 31 from rfl, Option.bind_some, if_neg (by decide), if_neg (by decide), if_neg (by decide), if_neg (by decide), if_neg (by decide), if_neg (by decide), if_neg (by decide), if_neg (by decide), if_pos rfl]
theorem yy_Cp_32 (sc : xSc) (c : yy_CT) (gg a3 a4 : Option Nat) (d : Int32) : f_Truths_perform sc (yy_cH c) gg (some 256) (some 32) a3 a4 d = f_Truths_perform_b138 sc (some 256) (some 32) a3 a4 (yy_cH c) := by
  unfold f_Truths_perform
  rw [if_pos (show xis sc (yy_cH c) 19 (some 32) = true from rfl), show f_Enum_ordinal19 sc (yy_cH c) (some 32) = some 32 from rfl, Option.bind_some, if_neg (by decide), if_neg (by decide), if_neg (by decide), if_neg (by decide), if_neg (by decide), if_neg (by decide), if_neg (by decide), if_neg (by decide), if_neg (by decide), if_pos rfl]
theorem yy_Cp_33 (sc : xSc) (c : yy_CT) (gg a3 a4 : Option Nat) (d : Int32) : f_Truths_perform sc (yy_cH c) gg (some 256) (some 33) a3 a4 d = (f_Truths_bits sc (yy_cH c) a3).bind fun v15 => (if xis sc (yy_cH c) 0 (some 256) = true then tB (f_P_type sc (yy_cH c) (some 256) v15) (fun v19 u18 => (if xis sc u18 2 a3 = true then (f_Slot_is sc u18 a3 (some 72)).bind fun v24 => (if v24 = 0 then (gI sc u18 2 2 a3).bind fun v27 => f_Truths_perform_b242 sc ((1 : Int32) - v27) a3 u18 else (gI sc u18 2 2 a3).bind fun v29 => f_Truths_perform_b242 sc (v29 ^^^ (-1 : Int32)) a3 u18) else none)) (fun a21 u22 => some (.inr a21, u22)) else none) := by
  unfold f_Truths_perform
  rw [if_pos (show xis sc (yy_cH c) 19 (some 33) = true from rfl), show f_Enum_ordinal19 sc (yy_cH c) (some 33) = some 33 from rfl, Option.bind_some, if_neg (by decide), if_neg (by decide), if_neg (by decide), if_neg (by decide), if_neg (by decide), if_neg (by decide), if_neg (by decide), if_neg (by decide), if_neg (by decide), if_neg (by decide), if_pos rfl]
theorem yy_Cp_34 (sc : xSc) (c : yy_CT) (gg a3 a4 : Option Nat) (d : Int32) : f_Truths_perform sc (yy_cH c) gg (some 256) (some 34) a3 a4 d = (if xis sc (yy_cH c) 2 a3 = true then (f_Slot_is sc (yy_cH c) a3 (some 72)).bind fun v33 => (if v33 = 0 then f_Truths_perform_b274 sc (some 256) a3 a4 (some 256) (yy_cH c) else (if xis sc (yy_cH c) 2 a4 = true then (f_Slot_is sc (yy_cH c) a4 (some 72)).bind fun v37 => (if v37 = 0 then f_Truths_perform_b274 sc (some 256) a3 a4 (some 256) (yy_cH c) else f_Truths_perform_b275 sc (some 256) a3 a4 (1 : Int32) (some 256) (yy_cH c)) else none)) else none) := by
  unfold f_Truths_perform
  rw [if_pos (show xis sc (yy_cH c) 19 (some 34) = true from rfl), show f_Enum_ordinal19 sc (yy_cH c) (some 34) = some 34 from rfl, Option.bind_some, if_neg (by decide), if_neg (by decide), if_neg (by decide), if_neg (by decide), if_neg (by decide), if_neg (by decide), if_neg (by decide), if_neg (by decide), if_neg (by decide), if_neg (by decide), if_neg (by decide), if_pos rfl]
theorem yy_Cp_35 (sc : xSc) (c : yy_CT) (gg a3 a4 : Option Nat) (d : Int32) : f_Truths_perform sc (yy_cH c) gg (some 256) (some 35) a3 a4 d = f_Truths_perform_b345 sc (some 35) a3 (yy_cH c) := by
  unfold f_Truths_perform
  rw [if_pos (show xis sc (yy_cH c) 19 (some 35) = true from rfl), show f_Enum_ordinal19 sc (yy_cH c) (some 35) = some 35 from rfl, Option.bind_some, if_neg (by decide), if_neg (by decide), if_neg (by decide), if_neg (by decide), if_neg (by decide), if_neg (by decide), if_neg (by decide), if_neg (by decide), if_neg (by decide), if_neg (by decide), if_neg (by decide), if_neg (by decide), if_pos rfl]
theorem yy_Cp_36 (sc : xSc) (c : yy_CT) (gg a3 a4 : Option Nat) (d : Int32) : f_Truths_perform sc (yy_cH c) gg (some 256) (some 36) a3 a4 d = f_Truths_perform_b345 sc (some 36) a3 (yy_cH c) := by
  unfold f_Truths_perform
  rw [if_pos (show xis sc (yy_cH c) 19 (some 36) = true from rfl), show f_Enum_ordinal19 sc (yy_cH c) (some 36) = some 36 from rfl, Option.bind_some, if_neg (by decide), if_neg (by decide), if_neg (by decide), if_neg (by decide), if_neg (by decide), if_neg (by decide), if_neg (by decide), if_neg (by decide), if_neg (by decide), if_neg (by decide), if_neg (by decide), if_neg (by decide), if_neg (by decide), if_pos rfl]
theorem yy_Cp_37 (sc : xSc) (c : yy_CT) (gg a3 a4 : Option Nat) (d : Int32) : f_Truths_perform sc (yy_cH c) gg (some 256) (some 37) a3 a4 d = (gI sc (yy_cH c) 2 1 a3).bind fun v43 => (if xis sc (yy_cH c) 0 (some 256) = true then tB (f_P_truth sc (yy_cH c) (some 256) (1 : Int32) v43) (fun v47 u46 => f_Truths_perform_b456 sc u46) (fun a49 u50 => some (.inr a49, u50)) else none) := by
  unfold f_Truths_perform
  rw [if_pos (show xis sc (yy_cH c) 19 (some 37) = true from rfl), show f_Enum_ordinal19 sc (yy_cH c) (some 37) = some 37 from rfl, Option.bind_some, if_neg (by decide), if_neg (by decide), if_neg (by decide), if_neg (by decide), if_neg (by decide), if_neg (by decide), if_neg (by decide), if_neg (by decide), if_neg (by decide), if_neg (by decide), if_neg (by decide), if_neg (by decide), if_neg (by decide), if_neg (by decide), if_pos rfl]
theorem yy_Cp_38 (sc : xSc) (c : yy_CT) (gg a3 a4 : Option Nat) (d : Int32) : f_Truths_perform sc (yy_cH c) gg (some 256) (some 38) a3 a4 d = (gR sc (yy_cH c) 2 0 a3).bind fun v52 => (if xis sc (yy_cH c) 20 v52 = true then (f_Enum_ordinal20 sc (yy_cH c) v52).bind fun v55 => (if xis sc (yy_cH c) 0 (some 256) = true then tB (f_P_give sc (yy_cH c) (some 256) (1 : Int32) (some 72) v55) (fun v59 u58 => f_Truths_perform_b456 sc u58) (fun a61 u62 => some (.inr a61, u62)) else none) else none) := by
  unfold f_Truths_perform
  rw [if_pos (show xis sc (yy_cH c) 19 (some 38) = true from rfl), show f_Enum_ordinal19 sc (yy_cH c) (some 38) = some 38 from rfl, Option.bind_some, if_neg (by decide), if_neg (by decide), if_neg (by decide), if_neg (by decide), if_neg (by decide), if_neg (by decide), if_neg (by decide), if_neg (by decide), if_neg (by decide), if_neg (by decide), if_neg (by decide), if_neg (by decide), if_neg (by decide), if_neg (by decide), if_neg (by decide), if_pos rfl]
theorem yy_Cp_39 (sc : xSc) (c : yy_CT) (gg a3 a4 : Option Nat) (d : Int32) : f_Holders_perform sc (yy_cH c) gg (some 256) (some 39) a3 a4 d = (if xis sc (yy_cH c) 2 a3 = true then (f_Slot_is sc (yy_cH c) a3 (some 72)).bind fun v6 => (if xis sc (yy_cH c) 0 (some 256) = true then tB (f_P_type sc (yy_cH c) (some 256) v6) (fun v10 u9 => (gI sc u9 2 2 a3).bind fun v14 => (if v14 < 0 then f_Holders_perform_b68 sc (some 256) a3 (0 : Int32) (some 256) u9 else f_Holders_perform_b68 sc (some 256) a3 (1 : Int32) (some 256) u9)) (fun a12 u13 => some (.inr a12, u13)) else none) else none) := by
  unfold f_Holders_perform
  rw [if_pos (show xis sc (yy_cH c) 19 (some 39) = true from rfl), show f_Enum_ordinal19 sc (yy_cH c) (some 39) = some 39 from rfl, Option.bind_some, if_pos rfl]
theorem yy_Cp_40 (sc : xSc) (c : yy_CT) (gg a3 a4 : Option Nat) (d : Int32) : f_Holders_perform sc (yy_cH c) gg (some 256) (some 40) a3 a4 d = (if xis sc (yy_cH c) 2 a3 = true then (f_Slot_is sc (yy_cH c) a3 (some 77)).bind fun v19 => (if v19 = 0 then (if xis sc (yy_cH c) 2 a3 = true then (f_Slot_is sc (yy_cH c) a3 (some 78)).bind fun v23 => (if v23 = 0 then f_Holders_perform_b123 sc (some 256) a3 (0 : Int32) (some 256) (yy_cH c) else f_Holders_perform_b118 sc (some 256) a3 (some 256) (yy_cH c)) else none) else f_Holders_perform_b118 sc (some 256) a3 (some 256) (yy_cH c)) else none) := by
  unfold f_Holders_perform
  rw [if_pos (show xis sc (yy_cH c) 19 (some 40) = true from rfl), show f_Enum_ordinal19 sc (yy_cH c) (some 40) = some 40 from rfl, Option.bind_some, if_neg (by decide), if_pos rfl]
theorem yy_Cp_41 (sc : xSc) (c : yy_CT) (gg a3 a4 : Option Nat) (d : Int32) : f_Holders_perform sc (yy_cH c) gg (some 256) (some 41) a3 a4 d = tB (f_Holders_get sc (yy_cH c) (some 256) a3 a4) (fun v28 u27 => f_Holders_perform_b337 sc u27) (fun a30 u31 => some (.inr a30, u31)) := by
  unfold f_Holders_perform
  rw [if_pos (show xis sc (yy_cH c) 19 (some 41) = true from rfl), show f_Enum_ordinal19 sc (yy_cH c) (some 41) = some 41 from rfl, Option.bind_some, if_neg (by decide), if_neg (by decide), if_pos rfl]
theorem yy_Cp_42 (sc : xSc) (c : yy_CT) (gg a3 a4 : Option Nat) (d : Int32) : f_Holders_perform sc (yy_cH c) gg (some 256) (some 42) a3 a4 d = (if xis sc (yy_cH c) 0 (some 256) = true then (f_P_at sc (yy_cH c) (some 256) (0 : Int32)).bind fun v34 => tB (f_Holders_put sc (yy_cH c) (some 256) a3 a4 v34) (fun v37 u36 => f_Holders_perform_b337 sc u36) (fun a39 u40 => some (.inr a39, u40)) else none) := by
  unfold f_Holders_perform
  rw [if_pos (show xis sc (yy_cH c) 19 (some 42) = true from rfl), show f_Enum_ordinal19 sc (yy_cH c) (some 42) = some 42 from rfl, Option.bind_some, if_neg (by decide), if_neg (by decide), if_neg (by decide), if_pos rfl]
theorem yy_Cp_43 (sc : xSc) (c : yy_CT) (gg a3 a4 : Option Nat) (d : Int32) : f_Holders_perform sc (yy_cH c) gg (some 256) (some 43) a3 a4 d = (if xis sc (yy_cH c) 0 (some 256) = true then (f_P_at sc (yy_cH c) (some 256) (0 : Int32)).bind fun v43 => (if xis sc (yy_cH c) 2 a3 = true then (f_Slot_is sc (yy_cH c) a3 (some 77)).bind fun v46 => (if v46 = 0 then f_Holders_perform_b230 sc (some 256) a3 a4 v43 (some 256) (yy_cH c) else (if xis sc (yy_cH c) 2 a4 = true then (f_Slot_is sc (yy_cH c) a4 (some 72)).bind fun v50 => (if v50 = 0 then f_Holders_perform_b230 sc (some 256) a3 a4 v43 (some 256) (yy_cH c) else (if xis sc (yy_cH c) 2 v43 = true then (f_Slot_is sc (yy_cH c) v43 (some 72)).bind fun v54 => (if v54 = 0 then f_Holders_perform_b230 sc (some 256) a3 a4 v43 (some 256) (yy_cH c) else f_Holders_perform_b231 sc (some 256) a3 a4 v43 (1 : Int32) (some 256) (yy_cH c)) else none)) else none)) else none) else none) := by
  unfold f_Holders_perform
  rw [if_pos (show xis sc (yy_cH c) 19 (some 43) = true from rfl), show f_Enum_ordinal19 sc (yy_cH c) (some 43) = some 43 from rfl, Option.bind_some, if_neg (by decide), if_neg (by decide), if_neg (by decide), if_neg (by decide), if_pos rfl]
theorem yy_Cp_44 (sc : xSc) (c : yy_CT) (gg a3 a4 : Option Nat) (d : Int32) : f_Holders_perform sc (yy_cH c) gg (some 256) (some 44) a3 a4 d = tB (f_Holders_spread sc (yy_cH c) (some 256) a3) (fun v59 u58 => f_Holders_perform_b337 sc u58) (fun a61 u62 => some (.inr a61, u62)) := by
  unfold f_Holders_perform
  rw [if_pos (show xis sc (yy_cH c) 19 (some 44) = true from rfl), show f_Enum_ordinal19 sc (yy_cH c) (some 44) = some 44 from rfl, Option.bind_some, if_neg (by decide), if_neg (by decide), if_neg (by decide), if_neg (by decide), if_neg (by decide), if_pos rfl]
theorem yy_Cp_45 (sc : xSc) (c : yy_CT) (gg a3 a4 : Option Nat) (d : Int32) : f_Holders_perform sc (yy_cH c) gg (some 256) (some 45) a3 a4 d = tB (f_Holders_dicts sc (yy_cH c) (some 256) (some 45) a3 a4) (fun v64 u63 => f_Holders_perform_b337 sc u63) (fun a66 u67 => some (.inr a66, u67)) := by
  unfold f_Holders_perform
  rw [if_pos (show xis sc (yy_cH c) 19 (some 45) = true from rfl), show f_Enum_ordinal19 sc (yy_cH c) (some 45) = some 45 from rfl, Option.bind_some, if_neg (by decide), if_neg (by decide), if_neg (by decide), if_neg (by decide), if_neg (by decide), if_neg (by decide)]
theorem yy_Cp_46 (sc : xSc) (c : yy_CT) (gg a3 a4 : Option Nat) (d : Int32) : f_Holders_perform sc (yy_cH c) gg (some 256) (some 46) a3 a4 d = tB (f_Holders_dicts sc (yy_cH c) (some 256) (some 46) a3 a4) (fun v64 u63 => f_Holders_perform_b337 sc u63) (fun a66 u67 => some (.inr a66, u67)) := by
  unfold f_Holders_perform
  rw [if_pos (show xis sc (yy_cH c) 19 (some 46) = true from rfl), show f_Enum_ordinal19 sc (yy_cH c) (some 46) = some 46 from rfl, Option.bind_some, if_neg (by decide), if_neg (by decide), if_neg (by decide), if_neg (by decide), if_neg (by decide), if_neg (by decide)]
theorem yy_Cp_47 (sc : xSc) (c : yy_CT) (gg a3 a4 : Option Nat) (d : Int32) : f_Holders_perform sc (yy_cH c) gg (some 256) (some 47) a3 a4 d = tB (f_Holders_dicts sc (yy_cH c) (some 256) (some 47) a3 a4) (fun v64 u63 => f_Holders_perform_b337 sc u63) (fun a66 u67 => some (.inr a66, u67)) := by
  unfold f_Holders_perform
  rw [if_pos (show xis sc (yy_cH c) 19 (some 47) = true from rfl), show f_Enum_ordinal19 sc (yy_cH c) (some 47) = some 47 from rfl, Option.bind_some, if_neg (by decide), if_neg (by decide), if_neg (by decide), if_neg (by decide), if_neg (by decide), if_neg (by decide)]
theorem yy_Cp_48 (sc : xSc) (c : yy_CT) (gg a3 a4 : Option Nat) (d : Int32) : f_Holders_perform sc (yy_cH c) gg (some 256) (some 48) a3 a4 d = tB (f_Holders_dicts sc (yy_cH c) (some 256) (some 48) a3 a4) (fun v64 u63 => f_Holders_perform_b337 sc u63) (fun a66 u67 => some (.inr a66, u67)) := by
  unfold f_Holders_perform
  rw [if_pos (show xis sc (yy_cH c) 19 (some 48) = true from rfl), show f_Enum_ordinal19 sc (yy_cH c) (some 48) = some 48 from rfl, Option.bind_some, if_neg (by decide), if_neg (by decide), if_neg (by decide), if_neg (by decide), if_neg (by decide), if_neg (by decide)]
theorem yy_Cp_49 (sc : xSc) (c : yy_CT) (gg a3 a4 : Option Nat) (d : Int32) : f_Holders_perform sc (yy_cH c) gg (some 256) (some 49) a3 a4 d = tB (f_Holders_dicts sc (yy_cH c) (some 256) (some 49) a3 a4) (fun v64 u63 => f_Holders_perform_b337 sc u63) (fun a66 u67 => some (.inr a66, u67)) := by
  unfold f_Holders_perform
  rw [if_pos (show xis sc (yy_cH c) 19 (some 49) = true from rfl), show f_Enum_ordinal19 sc (yy_cH c) (some 49) = some 49 from rfl, Option.bind_some, if_neg (by decide), if_neg (by decide), if_neg (by decide), if_neg (by decide), if_neg (by decide), if_neg (by decide)]
theorem yy_Cp_50 (sc : xSc) (c : yy_CT) (gg a3 a4 : Option Nat) (d : Int32) : f_Holders_perform sc (yy_cH c) gg (some 256) (some 50) a3 a4 d = tB (f_Holders_dicts sc (yy_cH c) (some 256) (some 50) a3 a4) (fun v64 u63 => f_Holders_perform_b337 sc u63) (fun a66 u67 => some (.inr a66, u67)) := by
  unfold f_Holders_perform
  rw [if_pos (show xis sc (yy_cH c) 19 (some 50) = true from rfl), show f_Enum_ordinal19 sc (yy_cH c) (some 50) = some 50 from rfl, Option.bind_some, if_neg (by decide), if_neg (by decide), if_neg (by decide), if_neg (by decide), if_neg (by decide), if_neg (by decide)]
theorem yy_Cp_51 (sc : xSc) (c : yy_CT) (gg a3 a4 : Option Nat) (d : Int32) : f_Holders_perform sc (yy_cH c) gg (some 256) (some 51) a3 a4 d = tB (f_Holders_dicts sc (yy_cH c) (some 256) (some 51) a3 a4) (fun v64 u63 => f_Holders_perform_b337 sc u63) (fun a66 u67 => some (.inr a66, u67)) := by
  unfold f_Holders_perform
  rw [if_pos (show xis sc (yy_cH c) 19 (some 51) = true from rfl), show f_Enum_ordinal19 sc (yy_cH c) (some 51) = some 51 from rfl, Option.bind_some, if_neg (by decide), if_neg (by decide), if_neg (by decide), if_neg (by decide), if_neg (by decide), if_neg (by decide)]
theorem yy_Cp_52 (rc : rcE) (sc : xSc) (c : yy_CT) (gg a3 a4 : Option Nat) (d : Int32) : f_Flow_perform rc sc (yy_cH c) gg (some 256) (some 52) a3 a4 d = (gI sc (yy_cH c) 0 9 (some 256)).bind fun v5 => (pV (yy_cH c) 0 9 (some 256) (vI (v5 - (1 : Int32)))).bind fun u7 => (if xis sc u7 0 (some 256) = true then tB (f_P_execute rc sc u7 (some 256) a3 d) (fun v11 u10 => f_Flow_perform_b405 rc sc u10) (fun a13 u14 => some (.inr a13, u14)) else none) := by
  unfold f_Flow_perform
  rw [if_pos (show xis sc (yy_cH c) 19 (some 52) = true from rfl), show f_Enum_ordinal19 sc (yy_cH c) (some 52) = some 52 from rfl, Option.bind_some, if_pos rfl]
theorem yy_Cp_53 (rc : rcE) (sc : xSc) (c : yy_CT) (gg a3 a4 : Option Nat) (d : Int32) : f_Flow_perform rc sc (yy_cH c) gg (some 256) (some 53) a3 a4 d = (if xis sc (yy_cH c) 2 a3 = true then (f_Slot_is sc (yy_cH c) a3 (some 74)).bind fun v17 => (if v17 = 0 then f_Flow_perform_b115 rc sc (some 256) a3 a4 d (some 256) (yy_cH c) else (if xis sc (yy_cH c) 2 a4 = true then (f_Slot_isProcedure sc (yy_cH c) a4).bind fun v21 => (if v21 = 0 then f_Flow_perform_b115 rc sc (some 256) a3 a4 d (some 256) (yy_cH c) else f_Flow_perform_b116 rc sc (some 256) a3 a4 d (1 : Int32) (some 256) (yy_cH c)) else none)) else none) := by
  unfold f_Flow_perform
  rw [if_pos (show xis sc (yy_cH c) 19 (some 53) = true from rfl), show f_Enum_ordinal19 sc (yy_cH c) (some 53) = some 53 from rfl, Option.bind_some, if_neg (by decide), if_pos rfl]
theorem yy_Cp_54 (rc : rcE) (sc : xSc) (c : yy_CT) (gg a3 a4 : Option Nat) (d : Int32) : f_Flow_perform rc sc (yy_cH c) gg (some 256) (some 54) a3 a4 d = (if xis sc (yy_cH c) 2 a3 = true then (f_Slot_is sc (yy_cH c) a3 (some 74)).bind fun v26 => (if v26 = 0 then f_Flow_perform_b182 rc sc (some 256) a3 d (some 256) (yy_cH c) else (if xis sc (yy_cH c) 2 a4 = true then (f_Slot_isProcedure sc (yy_cH c) a4).bind fun v30 => (if v30 = 0 then f_Flow_perform_b182 rc sc (some 256) a3 d (some 256) (yy_cH c) else (if xis sc (yy_cH c) 0 (some 256) = true then (f_P_at sc (yy_cH c) (some 256) (0 : Int32)).bind fun v34 => (if xis sc (yy_cH c) 2 v34 = true then (f_Slot_isProcedure sc (yy_cH c) v34).bind fun v37 => (if v37 = 0 then f_Flow_perform_b182 rc sc (some 256) a3 d (some 256) (yy_cH c) else f_Flow_perform_b183 rc sc (some 256) a3 d (1 : Int32) (some 256) (yy_cH c)) else none) else none)) else none)) else none) := by
  unfold f_Flow_perform
  rw [if_pos (show xis sc (yy_cH c) 19 (some 54) = true from rfl), show f_Enum_ordinal19 sc (yy_cH c) (some 54) = some 54 from rfl, Option.bind_some, if_neg (by decide), if_neg (by decide), if_pos rfl]
theorem yy_Cp_55 (rc : rcE) (sc : xSc) (c : yy_CT) (gg a3 a4 : Option Nat) (d : Int32) : f_Flow_perform rc sc (yy_cH c) gg (some 256) (some 55) a3 a4 d = f_Flow_perform_b334 rc sc (some 256) (some 55) a3 a4 d (yy_cH c) := by
  unfold f_Flow_perform
  rw [if_pos (show xis sc (yy_cH c) 19 (some 55) = true from rfl), show f_Enum_ordinal19 sc (yy_cH c) (some 55) = some 55 from rfl, Option.bind_some, if_neg (by decide), if_neg (by decide), if_neg (by decide), if_pos rfl]
theorem yy_Cp_56 (rc : rcE) (sc : xSc) (c : yy_CT) (gg a3 a4 : Option Nat) (d : Int32) : f_Flow_perform rc sc (yy_cH c) gg (some 256) (some 56) a3 a4 d = f_Flow_perform_b334 rc sc (some 256) (some 56) a3 a4 d (yy_cH c) := by
  unfold f_Flow_perform
  rw [if_pos (show xis sc (yy_cH c) 19 (some 56) = true from rfl), show f_Enum_ordinal19 sc (yy_cH c) (some 56) = some 56 from rfl, Option.bind_some, if_neg (by decide), if_neg (by decide), if_neg (by decide), if_neg (by decide), if_pos rfl]
theorem yy_Cp_57 (rc : rcE) (sc : xSc) (c : yy_CT) (gg a3 a4 : Option Nat) (d : Int32) : f_Flow_perform rc sc (yy_cH c) gg (some 256) (some 57) a3 a4 d = f_Flow_perform_b334 rc sc (some 256) (some 57) a3 a4 d (yy_cH c) := by
  unfold f_Flow_perform
  rw [if_pos (show xis sc (yy_cH c) 19 (some 57) = true from rfl), show f_Enum_ordinal19 sc (yy_cH c) (some 57) = some 57 from rfl, Option.bind_some, if_neg (by decide), if_neg (by decide), if_neg (by decide), if_neg (by decide), if_neg (by decide), if_pos rfl]
theorem yy_Cp_58 (rc : rcE) (sc : xSc) (c : yy_CT) (gg a3 a4 : Option Nat) (d : Int32) : f_Flow_perform rc sc (yy_cH c) gg (some 256) (some 58) a3 a4 d = f_Flow_perform_b334 rc sc (some 256) (some 58) a3 a4 d (yy_cH c) := by
  unfold f_Flow_perform
  rw [if_pos (show xis sc (yy_cH c) 19 (some 58) = true from rfl), show f_Enum_ordinal19 sc (yy_cH c) (some 58) = some 58 from rfl, Option.bind_some, if_neg (by decide), if_neg (by decide), if_neg (by decide), if_neg (by decide), if_neg (by decide), if_neg (by decide), if_pos rfl]
theorem yy_Cp_59 (rc : rcE) (sc : xSc) (c : yy_CT) (gg a3 a4 : Option Nat) (d : Int32) : f_Flow_perform rc sc (yy_cH c) gg (some 256) (some 59) a3 a4 d = (gI sc (yy_cH c) 0 22 (some 256)).bind fun v45 => (gI sc (yy_cH c) 0 23 (some 256)).bind fun v47 => (if v45 ≤ v47 then f_Flow_perform_b238 rc sc (some 256) (0 : Int32) (some 256) (yy_cH c) else f_Flow_perform_b238 rc sc (some 256) (1 : Int32) (some 256) (yy_cH c)) := by
  unfold f_Flow_perform
  rw [if_pos (show xis sc (yy_cH c) 19 (some 59) = true from rfl), show f_Enum_ordinal19 sc (yy_cH c) (some 59) = some 59 from rfl, Option.bind_some, if_neg (by decide), if_neg (by decide), if_neg (by decide), if_neg (by decide), if_neg (by decide), if_neg (by decide), if_neg (by decide), if_pos rfl]
theorem yy_Cp_60 (rc : rcE) (sc : xSc) (c : yy_CT) (gg a3 a4 : Option Nat) (d : Int32) : f_Flow_perform rc sc (yy_cH c) gg (some 256) (some 60) a3 a4 d = (if xis sc (yy_cH c) 0 (some 256) = true then tB (f_P_need sc (yy_cH c) (some 256) (0 : Int32) (14 : Int32)) (fun v53 u52 => f_Flow_perform_b405 rc sc u52) (fun a55 u56 => some (.inr a55, u56)) else none) := by
  unfold f_Flow_perform
  rw [if_pos (show xis sc (yy_cH c) 19 (some 60) = true from rfl), show f_Enum_ordinal19 sc (yy_cH c) (some 60) = some 60 from rfl, Option.bind_some, if_neg (by decide), if_neg (by decide), if_neg (by decide), if_neg (by decide), if_neg (by decide), if_neg (by decide), if_neg (by decide), if_neg (by decide), if_pos rfl]
theorem yy_Cp_61 (rc : rcE) (sc : xSc) (c : yy_CT) (gg a3 a4 : Option Nat) (d : Int32) : f_Flow_perform rc sc (yy_cH c) gg (some 256) (some 61) a3 a4 d = (gI sc (yy_cH c) 0 9 (some 256)).bind fun v58 => (pV (yy_cH c) 0 9 (some 256) (vI (v58 - (1 : Int32)))).bind fun u60 => (if xis sc u60 0 (some 256) = true then tB (f_P_fails rc sc u60 (some 256) a3 d) (fun v64 u63 => (if xis sc u63 0 (some 256) = true then tB (f_P_truth sc u63 (some 256) (0 : Int32) v64) (fun v70 u69 => f_Flow_perform_b405 rc sc u69) (fun a72 u73 => some (.inr a72, u73)) else none)) (fun a66 u67 => some (.inr a66, u67)) else none) := by
  unfold f_Flow_perform
  rw [if_pos (show xis sc (yy_cH c) 19 (some 61) = true from rfl), show f_Enum_ordinal19 sc (yy_cH c) (some 61) = some 61 from rfl, Option.bind_some, if_neg (by decide), if_neg (by decide), if_neg (by decide), if_neg (by decide), if_neg (by decide), if_neg (by decide), if_neg (by decide), if_neg (by decide), if_neg (by decide), if_pos rfl]
theorem yy_Cp_62 (rc : rcE) (sc : xSc) (c : yy_CT) (gg a3 a4 : Option Nat) (d : Int32) : f_Flow_perform rc sc (yy_cH c) gg (some 256) (some 62) a3 a4 d = (gI sc (yy_cH c) 0 18 (some 256)).bind fun v75 => (if xis sc (yy_cH c) 0 (some 256) = true then tB (f_P_give sc (yy_cH c) (some 256) (0 : Int32) (some 72) v75) (fun v79 u78 => f_Flow_perform_b405 rc sc u78) (fun a81 u82 => some (.inr a81, u82)) else none) := by
  unfold f_Flow_perform
  rw [if_pos (show xis sc (yy_cH c) 19 (some 62) = true from rfl), show f_Enum_ordinal19 sc (yy_cH c) (some 62) = some 62 from rfl, Option.bind_some, if_neg (by decide), if_neg (by decide), if_neg (by decide), if_neg (by decide), if_neg (by decide), if_neg (by decide), if_neg (by decide), if_neg (by decide), if_neg (by decide), if_neg (by decide), if_pos rfl]
theorem yy_Cp_63 (rc : rcE) (sc : xSc) (c : yy_CT) (gg a3 a4 : Option Nat) (d : Int32) : f_Flow_perform rc sc (yy_cH c) gg (some 256) (some 63) a3 a4 d = (if xis sc (yy_cH c) 0 (some 256) = true then tB (f_P_save sc (yy_cH c) (some 256)) (fun v86 u85 => f_Flow_perform_b405 rc sc u85) (fun a88 u89 => some (.inr a88, u89)) else none) := by
  unfold f_Flow_perform
  rw [if_pos (show xis sc (yy_cH c) 19 (some 63) = true from rfl), show f_Enum_ordinal19 sc (yy_cH c) (some 63) = some 63 from rfl, Option.bind_some, if_neg (by decide), if_neg (by decide), if_neg (by decide), if_neg (by decide), if_neg (by decide), if_neg (by decide), if_neg (by decide), if_neg (by decide), if_neg (by decide), if_neg (by decide), if_neg (by decide), if_pos rfl]
theorem yy_Cp_64 (rc : rcE) (sc : xSc) (c : yy_CT) (gg a3 a4 : Option Nat) (d : Int32) : f_Flow_perform rc sc (yy_cH c) gg (some 256) (some 64) a3 a4 d = (if xis sc (yy_cH c) 2 a3 = true then (f_Slot_is sc (yy_cH c) a3 (some 79)).bind fun v92 => (if xis sc (yy_cH c) 0 (some 256) = true then tB (f_P_type sc (yy_cH c) (some 256) v92) (fun v96 u95 => (gI sc u95 2 2 a3).bind fun v100 => (if xis sc u95 0 (some 256) = true then tB (f_P_restore sc u95 (some 256) v100) (fun v104 u103 => f_Flow_perform_b405 rc sc u103) (fun a106 u107 => some (.inr a106, u107)) else none)) (fun a98 u99 => some (.inr a98, u99)) else none) else none) := by
  unfold f_Flow_perform
  rw [if_pos (show xis sc (yy_cH c) 19 (some 64) = true from rfl), show f_Enum_ordinal19 sc (yy_cH c) (some 64) = some 64 from rfl, Option.bind_some, if_neg (by decide), if_neg (by decide), if_neg (by decide), if_neg (by decide), if_neg (by decide), if_neg (by decide), if_neg (by decide), if_neg (by decide), if_neg (by decide), if_neg (by decide), if_neg (by decide), if_neg (by decide), if_pos rfl]
theorem yy_Mb_0 (l2 : Int32) (t0 : Int64) (s : MT) : f_M_stackOperator_b21 0 l2 t0 s = some ((0 : Int32), sI 4 ((mI 4 s) - (1 : Int32)) s) := by
  unfold f_M_stackOperator_b21
  rw [if_pos rfl]
theorem yy_Mb_1 (l2 : Int32) (t0 : Int64) (s : MT) : f_M_stackOperator_b21 1 l2 t0 s = (f_M_move s (41 : Int32) l2).bind fun s4 => (f_M_move s4 l2 (l2 - (1 : Int32))).bind fun s6 => (f_M_move s6 (l2 - (1 : Int32)) (41 : Int32)).bind fun s8 => some ((0 : Int32), s8) := by
  unfold f_M_stackOperator_b21
  rw [if_neg (by decide), if_pos rfl]
theorem yy_Mb_2 (l2 : Int32) (t0 : Int64) (s : MT) : f_M_stackOperator_b21 2 l2 t0 s = (f_M_pushValue s l2).bind fun (v12, s11) => some (v12, s11) := by
  unfold f_M_stackOperator_b21
  rw [if_neg (by decide), if_neg (by decide), if_pos rfl]
theorem yy_Mb_3 (l2 : Int32) (t0 : Int64) (s : MT) : f_M_stackOperator_b21 3 l2 t0 s = (if (lg_cmp t0 (0 : Int64)) < 0 then f_M_stackOperator_b169 s else (if (lg_cmp t0 l2.toInt64) ≤ 0 then (if (lg_cmp (l2.toInt64 + t0) (40 : Int64)) ≤ 0 then f_M_stackOperator_b187 mF l2 t0 (0 : Int32) s else some ((2 : Int32), s)) else f_M_stackOperator_b169 s)) := by
  unfold f_M_stackOperator_b21
  rw [if_neg (by decide), if_neg (by decide), if_neg (by decide), if_pos rfl]
theorem yy_Mb_4 (l2 : Int32) (t0 : Int64) (s : MT) : f_M_stackOperator_b21 4 l2 t0 s = (if (lg_cmp t0 (0 : Int64)) < 0 then f_M_stackOperator_b239 s else (if (lg_cmp t0 l2.toInt64) < 0 then (f_M_move s l2 ((l2 - (1 : Int32)) - t0.toInt32)).bind fun s22 => some ((0 : Int32), s22) else f_M_stackOperator_b239 s)) := by
  unfold f_M_stackOperator_b21
  rw [if_neg (by decide), if_neg (by decide), if_neg (by decide), if_neg (by decide), if_pos rfl]
theorem yy_Mb_5 (l2 : Int32) (t0 : Int64) (s : MT) : f_M_stackOperator_b21 5 l2 t0 s = (if xin (l2 - (1 : Int32)) 1300 = true then (f_M_roll s (mL 2 s (l2 - (1 : Int32)).toNatClampNeg) t0).bind fun (v27, s26) => some (v27, s26) else none) := by
  unfold f_M_stackOperator_b21
  rw [if_neg (by decide), if_neg (by decide), if_neg (by decide), if_neg (by decide), if_neg (by decide), if_pos rfl]
theorem yy_Mb_6 (l2 : Int32) (t0 : Int64) (s : MT) : f_M_stackOperator_b21 6 l2 t0 s = some ((0 : Int32), sI 4 (0 : Int32) s) := by
  unfold f_M_stackOperator_b21
  rw [if_neg (by decide), if_neg (by decide), if_neg (by decide), if_neg (by decide), if_neg (by decide), if_neg (by decide), if_pos rfl]
theorem yy_Mb_7 (l2 : Int32) (t0 : Int64) (s : MT) : f_M_stackOperator_b21 7 l2 t0 s = (f_M_push s (0 : Int32) ((mI 4 s).toInt64)).bind fun (v33, s32) => some (v33, s32) := by
  unfold f_M_stackOperator_b21
  rw [if_neg (by decide), if_neg (by decide), if_neg (by decide), if_neg (by decide), if_neg (by decide), if_neg (by decide), if_neg (by decide), if_pos rfl]
theorem yy_Mb_8 (l2 : Int32) (t0 : Int64) (s : MT) : f_M_stackOperator_b21 8 l2 t0 s = f_M_stackOperator_b286 s := by
  unfold f_M_stackOperator_b21
  rw [if_neg (by decide), if_neg (by decide), if_neg (by decide), if_neg (by decide), if_neg (by decide), if_neg (by decide), if_neg (by decide), if_neg (by decide), if_pos rfl]
theorem yy_Mb_70 (l2 : Int32) (t0 : Int64) (s : MT) : f_M_stackOperator_b21 70 l2 t0 s = f_M_stackOperator_b286 s := by
  unfold f_M_stackOperator_b21
  rw [if_neg (by decide), if_neg (by decide), if_neg (by decide), if_neg (by decide), if_neg (by decide), if_neg (by decide), if_neg (by decide), if_neg (by decide), if_neg (by decide), if_pos rfl]
theorem yy_Mb_9 (l2 : Int32) (t0 : Int64) (s : MT) : f_M_stackOperator_b21 9 l2 t0 s = (f_M_toMark s (9 : Int32)).bind fun (v39, s38) => some (v39, s38) := by
  unfold f_M_stackOperator_b21
  rw [if_neg (by decide), if_neg (by decide), if_neg (by decide), if_neg (by decide), if_neg (by decide), if_neg (by decide), if_neg (by decide), if_neg (by decide), if_neg (by decide), if_neg (by decide)]
theorem yy_Mb_71 (l2 : Int32) (t0 : Int64) (s : MT) : f_M_stackOperator_b21 71 l2 t0 s = (f_M_toMark s (71 : Int32)).bind fun (v39, s38) => some (v39, s38) := by
  unfold f_M_stackOperator_b21
  rw [if_neg (by decide), if_neg (by decide), if_neg (by decide), if_neg (by decide), if_neg (by decide), if_neg (by decide), if_neg (by decide), if_neg (by decide), if_neg (by decide), if_neg (by decide)]
theorem yy_Mb_37 (s : MT) : f_M_arrayOperator s 37 = (if xin ((mI 4 s) - (1 : Int32)) 1300 = true then (f_M_zeros s (mL 2 s ((mI 4 s) - (1 : Int32)).toNatClampNeg)).bind fun (v5, s4) => some (v5, s4) else none) := by
  unfold f_M_arrayOperator
  rw [if_pos rfl]
theorem yy_Mb_38 (s : MT) : f_M_arrayOperator s 38 = (f_M_kindOf s ((mI 4 s) - (1 : Int32))).bind fun (v10, s9) => (if v10 = (5 : Int32) then (if xin ((mI 4 s) - (1 : Int32)) 1300 = true then (f_M_count (mL 2 s9 ((mI 4 s) - (1 : Int32)).toNatClampNeg)).bind fun v16 => f_M_arrayOperator_b93 v16.toInt64 (0 : Int32) (1 : Int32) s9 else none) else (if xin ((mI 4 s) - (1 : Int32)) 1300 = true then (if xin ((mL 2 s9 ((mI 4 s) - (1 : Int32)).toNatClampNeg).toInt32) 28 = true then f_M_arrayOperator_b93 ((mA 7 s9 ((mL 2 s9 ((mI 4 s) - (1 : Int32)).toNatClampNeg).toInt32).toNatClampNeg).toInt64) (0 : Int32) (1 : Int32) s9 else none) else none)) := by
  unfold f_M_arrayOperator
  rw [if_neg (by decide), if_pos rfl]
theorem yy_Mb_39 (s : MT) : f_M_arrayOperator s 39 = (f_M_get s ((mI 4 s) - (1 : Int32))).bind fun (v21, s20) => some (v21, s20) := by
  unfold f_M_arrayOperator
  rw [if_neg (by decide), if_neg (by decide), if_pos rfl]
theorem yy_Mb_40 (s : MT) : f_M_arrayOperator s 40 = (f_M_kindOf s (((mI 4 s) - (1 : Int32)) - (2 : Int32))).bind fun (v26, s25) => (if v26 = (6 : Int32) then (if xin (((mI 4 s) - (1 : Int32)) - (2 : Int32)) 1300 = true then (if xin (((mI 4 s) - (1 : Int32)) - (1 : Int32)) 1300 = true then (f_M_putEntry s25 ((mL 2 s25 (((mI 4 s) - (1 : Int32)) - (2 : Int32)).toNatClampNeg).toInt32) (mL 2 s25 (((mI 4 s) - (1 : Int32)) - (1 : Int32)).toNatClampNeg) (3 : Int32)).bind fun (v37, s36) => f_M_arrayOperator_b145 v37 s36 else none) else none) else (f_M_putCell s25 ((mI 4 s) - (1 : Int32))).bind fun (v31, s30) => f_M_arrayOperator_b145 v31 s30) := by
  unfold f_M_arrayOperator
  rw [if_neg (by decide), if_neg (by decide), if_neg (by decide), if_pos rfl]
theorem yy_Mb_41 (s : MT) : f_M_arrayOperator s 41 = (if xin (((mI 4 s) - (1 : Int32)) - (2 : Int32)) 1300 = true then (if xin (((mI 4 s) - (1 : Int32)) - (1 : Int32)) 1300 = true then (if xin ((mI 4 s) - (1 : Int32)) 1300 = true then (f_M_part s (mL 2 s (((mI 4 s) - (1 : Int32)) - (2 : Int32)).toNatClampNeg) (mL 2 s (((mI 4 s) - (1 : Int32)) - (1 : Int32)).toNatClampNeg) (mL 2 s ((mI 4 s) - (1 : Int32)).toNatClampNeg)).bind fun (v45, s44) => some (v45, s44) else none) else none) else none) := by
  unfold f_M_arrayOperator
  rw [if_neg (by decide), if_neg (by decide), if_neg (by decide), if_neg (by decide), if_pos rfl]
theorem yy_Mb_42 (s : MT) : f_M_arrayOperator s 42 = (if xin ((mI 4 s) - (1 : Int32)) 1300 = true then (f_M_load s (mL 2 s ((mI 4 s) - (1 : Int32)).toNatClampNeg)).bind fun (v50, s49) => some (v50, s49) else none) := by
  unfold f_M_arrayOperator
  rw [if_neg (by decide), if_neg (by decide), if_neg (by decide), if_neg (by decide), if_neg (by decide)]
theorem yy_Mb_43 (s : MT) : f_M_dictOperator s 43 = (if xin ((mI 4 s) - (1 : Int32)) 1300 = true then (f_M_newDict s (mL 2 s ((mI 4 s) - (1 : Int32)).toNatClampNeg)).bind fun (v5, s4) => some (v5, s4) else none) := by
  unfold f_M_dictOperator
  rw [if_pos rfl]
theorem yy_Mb_44 (s : MT) : f_M_dictOperator s 44 = (if (mI 10 s) = (6 : Int32) then some ((7 : Int32), s) else (if xin ((mI 4 s) - (1 : Int32)) 1300 = true then (if xin (mI 10 s) 6 = true then some ((0 : Int32), sI 4 ((mI 4 (sI 10 ((mI 10 (sA 9 (va_up (mA 9 s) (mI 10 s).toNatClampNeg ((mL 2 s ((mI 4 s) - (1 : Int32)).toNatClampNeg).toInt32)) s)) + (1 : Int32)) (sA 9 (va_up (mA 9 s) (mI 10 s).toNatClampNeg ((mL 2 s ((mI 4 s) - (1 : Int32)).toNatClampNeg).toInt32)) s))) - (1 : Int32)) (sI 10 ((mI 10 (sA 9 (va_up (mA 9 s) (mI 10 s).toNatClampNeg ((mL 2 s ((mI 4 s) - (1 : Int32)).toNatClampNeg).toInt32)) s)) + (1 : Int32)) (sA 9 (va_up (mA 9 s) (mI 10 s).toNatClampNeg ((mL 2 s ((mI 4 s) - (1 : Int32)).toNatClampNeg).toInt32)) s))) else none) else none)) := by
  unfold f_M_dictOperator
  rw [if_neg (by decide), if_pos rfl]
theorem yy_Mb_45 (s : MT) : f_M_dictOperator s 45 = (if (mI 10 s) = (1 : Int32) then some ((9 : Int32), s) else some ((0 : Int32), sI 10 ((mI 10 s) - (1 : Int32)) s)) := by
  unfold f_M_dictOperator
  rw [if_neg (by decide), if_neg (by decide), if_pos rfl]
theorem yy_Mb_46 (s : MT) : f_M_dictOperator s 46 = (if xin ((mI 10 s) - (1 : Int32)) 6 = true then (if xin (((mI 4 s) - (1 : Int32)) - (1 : Int32)) 1300 = true then (f_M_putEntry s (mA 9 s ((mI 10 s) - (1 : Int32)).toNatClampNeg) (mL 2 s (((mI 4 s) - (1 : Int32)) - (1 : Int32)).toNatClampNeg) (2 : Int32)).bind fun (v18, s17) => some (v18, s17) else none) else none) := by
  unfold f_M_dictOperator
  rw [if_neg (by decide), if_neg (by decide), if_neg (by decide), if_pos rfl]
theorem yy_Mb_47 (s : MT) : f_M_dictOperator s 47 = (if xin ((mI 4 s) - (1 : Int32)) 1300 = true then (f_M_found s (mL 2 s ((mI 4 s) - (1 : Int32)).toNatClampNeg)).bind fun (v24, s23) => (if v24 = (-1 : Int32) then some ((5 : Int32), s23) else (f_M_move s23 ((mI 4 s) - (1 : Int32)) v24).bind fun s28 => some ((0 : Int32), s28)) else none) := by
  unfold f_M_dictOperator
  rw [if_neg (by decide), if_neg (by decide), if_neg (by decide), if_neg (by decide), if_pos rfl]
theorem yy_Mb_48 (s : MT) : f_M_dictOperator s 48 = (if xin (((mI 4 s) - (1 : Int32)) - (1 : Int32)) 1300 = true then (if xin ((mI 4 s) - (1 : Int32)) 1300 = true then (f_M_entry s ((mL 2 s (((mI 4 s) - (1 : Int32)) - (1 : Int32)).toNatClampNeg).toInt32) (mL 2 s ((mI 4 s) - (1 : Int32)).toNatClampNeg)).bind fun (v34, s33) => (if v34 = (-1 : Int32) then f_M_dictOperator_b214 (0 : Int64) (2 : Int32) (2 : Int32) s33 else f_M_dictOperator_b214 (1 : Int64) (2 : Int32) (2 : Int32) s33) else none) else none) := by
  unfold f_M_dictOperator
  rw [if_neg (by decide), if_neg (by decide), if_neg (by decide), if_neg (by decide), if_neg (by decide), if_pos rfl]
theorem yy_Mb_49 (s : MT) : f_M_dictOperator s 49 = (if xin ((mI 10 s) - (1 : Int32)) 6 = true then (f_M_push s (6 : Int32) ((mA 9 s ((mI 10 s) - (1 : Int32)).toNatClampNeg).toInt64)).bind fun (v40, s39) => some (v40, s39) else none) := by
  unfold f_M_dictOperator
  rw [if_neg (by decide), if_neg (by decide), if_neg (by decide), if_neg (by decide), if_neg (by decide), if_neg (by decide)]
theorem yy_Mb_57 (s : MT) : f_M_control s 57 = (f_M_exit s).bind fun (v4, s3) => some (v4, s3) := by
  unfold f_M_control
  rw [if_pos rfl]
theorem yy_Mb_58 (s : MT) : f_M_control s 58 = some ((14 : Int32), s) := by
  unfold f_M_control
  rw [if_neg (by decide), if_pos rfl]
theorem yy_Mb_59 (s : MT) : f_M_control s 59 = (f_M_move (sI 4 ((mI 4 s) - (1 : Int32)) s) (40 : Int32) (mI 4 (sI 4 ((mI 4 s) - (1 : Int32)) s))).bind fun s9 => (f_M_frame s9 (7 : Int32) (0 : Int64)).bind fun s11 => (f_M_isProcedure s11 (40 : Int32)).bind fun (v14, s13) => (if v14 = 0 then (f_M_again s13).bind fun (v19, s18) => f_M_control_b98 v19 s18 else (if xin (40 : Int32) 1300 = true then (f_M_runArray s13 (mL 2 s13 (40 : Int32).toNatClampNeg)).bind fun (v24, s23) => f_M_control_b98 v24 s23 else none)) := by
  unfold f_M_control
  rw [if_neg (by decide), if_neg (by decide), if_pos rfl]
theorem yy_Mb_60 (s : MT) : f_M_control s 60 = (f_M_push s (0 : Int32) ((mI 33 s).toInt64)).bind fun (v29, s28) => some (v29, s28) := by
  unfold f_M_control
  rw [if_neg (by decide), if_neg (by decide), if_neg (by decide), if_pos rfl]
theorem yy_Mb_61 (s : MT) : f_M_control s 61 = (f_M_save s).bind fun (v34, s33) => some (v34, s33) := by
  unfold f_M_control
  rw [if_neg (by decide), if_neg (by decide), if_neg (by decide), if_neg (by decide), if_pos rfl]
theorem yy_Mb_62 (s : MT) : f_M_control s 62 = (f_M_restore s).bind fun (v38, s37) => some (v38, s37) := by
  unfold f_M_control
  rw [if_neg (by decide), if_neg (by decide), if_neg (by decide), if_neg (by decide), if_neg (by decide)]
