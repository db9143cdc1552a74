/-! the component's state as a tuple: ints (P's by field; 100 101 text, 102 103 word, 104 105 dicts), int arrays by address, double arrays, reference arrays, slots, dicts, other cells, latest, gray, text's bytes (address, length), next, slots -/
abbrev y_SV : Type := Option Nat × Int32 × Int32 × Int32 × Int32 × UInt64 × Option Nat × Option Nat
abbrev y_DV : Type := Int32 × Int32 × Int32 × Option Nat
abbrev y_CT : Type := (Nat → Int32) × (Nat → Nat → Int32) × (Nat → Nat → UInt64) × (Nat → Nat → Option Nat) × (Nat → Option y_SV) × (Nat → Option y_DV) × (Nat → Option xE) × (Option Nat) × UInt32 × (Nat × Nat) × Nat × Nat
def y_cI (k : Nat) (c : y_CT) : Int32 := c.1 k
def y_cA (k : Nat) (c : y_CT) : (Nat → Int32) := c.2.1 k
def y_cD (k : Nat) (c : y_CT) : (Nat → UInt64) := c.2.2.1 k
def y_cR (k : Nat) (c : y_CT) : (Nat → Option Nat) := c.2.2.2.1 k
def y_cS (c : y_CT) (a : Nat) : Option y_SV := c.2.2.2.2.1 a
def y_cT (c : y_CT) (a : Nat) : Option y_DV := c.2.2.2.2.2.1 a
def y_cO (c : y_CT) (a : Nat) : Option xE := c.2.2.2.2.2.2.1 a
def y_cl (c : y_CT) : (Option Nat) := c.2.2.2.2.2.2.2.1
def y_cg (c : y_CT) : UInt32 := c.2.2.2.2.2.2.2.2.1
def y_cb (c : y_CT) : (Nat × Nat) := c.2.2.2.2.2.2.2.2.2.1
def y_cn (c : y_CT) : Nat := c.2.2.2.2.2.2.2.2.2.2.1
def y_cz (c : y_CT) : Nat := c.2.2.2.2.2.2.2.2.2.2.2
def y_tI (k : Nat) (x : Int32) (c : y_CT) : y_CT := (va_up c.1 k x, c.2)
def y_tA (k : Nat) (x : (Nat → Int32)) (c : y_CT) : y_CT := (c.1, va_up c.2.1 k x, c.2.2)
def y_tD (k : Nat) (x : (Nat → UInt64)) (c : y_CT) : y_CT := (c.1, c.2.1, va_up c.2.2.1 k x, c.2.2.2)
def y_tR (k : Nat) (x : (Nat → Option Nat)) (c : y_CT) : y_CT := (c.1, c.2.1, c.2.2.1, va_up c.2.2.2.1 k x, c.2.2.2.2)
def y_tS (a : Nat) (x : Option y_SV) (c : y_CT) : y_CT := (c.1, c.2.1, c.2.2.1, c.2.2.2.1, va_up c.2.2.2.2.1 a x, c.2.2.2.2.2)
def y_tT (a : Nat) (x : Option y_DV) (c : y_CT) : y_CT := (c.1, c.2.1, c.2.2.1, c.2.2.2.1, c.2.2.2.2.1, va_up c.2.2.2.2.2.1 a x, c.2.2.2.2.2.2)
def y_tO (a : Nat) (x : Option xE) (c : y_CT) : y_CT := (c.1, c.2.1, c.2.2.1, c.2.2.2.1, c.2.2.2.2.1, c.2.2.2.2.2.1, va_up c.2.2.2.2.2.2.1 a x, c.2.2.2.2.2.2.2)
def y_tl (x : (Option Nat)) (c : y_CT) : y_CT := (c.1, c.2.1, c.2.2.1, c.2.2.2.1, c.2.2.2.2.1, c.2.2.2.2.2.1, c.2.2.2.2.2.2.1, x, c.2.2.2.2.2.2.2.2)
def y_tg (x : UInt32) (c : y_CT) : y_CT := (c.1, c.2.1, c.2.2.1, c.2.2.2.1, c.2.2.2.2.1, c.2.2.2.2.2.1, c.2.2.2.2.2.2.1, c.2.2.2.2.2.2.2.1, x, c.2.2.2.2.2.2.2.2.2)
def y_tb (x : (Nat × Nat)) (c : y_CT) : y_CT := (c.1, c.2.1, c.2.2.1, c.2.2.2.1, c.2.2.2.2.1, c.2.2.2.2.2.1, c.2.2.2.2.2.2.1, c.2.2.2.2.2.2.2.1, c.2.2.2.2.2.2.2.2.1, x, c.2.2.2.2.2.2.2.2.2.2)
def y_tn (x : Nat) (c : y_CT) : y_CT := (c.1, c.2.1, c.2.2.1, c.2.2.2.1, c.2.2.2.2.1, c.2.2.2.2.2.1, c.2.2.2.2.2.2.1, c.2.2.2.2.2.2.2.1, c.2.2.2.2.2.2.2.2.1, c.2.2.2.2.2.2.2.2.2.1, x, c.2.2.2.2.2.2.2.2.2.2.2)
def y_tz (x : Nat) (c : y_CT) : y_CT := (c.1, c.2.1, c.2.2.1, c.2.2.2.1, c.2.2.2.2.1, c.2.2.2.2.2.1, c.2.2.2.2.2.2.1, c.2.2.2.2.2.2.2.1, c.2.2.2.2.2.2.2.2.1, c.2.2.2.2.2.2.2.2.2.1, c.2.2.2.2.2.2.2.2.2.2.1, x)
theorem y_cI_tI (k : Nat) (j : Nat) (x : Int32) (c : y_CT) : y_cI k (y_tI j x c) = if k = j then x else y_cI k c := rfl
theorem y_cI_tA (k : Nat) (j : Nat) (x : (Nat → Int32)) (c : y_CT) : y_cI k (y_tA j x c) = y_cI k c := rfl
theorem y_cI_tD (k : Nat) (j : Nat) (x : (Nat → UInt64)) (c : y_CT) : y_cI k (y_tD j x c) = y_cI k c := rfl
theorem y_cI_tR (k : Nat) (j : Nat) (x : (Nat → Option Nat)) (c : y_CT) : y_cI k (y_tR j x c) = y_cI k c := rfl
theorem y_cI_tS (k : Nat) (b : Nat) (x : Option y_SV) (c : y_CT) : y_cI k (y_tS b x c) = y_cI k c := rfl
theorem y_cI_tT (k : Nat) (b : Nat) (x : Option y_DV) (c : y_CT) : y_cI k (y_tT b x c) = y_cI k c := rfl
theorem y_cI_tO (k : Nat) (b : Nat) (x : Option xE) (c : y_CT) : y_cI k (y_tO b x c) = y_cI k c := rfl
theorem y_cI_tl (k : Nat) (x : (Option Nat)) (c : y_CT) : y_cI k (y_tl x c) = y_cI k c := rfl
theorem y_cI_tg (k : Nat) (x : UInt32) (c : y_CT) : y_cI k (y_tg x c) = y_cI k c := rfl
theorem y_cI_tb (k : Nat) (x : (Nat × Nat)) (c : y_CT) : y_cI k (y_tb x c) = y_cI k c := rfl
theorem y_cI_tn (k : Nat) (x : Nat) (c : y_CT) : y_cI k (y_tn x c) = y_cI k c := rfl
theorem y_cI_tz (k : Nat) (x : Nat) (c : y_CT) : y_cI k (y_tz x c) = y_cI k c := rfl
theorem y_cA_tI (k : Nat) (j : Nat) (x : Int32) (c : y_CT) : y_cA k (y_tI j x c) = y_cA k c := rfl
theorem y_cA_tA (k : Nat) (j : Nat) (x : (Nat → Int32)) (c : y_CT) : y_cA k (y_tA j x c) = if k = j then x else y_cA k c := rfl
theorem y_cA_tD (k : Nat) (j : Nat) (x : (Nat → UInt64)) (c : y_CT) : y_cA k (y_tD j x c) = y_cA k c := rfl
theorem y_cA_tR (k : Nat) (j : Nat) (x : (Nat → Option Nat)) (c : y_CT) : y_cA k (y_tR j x c) = y_cA k c := rfl
theorem y_cA_tS (k : Nat) (b : Nat) (x : Option y_SV) (c : y_CT) : y_cA k (y_tS b x c) = y_cA k c := rfl
theorem y_cA_tT (k : Nat) (b : Nat) (x : Option y_DV) (c : y_CT) : y_cA k (y_tT b x c) = y_cA k c := rfl
theorem y_cA_tO (k : Nat) (b : Nat) (x : Option xE) (c : y_CT) : y_cA k (y_tO b x c) = y_cA k c := rfl
theorem y_cA_tl (k : Nat) (x : (Option Nat)) (c : y_CT) : y_cA k (y_tl x c) = y_cA k c := rfl
theorem y_cA_tg (k : Nat) (x : UInt32) (c : y_CT) : y_cA k (y_tg x c) = y_cA k c := rfl
theorem y_cA_tb (k : Nat) (x : (Nat × Nat)) (c : y_CT) : y_cA k (y_tb x c) = y_cA k c := rfl
theorem y_cA_tn (k : Nat) (x : Nat) (c : y_CT) : y_cA k (y_tn x c) = y_cA k c := rfl
theorem y_cA_tz (k : Nat) (x : Nat) (c : y_CT) : y_cA k (y_tz x c) = y_cA k c := rfl
theorem y_cD_tI (k : Nat) (j : Nat) (x : Int32) (c : y_CT) : y_cD k (y_tI j x c) = y_cD k c := rfl
theorem y_cD_tA (k : Nat) (j : Nat) (x : (Nat → Int32)) (c : y_CT) : y_cD k (y_tA j x c) = y_cD k c := rfl
theorem y_cD_tD (k : Nat) (j : Nat) (x : (Nat → UInt64)) (c : y_CT) : y_cD k (y_tD j x c) = if k = j then x else y_cD k c := rfl
theorem y_cD_tR (k : Nat) (j : Nat) (x : (Nat → Option Nat)) (c : y_CT) : y_cD k (y_tR j x c) = y_cD k c := rfl
theorem y_cD_tS (k : Nat) (b : Nat) (x : Option y_SV) (c : y_CT) : y_cD k (y_tS b x c) = y_cD k c := rfl
theorem y_cD_tT (k : Nat) (b : Nat) (x : Option y_DV) (c : y_CT) : y_cD k (y_tT b x c) = y_cD k c := rfl
theorem y_cD_tO (k : Nat) (b : Nat) (x : Option xE) (c : y_CT) : y_cD k (y_tO b x c) = y_cD k c := rfl
theorem y_cD_tl (k : Nat) (x : (Option Nat)) (c : y_CT) : y_cD k (y_tl x c) = y_cD k c := rfl
theorem y_cD_tg (k : Nat) (x : UInt32) (c : y_CT) : y_cD k (y_tg x c) = y_cD k c := rfl
theorem y_cD_tb (k : Nat) (x : (Nat × Nat)) (c : y_CT) : y_cD k (y_tb x c) = y_cD k c := rfl
theorem y_cD_tn (k : Nat) (x : Nat) (c : y_CT) : y_cD k (y_tn x c) = y_cD k c := rfl
theorem y_cD_tz (k : Nat) (x : Nat) (c : y_CT) : y_cD k (y_tz x c) = y_cD k c := rfl
theorem y_cR_tI (k : Nat) (j : Nat) (x : Int32) (c : y_CT) : y_cR k (y_tI j x c) = y_cR k c := rfl
theorem y_cR_tA (k : Nat) (j : Nat) (x : (Nat → Int32)) (c : y_CT) : y_cR k (y_tA j x c) = y_cR k c := rfl
theorem y_cR_tD (k : Nat) (j : Nat) (x : (Nat → UInt64)) (c : y_CT) : y_cR k (y_tD j x c) = y_cR k c := rfl
theorem y_cR_tR (k : Nat) (j : Nat) (x : (Nat → Option Nat)) (c : y_CT) : y_cR k (y_tR j x c) = if k = j then x else y_cR k c := rfl
theorem y_cR_tS (k : Nat) (b : Nat) (x : Option y_SV) (c : y_CT) : y_cR k (y_tS b x c) = y_cR k c := rfl
theorem y_cR_tT (k : Nat) (b : Nat) (x : Option y_DV) (c : y_CT) : y_cR k (y_tT b x c) = y_cR k c := rfl
theorem y_cR_tO (k : Nat) (b : Nat) (x : Option xE) (c : y_CT) : y_cR k (y_tO b x c) = y_cR k c := rfl
theorem y_cR_tl (k : Nat) (x : (Option Nat)) (c : y_CT) : y_cR k (y_tl x c) = y_cR k c := rfl
theorem y_cR_tg (k : Nat) (x : UInt32) (c : y_CT) : y_cR k (y_tg x c) = y_cR k c := rfl
theorem y_cR_tb (k : Nat) (x : (Nat × Nat)) (c : y_CT) : y_cR k (y_tb x c) = y_cR k c := rfl
theorem y_cR_tn (k : Nat) (x : Nat) (c : y_CT) : y_cR k (y_tn x c) = y_cR k c := rfl
theorem y_cR_tz (k : Nat) (x : Nat) (c : y_CT) : y_cR k (y_tz x c) = y_cR k c := rfl
theorem y_cS_tI (a : Nat) (j : Nat) (x : Int32) (c : y_CT) : y_cS (y_tI j x c) a = y_cS c a := rfl
theorem y_cS_tA (a : Nat) (j : Nat) (x : (Nat → Int32)) (c : y_CT) : y_cS (y_tA j x c) a = y_cS c a := rfl
theorem y_cS_tD (a : Nat) (j : Nat) (x : (Nat → UInt64)) (c : y_CT) : y_cS (y_tD j x c) a = y_cS c a := rfl
theorem y_cS_tR (a : Nat) (j : Nat) (x : (Nat → Option Nat)) (c : y_CT) : y_cS (y_tR j x c) a = y_cS c a := rfl
theorem y_cS_tS (a : Nat) (b : Nat) (x : Option y_SV) (c : y_CT) : y_cS (y_tS b x c) a = if a = b then x else y_cS c a := rfl
theorem y_cS_tT (a : Nat) (b : Nat) (x : Option y_DV) (c : y_CT) : y_cS (y_tT b x c) a = y_cS c a := rfl
theorem y_cS_tO (a : Nat) (b : Nat) (x : Option xE) (c : y_CT) : y_cS (y_tO b x c) a = y_cS c a := rfl
theorem y_cS_tl (a : Nat) (x : (Option Nat)) (c : y_CT) : y_cS (y_tl x c) a = y_cS c a := rfl
theorem y_cS_tg (a : Nat) (x : UInt32) (c : y_CT) : y_cS (y_tg x c) a = y_cS c a := rfl
theorem y_cS_tb (a : Nat) (x : (Nat × Nat)) (c : y_CT) : y_cS (y_tb x c) a = y_cS c a := rfl
theorem y_cS_tn (a : Nat) (x : Nat) (c : y_CT) : y_cS (y_tn x c) a = y_cS c a := rfl
theorem y_cS_tz (a : Nat) (x : Nat) (c : y_CT) : y_cS (y_tz x c) a = y_cS c a := rfl
theorem y_cT_tI (a : Nat) (j : Nat) (x : Int32) (c : y_CT) : y_cT (y_tI j x c) a = y_cT c a := rfl
theorem y_cT_tA (a : Nat) (j : Nat) (x : (Nat → Int32)) (c : y_CT) : y_cT (y_tA j x c) a = y_cT c a := rfl
theorem y_cT_tD (a : Nat) (j : Nat) (x : (Nat → UInt64)) (c : y_CT) : y_cT (y_tD j x c) a = y_cT c a := rfl
theorem y_cT_tR (a : Nat) (j : Nat) (x : (Nat → Option Nat)) (c : y_CT) : y_cT (y_tR j x c) a = y_cT c a := rfl
theorem y_cT_tS (a : Nat) (b : Nat) (x : Option y_SV) (c : y_CT) : y_cT (y_tS b x c) a = y_cT c a := rfl
theorem y_cT_tT (a : Nat) (b : Nat) (x : Option y_DV) (c : y_CT) : y_cT (y_tT b x c) a = if a = b then x else y_cT c a := rfl
theorem y_cT_tO (a : Nat) (b : Nat) (x : Option xE) (c : y_CT) : y_cT (y_tO b x c) a = y_cT c a := rfl
theorem y_cT_tl (a : Nat) (x : (Option Nat)) (c : y_CT) : y_cT (y_tl x c) a = y_cT c a := rfl
theorem y_cT_tg (a : Nat) (x : UInt32) (c : y_CT) : y_cT (y_tg x c) a = y_cT c a := rfl
theorem y_cT_tb (a : Nat) (x : (Nat × Nat)) (c : y_CT) : y_cT (y_tb x c) a = y_cT c a := rfl
theorem y_cT_tn (a : Nat) (x : Nat) (c : y_CT) : y_cT (y_tn x c) a = y_cT c a := rfl
theorem y_cT_tz (a : Nat) (x : Nat) (c : y_CT) : y_cT (y_tz x c) a = y_cT c a := rfl
theorem y_cO_tI (a : Nat) (j : Nat) (x : Int32) (c : y_CT) : y_cO (y_tI j x c) a = y_cO c a := rfl
theorem y_cO_tA (a : Nat) (j : Nat) (x : (Nat → Int32)) (c : y_CT) : y_cO (y_tA j x c) a = y_cO c a := rfl
theorem y_cO_tD (a : Nat) (j : Nat) (x : (Nat → UInt64)) (c : y_CT) : y_cO (y_tD j x c) a = y_cO c a := rfl
theorem y_cO_tR (a : Nat) (j : Nat) (x : (Nat → Option Nat)) (c : y_CT) : y_cO (y_tR j x c) a = y_cO c a := rfl
theorem y_cO_tS (a : Nat) (b : Nat) (x : Option y_SV) (c : y_CT) : y_cO (y_tS b x c) a = y_cO c a := rfl
theorem y_cO_tT (a : Nat) (b : Nat) (x : Option y_DV) (c : y_CT) : y_cO (y_tT b x c) a = y_cO c a := rfl
theorem y_cO_tO (a : Nat) (b : Nat) (x : Option xE) (c : y_CT) : y_cO (y_tO b x c) a = if a = b then x else y_cO c a := rfl
theorem y_cO_tl (a : Nat) (x : (Option Nat)) (c : y_CT) : y_cO (y_tl x c) a = y_cO c a := rfl
theorem y_cO_tg (a : Nat) (x : UInt32) (c : y_CT) : y_cO (y_tg x c) a = y_cO c a := rfl
theorem y_cO_tb (a : Nat) (x : (Nat × Nat)) (c : y_CT) : y_cO (y_tb x c) a = y_cO c a := rfl
theorem y_cO_tn (a : Nat) (x : Nat) (c : y_CT) : y_cO (y_tn x c) a = y_cO c a := rfl
theorem y_cO_tz (a : Nat) (x : Nat) (c : y_CT) : y_cO (y_tz x c) a = y_cO c a := rfl
theorem y_cl_tI (j : Nat) (x : Int32) (c : y_CT) : y_cl (y_tI j x c) = y_cl c := rfl
theorem y_cl_tA (j : Nat) (x : (Nat → Int32)) (c : y_CT) : y_cl (y_tA j x c) = y_cl c := rfl
theorem y_cl_tD (j : Nat) (x : (Nat → UInt64)) (c : y_CT) : y_cl (y_tD j x c) = y_cl c := rfl
theorem y_cl_tR (j : Nat) (x : (Nat → Option Nat)) (c : y_CT) : y_cl (y_tR j x c) = y_cl c := rfl
theorem y_cl_tS (b : Nat) (x : Option y_SV) (c : y_CT) : y_cl (y_tS b x c) = y_cl c := rfl
theorem y_cl_tT (b : Nat) (x : Option y_DV) (c : y_CT) : y_cl (y_tT b x c) = y_cl c := rfl
theorem y_cl_tO (b : Nat) (x : Option xE) (c : y_CT) : y_cl (y_tO b x c) = y_cl c := rfl
theorem y_cl_tl (x : (Option Nat)) (c : y_CT) : y_cl (y_tl x c) = x := rfl
theorem y_cl_tg (x : UInt32) (c : y_CT) : y_cl (y_tg x c) = y_cl c := rfl
theorem y_cl_tb (x : (Nat × Nat)) (c : y_CT) : y_cl (y_tb x c) = y_cl c := rfl
theorem y_cl_tn (x : Nat) (c : y_CT) : y_cl (y_tn x c) = y_cl c := rfl
theorem y_cl_tz (x : Nat) (c : y_CT) : y_cl (y_tz x c) = y_cl c := rfl
theorem y_cg_tI (j : Nat) (x : Int32) (c : y_CT) : y_cg (y_tI j x c) = y_cg c := rfl
theorem y_cg_tA (j : Nat) (x : (Nat → Int32)) (c : y_CT) : y_cg (y_tA j x c) = y_cg c := rfl
theorem y_cg_tD (j : Nat) (x : (Nat → UInt64)) (c : y_CT) : y_cg (y_tD j x c) = y_cg c := rfl
theorem y_cg_tR (j : Nat) (x : (Nat → Option Nat)) (c : y_CT) : y_cg (y_tR j x c) = y_cg c := rfl
theorem y_cg_tS (b : Nat) (x : Option y_SV) (c : y_CT) : y_cg (y_tS b x c) = y_cg c := rfl
theorem y_cg_tT (b : Nat) (x : Option y_DV) (c : y_CT) : y_cg (y_tT b x c) = y_cg c := rfl
theorem y_cg_tO (b : Nat) (x : Option xE) (c : y_CT) : y_cg (y_tO b x c) = y_cg c := rfl
theorem y_cg_tl (x : (Option Nat)) (c : y_CT) : y_cg (y_tl x c) = y_cg c := rfl
theorem y_cg_tg (x : UInt32) (c : y_CT) : y_cg (y_tg x c) = x := rfl
theorem y_cg_tb (x : (Nat × Nat)) (c : y_CT) : y_cg (y_tb x c) = y_cg c := rfl
theorem y_cg_tn (x : Nat) (c : y_CT) : y_cg (y_tn x c) = y_cg c := rfl
theorem y_cg_tz (x : Nat) (c : y_CT) : y_cg (y_tz x c) = y_cg c := rfl
theorem y_cb_tI (j : Nat) (x : Int32) (c : y_CT) : y_cb (y_tI j x c) = y_cb c := rfl
theorem y_cb_tA (j : Nat) (x : (Nat → Int32)) (c : y_CT) : y_cb (y_tA j x c) = y_cb c := rfl
theorem y_cb_tD (j : Nat) (x : (Nat → UInt64)) (c : y_CT) : y_cb (y_tD j x c) = y_cb c := rfl
theorem y_cb_tR (j : Nat) (x : (Nat → Option Nat)) (c : y_CT) : y_cb (y_tR j x c) = y_cb c := rfl
theorem y_cb_tS (b : Nat) (x : Option y_SV) (c : y_CT) : y_cb (y_tS b x c) = y_cb c := rfl
theorem y_cb_tT (b : Nat) (x : Option y_DV) (c : y_CT) : y_cb (y_tT b x c) = y_cb c := rfl
theorem y_cb_tO (b : Nat) (x : Option xE) (c : y_CT) : y_cb (y_tO b x c) = y_cb c := rfl
theorem y_cb_tl (x : (Option Nat)) (c : y_CT) : y_cb (y_tl x c) = y_cb c := rfl
theorem y_cb_tg (x : UInt32) (c : y_CT) : y_cb (y_tg x c) = y_cb c := rfl
theorem y_cb_tb (x : (Nat × Nat)) (c : y_CT) : y_cb (y_tb x c) = x := rfl
theorem y_cb_tn (x : Nat) (c : y_CT) : y_cb (y_tn x c) = y_cb c := rfl
theorem y_cb_tz (x : Nat) (c : y_CT) : y_cb (y_tz x c) = y_cb c := rfl
theorem y_cn_tI (j : Nat) (x : Int32) (c : y_CT) : y_cn (y_tI j x c) = y_cn c := rfl
theorem y_cn_tA (j : Nat) (x : (Nat → Int32)) (c : y_CT) : y_cn (y_tA j x c) = y_cn c := rfl
theorem y_cn_tD (j : Nat) (x : (Nat → UInt64)) (c : y_CT) : y_cn (y_tD j x c) = y_cn c := rfl
theorem y_cn_tR (j : Nat) (x : (Nat → Option Nat)) (c : y_CT) : y_cn (y_tR j x c) = y_cn c := rfl
theorem y_cn_tS (b : Nat) (x : Option y_SV) (c : y_CT) : y_cn (y_tS b x c) = y_cn c := rfl
theorem y_cn_tT (b : Nat) (x : Option y_DV) (c : y_CT) : y_cn (y_tT b x c) = y_cn c := rfl
theorem y_cn_tO (b : Nat) (x : Option xE) (c : y_CT) : y_cn (y_tO b x c) = y_cn c := rfl
theorem y_cn_tl (x : (Option Nat)) (c : y_CT) : y_cn (y_tl x c) = y_cn c := rfl
theorem y_cn_tg (x : UInt32) (c : y_CT) : y_cn (y_tg x c) = y_cn c := rfl
theorem y_cn_tb (x : (Nat × Nat)) (c : y_CT) : y_cn (y_tb x c) = y_cn c := rfl
theorem y_cn_tn (x : Nat) (c : y_CT) : y_cn (y_tn x c) = x := rfl
theorem y_cn_tz (x : Nat) (c : y_CT) : y_cn (y_tz x c) = y_cn c := rfl
theorem y_cz_tI (j : Nat) (x : Int32) (c : y_CT) : y_cz (y_tI j x c) = y_cz c := rfl
theorem y_cz_tA (j : Nat) (x : (Nat → Int32)) (c : y_CT) : y_cz (y_tA j x c) = y_cz c := rfl
theorem y_cz_tD (j : Nat) (x : (Nat → UInt64)) (c : y_CT) : y_cz (y_tD j x c) = y_cz c := rfl
theorem y_cz_tR (j : Nat) (x : (Nat → Option Nat)) (c : y_CT) : y_cz (y_tR j x c) = y_cz c := rfl
theorem y_cz_tS (b : Nat) (x : Option y_SV) (c : y_CT) : y_cz (y_tS b x c) = y_cz c := rfl
theorem y_cz_tT (b : Nat) (x : Option y_DV) (c : y_CT) : y_cz (y_tT b x c) = y_cz c := rfl
theorem y_cz_tO (b : Nat) (x : Option xE) (c : y_CT) : y_cz (y_tO b x c) = y_cz c := rfl
theorem y_cz_tl (x : (Option Nat)) (c : y_CT) : y_cz (y_tl x c) = y_cz c := rfl
theorem y_cz_tg (x : UInt32) (c : y_CT) : y_cz (y_tg x c) = y_cz c := rfl
theorem y_cz_tb (x : (Nat × Nat)) (c : y_CT) : y_cz (y_tb x c) = y_cz c := rfl
theorem y_cz_tn (x : Nat) (c : y_CT) : y_cz (y_tn x c) = y_cz c := rfl
theorem y_cz_tz (x : Nat) (c : y_CT) : y_cz (y_tz x c) = x := rfl
def y_PF (c : y_CT) : List xV := [vA 257, vA 264, vA 265, vA 267, vI (y_cI 4 c), vI (y_cI 5 c), vA 269, vA 270, vA 271, vI (y_cI 9 c), vI (y_cI 10 c), vI (y_cI 11 c), vA 272, vA 274, vI (y_cI 14 c), vI (y_cI 15 c), vI (y_cI 16 c), vI (y_cI 17 c), vI (y_cI 18 c), vA 275, vA 276, vI (y_cI 21 c), vI (y_cI 22 c), vI (y_cI 23 c), vI (y_cI 24 c), vA 277, vI (y_cI 26 c), vI (y_cI 27 c), vR (y_cl c), vF (y_cg c), vA 278, vA 279, vA 280, vA 281, vA 282, vI (y_cI 35 c), vI (y_cI 36 c), vA 283, vI (y_cI 38 c), vI (y_cI 39 c)]
def y_slV (v : y_SV) : List xV := [vR v.1, vI v.2.1, vI v.2.2.1, vI v.2.2.2.1, vI v.2.2.2.2.1, vD v.2.2.2.2.2.1, vR v.2.2.2.2.2.2.1, vR v.2.2.2.2.2.2.2]
def y_dcV (v : y_DV) : List xV := [vI v.1, vI v.2.1, vI v.2.2.1, vR v.2.2.2]
def y_cF (c : y_CT) (a : Nat) : Option xE := match a with
  | 256 => some (.inl (0, y_PF c))
  | 257 => some (.inr (.object "PageScribe$Group", (6, .inr (.inr (.inr (.inr fun j => some (258 + j)))))))
  | 258 => some (.inl (10, []))
  | 259 => some (.inl (11, []))
  | 260 => some (.inl (12, []))
  | 261 => some (.inl (13, []))
  | 262 => some (.inl (14, []))
  | 263 => some (.inl (15, []))
  | 264 => some (.inr (.object "PageScribe$Name", (32, .inr (.inr (.inr (.inr (y_cR 264 c)))))))
  | 265 => some (.inl (16, [vA (y_cb c).1, vI 0, vI (y_cI 101 c), vI (y_cI 100 c)]))
  | 267 => some (.inl (16, [vA 268, vI 0, vI (y_cI 103 c), vI (y_cI 102 c)]))
  | 268 => some (.inr (.byte, (120, .inl (y_cA 268 c))))
  | 269 => some (.inr (.object "PageScribe$Slot", (41, .inr (.inr (.inr (.inr (y_cR 269 c)))))))
  | 270 => some (.inr (.object "PageScribe$Slot", (160, .inr (.inr (.inr (.inr (y_cR 270 c)))))))
  | 271 => some (.inr (.object "PageScribe$Slot", (120, .inr (.inr (.inr (.inr (y_cR 271 c)))))))
  | 272 => some (.inl (17, [vA 273, vI (y_cI 104 c), vI (y_cI 105 c)]))
  | 273 => some (.inr (.object "java/lang/Object", (7, .inr (.inr (.inr (.inr (y_cR 273 c)))))))
  | 274 => some (.inr (.object "PageScribe$Dict", (6, .inr (.inr (.inr (.inr (y_cR 274 c)))))))
  | 275 => some (.inr (.int, (20, .inl (y_cA 275 c))))
  | 276 => some (.inr (.int, (20, .inl (y_cA 276 c))))
  | 277 => some (.inr (.object "PageScribe$Save", (3, .inr (.inr (.inr (.inr (y_cR 277 c)))))))
  | 278 => some (.inr (.double, (30, .inr (.inr (.inr (.inl (y_cD 278 c)))))))
  | 279 => some (.inr (.double, (30, .inr (.inr (.inr (.inl (y_cD 279 c)))))))
  | 280 => some (.inr (.int, (30, .inl (y_cA 280 c))))
  | 281 => some (.inr (.int, (30, .inl (y_cA 281 c))))
  | 282 => some (.inr (.int, (30, .inl (y_cA 282 c))))
  | 283 => some (.inr (.array .byte, (16, .inr (.inr (.inr (.inr fun j => some (284 + j)))))))
  | 284 => some (.inr (.byte, (24, .inl (y_cA 284 c))))
  | 285 => some (.inr (.byte, (24, .inl (y_cA 285 c))))
  | 286 => some (.inr (.byte, (24, .inl (y_cA 286 c))))
  | 287 => some (.inr (.byte, (24, .inl (y_cA 287 c))))
  | 288 => some (.inr (.byte, (24, .inl (y_cA 288 c))))
  | 289 => some (.inr (.byte, (24, .inl (y_cA 289 c))))
  | 290 => some (.inr (.byte, (24, .inl (y_cA 290 c))))
  | 291 => some (.inr (.byte, (24, .inl (y_cA 291 c))))
  | 292 => some (.inr (.byte, (24, .inl (y_cA 292 c))))
  | 293 => some (.inr (.byte, (24, .inl (y_cA 293 c))))
  | 294 => some (.inr (.byte, (24, .inl (y_cA 294 c))))
  | 295 => some (.inr (.byte, (24, .inl (y_cA 295 c))))
  | 296 => some (.inr (.byte, (24, .inl (y_cA 296 c))))
  | 297 => some (.inr (.byte, (24, .inl (y_cA 297 c))))
  | 298 => some (.inr (.byte, (24, .inl (y_cA 298 c))))
  | 299 => some (.inr (.byte, (24, .inl (y_cA 299 c))))
  | _ => y_cO c a
def y_cX (a : Nat) : Bool := Nat.blt a 300 && !Nat.beq a 266
def y_cM (c : y_CT) (a : Nat) : Option xE := if y_cX a = true then y_cF c a else if a = (y_cb c).1 then some (.inr (.byte, ((y_cb c).2, .inl (y_cA 266 c)))) else match y_cS c a with
  | some v => some (.inl (2, y_slV v))
  | none => match y_cT c a with
    | some d => some (.inl (4, y_dcV d))
    | none => y_cO c a
def y_cH (c : y_CT) : xH := (y_cM c, y_cn c, y_cz c)
/-- a slot, a dict, another cell at an address -/
def y_slv (c : y_CT) (a : Nat) : Option y_SV := if y_cX a = false ∧ a ≠ (y_cb c).1 then y_cS c a else none
def y_dcv (c : y_CT) (a : Nat) : Option y_DV := if y_cX a = false ∧ a ≠ (y_cb c).1 ∧ y_cS c a = none then y_cT c a else none
def y_ov (c : y_CT) (a : Nat) : Option xE := if y_cX a = false ∧ a ≠ (y_cb c).1 ∧ y_cS c a = none ∧ y_cT c a = none then y_cO c a else none
theorem y_c_up {c c2 : y_CT} {a : Nat} {e : xE} (h1 : y_cM c2 a = some e) (h2 : ∀ b, b ≠ a → y_cM c2 b = y_cM c b) (h3 : y_cn c2 = y_cn c) (h4 : y_cz c2 = y_cz c) : xup (y_cH c) a e = y_cH c2 := by
  show (va_up (y_cM c) a (some e), y_cn c, y_cz c) = (y_cM c2, y_cn c2, y_cz c2)
  rw [h3, h4]
  refine congrArg (fun z => (z, y_cn c, y_cz c)) (funext fun b => ?_)
  unfold va_up
  by_cases hb : b = a
  · subst hb
    rw [if_pos rfl, h1]
  · rw [if_neg hb, h2 b hb]
theorem y_c_new {c c2 : y_CT} {e : xE} {n : Nat} (h1 : y_cM c2 (y_cn c) = some e) (h2 : ∀ b, b ≠ y_cn c → y_cM c2 b = y_cM c b) (h3 : y_cn c2 = y_cn c + 1) (h4 : y_cz c2 = y_cz c + n) : xnew (y_cH c) e n = y_cH c2 := by
  show (va_up (y_cM c) (y_cn c) (some e), y_cn c + 1, y_cz c + n) = (y_cM c2, y_cn c2, y_cz c2)
  rw [h3, h4]
  refine congrArg (fun z => (z, y_cn c + 1, y_cz c + n)) (funext fun b => ?_)
  unfold va_up
  by_cases hb : b = y_cn c
  · subst hb
    rw [if_pos rfl, h1]
  · rw [if_neg hb, h2 b hb]
/-- a fixed cell changes alone -/
theorem y_c_fix {c c2 : y_CT} {a : Nat} {e : xE} (hX : y_cX a = true) (h1 : y_cF c2 a = some e) (hF : ∀ b, b ≠ a → y_cF c2 b = y_cF c b) (hb : y_cb c2 = y_cb c) (hA : y_cA 266 c2 = y_cA 266 c) (hS : y_cS c2 = y_cS c) (hT : y_cT c2 = y_cT c) (hO : y_cO c2 = y_cO c) (h3 : y_cn c2 = y_cn c) (h4 : y_cz c2 = y_cz c) : xup (y_cH c) a e = y_cH c2 := by
  refine y_c_up ?_ ?_ h3 h4
  · unfold y_cM
    rw [if_pos hX, h1]
  · intro b hb2
    unfold y_cM
    rw [hF b hb2, hb, hA, hS, hT, hO]
theorem y_cgI_4 (sc : xSc) (c : y_CT) : gI sc (y_cH c) 0 4 (some 256) = some (y_cI 4 c) := rfl
theorem y_cgI_5 (sc : xSc) (c : y_CT) : gI sc (y_cH c) 0 5 (some 256) = some (y_cI 5 c) := rfl
theorem y_cgI_9 (sc : xSc) (c : y_CT) : gI sc (y_cH c) 0 9 (some 256) = some (y_cI 9 c) := rfl
theorem y_cgI_10 (sc : xSc) (c : y_CT) : gI sc (y_cH c) 0 10 (some 256) = some (y_cI 10 c) := rfl
theorem y_cgI_11 (sc : xSc) (c : y_CT) : gI sc (y_cH c) 0 11 (some 256) = some (y_cI 11 c) := rfl
theorem y_cgI_14 (sc : xSc) (c : y_CT) : gI sc (y_cH c) 0 14 (some 256) = some (y_cI 14 c) := rfl
theorem y_cgI_15 (sc : xSc) (c : y_CT) : gI sc (y_cH c) 0 15 (some 256) = some (y_cI 15 c) := rfl
theorem y_cgI_16 (sc : xSc) (c : y_CT) : gI sc (y_cH c) 0 16 (some 256) = some (y_cI 16 c) := rfl
theorem y_cgI_17 (sc : xSc) (c : y_CT) : gI sc (y_cH c) 0 17 (some 256) = some (y_cI 17 c) := rfl
theorem y_cgI_18 (sc : xSc) (c : y_CT) : gI sc (y_cH c) 0 18 (some 256) = some (y_cI 18 c) := rfl
theorem y_cgI_21 (sc : xSc) (c : y_CT) : gI sc (y_cH c) 0 21 (some 256) = some (y_cI 21 c) := rfl
theorem y_cgI_22 (sc : xSc) (c : y_CT) : gI sc (y_cH c) 0 22 (some 256) = some (y_cI 22 c) := rfl
theorem y_cgI_23 (sc : xSc) (c : y_CT) : gI sc (y_cH c) 0 23 (some 256) = some (y_cI 23 c) := rfl
theorem y_cgI_24 (sc : xSc) (c : y_CT) : gI sc (y_cH c) 0 24 (some 256) = some (y_cI 24 c) := rfl
theorem y_cgI_26 (sc : xSc) (c : y_CT) : gI sc (y_cH c) 0 26 (some 256) = some (y_cI 26 c) := rfl
theorem y_cgI_27 (sc : xSc) (c : y_CT) : gI sc (y_cH c) 0 27 (some 256) = some (y_cI 27 c) := rfl
theorem y_cgI_35 (sc : xSc) (c : y_CT) : gI sc (y_cH c) 0 35 (some 256) = some (y_cI 35 c) := rfl
theorem y_cgI_36 (sc : xSc) (c : y_CT) : gI sc (y_cH c) 0 36 (some 256) = some (y_cI 36 c) := rfl
theorem y_cgI_38 (sc : xSc) (c : y_CT) : gI sc (y_cH c) 0 38 (some 256) = some (y_cI 38 c) := rfl
theorem y_cgI_39 (sc : xSc) (c : y_CT) : gI sc (y_cH c) 0 39 (some 256) = some (y_cI 39 c) := rfl
theorem y_cgR_0 (sc : xSc) (c : y_CT) : gR sc (y_cH c) 0 0 (some 256) = some (some 257) := rfl
theorem y_cgR_1 (sc : xSc) (c : y_CT) : gR sc (y_cH c) 0 1 (some 256) = some (some 264) := rfl
theorem y_cgR_2 (sc : xSc) (c : y_CT) : gR sc (y_cH c) 0 2 (some 256) = some (some 265) := rfl
theorem y_cgR_3 (sc : xSc) (c : y_CT) : gR sc (y_cH c) 0 3 (some 256) = some (some 267) := rfl
theorem y_cgR_6 (sc : xSc) (c : y_CT) : gR sc (y_cH c) 0 6 (some 256) = some (some 269) := rfl
theorem y_cgR_7 (sc : xSc) (c : y_CT) : gR sc (y_cH c) 0 7 (some 256) = some (some 270) := rfl
theorem y_cgR_8 (sc : xSc) (c : y_CT) : gR sc (y_cH c) 0 8 (some 256) = some (some 271) := rfl
theorem y_cgR_12 (sc : xSc) (c : y_CT) : gR sc (y_cH c) 0 12 (some 256) = some (some 272) := rfl
theorem y_cgR_13 (sc : xSc) (c : y_CT) : gR sc (y_cH c) 0 13 (some 256) = some (some 274) := rfl
theorem y_cgR_19 (sc : xSc) (c : y_CT) : gR sc (y_cH c) 0 19 (some 256) = some (some 275) := rfl
theorem y_cgR_20 (sc : xSc) (c : y_CT) : gR sc (y_cH c) 0 20 (some 256) = some (some 276) := rfl
theorem y_cgR_25 (sc : xSc) (c : y_CT) : gR sc (y_cH c) 0 25 (some 256) = some (some 277) := rfl
theorem y_cgR_30 (sc : xSc) (c : y_CT) : gR sc (y_cH c) 0 30 (some 256) = some (some 278) := rfl
theorem y_cgR_31 (sc : xSc) (c : y_CT) : gR sc (y_cH c) 0 31 (some 256) = some (some 279) := rfl
theorem y_cgR_32 (sc : xSc) (c : y_CT) : gR sc (y_cH c) 0 32 (some 256) = some (some 280) := rfl
theorem y_cgR_33 (sc : xSc) (c : y_CT) : gR sc (y_cH c) 0 33 (some 256) = some (some 281) := rfl
theorem y_cgR_34 (sc : xSc) (c : y_CT) : gR sc (y_cH c) 0 34 (some 256) = some (some 282) := rfl
theorem y_cgR_37 (sc : xSc) (c : y_CT) : gR sc (y_cH c) 0 37 (some 256) = some (some 283) := rfl
theorem y_cgR_28 (sc : xSc) (c : y_CT) : gR sc (y_cH c) 0 28 (some 256) = some (y_cl c) := rfl
theorem y_cgF_29 (sc : xSc) (c : y_CT) : gF sc (y_cH c) 0 29 (some 256) = some (y_cg c) := rfl
theorem y_cis_P (sc : xSc) (c : y_CT) : xis sc (y_cH c) 0 (some 256) = true := rfl
theorem y_cF_P {c c2 : y_CT} (h : ∀ b, b ≠ 256 → y_cF c2 b = y_cF c b) (hb : y_cb c2 = y_cb c) (hA : y_cA 266 c2 = y_cA 266 c) (hS : y_cS c2 = y_cS c) (hT : y_cT c2 = y_cT c) (hO : y_cO c2 = y_cO c) (h3 : y_cn c2 = y_cn c) (h4 : y_cz c2 = y_cz c) {k : Nat} {v : xV} (hp : (y_PF c).set k v = y_PF c2) : pV (y_cH c) 0 k (some 256) v = some (y_cH c2) := by
  have h0 : (y_cH c).1 256 = some (.inl (0, y_PF c)) := rfl
  rw [p_pV (by decide) h0, hp]
  exact congrArg some (y_c_fix rfl rfl h hb hA hS hT hO h3 h4)
theorem y_cF_tI (k : Nat) (x : Int32) (c : y_CT) (hk : k < 100) (b : Nat) (h : b ≠ 256) : y_cF (y_tI k x c) b = y_cF c b := by
  unfold y_cF
  split <;> first | rfl | exact absurd rfl h | skip
  all_goals simp only [y_cI_tI, y_cb_tI]
  all_goals (repeat rw [if_neg (by omega)])
theorem y_cpI_4 (c : y_CT) (x : Int32) : pV (y_cH c) 0 4 (some 256) (vI x) = some (y_cH (y_tI 4 x c)) := y_cF_P (y_cF_tI 4 x c (by decide)) rfl rfl rfl rfl rfl rfl rfl rfl
theorem y_cpI_5 (c : y_CT) (x : Int32) : pV (y_cH c) 0 5 (some 256) (vI x) = some (y_cH (y_tI 5 x c)) := y_cF_P (y_cF_tI 5 x c (by decide)) rfl rfl rfl rfl rfl rfl rfl rfl
theorem y_cpI_9 (c : y_CT) (x : Int32) : pV (y_cH c) 0 9 (some 256) (vI x) = some (y_cH (y_tI 9 x c)) := y_cF_P (y_cF_tI 9 x c (by decide)) rfl rfl rfl rfl rfl rfl rfl rfl
theorem y_cpI_10 (c : y_CT) (x : Int32) : pV (y_cH c) 0 10 (some 256) (vI x) = some (y_cH (y_tI 10 x c)) := y_cF_P (y_cF_tI 10 x c (by decide)) rfl rfl rfl rfl rfl rfl rfl rfl
theorem y_cpI_11 (c : y_CT) (x : Int32) : pV (y_cH c) 0 11 (some 256) (vI x) = some (y_cH (y_tI 11 x c)) := y_cF_P (y_cF_tI 11 x c (by decide)) rfl rfl rfl rfl rfl rfl rfl rfl
theorem y_cpI_14 (c : y_CT) (x : Int32) : pV (y_cH c) 0 14 (some 256) (vI x) = some (y_cH (y_tI 14 x c)) := y_cF_P (y_cF_tI 14 x c (by decide)) rfl rfl rfl rfl rfl rfl rfl rfl
theorem y_cpI_15 (c : y_CT) (x : Int32) : pV (y_cH c) 0 15 (some 256) (vI x) = some (y_cH (y_tI 15 x c)) := y_cF_P (y_cF_tI 15 x c (by decide)) rfl rfl rfl rfl rfl rfl rfl rfl
theorem y_cpI_16 (c : y_CT) (x : Int32) : pV (y_cH c) 0 16 (some 256) (vI x) = some (y_cH (y_tI 16 x c)) := y_cF_P (y_cF_tI 16 x c (by decide)) rfl rfl rfl rfl rfl rfl rfl rfl
theorem y_cpI_17 (c : y_CT) (x : Int32) : pV (y_cH c) 0 17 (some 256) (vI x) = some (y_cH (y_tI 17 x c)) := y_cF_P (y_cF_tI 17 x c (by decide)) rfl rfl rfl rfl rfl rfl rfl rfl
theorem y_cpI_18 (c : y_CT) (x : Int32) : pV (y_cH c) 0 18 (some 256) (vI x) = some (y_cH (y_tI 18 x c)) := y_cF_P (y_cF_tI 18 x c (by decide)) rfl rfl rfl rfl rfl rfl rfl rfl
theorem y_cpI_21 (c : y_CT) (x : Int32) : pV (y_cH c) 0 21 (some 256) (vI x) = some (y_cH (y_tI 21 x c)) := y_cF_P (y_cF_tI 21 x c (by decide)) rfl rfl rfl rfl rfl rfl rfl rfl
theorem y_cpI_22 (c : y_CT) (x : Int32) : pV (y_cH c) 0 22 (some 256) (vI x) = some (y_cH (y_tI 22 x c)) := y_cF_P (y_cF_tI 22 x c (by decide)) rfl rfl rfl rfl rfl rfl rfl rfl
theorem y_cpI_23 (c : y_CT) (x : Int32) : pV (y_cH c) 0 23 (some 256) (vI x) = some (y_cH (y_tI 23 x c)) := y_cF_P (y_cF_tI 23 x c (by decide)) rfl rfl rfl rfl rfl rfl rfl rfl
theorem y_cpI_24 (c : y_CT) (x : Int32) : pV (y_cH c) 0 24 (some 256) (vI x) = some (y_cH (y_tI 24 x c)) := y_cF_P (y_cF_tI 24 x c (by decide)) rfl rfl rfl rfl rfl rfl rfl rfl
theorem y_cpI_26 (c : y_CT) (x : Int32) : pV (y_cH c) 0 26 (some 256) (vI x) = some (y_cH (y_tI 26 x c)) := y_cF_P (y_cF_tI 26 x c (by decide)) rfl rfl rfl rfl rfl rfl rfl rfl
theorem y_cpI_27 (c : y_CT) (x : Int32) : pV (y_cH c) 0 27 (some 256) (vI x) = some (y_cH (y_tI 27 x c)) := y_cF_P (y_cF_tI 27 x c (by decide)) rfl rfl rfl rfl rfl rfl rfl rfl
theorem y_cpI_35 (c : y_CT) (x : Int32) : pV (y_cH c) 0 35 (some 256) (vI x) = some (y_cH (y_tI 35 x c)) := y_cF_P (y_cF_tI 35 x c (by decide)) rfl rfl rfl rfl rfl rfl rfl rfl
theorem y_cpI_36 (c : y_CT) (x : Int32) : pV (y_cH c) 0 36 (some 256) (vI x) = some (y_cH (y_tI 36 x c)) := y_cF_P (y_cF_tI 36 x c (by decide)) rfl rfl rfl rfl rfl rfl rfl rfl
theorem y_cpI_38 (c : y_CT) (x : Int32) : pV (y_cH c) 0 38 (some 256) (vI x) = some (y_cH (y_tI 38 x c)) := y_cF_P (y_cF_tI 38 x c (by decide)) rfl rfl rfl rfl rfl rfl rfl rfl
theorem y_cpI_39 (c : y_CT) (x : Int32) : pV (y_cH c) 0 39 (some 256) (vI x) = some (y_cH (y_tI 39 x c)) := y_cF_P (y_cF_tI 39 x c (by decide)) rfl rfl rfl rfl rfl rfl rfl rfl
theorem y_cpR_28 (c : y_CT) (x : Option Nat) : pV (y_cH c) 0 28 (some 256) (vR x) = some (y_cH (y_tl x c)) := by
  refine y_cF_P (c := c) (c2 := y_tl x c) (fun b h => ?_) rfl rfl rfl rfl rfl rfl rfl rfl
  unfold y_cF
  split <;> first | rfl | exact absurd rfl h
theorem y_cpF_29 (c : y_CT) (x : UInt32) : pV (y_cH c) 0 29 (some 256) (vF x) = some (y_cH (y_tg x c)) := by
  refine y_cF_P (c := c) (c2 := y_tg x c) (fun b h => ?_) rfl rfl rfl rfl rfl rfl rfl rfl
  unfold y_cF
  split <;> first | rfl | exact absurd rfl h
theorem y_cgR_AL (sc : xSc) (c : y_CT) : gR sc (y_cH c) 17 0 (some 272) = some (some 273) := rfl
theorem y_cgI_AL1 (sc : xSc) (c : y_CT) : gI sc (y_cH c) 17 1 (some 272) = some (y_cI 104 c) := rfl
theorem y_cgI_AL2 (sc : xSc) (c : y_CT) : gI sc (y_cH c) 17 2 (some 272) = some (y_cI 105 c) := rfl
theorem y_cis_AL (sc : xSc) (c : y_CT) : xis sc (y_cH c) 17 (some 272) = true := rfl
theorem y_cgR_T0 (sc : xSc) (c : y_CT) : gR sc (y_cH c) 16 0 (some 265) = some (some (y_cb c).1) := rfl
theorem y_cgI_T1 (sc : xSc) (c : y_CT) : gI sc (y_cH c) 16 1 (some 265) = some 0 := rfl
theorem y_cgI_T3 (sc : xSc) (c : y_CT) : gI sc (y_cH c) 16 3 (some 265) = some (y_cI 100 c) := rfl
theorem y_cis_T (sc : xSc) (c : y_CT) : xis sc (y_cH c) 16 (some 265) = true := rfl
theorem y_cgR_W0 (sc : xSc) (c : y_CT) : gR sc (y_cH c) 16 0 (some 267) = some (some 268) := rfl
theorem y_cgI_W1 (sc : xSc) (c : y_CT) : gI sc (y_cH c) 16 1 (some 267) = some 0 := rfl
theorem y_cgI_W3 (sc : xSc) (c : y_CT) : gI sc (y_cH c) 16 3 (some 267) = some (y_cI 102 c) := rfl
theorem y_cis_W (sc : xSc) (c : y_CT) : xis sc (y_cH c) 16 (some 267) = true := rfl
def y_xfs (e : Option xE) : List xV := match e with
  | some (.inl o) => o.2
  | _ => []
theorem y_cpI_AL1 (c : y_CT) (x : Int32) : pV (y_cH c) 17 1 (some 272) (vI x) = some (y_cH (y_tI 104 x c)) := by
  rw [p_pV (fs := y_xfs ((y_cH c).1 272)) (by decide) rfl]
  refine congrArg some (y_c_fix rfl rfl (fun b h => ?_) rfl rfl rfl rfl rfl rfl rfl)
  unfold y_cF
  split <;> first | rfl | exact absurd rfl h
theorem y_cpI_AL2 (c : y_CT) (x : Int32) : pV (y_cH c) 17 2 (some 272) (vI x) = some (y_cH (y_tI 105 x c)) := by
  rw [p_pV (fs := y_xfs ((y_cH c).1 272)) (by decide) rfl]
  refine congrArg some (y_c_fix rfl rfl (fun b h => ?_) rfl rfl rfl rfl rfl rfl rfl)
  unfold y_cF
  split <;> first | rfl | exact absurd rfl h
theorem y_cpI_T3 (c : y_CT) (x : Int32) : pV (y_cH c) 16 3 (some 265) (vI x) = some (y_cH (y_tI 100 x c)) := by
  rw [p_pV (fs := y_xfs ((y_cH c).1 265)) (by decide) rfl]
  refine congrArg some (y_c_fix rfl rfl (fun b h => ?_) rfl rfl rfl rfl rfl rfl rfl)
  unfold y_cF
  split <;> first | rfl | exact absurd rfl h
theorem y_cpI_T2 (c : y_CT) (x : Int32) : pV (y_cH c) 16 2 (some 265) (vI x) = some (y_cH (y_tI 101 x c)) := by
  rw [p_pV (fs := y_xfs ((y_cH c).1 265)) (by decide) rfl]
  refine congrArg some (y_c_fix rfl rfl (fun b h => ?_) rfl rfl rfl rfl rfl rfl rfl)
  unfold y_cF
  split <;> first | rfl | exact absurd rfl h
theorem y_cpI_W3 (c : y_CT) (x : Int32) : pV (y_cH c) 16 3 (some 267) (vI x) = some (y_cH (y_tI 102 x c)) := by
  rw [p_pV (fs := y_xfs ((y_cH c).1 267)) (by decide) rfl]
  refine congrArg some (y_c_fix rfl rfl (fun b h => ?_) rfl rfl rfl rfl rfl rfl rfl)
  unfold y_cF
  split <;> first | rfl | exact absurd rfl h
theorem y_cpI_W2 (c : y_CT) (x : Int32) : pV (y_cH c) 16 2 (some 267) (vI x) = some (y_cH (y_tI 103 x c)) := by
  rw [p_pV (fs := y_xfs ((y_cH c).1 267)) (by decide) rfl]
  refine congrArg some (y_c_fix rfl rfl (fun b h => ?_) rfl rfl rfl rfl rfl rfl rfl)
  unfold y_cF
  split <;> first | rfl | exact absurd rfl h
theorem y_nI_c {n : Nat} (h : n < 2147483648) : (nI n).toNatClampNeg = n := by
  unfold nI
  rw [Int32.toNatClampNeg, Int32.toInt_ofNat_of_lt h]
  rfl
theorem y_xin_nI {n N : Nat} (h : n < 2147483648) : xin (nI n) N = decide (n < N) := by
  unfold xin
  rw [y_nI_c h]
  have : (0 : Int32) ≤ nI n := by
    rw [Int32.le_iff_toInt_le]
    unfold nI
    rw [Int32.toInt_ofNat_of_lt h]
    exact Int.natCast_nonneg n
  rw [decide_eq_true this, Bool.true_and]
theorem y_xin_nI' {n N : Nat} (h : n < N) (hN : N < 2147483648) : xin (nI n) N = true := by
  rw [y_xin_nI (by omega), decide_eq_true h]
theorem y_caR_264 {sc : xSc} {c : y_CT} {j : Nat} (h : j < 32) : aR sc (y_cH c) (some 264) (nI j) = some (y_cR 264 c j) := by
  rw [p_aR (f := y_cR 264 c) (n := 32) (ty := .object "PageScribe$Name") rfl rfl (y_xin_nI' h (by decide)), y_nI_c (by omega)]
theorem y_caN_264 (sc : xSc) (c : y_CT) : aN sc (y_cH c) (some 264) = some (nI 32) := rfl
theorem y_caR_269 {sc : xSc} {c : y_CT} {j : Nat} (h : j < 41) : aR sc (y_cH c) (some 269) (nI j) = some (y_cR 269 c j) := by
  rw [p_aR (f := y_cR 269 c) (n := 41) (ty := .object "PageScribe$Slot") rfl rfl (y_xin_nI' h (by decide)), y_nI_c (by omega)]
theorem y_caN_269 (sc : xSc) (c : y_CT) : aN sc (y_cH c) (some 269) = some (nI 41) := rfl
theorem y_caR_270 {sc : xSc} {c : y_CT} {j : Nat} (h : j < 160) : aR sc (y_cH c) (some 270) (nI j) = some (y_cR 270 c j) := by
  rw [p_aR (f := y_cR 270 c) (n := 160) (ty := .object "PageScribe$Slot") rfl rfl (y_xin_nI' h (by decide)), y_nI_c (by omega)]
theorem y_caN_270 (sc : xSc) (c : y_CT) : aN sc (y_cH c) (some 270) = some (nI 160) := rfl
theorem y_caR_271 {sc : xSc} {c : y_CT} {j : Nat} (h : j < 120) : aR sc (y_cH c) (some 271) (nI j) = some (y_cR 271 c j) := by
  rw [p_aR (f := y_cR 271 c) (n := 120) (ty := .object "PageScribe$Slot") rfl rfl (y_xin_nI' h (by decide)), y_nI_c (by omega)]
theorem y_caN_271 (sc : xSc) (c : y_CT) : aN sc (y_cH c) (some 271) = some (nI 120) := rfl
theorem y_caR_273 {sc : xSc} {c : y_CT} {j : Nat} (h : j < 7) : aR sc (y_cH c) (some 273) (nI j) = some (y_cR 273 c j) := by
  rw [p_aR (f := y_cR 273 c) (n := 7) (ty := .object "java/lang/Object") rfl rfl (y_xin_nI' h (by decide)), y_nI_c (by omega)]
theorem y_caN_273 (sc : xSc) (c : y_CT) : aN sc (y_cH c) (some 273) = some (nI 7) := rfl
theorem y_caR_274 {sc : xSc} {c : y_CT} {j : Nat} (h : j < 6) : aR sc (y_cH c) (some 274) (nI j) = some (y_cR 274 c j) := by
  rw [p_aR (f := y_cR 274 c) (n := 6) (ty := .object "PageScribe$Dict") rfl rfl (y_xin_nI' h (by decide)), y_nI_c (by omega)]
theorem y_caN_274 (sc : xSc) (c : y_CT) : aN sc (y_cH c) (some 274) = some (nI 6) := rfl
theorem y_caR_277 {sc : xSc} {c : y_CT} {j : Nat} (h : j < 3) : aR sc (y_cH c) (some 277) (nI j) = some (y_cR 277 c j) := by
  rw [p_aR (f := y_cR 277 c) (n := 3) (ty := .object "PageScribe$Save") rfl rfl (y_xin_nI' h (by decide)), y_nI_c (by omega)]
theorem y_caN_277 (sc : xSc) (c : y_CT) : aN sc (y_cH c) (some 277) = some (nI 3) := rfl
theorem y_cbR_264 {sc : xSc} {c : y_CT} {j : Nat} {x : Option Nat} (h : j < 32) (hx : x = none ∨ xis sc (y_cH c) 3 x = true) : bR "PageScribe$Name" 3 sc (y_cH c) (some 264) (nI j) x = some (y_cH (y_tR 264 (va_up (y_cR 264 c) j x) c)) := by
  rw [p_bR (f := y_cR 264 c) (n := 32) (by decide) rfl (y_xin_nI' h (by decide)) hx, y_nI_c (by omega)]
  refine congrArg some (y_c_fix rfl rfl (fun b h => ?_) rfl rfl rfl rfl rfl rfl rfl)
  unfold y_cF
  split <;> first | rfl | exact absurd rfl h
theorem y_cbR_269 {sc : xSc} {c : y_CT} {j : Nat} {x : Option Nat} (h : j < 41) (hx : x = none ∨ xis sc (y_cH c) 2 x = true) : bR "PageScribe$Slot" 2 sc (y_cH c) (some 269) (nI j) x = some (y_cH (y_tR 269 (va_up (y_cR 269 c) j x) c)) := by
  rw [p_bR (f := y_cR 269 c) (n := 41) (by decide) rfl (y_xin_nI' h (by decide)) hx, y_nI_c (by omega)]
  refine congrArg some (y_c_fix rfl rfl (fun b h => ?_) rfl rfl rfl rfl rfl rfl rfl)
  unfold y_cF
  split <;> first | rfl | exact absurd rfl h
theorem y_cbR_270 {sc : xSc} {c : y_CT} {j : Nat} {x : Option Nat} (h : j < 160) (hx : x = none ∨ xis sc (y_cH c) 2 x = true) : bR "PageScribe$Slot" 2 sc (y_cH c) (some 270) (nI j) x = some (y_cH (y_tR 270 (va_up (y_cR 270 c) j x) c)) := by
  rw [p_bR (f := y_cR 270 c) (n := 160) (by decide) rfl (y_xin_nI' h (by decide)) hx, y_nI_c (by omega)]
  refine congrArg some (y_c_fix rfl rfl (fun b h => ?_) rfl rfl rfl rfl rfl rfl rfl)
  unfold y_cF
  split <;> first | rfl | exact absurd rfl h
theorem y_cbR_271 {sc : xSc} {c : y_CT} {j : Nat} {x : Option Nat} (h : j < 120) (hx : x = none ∨ xis sc (y_cH c) 2 x = true) : bR "PageScribe$Slot" 2 sc (y_cH c) (some 271) (nI j) x = some (y_cH (y_tR 271 (va_up (y_cR 271 c) j x) c)) := by
  rw [p_bR (f := y_cR 271 c) (n := 120) (by decide) rfl (y_xin_nI' h (by decide)) hx, y_nI_c (by omega)]
  refine congrArg some (y_c_fix rfl rfl (fun b h => ?_) rfl rfl rfl rfl rfl rfl rfl)
  unfold y_cF
  split <;> first | rfl | exact absurd rfl h
theorem y_cbR_273 {sc : xSc} {c : y_CT} {j : Nat} {x : Option Nat} (h : j < 7) (hx : x = none ∨ xis sc (y_cH c) 4 x = true) : bR "java/lang/Object" 4 sc (y_cH c) (some 273) (nI j) x = some (y_cH (y_tR 273 (va_up (y_cR 273 c) j x) c)) := by
  rw [p_bR (f := y_cR 273 c) (n := 7) (by decide) rfl (y_xin_nI' h (by decide)) hx, y_nI_c (by omega)]
  refine congrArg some (y_c_fix rfl rfl (fun b h => ?_) rfl rfl rfl rfl rfl rfl rfl)
  unfold y_cF
  split <;> first | rfl | exact absurd rfl h
theorem y_cbR_274 {sc : xSc} {c : y_CT} {j : Nat} {x : Option Nat} (h : j < 6) (hx : x = none ∨ xis sc (y_cH c) 4 x = true) : bR "PageScribe$Dict" 4 sc (y_cH c) (some 274) (nI j) x = some (y_cH (y_tR 274 (va_up (y_cR 274 c) j x) c)) := by
  rw [p_bR (f := y_cR 274 c) (n := 6) (by decide) rfl (y_xin_nI' h (by decide)) hx, y_nI_c (by omega)]
  refine congrArg some (y_c_fix rfl rfl (fun b h => ?_) rfl rfl rfl rfl rfl rfl rfl)
  unfold y_cF
  split <;> first | rfl | exact absurd rfl h
theorem y_cbR_277 {sc : xSc} {c : y_CT} {j : Nat} {x : Option Nat} (h : j < 3) (hx : x = none ∨ xis sc (y_cH c) 6 x = true) : bR "PageScribe$Save" 6 sc (y_cH c) (some 277) (nI j) x = some (y_cH (y_tR 277 (va_up (y_cR 277 c) j x) c)) := by
  rw [p_bR (f := y_cR 277 c) (n := 3) (by decide) rfl (y_xin_nI' h (by decide)) hx, y_nI_c (by omega)]
  refine congrArg some (y_c_fix rfl rfl (fun b h => ?_) rfl rfl rfl rfl rfl rfl rfl)
  unfold y_cF
  split <;> first | rfl | exact absurd rfl h
theorem y_caI_275 {sc : xSc} {c : y_CT} {j : Nat} (h : j < 20) : aI .int sc (y_cH c) (some 275) (nI j) = some (y_cA 275 c j) := by
  rw [p_aI (f := y_cA 275 c) (n := 20) rfl (y_xin_nI' h (by decide)), y_nI_c (by omega)]
theorem y_cbI_275 {c : y_CT} {j : Nat} {x : Int32} (h : j < 20) : bI .int (y_cH c) (some 275) (nI j) x = some (y_cH (y_tA 275 (va_up (y_cA 275 c) j x) c)) := by
  rw [p_bI (f := y_cA 275 c) (n := 20) (by decide) rfl (y_xin_nI' h (by decide)), y_nI_c (by omega)]
  refine congrArg some (y_c_fix rfl rfl (fun b h => ?_) rfl rfl rfl rfl rfl rfl rfl)
  unfold y_cF
  split <;> first | rfl | exact absurd rfl h
theorem y_caI_276 {sc : xSc} {c : y_CT} {j : Nat} (h : j < 20) : aI .int sc (y_cH c) (some 276) (nI j) = some (y_cA 276 c j) := by
  rw [p_aI (f := y_cA 276 c) (n := 20) rfl (y_xin_nI' h (by decide)), y_nI_c (by omega)]
theorem y_cbI_276 {c : y_CT} {j : Nat} {x : Int32} (h : j < 20) : bI .int (y_cH c) (some 276) (nI j) x = some (y_cH (y_tA 276 (va_up (y_cA 276 c) j x) c)) := by
  rw [p_bI (f := y_cA 276 c) (n := 20) (by decide) rfl (y_xin_nI' h (by decide)), y_nI_c (by omega)]
  refine congrArg some (y_c_fix rfl rfl (fun b h => ?_) rfl rfl rfl rfl rfl rfl rfl)
  unfold y_cF
  split <;> first | rfl | exact absurd rfl h
theorem y_caI_280 {sc : xSc} {c : y_CT} {j : Nat} (h : j < 30) : aI .int sc (y_cH c) (some 280) (nI j) = some (y_cA 280 c j) := by
  rw [p_aI (f := y_cA 280 c) (n := 30) rfl (y_xin_nI' h (by decide)), y_nI_c (by omega)]
theorem y_cbI_280 {c : y_CT} {j : Nat} {x : Int32} (h : j < 30) : bI .int (y_cH c) (some 280) (nI j) x = some (y_cH (y_tA 280 (va_up (y_cA 280 c) j x) c)) := by
  rw [p_bI (f := y_cA 280 c) (n := 30) (by decide) rfl (y_xin_nI' h (by decide)), y_nI_c (by omega)]
  refine congrArg some (y_c_fix rfl rfl (fun b h => ?_) rfl rfl rfl rfl rfl rfl rfl)
  unfold y_cF
  split <;> first | rfl | exact absurd rfl h
theorem y_caI_281 {sc : xSc} {c : y_CT} {j : Nat} (h : j < 30) : aI .int sc (y_cH c) (some 281) (nI j) = some (y_cA 281 c j) := by
  rw [p_aI (f := y_cA 281 c) (n := 30) rfl (y_xin_nI' h (by decide)), y_nI_c (by omega)]
theorem y_cbI_281 {c : y_CT} {j : Nat} {x : Int32} (h : j < 30) : bI .int (y_cH c) (some 281) (nI j) x = some (y_cH (y_tA 281 (va_up (y_cA 281 c) j x) c)) := by
  rw [p_bI (f := y_cA 281 c) (n := 30) (by decide) rfl (y_xin_nI' h (by decide)), y_nI_c (by omega)]
  refine congrArg some (y_c_fix rfl rfl (fun b h => ?_) rfl rfl rfl rfl rfl rfl rfl)
  unfold y_cF
  split <;> first | rfl | exact absurd rfl h
theorem y_caI_282 {sc : xSc} {c : y_CT} {j : Nat} (h : j < 30) : aI .int sc (y_cH c) (some 282) (nI j) = some (y_cA 282 c j) := by
  rw [p_aI (f := y_cA 282 c) (n := 30) rfl (y_xin_nI' h (by decide)), y_nI_c (by omega)]
theorem y_cbI_282 {c : y_CT} {j : Nat} {x : Int32} (h : j < 30) : bI .int (y_cH c) (some 282) (nI j) x = some (y_cH (y_tA 282 (va_up (y_cA 282 c) j x) c)) := by
  rw [p_bI (f := y_cA 282 c) (n := 30) (by decide) rfl (y_xin_nI' h (by decide)), y_nI_c (by omega)]
  refine congrArg some (y_c_fix rfl rfl (fun b h => ?_) rfl rfl rfl rfl rfl rfl rfl)
  unfold y_cF
  split <;> first | rfl | exact absurd rfl h
theorem y_caI_268 {sc : xSc} {c : y_CT} {j : Nat} (h : j < 120) : aI .byte sc (y_cH c) (some 268) (nI j) = some (y_cA 268 c j) := by
  rw [p_aI (f := y_cA 268 c) (n := 120) rfl (y_xin_nI' h (by decide)), y_nI_c (by omega)]
theorem y_cbI_268 {c : y_CT} {j : Nat} {x : Int32} (h : j < 120) : bI .byte (y_cH c) (some 268) (nI j) x = some (y_cH (y_tA 268 (va_up (y_cA 268 c) j x) c)) := by
  rw [p_bI (f := y_cA 268 c) (n := 120) (by decide) rfl (y_xin_nI' h (by decide)), y_nI_c (by omega)]
  refine congrArg some (y_c_fix rfl rfl (fun b h => ?_) rfl rfl rfl rfl rfl rfl rfl)
  unfold y_cF
  split <;> first | rfl | exact absurd rfl h
theorem y_caI_284 {sc : xSc} {c : y_CT} {j : Nat} (h : j < 24) : aI .byte sc (y_cH c) (some 284) (nI j) = some (y_cA 284 c j) := by
  rw [p_aI (f := y_cA 284 c) (n := 24) rfl (y_xin_nI' h (by decide)), y_nI_c (by omega)]
theorem y_cbI_284 {c : y_CT} {j : Nat} {x : Int32} (h : j < 24) : bI .byte (y_cH c) (some 284) (nI j) x = some (y_cH (y_tA 284 (va_up (y_cA 284 c) j x) c)) := by
  rw [p_bI (f := y_cA 284 c) (n := 24) (by decide) rfl (y_xin_nI' h (by decide)), y_nI_c (by omega)]
  refine congrArg some (y_c_fix rfl rfl (fun b h => ?_) rfl rfl rfl rfl rfl rfl rfl)
  unfold y_cF
  split <;> first | rfl | exact absurd rfl h
theorem y_caI_285 {sc : xSc} {c : y_CT} {j : Nat} (h : j < 24) : aI .byte sc (y_cH c) (some 285) (nI j) = some (y_cA 285 c j) := by
  rw [p_aI (f := y_cA 285 c) (n := 24) rfl (y_xin_nI' h (by decide)), y_nI_c (by omega)]
theorem y_cbI_285 {c : y_CT} {j : Nat} {x : Int32} (h : j < 24) : bI .byte (y_cH c) (some 285) (nI j) x = some (y_cH (y_tA 285 (va_up (y_cA 285 c) j x) c)) := by
  rw [p_bI (f := y_cA 285 c) (n := 24) (by decide) rfl (y_xin_nI' h (by decide)), y_nI_c (by omega)]
  refine congrArg some (y_c_fix rfl rfl (fun b h => ?_) rfl rfl rfl rfl rfl rfl rfl)
  unfold y_cF
  split <;> first | rfl | exact absurd rfl h
theorem y_caI_286 {sc : xSc} {c : y_CT} {j : Nat} (h : j < 24) : aI .byte sc (y_cH c) (some 286) (nI j) = some (y_cA 286 c j) := by
  rw [p_aI (f := y_cA 286 c) (n := 24) rfl (y_xin_nI' h (by decide)), y_nI_c (by omega)]
theorem y_cbI_286 {c : y_CT} {j : Nat} {x : Int32} (h : j < 24) : bI .byte (y_cH c) (some 286) (nI j) x = some (y_cH (y_tA 286 (va_up (y_cA 286 c) j x) c)) := by
  rw [p_bI (f := y_cA 286 c) (n := 24) (by decide) rfl (y_xin_nI' h (by decide)), y_nI_c (by omega)]
  refine congrArg some (y_c_fix rfl rfl (fun b h => ?_) rfl rfl rfl rfl rfl rfl rfl)
  unfold y_cF
  split <;> first | rfl | exact absurd rfl h
theorem y_caI_287 {sc : xSc} {c : y_CT} {j : Nat} (h : j < 24) : aI .byte sc (y_cH c) (some 287) (nI j) = some (y_cA 287 c j) := by
  rw [p_aI (f := y_cA 287 c) (n := 24) rfl (y_xin_nI' h (by decide)), y_nI_c (by omega)]
theorem y_cbI_287 {c : y_CT} {j : Nat} {x : Int32} (h : j < 24) : bI .byte (y_cH c) (some 287) (nI j) x = some (y_cH (y_tA 287 (va_up (y_cA 287 c) j x) c)) := by
  rw [p_bI (f := y_cA 287 c) (n := 24) (by decide) rfl (y_xin_nI' h (by decide)), y_nI_c (by omega)]
  refine congrArg some (y_c_fix rfl rfl (fun b h => ?_) rfl rfl rfl rfl rfl rfl rfl)
  unfold y_cF
  split <;> first | rfl | exact absurd rfl h
theorem y_caI_288 {sc : xSc} {c : y_CT} {j : Nat} (h : j < 24) : aI .byte sc (y_cH c) (some 288) (nI j) = some (y_cA 288 c j) := by
  rw [p_aI (f := y_cA 288 c) (n := 24) rfl (y_xin_nI' h (by decide)), y_nI_c (by omega)]
theorem y_cbI_288 {c : y_CT} {j : Nat} {x : Int32} (h : j < 24) : bI .byte (y_cH c) (some 288) (nI j) x = some (y_cH (y_tA 288 (va_up (y_cA 288 c) j x) c)) := by
  rw [p_bI (f := y_cA 288 c) (n := 24) (by decide) rfl (y_xin_nI' h (by decide)), y_nI_c (by omega)]
  refine congrArg some (y_c_fix rfl rfl (fun b h => ?_) rfl rfl rfl rfl rfl rfl rfl)
  unfold y_cF
  split <;> first | rfl | exact absurd rfl h
theorem y_caI_289 {sc : xSc} {c : y_CT} {j : Nat} (h : j < 24) : aI .byte sc (y_cH c) (some 289) (nI j) = some (y_cA 289 c j) := by
  rw [p_aI (f := y_cA 289 c) (n := 24) rfl (y_xin_nI' h (by decide)), y_nI_c (by omega)]
theorem y_cbI_289 {c : y_CT} {j : Nat} {x : Int32} (h : j < 24) : bI .byte (y_cH c) (some 289) (nI j) x = some (y_cH (y_tA 289 (va_up (y_cA 289 c) j x) c)) := by
  rw [p_bI (f := y_cA 289 c) (n := 24) (by decide) rfl (y_xin_nI' h (by decide)), y_nI_c (by omega)]
  refine congrArg some (y_c_fix rfl rfl (fun b h => ?_) rfl rfl rfl rfl rfl rfl rfl)
  unfold y_cF
  split <;> first | rfl | exact absurd rfl h
theorem y_caI_290 {sc : xSc} {c : y_CT} {j : Nat} (h : j < 24) : aI .byte sc (y_cH c) (some 290) (nI j) = some (y_cA 290 c j) := by
  rw [p_aI (f := y_cA 290 c) (n := 24) rfl (y_xin_nI' h (by decide)), y_nI_c (by omega)]
theorem y_cbI_290 {c : y_CT} {j : Nat} {x : Int32} (h : j < 24) : bI .byte (y_cH c) (some 290) (nI j) x = some (y_cH (y_tA 290 (va_up (y_cA 290 c) j x) c)) := by
  rw [p_bI (f := y_cA 290 c) (n := 24) (by decide) rfl (y_xin_nI' h (by decide)), y_nI_c (by omega)]
  refine congrArg some (y_c_fix rfl rfl (fun b h => ?_) rfl rfl rfl rfl rfl rfl rfl)
  unfold y_cF
  split <;> first | rfl | exact absurd rfl h
theorem y_caI_291 {sc : xSc} {c : y_CT} {j : Nat} (h : j < 24) : aI .byte sc (y_cH c) (some 291) (nI j) = some (y_cA 291 c j) := by
  rw [p_aI (f := y_cA 291 c) (n := 24) rfl (y_xin_nI' h (by decide)), y_nI_c (by omega)]
theorem y_cbI_291 {c : y_CT} {j : Nat} {x : Int32} (h : j < 24) : bI .byte (y_cH c) (some 291) (nI j) x = some (y_cH (y_tA 291 (va_up (y_cA 291 c) j x) c)) := by
  rw [p_bI (f := y_cA 291 c) (n := 24) (by decide) rfl (y_xin_nI' h (by decide)), y_nI_c (by omega)]
  refine congrArg some (y_c_fix rfl rfl (fun b h => ?_) rfl rfl rfl rfl rfl rfl rfl)
  unfold y_cF
  split <;> first | rfl | exact absurd rfl h
theorem y_caI_292 {sc : xSc} {c : y_CT} {j : Nat} (h : j < 24) : aI .byte sc (y_cH c) (some 292) (nI j) = some (y_cA 292 c j) := by
  rw [p_aI (f := y_cA 292 c) (n := 24) rfl (y_xin_nI' h (by decide)), y_nI_c (by omega)]
theorem y_cbI_292 {c : y_CT} {j : Nat} {x : Int32} (h : j < 24) : bI .byte (y_cH c) (some 292) (nI j) x = some (y_cH (y_tA 292 (va_up (y_cA 292 c) j x) c)) := by
  rw [p_bI (f := y_cA 292 c) (n := 24) (by decide) rfl (y_xin_nI' h (by decide)), y_nI_c (by omega)]
  refine congrArg some (y_c_fix rfl rfl (fun b h => ?_) rfl rfl rfl rfl rfl rfl rfl)
  unfold y_cF
  split <;> first | rfl | exact absurd rfl h
theorem y_caI_293 {sc : xSc} {c : y_CT} {j : Nat} (h : j < 24) : aI .byte sc (y_cH c) (some 293) (nI j) = some (y_cA 293 c j) := by
  rw [p_aI (f := y_cA 293 c) (n := 24) rfl (y_xin_nI' h (by decide)), y_nI_c (by omega)]
theorem y_cbI_293 {c : y_CT} {j : Nat} {x : Int32} (h : j < 24) : bI .byte (y_cH c) (some 293) (nI j) x = some (y_cH (y_tA 293 (va_up (y_cA 293 c) j x) c)) := by
  rw [p_bI (f := y_cA 293 c) (n := 24) (by decide) rfl (y_xin_nI' h (by decide)), y_nI_c (by omega)]
  refine congrArg some (y_c_fix rfl rfl (fun b h => ?_) rfl rfl rfl rfl rfl rfl rfl)
  unfold y_cF
  split <;> first | rfl | exact absurd rfl h
theorem y_caI_294 {sc : xSc} {c : y_CT} {j : Nat} (h : j < 24) : aI .byte sc (y_cH c) (some 294) (nI j) = some (y_cA 294 c j) := by
  rw [p_aI (f := y_cA 294 c) (n := 24) rfl (y_xin_nI' h (by decide)), y_nI_c (by omega)]
theorem y_cbI_294 {c : y_CT} {j : Nat} {x : Int32} (h : j < 24) : bI .byte (y_cH c) (some 294) (nI j) x = some (y_cH (y_tA 294 (va_up (y_cA 294 c) j x) c)) := by
  rw [p_bI (f := y_cA 294 c) (n := 24) (by decide) rfl (y_xin_nI' h (by decide)), y_nI_c (by omega)]
  refine congrArg some (y_c_fix rfl rfl (fun b h => ?_) rfl rfl rfl rfl rfl rfl rfl)
  unfold y_cF
  split <;> first | rfl | exact absurd rfl h
theorem y_caI_295 {sc : xSc} {c : y_CT} {j : Nat} (h : j < 24) : aI .byte sc (y_cH c) (some 295) (nI j) = some (y_cA 295 c j) := by
  rw [p_aI (f := y_cA 295 c) (n := 24) rfl (y_xin_nI' h (by decide)), y_nI_c (by omega)]
theorem y_cbI_295 {c : y_CT} {j : Nat} {x : Int32} (h : j < 24) : bI .byte (y_cH c) (some 295) (nI j) x = some (y_cH (y_tA 295 (va_up (y_cA 295 c) j x) c)) := by
  rw [p_bI (f := y_cA 295 c) (n := 24) (by decide) rfl (y_xin_nI' h (by decide)), y_nI_c (by omega)]
  refine congrArg some (y_c_fix rfl rfl (fun b h => ?_) rfl rfl rfl rfl rfl rfl rfl)
  unfold y_cF
  split <;> first | rfl | exact absurd rfl h
theorem y_caI_296 {sc : xSc} {c : y_CT} {j : Nat} (h : j < 24) : aI .byte sc (y_cH c) (some 296) (nI j) = some (y_cA 296 c j) := by
  rw [p_aI (f := y_cA 296 c) (n := 24) rfl (y_xin_nI' h (by decide)), y_nI_c (by omega)]
theorem y_cbI_296 {c : y_CT} {j : Nat} {x : Int32} (h : j < 24) : bI .byte (y_cH c) (some 296) (nI j) x = some (y_cH (y_tA 296 (va_up (y_cA 296 c) j x) c)) := by
  rw [p_bI (f := y_cA 296 c) (n := 24) (by decide) rfl (y_xin_nI' h (by decide)), y_nI_c (by omega)]
  refine congrArg some (y_c_fix rfl rfl (fun b h => ?_) rfl rfl rfl rfl rfl rfl rfl)
  unfold y_cF
  split <;> first | rfl | exact absurd rfl h
theorem y_caI_297 {sc : xSc} {c : y_CT} {j : Nat} (h : j < 24) : aI .byte sc (y_cH c) (some 297) (nI j) = some (y_cA 297 c j) := by
  rw [p_aI (f := y_cA 297 c) (n := 24) rfl (y_xin_nI' h (by decide)), y_nI_c (by omega)]
theorem y_cbI_297 {c : y_CT} {j : Nat} {x : Int32} (h : j < 24) : bI .byte (y_cH c) (some 297) (nI j) x = some (y_cH (y_tA 297 (va_up (y_cA 297 c) j x) c)) := by
  rw [p_bI (f := y_cA 297 c) (n := 24) (by decide) rfl (y_xin_nI' h (by decide)), y_nI_c (by omega)]
  refine congrArg some (y_c_fix rfl rfl (fun b h => ?_) rfl rfl rfl rfl rfl rfl rfl)
  unfold y_cF
  split <;> first | rfl | exact absurd rfl h
theorem y_caI_298 {sc : xSc} {c : y_CT} {j : Nat} (h : j < 24) : aI .byte sc (y_cH c) (some 298) (nI j) = some (y_cA 298 c j) := by
  rw [p_aI (f := y_cA 298 c) (n := 24) rfl (y_xin_nI' h (by decide)), y_nI_c (by omega)]
theorem y_cbI_298 {c : y_CT} {j : Nat} {x : Int32} (h : j < 24) : bI .byte (y_cH c) (some 298) (nI j) x = some (y_cH (y_tA 298 (va_up (y_cA 298 c) j x) c)) := by
  rw [p_bI (f := y_cA 298 c) (n := 24) (by decide) rfl (y_xin_nI' h (by decide)), y_nI_c (by omega)]
  refine congrArg some (y_c_fix rfl rfl (fun b h => ?_) rfl rfl rfl rfl rfl rfl rfl)
  unfold y_cF
  split <;> first | rfl | exact absurd rfl h
theorem y_caI_299 {sc : xSc} {c : y_CT} {j : Nat} (h : j < 24) : aI .byte sc (y_cH c) (some 299) (nI j) = some (y_cA 299 c j) := by
  rw [p_aI (f := y_cA 299 c) (n := 24) rfl (y_xin_nI' h (by decide)), y_nI_c (by omega)]
theorem y_cbI_299 {c : y_CT} {j : Nat} {x : Int32} (h : j < 24) : bI .byte (y_cH c) (some 299) (nI j) x = some (y_cH (y_tA 299 (va_up (y_cA 299 c) j x) c)) := by
  rw [p_bI (f := y_cA 299 c) (n := 24) (by decide) rfl (y_xin_nI' h (by decide)), y_nI_c (by omega)]
  refine congrArg some (y_c_fix rfl rfl (fun b h => ?_) rfl rfl rfl rfl rfl rfl rfl)
  unfold y_cF
  split <;> first | rfl | exact absurd rfl h
theorem y_caD_278 {sc : xSc} {c : y_CT} {j : Nat} (h : j < 30) : aD sc (y_cH c) (some 278) (nI j) = some (y_cD 278 c j) := by
  rw [p_aD (f := y_cD 278 c) (n := 30) rfl (y_xin_nI' h (by decide)), y_nI_c (by omega)]
theorem y_cbD_278 {c : y_CT} {j : Nat} {x : UInt64} (h : j < 30) : bD (y_cH c) (some 278) (nI j) x = some (y_cH (y_tD 278 (va_up (y_cD 278 c) j x) c)) := by
  rw [p_bD (f := y_cD 278 c) (n := 30) (by decide) rfl (y_xin_nI' h (by decide)), y_nI_c (by omega)]
  refine congrArg some (y_c_fix rfl rfl (fun b h => ?_) rfl rfl rfl rfl rfl rfl rfl)
  unfold y_cF
  split <;> first | rfl | exact absurd rfl h
theorem y_caD_279 {sc : xSc} {c : y_CT} {j : Nat} (h : j < 30) : aD sc (y_cH c) (some 279) (nI j) = some (y_cD 279 c j) := by
  rw [p_aD (f := y_cD 279 c) (n := 30) rfl (y_xin_nI' h (by decide)), y_nI_c (by omega)]
theorem y_cbD_279 {c : y_CT} {j : Nat} {x : UInt64} (h : j < 30) : bD (y_cH c) (some 279) (nI j) x = some (y_cH (y_tD 279 (va_up (y_cD 279 c) j x) c)) := by
  rw [p_bD (f := y_cD 279 c) (n := 30) (by decide) rfl (y_xin_nI' h (by decide)), y_nI_c (by omega)]
  refine congrArg some (y_c_fix rfl rfl (fun b h => ?_) rfl rfl rfl rfl rfl rfl rfl)
  unfold y_cF
  split <;> first | rfl | exact absurd rfl h
