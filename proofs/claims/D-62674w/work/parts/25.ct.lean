/-! the component's state as a tuple: ints (P's by field; 100 101 text, 102 103 word, 104 105 dicts), int arrays by address, double arrays, reference arrays, slots, dicts, other cells, latest, gray, text's bytes (address, length), next, slots -/
abbrev yy_SV : Type := Option Nat × Int32 × Int32 × Int32 × Int32 × UInt64 × Option Nat × Option Nat
abbrev yy_DV : Type := Int32 × Int32 × Int32 × Option Nat
abbrev yy_CT : Type := (Nat → Int32) × (Nat → Nat → Int32) × (Nat → Nat → UInt64) × (Nat → Nat → Option Nat) × (Nat → Option yy_SV) × (Nat → Option yy_DV) × (Nat → Option xE) × (Option Nat) × UInt32 × (Nat × Nat) × Nat × Nat
def yy_cI (k : Nat) (c : yy_CT) : Int32 := c.1 k
def yy_cA (k : Nat) (c : yy_CT) : (Nat → Int32) := c.2.1 k
def yy_cD (k : Nat) (c : yy_CT) : (Nat → UInt64) := c.2.2.1 k
def yy_cR (k : Nat) (c : yy_CT) : (Nat → Option Nat) := c.2.2.2.1 k
def yy_cS (c : yy_CT) (a : Nat) : Option yy_SV := c.2.2.2.2.1 a
def yy_cT (c : yy_CT) (a : Nat) : Option yy_DV := c.2.2.2.2.2.1 a
def yy_cO (c : yy_CT) (a : Nat) : Option xE := c.2.2.2.2.2.2.1 a
def yy_cl (c : yy_CT) : (Option Nat) := c.2.2.2.2.2.2.2.1
def yy_cg (c : yy_CT) : UInt32 := c.2.2.2.2.2.2.2.2.1
def yy_cb (c : yy_CT) : (Nat × Nat) := c.2.2.2.2.2.2.2.2.2.1
def yy_cn (c : yy_CT) : Nat := c.2.2.2.2.2.2.2.2.2.2.1
def yy_cz (c : yy_CT) : Nat := c.2.2.2.2.2.2.2.2.2.2.2
def yy_tI (k : Nat) (x : Int32) (c : yy_CT) : yy_CT := (va_up c.1 k x, c.2)
def yy_tA (k : Nat) (x : (Nat → Int32)) (c : yy_CT) : yy_CT := (c.1, va_up c.2.1 k x, c.2.2)
def yy_tD (k : Nat) (x : (Nat → UInt64)) (c : yy_CT) : yy_CT := (c.1, c.2.1, va_up c.2.2.1 k x, c.2.2.2)
def yy_tR (k : Nat) (x : (Nat → Option Nat)) (c : yy_CT) : yy_CT := (c.1, c.2.1, c.2.2.1, va_up c.2.2.2.1 k x, c.2.2.2.2)
def yy_tS (a : Nat) (x : Option yy_SV) (c : yy_CT) : yy_CT := (c.1, c.2.1, c.2.2.1, c.2.2.2.1, va_up c.2.2.2.2.1 a x, c.2.2.2.2.2)
def yy_tT (a : Nat) (x : Option yy_DV) (c : yy_CT) : yy_CT := (c.1, c.2.1, c.2.2.1, c.2.2.2.1, c.2.2.2.2.1, va_up c.2.2.2.2.2.1 a x, c.2.2.2.2.2.2)
def yy_tO (a : Nat) (x : Option xE) (c : yy_CT) : yy_CT := (c.1, c.2.1, c.2.2.1, c.2.2.2.1, c.2.2.2.2.1, c.2.2.2.2.2.1, va_up c.2.2.2.2.2.2.1 a x, c.2.2.2.2.2.2.2)
def yy_tl (x : (Option Nat)) (c : yy_CT) : yy_CT := (c.1, c.2.1, c.2.2.1, c.2.2.2.1, c.2.2.2.2.1, c.2.2.2.2.2.1, c.2.2.2.2.2.2.1, x, c.2.2.2.2.2.2.2.2)
def yy_tg (x : UInt32) (c : yy_CT) : yy_CT := (c.1, c.2.1, c.2.2.1, c.2.2.2.1, c.2.2.2.2.1, c.2.2.2.2.2.1, c.2.2.2.2.2.2.1, c.2.2.2.2.2.2.2.1, x, c.2.2.2.2.2.2.2.2.2)
def yy_tb (x : (Nat × Nat)) (c : yy_CT) : yy_CT := (c.1, c.2.1, c.2.2.1, c.2.2.2.1, c.2.2.2.2.1, c.2.2.2.2.2.1, c.2.2.2.2.2.2.1, c.2.2.2.2.2.2.2.1, c.2.2.2.2.2.2.2.2.1, x, c.2.2.2.2.2.2.2.2.2.2)
def yy_tn (x : Nat) (c : yy_CT) : yy_CT := (c.1, c.2.1, c.2.2.1, c.2.2.2.1, c.2.2.2.2.1, c.2.2.2.2.2.1, c.2.2.2.2.2.2.1, c.2.2.2.2.2.2.2.1, c.2.2.2.2.2.2.2.2.1, c.2.2.2.2.2.2.2.2.2.1, x, c.2.2.2.2.2.2.2.2.2.2.2)
def yy_tz (x : Nat) (c : yy_CT) : yy_CT := (c.1, c.2.1, c.2.2.1, c.2.2.2.1, c.2.2.2.2.1, c.2.2.2.2.2.1, c.2.2.2.2.2.2.1, c.2.2.2.2.2.2.2.1, c.2.2.2.2.2.2.2.2.1, c.2.2.2.2.2.2.2.2.2.1, c.2.2.2.2.2.2.2.2.2.2.1, x)
theorem yy_cI_tI (k : Nat) (j : Nat) (x : Int32) (c : yy_CT) : yy_cI k (yy_tI j x c) = if k = j then x else yy_cI k c := rfl
theorem yy_cI_tA (k : Nat) (j : Nat) (x : (Nat → Int32)) (c : yy_CT) : yy_cI k (yy_tA j x c) = yy_cI k c := rfl
theorem yy_cI_tD (k : Nat) (j : Nat) (x : (Nat → UInt64)) (c : yy_CT) : yy_cI k (yy_tD j x c) = yy_cI k c := rfl
theorem yy_cI_tR (k : Nat) (j : Nat) (x : (Nat → Option Nat)) (c : yy_CT) : yy_cI k (yy_tR j x c) = yy_cI k c := rfl
theorem yy_cI_tS (k : Nat) (b : Nat) (x : Option yy_SV) (c : yy_CT) : yy_cI k (yy_tS b x c) = yy_cI k c := rfl
theorem yy_cI_tT (k : Nat) (b : Nat) (x : Option yy_DV) (c : yy_CT) : yy_cI k (yy_tT b x c) = yy_cI k c := rfl
theorem yy_cI_tO (k : Nat) (b : Nat) (x : Option xE) (c : yy_CT) : yy_cI k (yy_tO b x c) = yy_cI k c := rfl
theorem yy_cI_tl (k : Nat) (x : (Option Nat)) (c : yy_CT) : yy_cI k (yy_tl x c) = yy_cI k c := rfl
theorem yy_cI_tg (k : Nat) (x : UInt32) (c : yy_CT) : yy_cI k (yy_tg x c) = yy_cI k c := rfl
theorem yy_cI_tb (k : Nat) (x : (Nat × Nat)) (c : yy_CT) : yy_cI k (yy_tb x c) = yy_cI k c := rfl
theorem yy_cI_tn (k : Nat) (x : Nat) (c : yy_CT) : yy_cI k (yy_tn x c) = yy_cI k c := rfl
theorem yy_cI_tz (k : Nat) (x : Nat) (c : yy_CT) : yy_cI k (yy_tz x c) = yy_cI k c := rfl
theorem yy_cA_tI (k : Nat) (j : Nat) (x : Int32) (c : yy_CT) : yy_cA k (yy_tI j x c) = yy_cA k c := rfl
theorem yy_cA_tA (k : Nat) (j : Nat) (x : (Nat → Int32)) (c : yy_CT) : yy_cA k (yy_tA j x c) = if k = j then x else yy_cA k c := rfl
theorem yy_cA_tD (k : Nat) (j : Nat) (x : (Nat → UInt64)) (c : yy_CT) : yy_cA k (yy_tD j x c) = yy_cA k c := rfl
theorem yy_cA_tR (k : Nat) (j : Nat) (x : (Nat → Option Nat)) (c : yy_CT) : yy_cA k (yy_tR j x c) = yy_cA k c := rfl
theorem yy_cA_tS (k : Nat) (b : Nat) (x : Option yy_SV) (c : yy_CT) : yy_cA k (yy_tS b x c) = yy_cA k c := rfl
theorem yy_cA_tT (k : Nat) (b : Nat) (x : Option yy_DV) (c : yy_CT) : yy_cA k (yy_tT b x c) = yy_cA k c := rfl
theorem yy_cA_tO (k : Nat) (b : Nat) (x : Option xE) (c : yy_CT) : yy_cA k (yy_tO b x c) = yy_cA k c := rfl
theorem yy_cA_tl (k : Nat) (x : (Option Nat)) (c : yy_CT) : yy_cA k (yy_tl x c) = yy_cA k c := rfl
theorem yy_cA_tg (k : Nat) (x : UInt32) (c : yy_CT) : yy_cA k (yy_tg x c) = yy_cA k c := rfl
theorem yy_cA_tb (k : Nat) (x : (Nat × Nat)) (c : yy_CT) : yy_cA k (yy_tb x c) = yy_cA k c := rfl
theorem yy_cA_tn (k : Nat) (x : Nat) (c : yy_CT) : yy_cA k (yy_tn x c) = yy_cA k c := rfl
theorem yy_cA_tz (k : Nat) (x : Nat) (c : yy_CT) : yy_cA k (yy_tz x c) = yy_cA k c := rfl
theorem yy_cD_tI (k : Nat) (j : Nat) (x : Int32) (c : yy_CT) : yy_cD k (yy_tI j x c) = yy_cD k c := rfl
theorem yy_cD_tA (k : Nat) (j : Nat) (x : (Nat → Int32)) (c : yy_CT) : yy_cD k (yy_tA j x c) = yy_cD k c := rfl
theorem yy_cD_tD (k : Nat) (j : Nat) (x : (Nat → UInt64)) (c : yy_CT) : yy_cD k (yy_tD j x c) = if k = j then x else yy_cD k c := rfl
theorem yy_cD_tR (k : Nat) (j : Nat) (x : (Nat → Option Nat)) (c : yy_CT) : yy_cD k (yy_tR j x c) = yy_cD k c := rfl
theorem yy_cD_tS (k : Nat) (b : Nat) (x : Option yy_SV) (c : yy_CT) : yy_cD k (yy_tS b x c) = yy_cD k c := rfl
theorem yy_cD_tT (k : Nat) (b : Nat) (x : Option yy_DV) (c : yy_CT) : yy_cD k (yy_tT b x c) = yy_cD k c := rfl
theorem yy_cD_tO (k : Nat) (b : Nat) (x : Option xE) (c : yy_CT) : yy_cD k (yy_tO b x c) = yy_cD k c := rfl
theorem yy_cD_tl (k : Nat) (x : (Option Nat)) (c : yy_CT) : yy_cD k (yy_tl x c) = yy_cD k c := rfl
theorem yy_cD_tg (k : Nat) (x : UInt32) (c : yy_CT) : yy_cD k (yy_tg x c) = yy_cD k c := rfl
theorem yy_cD_tb (k : Nat) (x : (Nat × Nat)) (c : yy_CT) : yy_cD k (yy_tb x c) = yy_cD k c := rfl
theorem yy_cD_tn (k : Nat) (x : Nat) (c : yy_CT) : yy_cD k (yy_tn x c) = yy_cD k c := rfl
theorem yy_cD_tz (k : Nat) (x : Nat) (c : yy_CT) : yy_cD k (yy_tz x c) = yy_cD k c := rfl
theorem yy_cR_tI (k : Nat) (j : Nat) (x : Int32) (c : yy_CT) : yy_cR k (yy_tI j x c) = yy_cR k c := rfl
theorem yy_cR_tA (k : Nat) (j : Nat) (x : (Nat → Int32)) (c : yy_CT) : yy_cR k (yy_tA j x c) = yy_cR k c := rfl
theorem yy_cR_tD (k : Nat) (j : Nat) (x : (Nat → UInt64)) (c : yy_CT) : yy_cR k (yy_tD j x c) = yy_cR k c := rfl
theorem yy_cR_tR (k : Nat) (j : Nat) (x : (Nat → Option Nat)) (c : yy_CT) : yy_cR k (yy_tR j x c) = if k = j then x else yy_cR k c := rfl
theorem yy_cR_tS (k : Nat) (b : Nat) (x : Option yy_SV) (c : yy_CT) : yy_cR k (yy_tS b x c) = yy_cR k c := rfl
theorem yy_cR_tT (k : Nat) (b : Nat) (x : Option yy_DV) (c : yy_CT) : yy_cR k (yy_tT b x c) = yy_cR k c := rfl
theorem yy_cR_tO (k : Nat) (b : Nat) (x : Option xE) (c : yy_CT) : yy_cR k (yy_tO b x c) = yy_cR k c := rfl
theorem yy_cR_tl (k : Nat) (x : (Option Nat)) (c : yy_CT) : yy_cR k (yy_tl x c) = yy_cR k c := rfl
theorem yy_cR_tg (k : Nat) (x : UInt32) (c : yy_CT) : yy_cR k (yy_tg x c) = yy_cR k c := rfl
theorem yy_cR_tb (k : Nat) (x : (Nat × Nat)) (c : yy_CT) : yy_cR k (yy_tb x c) = yy_cR k c := rfl
theorem yy_cR_tn (k : Nat) (x : Nat) (c : yy_CT) : yy_cR k (yy_tn x c) = yy_cR k c := rfl
theorem yy_cR_tz (k : Nat) (x : Nat) (c : yy_CT) : yy_cR k (yy_tz x c) = yy_cR k c := rfl
theorem yy_cS_tI (a : Nat) (j : Nat) (x : Int32) (c : yy_CT) : yy_cS (yy_tI j x c) a = yy_cS c a := rfl
theorem yy_cS_tA (a : Nat) (j : Nat) (x : (Nat → Int32)) (c : yy_CT) : yy_cS (yy_tA j x c) a = yy_cS c a := rfl
theorem yy_cS_tD (a : Nat) (j : Nat) (x : (Nat → UInt64)) (c : yy_CT) : yy_cS (yy_tD j x c) a = yy_cS c a := rfl
theorem yy_cS_tR (a : Nat) (j : Nat) (x : (Nat → Option Nat)) (c : yy_CT) : yy_cS (yy_tR j x c) a = yy_cS c a := rfl
theorem yy_cS_tS (a : Nat) (b : Nat) (x : Option yy_SV) (c : yy_CT) : yy_cS (yy_tS b x c) a = if a = b then x else yy_cS c a := rfl
theorem yy_cS_tT (a : Nat) (b : Nat) (x : Option yy_DV) (c : yy_CT) : yy_cS (yy_tT b x c) a = yy_cS c a := rfl
theorem yy_cS_tO (a : Nat) (b : Nat) (x : Option xE) (c : yy_CT) : yy_cS (yy_tO b x c) a = yy_cS c a := rfl
theorem yy_cS_tl (a : Nat) (x : (Option Nat)) (c : yy_CT) : yy_cS (yy_tl x c) a = yy_cS c a := rfl
theorem yy_cS_tg (a : Nat) (x : UInt32) (c : yy_CT) : yy_cS (yy_tg x c) a = yy_cS c a := rfl
theorem yy_cS_tb (a : Nat) (x : (Nat × Nat)) (c : yy_CT) : yy_cS (yy_tb x c) a = yy_cS c a := rfl
theorem yy_cS_tn (a : Nat) (x : Nat) (c : yy_CT) : yy_cS (yy_tn x c) a = yy_cS c a := rfl
theorem yy_cS_tz (a : Nat) (x : Nat) (c : yy_CT) : yy_cS (yy_tz x c) a = yy_cS c a := rfl
theorem yy_cT_tI (a : Nat) (j : Nat) (x : Int32) (c : yy_CT) : yy_cT (yy_tI j x c) a = yy_cT c a := rfl
theorem yy_cT_tA (a : Nat) (j : Nat) (x : (Nat → Int32)) (c : yy_CT) : yy_cT (yy_tA j x c) a = yy_cT c a := rfl
theorem yy_cT_tD (a : Nat) (j : Nat) (x : (Nat → UInt64)) (c : yy_CT) : yy_cT (yy_tD j x c) a = yy_cT c a := rfl
theorem yy_cT_tR (a : Nat) (j : Nat) (x : (Nat → Option Nat)) (c : yy_CT) : yy_cT (yy_tR j x c) a = yy_cT c a := rfl
theorem yy_cT_tS (a : Nat) (b : Nat) (x : Option yy_SV) (c : yy_CT) : yy_cT (yy_tS b x c) a = yy_cT c a := rfl
theorem yy_cT_tT (a : Nat) (b : Nat) (x : Option yy_DV) (c : yy_CT) : yy_cT (yy_tT b x c) a = if a = b then x else yy_cT c a := rfl
theorem yy_cT_tO (a : Nat) (b : Nat) (x : Option xE) (c : yy_CT) : yy_cT (yy_tO b x c) a = yy_cT c a := rfl
theorem yy_cT_tl (a : Nat) (x : (Option Nat)) (c : yy_CT) : yy_cT (yy_tl x c) a = yy_cT c a := rfl
theorem yy_cT_tg (a : Nat) (x : UInt32) (c : yy_CT) : yy_cT (yy_tg x c) a = yy_cT c a := rfl
theorem yy_cT_tb (a : Nat) (x : (Nat × Nat)) (c : yy_CT) : yy_cT (yy_tb x c) a = yy_cT c a := rfl
theorem yy_cT_tn (a : Nat) (x : Nat) (c : yy_CT) : yy_cT (yy_tn x c) a = yy_cT c a := rfl
theorem yy_cT_tz (a : Nat) (x : Nat) (c : yy_CT) : yy_cT (yy_tz x c) a = yy_cT c a := rfl
theorem yy_cO_tI (a : Nat) (j : Nat) (x : Int32) (c : yy_CT) : yy_cO (yy_tI j x c) a = yy_cO c a := rfl
theorem yy_cO_tA (a : Nat) (j : Nat) (x : (Nat → Int32)) (c : yy_CT) : yy_cO (yy_tA j x c) a = yy_cO c a := rfl
theorem yy_cO_tD (a : Nat) (j : Nat) (x : (Nat → UInt64)) (c : yy_CT) : yy_cO (yy_tD j x c) a = yy_cO c a := rfl
theorem yy_cO_tR (a : Nat) (j : Nat) (x : (Nat → Option Nat)) (c : yy_CT) : yy_cO (yy_tR j x c) a = yy_cO c a := rfl
theorem yy_cO_tS (a : Nat) (b : Nat) (x : Option yy_SV) (c : yy_CT) : yy_cO (yy_tS b x c) a = yy_cO c a := rfl
theorem yy_cO_tT (a : Nat) (b : Nat) (x : Option yy_DV) (c : yy_CT) : yy_cO (yy_tT b x c) a = yy_cO c a := rfl
theorem yy_cO_tO (a : Nat) (b : Nat) (x : Option xE) (c : yy_CT) : yy_cO (yy_tO b x c) a = if a = b then x else yy_cO c a := rfl
theorem yy_cO_tl (a : Nat) (x : (Option Nat)) (c : yy_CT) : yy_cO (yy_tl x c) a = yy_cO c a := rfl
theorem yy_cO_tg (a : Nat) (x : UInt32) (c : yy_CT) : yy_cO (yy_tg x c) a = yy_cO c a := rfl
theorem yy_cO_tb (a : Nat) (x : (Nat × Nat)) (c : yy_CT) : yy_cO (yy_tb x c) a = yy_cO c a := rfl
theorem yy_cO_tn (a : Nat) (x : Nat) (c : yy_CT) : yy_cO (yy_tn x c) a = yy_cO c a := rfl
theorem yy_cO_tz (a : Nat) (x : Nat) (c : yy_CT) : yy_cO (yy_tz x c) a = yy_cO c a := rfl
theorem yy_cl_tI (j : Nat) (x : Int32) (c : yy_CT) : yy_cl (yy_tI j x c) = yy_cl c := rfl
theorem yy_cl_tA (j : Nat) (x : (Nat → Int32)) (c : yy_CT) : yy_cl (yy_tA j x c) = yy_cl c := rfl
theorem yy_cl_tD (j : Nat) (x : (Nat → UInt64)) (c : yy_CT) : yy_cl (yy_tD j x c) = yy_cl c := rfl
theorem yy_cl_tR (j : Nat) (x : (Nat → Option Nat)) (c : yy_CT) : yy_cl (yy_tR j x c) = yy_cl c := rfl
theorem yy_cl_tS (b : Nat) (x : Option yy_SV) (c : yy_CT) : yy_cl (yy_tS b x c) = yy_cl c := rfl
theorem yy_cl_tT (b : Nat) (x : Option yy_DV) (c : yy_CT) : yy_cl (yy_tT b x c) = yy_cl c := rfl
theorem yy_cl_tO (b : Nat) (x : Option xE) (c : yy_CT) : yy_cl (yy_tO b x c) = yy_cl c := rfl
theorem yy_cl_tl (x : (Option Nat)) (c : yy_CT) : yy_cl (yy_tl x c) = x := rfl
theorem yy_cl_tg (x : UInt32) (c : yy_CT) : yy_cl (yy_tg x c) = yy_cl c := rfl
theorem yy_cl_tb (x : (Nat × Nat)) (c : yy_CT) : yy_cl (yy_tb x c) = yy_cl c := rfl
theorem yy_cl_tn (x : Nat) (c : yy_CT) : yy_cl (yy_tn x c) = yy_cl c := rfl
theorem yy_cl_tz (x : Nat) (c : yy_CT) : yy_cl (yy_tz x c) = yy_cl c := rfl
theorem yy_cg_tI (j : Nat) (x : Int32) (c : yy_CT) : yy_cg (yy_tI j x c) = yy_cg c := rfl
theorem yy_cg_tA (j : Nat) (x : (Nat → Int32)) (c : yy_CT) : yy_cg (yy_tA j x c) = yy_cg c := rfl
theorem yy_cg_tD (j : Nat) (x : (Nat → UInt64)) (c : yy_CT) : yy_cg (yy_tD j x c) = yy_cg c := rfl
theorem yy_cg_tR (j : Nat) (x : (Nat → Option Nat)) (c : yy_CT) : yy_cg (yy_tR j x c) = yy_cg c := rfl
theorem yy_cg_tS (b : Nat) (x : Option yy_SV) (c : yy_CT) : yy_cg (yy_tS b x c) = yy_cg c := rfl
theorem yy_cg_tT (b : Nat) (x : Option yy_DV) (c : yy_CT) : yy_cg (yy_tT b x c) = yy_cg c := rfl
theorem yy_cg_tO (b : Nat) (x : Option xE) (c : yy_CT) : yy_cg (yy_tO b x c) = yy_cg c := rfl
theorem yy_cg_tl (x : (Option Nat)) (c : yy_CT) : yy_cg (yy_tl x c) = yy_cg c := rfl
theorem yy_cg_tg (x : UInt32) (c : yy_CT) : yy_cg (yy_tg x c) = x := rfl
theorem yy_cg_tb (x : (Nat × Nat)) (c : yy_CT) : yy_cg (yy_tb x c) = yy_cg c := rfl
theorem yy_cg_tn (x : Nat) (c : yy_CT) : yy_cg (yy_tn x c) = yy_cg c := rfl
theorem yy_cg_tz (x : Nat) (c : yy_CT) : yy_cg (yy_tz x c) = yy_cg c := rfl
theorem yy_cb_tI (j : Nat) (x : Int32) (c : yy_CT) : yy_cb (yy_tI j x c) = yy_cb c := rfl
theorem yy_cb_tA (j : Nat) (x : (Nat → Int32)) (c : yy_CT) : yy_cb (yy_tA j x c) = yy_cb c := rfl
theorem yy_cb_tD (j : Nat) (x : (Nat → UInt64)) (c : yy_CT) : yy_cb (yy_tD j x c) = yy_cb c := rfl
theorem yy_cb_tR (j : Nat) (x : (Nat → Option Nat)) (c : yy_CT) : yy_cb (yy_tR j x c) = yy_cb c := rfl
theorem yy_cb_tS (b : Nat) (x : Option yy_SV) (c : yy_CT) : yy_cb (yy_tS b x c) = yy_cb c := rfl
theorem yy_cb_tT (b : Nat) (x : Option yy_DV) (c : yy_CT) : yy_cb (yy_tT b x c) = yy_cb c := rfl
theorem yy_cb_tO (b : Nat) (x : Option xE) (c : yy_CT) : yy_cb (yy_tO b x c) = yy_cb c := rfl
theorem yy_cb_tl (x : (Option Nat)) (c : yy_CT) : yy_cb (yy_tl x c) = yy_cb c := rfl
theorem yy_cb_tg (x : UInt32) (c : yy_CT) : yy_cb (yy_tg x c) = yy_cb c := rfl
theorem yy_cb_tb (x : (Nat × Nat)) (c : yy_CT) : yy_cb (yy_tb x c) = x := rfl
theorem yy_cb_tn (x : Nat) (c : yy_CT) : yy_cb (yy_tn x c) = yy_cb c := rfl
theorem yy_cb_tz (x : Nat) (c : yy_CT) : yy_cb (yy_tz x c) = yy_cb c := rfl
theorem yy_cn_tI (j : Nat) (x : Int32) (c : yy_CT) : yy_cn (yy_tI j x c) = yy_cn c := rfl
theorem yy_cn_tA (j : Nat) (x : (Nat → Int32)) (c : yy_CT) : yy_cn (yy_tA j x c) = yy_cn c := rfl
theorem yy_cn_tD (j : Nat) (x : (Nat → UInt64)) (c : yy_CT) : yy_cn (yy_tD j x c) = yy_cn c := rfl
theorem yy_cn_tR (j : Nat) (x : (Nat → Option Nat)) (c : yy_CT) : yy_cn (yy_tR j x c) = yy_cn c := rfl
theorem yy_cn_tS (b : Nat) (x : Option yy_SV) (c : yy_CT) : yy_cn (yy_tS b x c) = yy_cn c := rfl
theorem yy_cn_tT (b : Nat) (x : Option yy_DV) (c : yy_CT) : yy_cn (yy_tT b x c) = yy_cn c := rfl
theorem yy_cn_tO (b : Nat) (x : Option xE) (c : yy_CT) : yy_cn (yy_tO b x c) = yy_cn c := rfl
theorem yy_cn_tl (x : (Option Nat)) (c : yy_CT) : yy_cn (yy_tl x c) = yy_cn c := rfl
theorem yy_cn_tg (x : UInt32) (c : yy_CT) : yy_cn (yy_tg x c) = yy_cn c := rfl
theorem yy_cn_tb (x : (Nat × Nat)) (c : yy_CT) : yy_cn (yy_tb x c) = yy_cn c := rfl
theorem yy_cn_tn (x : Nat) (c : yy_CT) : yy_cn (yy_tn x c) = x := rfl
theorem yy_cn_tz (x : Nat) (c : yy_CT) : yy_cn (yy_tz x c) = yy_cn c := rfl
theorem yy_cz_tI (j : Nat) (x : Int32) (c : yy_CT) : yy_cz (yy_tI j x c) = yy_cz c := rfl
theorem yy_cz_tA (j : Nat) (x : (Nat → Int32)) (c : yy_CT) : yy_cz (yy_tA j x c) = yy_cz c := rfl
theorem yy_cz_tD (j : Nat) (x : (Nat → UInt64)) (c : yy_CT) : yy_cz (yy_tD j x c) = yy_cz c := rfl
theorem yy_cz_tR (j : Nat) (x : (Nat → Option Nat)) (c : yy_CT) : yy_cz (yy_tR j x c) = yy_cz c := rfl
theorem yy_cz_tS (b : Nat) (x : Option yy_SV) (c : yy_CT) : yy_cz (yy_tS b x c) = yy_cz c := rfl
theorem yy_cz_tT (b : Nat) (x : Option yy_DV) (c : yy_CT) : yy_cz (yy_tT b x c) = yy_cz c := rfl
theorem yy_cz_tO (b : Nat) (x : Option xE) (c : yy_CT) : yy_cz (yy_tO b x c) = yy_cz c := rfl
theorem yy_cz_tl (x : (Option Nat)) (c : yy_CT) : yy_cz (yy_tl x c) = yy_cz c := rfl
theorem yy_cz_tg (x : UInt32) (c : yy_CT) : yy_cz (yy_tg x c) = yy_cz c := rfl
theorem yy_cz_tb (x : (Nat × Nat)) (c : yy_CT) : yy_cz (yy_tb x c) = yy_cz c := rfl
theorem yy_cz_tn (x : Nat) (c : yy_CT) : yy_cz (yy_tn x c) = yy_cz c := rfl
theorem yy_cz_tz (x : Nat) (c : yy_CT) : yy_cz (yy_tz x c) = x := rfl
def yy_PF (c : yy_CT) : List xV := [vA 257, vA 264, vA 265, vA 267, vI (yy_cI 4 c), vI (yy_cI 5 c), vA 269, vA 270, vA 271, vI (yy_cI 9 c), vI (yy_cI 10 c), vI (yy_cI 11 c), vA 272, vA 274, vI (yy_cI 14 c), vI (yy_cI 15 c), vI (yy_cI 16 c), vI (yy_cI 17 c), vI (yy_cI 18 c), vA 275, vA 276, vI (yy_cI 21 c), vI (yy_cI 22 c), vI (yy_cI 23 c), vI (yy_cI 24 c), vA 277, vI (yy_cI 26 c), vI (yy_cI 27 c), vR (yy_cl c), vF (yy_cg c), vA 278, vA 279, vA 280, vA 281, vA 282, vI (yy_cI 35 c), vI (yy_cI 36 c), vA 283, vI (yy_cI 38 c), vI (yy_cI 39 c)]
def yy_slV (v : yy_SV) : List xV := [vR v.1, vI v.2.1, vI v.2.2.1, vI v.2.2.2.1, vI v.2.2.2.2.1, vD v.2.2.2.2.2.1, vR v.2.2.2.2.2.2.1, vR v.2.2.2.2.2.2.2]
def yy_dcV (v : yy_DV) : List xV := [vI v.1, vI v.2.1, vI v.2.2.1, vR v.2.2.2]
def yy_cF (c : yy_CT) (a : Nat) : Option xE := match a with
  | 256 => some (.inl (0, yy_PF c))
  | 257 => some (.inr (.object "PageScribe$Group", (6, .inr (.inr (.inr (.inr fun j => some (258 + j)))))))
  | 258 => some (.inl (10, []))
  | 259 => some (.inl (11, []))
  | 260 => some (.inl (12, []))
  | 261 => some (.inl (13, []))
  | 262 => some (.inl (14, []))
  | 263 => some (.inl (15, []))
  | 264 => some (.inr (.object "PageScribe$Name", (32, .inr (.inr (.inr (.inr (yy_cR 264 c)))))))
  | 265 => some (.inl (16, [vA (yy_cb c).1, vI 0, vI (yy_cI 101 c), vI (yy_cI 100 c)]))
  | 267 => some (.inl (16, [vA 268, vI 0, vI (yy_cI 103 c), vI (yy_cI 102 c)]))
  | 268 => some (.inr (.byte, (120, .inl (yy_cA 268 c))))
  | 269 => some (.inr (.object "PageScribe$Slot", (41, .inr (.inr (.inr (.inr (yy_cR 269 c)))))))
  | 270 => some (.inr (.object "PageScribe$Slot", (160, .inr (.inr (.inr (.inr (yy_cR 270 c)))))))
  | 271 => some (.inr (.object "PageScribe$Slot", (120, .inr (.inr (.inr (.inr (yy_cR 271 c)))))))
  | 272 => some (.inl (17, [vA 273, vI (yy_cI 104 c), vI (yy_cI 105 c)]))
  | 273 => some (.inr (.object "java/lang/Object", (7, .inr (.inr (.inr (.inr (yy_cR 273 c)))))))
  | 274 => some (.inr (.object "PageScribe$Dict", (6, .inr (.inr (.inr (.inr (yy_cR 274 c)))))))
  | 275 => some (.inr (.int, (20, .inl (yy_cA 275 c))))
  | 276 => some (.inr (.int, (20, .inl (yy_cA 276 c))))
  | 277 => some (.inr (.object "PageScribe$Save", (3, .inr (.inr (.inr (.inr (yy_cR 277 c)))))))
  | 278 => some (.inr (.double, (30, .inr (.inr (.inr (.inl (yy_cD 278 c)))))))
  | 279 => some (.inr (.double, (30, .inr (.inr (.inr (.inl (yy_cD 279 c)))))))
  | 280 => some (.inr (.int, (30, .inl (yy_cA 280 c))))
  | 281 => some (.inr (.int, (30, .inl (yy_cA 281 c))))
  | 282 => some (.inr (.int, (30, .inl (yy_cA 282 c))))
  | 283 => some (.inr (.array .byte, (16, .inr (.inr (.inr (.inr fun j => some (284 + j)))))))
  | 284 => some (.inr (.byte, (24, .inl (yy_cA 284 c))))
  | 285 => some (.inr (.byte, (24, .inl (yy_cA 285 c))))
  | 286 => some (.inr (.byte, (24, .inl (yy_cA 286 c))))
  | 287 => some (.inr (.byte, (24, .inl (yy_cA 287 c))))
  | 288 => some (.inr (.byte, (24, .inl (yy_cA 288 c))))
  | 289 => some (.inr (.byte, (24, .inl (yy_cA 289 c))))
  | 290 => some (.inr (.byte, (24, .inl (yy_cA 290 c))))
  | 291 => some (.inr (.byte, (24, .inl (yy_cA 291 c))))
  | 292 => some (.inr (.byte, (24, .inl (yy_cA 292 c))))
  | 293 => some (.inr (.byte, (24, .inl (yy_cA 293 c))))
  | 294 => some (.inr (.byte, (24, .inl (yy_cA 294 c))))
  | 295 => some (.inr (.byte, (24, .inl (yy_cA 295 c))))
  | 296 => some (.inr (.byte, (24, .inl (yy_cA 296 c))))
  | 297 => some (.inr (.byte, (24, .inl (yy_cA 297 c))))
  | 298 => some (.inr (.byte, (24, .inl (yy_cA 298 c))))
  | 299 => some (.inr (.byte, (24, .inl (yy_cA 299 c))))
  | _ => yy_cO c a
def yy_cX (a : Nat) : Bool := Nat.blt a 300 && !Nat.beq a 266
def yy_cM (c : yy_CT) (a : Nat) : Option xE := if yy_cX a = true then yy_cF c a else if a = (yy_cb c).1 then some (.inr (.byte, ((yy_cb c).2, .inl (yy_cA 266 c)))) else match yy_cS c a with
  | some v => some (.inl (2, yy_slV v))
  | none => match yy_cT c a with
    | some d => some (.inl (4, yy_dcV d))
    | none => yy_cO c a
def yy_cH (c : yy_CT) : xH := (yy_cM c, yy_cn c, yy_cz c)
/-- a slot, a dict, another cell at an address -/
def yy_slv (c : yy_CT) (a : Nat) : Option yy_SV := if yy_cX a = false ∧ a ≠ (yy_cb c).1 then yy_cS c a else none
def yy_dcv (c : yy_CT) (a : Nat) : Option yy_DV := if yy_cX a = false ∧ a ≠ (yy_cb c).1 ∧ yy_cS c a = none then yy_cT c a else none
def yy_ov (c : yy_CT) (a : Nat) : Option xE := if yy_cX a = false ∧ a ≠ (yy_cb c).1 ∧ yy_cS c a = none ∧ yy_cT c a = none then yy_cO c a else none
theorem yy_c_up {c c2 : yy_CT} {a : Nat} {e : xE} (h1 : yy_cM c2 a = some e) (h2 : ∀ b, b ≠ a → yy_cM c2 b = yy_cM c b) (h3 : yy_cn c2 = yy_cn c) (h4 : yy_cz c2 = yy_cz c) : xup (yy_cH c) a e = yy_cH c2 := by
  show (va_up (yy_cM c) a (some e), yy_cn c, yy_cz c) = (yy_cM c2, yy_cn c2, yy_cz c2)
  rw [h3, h4]
  refine congrArg (fun z => (z, yy_cn c, yy_cz c)) (funext fun b => ?_)
  unfold va_up
  by_cases hb : b = a
  · subst hb
    rw [if_pos rfl, h1]
  · rw [if_neg hb, h2 b hb]
theorem yy_c_new {c c2 : yy_CT} {e : xE} {n : Nat} (h1 : yy_cM c2 (yy_cn c) = some e) (h2 : ∀ b, b ≠ yy_cn c → yy_cM c2 b = yy_cM c b) (h3 : yy_cn c2 = yy_cn c + 1) (h4 : yy_cz c2 = yy_cz c + n) : xnew (yy_cH c) e n = yy_cH c2 := by
  show (va_up (yy_cM c) (yy_cn c) (some e), yy_cn c + 1, yy_cz c + n) = (yy_cM c2, yy_cn c2, yy_cz c2)
  rw [h3, h4]
  refine congrArg (fun z => (z, yy_cn c + 1, yy_cz c + n)) (funext fun b => ?_)
  unfold va_up
  by_cases hb : b = yy_cn c
  · subst hb
    rw [if_pos rfl, h1]
  · rw [if_neg hb, h2 b hb]
/-- a fixed cell changes alone -/
theorem yy_c_fix {c c2 : yy_CT} {a : Nat} {e : xE} (hX : yy_cX a = true) (h1 : yy_cF c2 a = some e) (hF : ∀ b, b ≠ a → yy_cF c2 b = yy_cF c b) (hb : yy_cb c2 = yy_cb c) (hA : yy_cA 266 c2 = yy_cA 266 c) (hS : yy_cS c2 = yy_cS c) (hT : yy_cT c2 = yy_cT c) (hO : yy_cO c2 = yy_cO c) (h3 : yy_cn c2 = yy_cn c) (h4 : yy_cz c2 = yy_cz c) : xup (yy_cH c) a e = yy_cH c2 := by
  refine yy_c_up ?_ ?_ h3 h4
  · unfold yy_cM
    rw [if_pos hX, h1]
  · intro b hb2
    unfold yy_cM
    rw [hF b hb2, hb, hA, hS, hT, hO]
theorem yy_cgI_4 (sc : xSc) (c : yy_CT) : gI sc (yy_cH c) 0 4 (some 256) = some (yy_cI 4 c) := rfl
theorem yy_cgI_5 (sc : xSc) (c : yy_CT) : gI sc (yy_cH c) 0 5 (some 256) = some (yy_cI 5 c) := rfl
theorem yy_cgI_9 (sc : xSc) (c : yy_CT) : gI sc (yy_cH c) 0 9 (some 256) = some (yy_cI 9 c) := rfl
theorem yy_cgI_10 (sc : xSc) (c : yy_CT) : gI sc (yy_cH c) 0 10 (some 256) = some (yy_cI 10 c) := rfl
theorem yy_cgI_11 (sc : xSc) (c : yy_CT) : gI sc (yy_cH c) 0 11 (some 256) = some (yy_cI 11 c) := rfl
theorem yy_cgI_14 (sc : xSc) (c : yy_CT) : gI sc (yy_cH c) 0 14 (some 256) = some (yy_cI 14 c) := rfl
theorem yy_cgI_15 (sc : xSc) (c : yy_CT) : gI sc (yy_cH c) 0 15 (some 256) = some (yy_cI 15 c) := rfl
theorem yy_cgI_16 (sc : xSc) (c : yy_CT) : gI sc (yy_cH c) 0 16 (some 256) = some (yy_cI 16 c) := rfl
theorem yy_cgI_17 (sc : xSc) (c : yy_CT) : gI sc (yy_cH c) 0 17 (some 256) = some (yy_cI 17 c) := rfl
theorem yy_cgI_18 (sc : xSc) (c : yy_CT) : gI sc (yy_cH c) 0 18 (some 256) = some (yy_cI 18 c) := rfl
theorem yy_cgI_21 (sc : xSc) (c : yy_CT) : gI sc (yy_cH c) 0 21 (some 256) = some (yy_cI 21 c) := rfl
theorem yy_cgI_22 (sc : xSc) (c : yy_CT) : gI sc (yy_cH c) 0 22 (some 256) = some (yy_cI 22 c) := rfl
theorem yy_cgI_23 (sc : xSc) (c : yy_CT) : gI sc (yy_cH c) 0 23 (some 256) = some (yy_cI 23 c) := rfl
theorem yy_cgI_24 (sc : xSc) (c : yy_CT) : gI sc (yy_cH c) 0 24 (some 256) = some (yy_cI 24 c) := rfl
theorem yy_cgI_26 (sc : xSc) (c : yy_CT) : gI sc (yy_cH c) 0 26 (some 256) = some (yy_cI 26 c) := rfl
theorem yy_cgI_27 (sc : xSc) (c : yy_CT) : gI sc (yy_cH c) 0 27 (some 256) = some (yy_cI 27 c) := rfl
theorem yy_cgI_35 (sc : xSc) (c : yy_CT) : gI sc (yy_cH c) 0 35 (some 256) = some (yy_cI 35 c) := rfl
theorem yy_cgI_36 (sc : xSc) (c : yy_CT) : gI sc (yy_cH c) 0 36 (some 256) = some (yy_cI 36 c) := rfl
theorem yy_cgI_38 (sc : xSc) (c : yy_CT) : gI sc (yy_cH c) 0 38 (some 256) = some (yy_cI 38 c) := rfl
theorem yy_cgI_39 (sc : xSc) (c : yy_CT) : gI sc (yy_cH c) 0 39 (some 256) = some (yy_cI 39 c) := rfl
theorem yy_cgR_0 (sc : xSc) (c : yy_CT) : gR sc (yy_cH c) 0 0 (some 256) = some (some 257) := rfl
theorem yy_cgR_1 (sc : xSc) (c : yy_CT) : gR sc (yy_cH c) 0 1 (some 256) = some (some 264) := rfl
theorem yy_cgR_2 (sc : xSc) (c : yy_CT) : gR sc (yy_cH c) 0 2 (some 256) = some (some 265) := rfl
theorem yy_cgR_3 (sc : xSc) (c : yy_CT) : gR sc (yy_cH c) 0 3 (some 256) = some (some 267) := rfl
theorem yy_cgR_6 (sc : xSc) (c : yy_CT) : gR sc (yy_cH c) 0 6 (some 256) = some (some 269) := rfl
theorem yy_cgR_7 (sc : xSc) (c : yy_CT) : gR sc (yy_cH c) 0 7 (some 256) = some (some 270) := rfl
theorem yy_cgR_8 (sc : xSc) (c : yy_CT) : gR sc (yy_cH c) 0 8 (some 256) = some (some 271) := rfl
theorem yy_cgR_12 (sc : xSc) (c : yy_CT) : gR sc (yy_cH c) 0 12 (some 256) = some (some 272) := rfl
theorem yy_cgR_13 (sc : xSc) (c : yy_CT) : gR sc (yy_cH c) 0 13 (some 256) = some (some 274) := rfl
theorem yy_cgR_19 (sc : xSc) (c : yy_CT) : gR sc (yy_cH c) 0 19 (some 256) = some (some 275) := rfl
theorem yy_cgR_20 (sc : xSc) (c : yy_CT) : gR sc (yy_cH c) 0 20 (some 256) = some (some 276) := rfl
theorem yy_cgR_25 (sc : xSc) (c : yy_CT) : gR sc (yy_cH c) 0 25 (some 256) = some (some 277) := rfl
theorem yy_cgR_30 (sc : xSc) (c : yy_CT) : gR sc (yy_cH c) 0 30 (some 256) = some (some 278) := rfl
theorem yy_cgR_31 (sc : xSc) (c : yy_CT) : gR sc (yy_cH c) 0 31 (some 256) = some (some 279) := rfl
theorem yy_cgR_32 (sc : xSc) (c : yy_CT) : gR sc (yy_cH c) 0 32 (some 256) = some (some 280) := rfl
theorem yy_cgR_33 (sc : xSc) (c : yy_CT) : gR sc (yy_cH c) 0 33 (some 256) = some (some 281) := rfl
theorem yy_cgR_34 (sc : xSc) (c : yy_CT) : gR sc (yy_cH c) 0 34 (some 256) = some (some 282) := rfl
theorem yy_cgR_37 (sc : xSc) (c : yy_CT) : gR sc (yy_cH c) 0 37 (some 256) = some (some 283) := rfl
theorem yy_cgR_28 (sc : xSc) (c : yy_CT) : gR sc (yy_cH c) 0 28 (some 256) = some (yy_cl c) := rfl
theorem yy_cgF_29 (sc : xSc) (c : yy_CT) : gF sc (yy_cH c) 0 29 (some 256) = some (yy_cg c) := rfl
theorem yy_cis_P (sc : xSc) (c : yy_CT) : xis sc (yy_cH c) 0 (some 256) = true := rfl
theorem yy_cF_P {c c2 : yy_CT} (h : ∀ b, b ≠ 256 → yy_cF c2 b = yy_cF c b) (hb : yy_cb c2 = yy_cb c) (hA : yy_cA 266 c2 = yy_cA 266 c) (hS : yy_cS c2 = yy_cS c) (hT : yy_cT c2 = yy_cT c) (hO : yy_cO c2 = yy_cO c) (h3 : yy_cn c2 = yy_cn c) (h4 : yy_cz c2 = yy_cz c) {k : Nat} {v : xV} (hp : (yy_PF c).set k v = yy_PF c2) : pV (yy_cH c) 0 k (some 256) v = some (yy_cH c2) := by
  have h0 : (yy_cH c).1 256 = some (.inl (0, yy_PF c)) := rfl
  rw [p_pV (by decide) h0, hp]
  exact congrArg some (yy_c_fix rfl rfl h hb hA hS hT hO h3 h4)
theorem yy_cF_tI (k : Nat) (x : Int32) (c : yy_CT) (hk : k < 100) (b : Nat) (h : b ≠ 256) : yy_cF (yy_tI k x c) b = yy_cF c b := by
  unfold yy_cF
  split <;> first | rfl | exact absurd rfl h | skip
  all_goals simp only [yy_cI_tI, yy_cb_tI]
  all_goals (repeat rw [if_neg (by omega)])
theorem yy_cpI_4 (c : yy_CT) (x : Int32) : pV (yy_cH c) 0 4 (some 256) (vI x) = some (yy_cH (yy_tI 4 x c)) := yy_cF_P (yy_cF_tI 4 x c (by decide)) rfl rfl rfl rfl rfl rfl rfl rfl
theorem yy_cpI_5 (c : yy_CT) (x : Int32) : pV (yy_cH c) 0 5 (some 256) (vI x) = some (yy_cH (yy_tI 5 x c)) := yy_cF_P (yy_cF_tI 5 x c (by decide)) rfl rfl rfl rfl rfl rfl rfl rfl
theorem yy_cpI_9 (c : yy_CT) (x : Int32) : pV (yy_cH c) 0 9 (some 256) (vI x) = some (yy_cH (yy_tI 9 x c)) := yy_cF_P (yy_cF_tI 9 x c (by decide)) rfl rfl rfl rfl rfl rfl rfl rfl
theorem yy_cpI_10 (c : yy_CT) (x : Int32) : pV (yy_cH c) 0 10 (some 256) (vI x) = some (yy_cH (yy_tI 10 x c)) := yy_cF_P (yy_cF_tI 10 x c (by decide)) rfl rfl rfl rfl rfl rfl rfl rfl
theorem yy_cpI_11 (c : yy_CT) (x : Int32) : pV (yy_cH c) 0 11 (some 256) (vI x) = some (yy_cH (yy_tI 11 x c)) := yy_cF_P (yy_cF_tI 11 x c (by decide)) rfl rfl rfl rfl rfl rfl rfl rfl
theorem yy_cpI_14 (c : yy_CT) (x : Int32) : pV (yy_cH c) 0 14 (some 256) (vI x) = some (yy_cH (yy_tI 14 x c)) := yy_cF_P (yy_cF_tI 14 x c (by decide)) rfl rfl rfl rfl rfl rfl rfl rfl
theorem yy_cpI_15 (c : yy_CT) (x : Int32) : pV (yy_cH c) 0 15 (some 256) (vI x) = some (yy_cH (yy_tI 15 x c)) := yy_cF_P (yy_cF_tI 15 x c (by decide)) rfl rfl rfl rfl rfl rfl rfl rfl
theorem yy_cpI_16 (c : yy_CT) (x : Int32) : pV (yy_cH c) 0 16 (some 256) (vI x) = some (yy_cH (yy_tI 16 x c)) := yy_cF_P (yy_cF_tI 16 x c (by decide)) rfl rfl rfl rfl rfl rfl rfl rfl
theorem yy_cpI_17 (c : yy_CT) (x : Int32) : pV (yy_cH c) 0 17 (some 256) (vI x) = some (yy_cH (yy_tI 17 x c)) := yy_cF_P (yy_cF_tI 17 x c (by decide)) rfl rfl rfl rfl rfl rfl rfl rfl
theorem yy_cpI_18 (c : yy_CT) (x : Int32) : pV (yy_cH c) 0 18 (some 256) (vI x) = some (yy_cH (yy_tI 18 x c)) := yy_cF_P (yy_cF_tI 18 x c (by decide)) rfl rfl rfl rfl rfl rfl rfl rfl
theorem yy_cpI_21 (c : yy_CT) (x : Int32) : pV (yy_cH c) 0 21 (some 256) (vI x) = some (yy_cH (yy_tI 21 x c)) := yy_cF_P (yy_cF_tI 21 x c (by decide)) rfl rfl rfl rfl rfl rfl rfl rfl
theorem yy_cpI_22 (c : yy_CT) (x : Int32) : pV (yy_cH c) 0 22 (some 256) (vI x) = some (yy_cH (yy_tI 22 x c)) := yy_cF_P (yy_cF_tI 22 x c (by decide)) rfl rfl rfl rfl rfl rfl rfl rfl
theorem yy_cpI_23 (c : yy_CT) (x : Int32) : pV (yy_cH c) 0 23 (some 256) (vI x) = some (yy_cH (yy_tI 23 x c)) := yy_cF_P (yy_cF_tI 23 x c (by decide)) rfl rfl rfl rfl rfl rfl rfl rfl
theorem yy_cpI_24 (c : yy_CT) (x : Int32) : pV (yy_cH c) 0 24 (some 256) (vI x) = some (yy_cH (yy_tI 24 x c)) := yy_cF_P (yy_cF_tI 24 x c (by decide)) rfl rfl rfl rfl rfl rfl rfl rfl
theorem yy_cpI_26 (c : yy_CT) (x : Int32) : pV (yy_cH c) 0 26 (some 256) (vI x) = some (yy_cH (yy_tI 26 x c)) := yy_cF_P (yy_cF_tI 26 x c (by decide)) rfl rfl rfl rfl rfl rfl rfl rfl
theorem yy_cpI_27 (c : yy_CT) (x : Int32) : pV (yy_cH c) 0 27 (some 256) (vI x) = some (yy_cH (yy_tI 27 x c)) := yy_cF_P (yy_cF_tI 27 x c (by decide)) rfl rfl rfl rfl rfl rfl rfl rfl
theorem yy_cpI_35 (c : yy_CT) (x : Int32) : pV (yy_cH c) 0 35 (some 256) (vI x) = some (yy_cH (yy_tI 35 x c)) := yy_cF_P (yy_cF_tI 35 x c (by decide)) rfl rfl rfl rfl rfl rfl rfl rfl
theorem yy_cpI_36 (c : yy_CT) (x : Int32) : pV (yy_cH c) 0 36 (some 256) (vI x) = some (yy_cH (yy_tI 36 x c)) := yy_cF_P (yy_cF_tI 36 x c (by decide)) rfl rfl rfl rfl rfl rfl rfl rfl
theorem yy_cpI_38 (c : yy_CT) (x : Int32) : pV (yy_cH c) 0 38 (some 256) (vI x) = some (yy_cH (yy_tI 38 x c)) := yy_cF_P (yy_cF_tI 38 x c (by decide)) rfl rfl rfl rfl rfl rfl rfl rfl
theorem yy_cpI_39 (c : yy_CT) (x : Int32) : pV (yy_cH c) 0 39 (some 256) (vI x) = some (yy_cH (yy_tI 39 x c)) := yy_cF_P (yy_cF_tI 39 x c (by decide)) rfl rfl rfl rfl rfl rfl rfl rfl
theorem yy_cpR_28 (c : yy_CT) (x : Option Nat) : pV (yy_cH c) 0 28 (some 256) (vR x) = some (yy_cH (yy_tl x c)) := by
  refine yy_cF_P (c := c) (c2 := yy_tl x c) (fun b h => ?_) rfl rfl rfl rfl rfl rfl rfl rfl
  unfold yy_cF
  split <;> first | rfl | exact absurd rfl h
theorem yy_cpF_29 (c : yy_CT) (x : UInt32) : pV (yy_cH c) 0 29 (some 256) (vF x) = some (yy_cH (yy_tg x c)) := by
  refine yy_cF_P (c := c) (c2 := yy_tg x c) (fun b h => ?_) rfl rfl rfl rfl rfl rfl rfl rfl
  unfold yy_cF
  split <;> first | rfl | exact absurd rfl h
theorem yy_cgR_AL (sc : xSc) (c : yy_CT) : gR sc (yy_cH c) 17 0 (some 272) = some (some 273) := rfl
theorem yy_cgI_AL1 (sc : xSc) (c : yy_CT) : gI sc (yy_cH c) 17 1 (some 272) = some (yy_cI 104 c) := rfl
theorem yy_cgI_AL2 (sc : xSc) (c : yy_CT) : gI sc (yy_cH c) 17 2 (some 272) = some (yy_cI 105 c) := rfl
theorem yy_cis_AL (sc : xSc) (c : yy_CT) : xis sc (yy_cH c) 17 (some 272) = true := rfl
theorem yy_cgR_T0 (sc : xSc) (c : yy_CT) : gR sc (yy_cH c) 16 0 (some 265) = some (some (yy_cb c).1) := rfl
theorem yy_cgI_T1 (sc : xSc) (c : yy_CT) : gI sc (yy_cH c) 16 1 (some 265) = some 0 := rfl
theorem yy_cgI_T3 (sc : xSc) (c : yy_CT) : gI sc (yy_cH c) 16 3 (some 265) = some (yy_cI 100 c) := rfl
theorem yy_cis_T (sc : xSc) (c : yy_CT) : xis sc (yy_cH c) 16 (some 265) = true := rfl
theorem yy_cgR_W0 (sc : xSc) (c : yy_CT) : gR sc (yy_cH c) 16 0 (some 267) = some (some 268) := rfl
theorem yy_cgI_W1 (sc : xSc) (c : yy_CT) : gI sc (yy_cH c) 16 1 (some 267) = some 0 := rfl
theorem yy_cgI_W3 (sc : xSc) (c : yy_CT) : gI sc (yy_cH c) 16 3 (some 267) = some (yy_cI 102 c) := rfl
theorem yy_cis_W (sc : xSc) (c : yy_CT) : xis sc (yy_cH c) 16 (some 267) = true := rfl
def yy_xfs (e : Option xE) : List xV := match e with
  | some (.inl o) => o.2
  | _ => []
theorem yy_cpI_AL1 (c : yy_CT) (x : Int32) : pV (yy_cH c) 17 1 (some 272) (vI x) = some (yy_cH (yy_tI 104 x c)) := by
  rw [p_pV (fs := yy_xfs ((yy_cH c).1 272)) (by decide) rfl]
  refine congrArg some (yy_c_fix rfl rfl (fun b h => ?_) rfl rfl rfl rfl rfl rfl rfl)
  unfold yy_cF
  split <;> first | rfl | exact absurd rfl h
theorem yy_cpI_AL2 (c : yy_CT) (x : Int32) : pV (yy_cH c) 17 2 (some 272) (vI x) = some (yy_cH (yy_tI 105 x c)) := by
  rw [p_pV (fs := yy_xfs ((yy_cH c).1 272)) (by decide) rfl]
  refine congrArg some (yy_c_fix rfl rfl (fun b h => ?_) rfl rfl rfl rfl rfl rfl rfl)
  unfold yy_cF
  split <;> first | rfl | exact absurd rfl h
theorem yy_cpI_T3 (c : yy_CT) (x : Int32) : pV (yy_cH c) 16 3 (some 265) (vI x) = some (yy_cH (yy_tI 100 x c)) := by
  rw [p_pV (fs := yy_xfs ((yy_cH c).1 265)) (by decide) rfl]
  refine congrArg some (yy_c_fix rfl rfl (fun b h => ?_) rfl rfl rfl rfl rfl rfl rfl)
  unfold yy_cF
  split <;> first | rfl | exact absurd rfl h
theorem yy_cpI_T2 (c : yy_CT) (x : Int32) : pV (yy_cH c) 16 2 (some 265) (vI x) = some (yy_cH (yy_tI 101 x c)) := by
  rw [p_pV (fs := yy_xfs ((yy_cH c).1 265)) (by decide) rfl]
  refine congrArg some (yy_c_fix rfl rfl (fun b h => ?_) rfl rfl rfl rfl rfl rfl rfl)
  unfold yy_cF
  split <;> first | rfl | exact absurd rfl h
theorem yy_cpI_W3 (c : yy_CT) (x : Int32) : pV (yy_cH c) 16 3 (some 267) (vI x) = some (yy_cH (yy_tI 102 x c)) := by
  rw [p_pV (fs := yy_xfs ((yy_cH c).1 267)) (by decide) rfl]
  refine congrArg some (yy_c_fix rfl rfl (fun b h => ?_) rfl rfl rfl rfl rfl rfl rfl)
  unfold yy_cF
  split <;> first | rfl | exact absurd rfl h
theorem yy_cpI_W2 (c : yy_CT) (x : Int32) : pV (yy_cH c) 16 2 (some 267) (vI x) = some (yy_cH (yy_tI 103 x c)) := by
  rw [p_pV (fs := yy_xfs ((yy_cH c).1 267)) (by decide) rfl]
  refine congrArg some (yy_c_fix rfl rfl (fun b h => ?_) rfl rfl rfl rfl rfl rfl rfl)
  unfold yy_cF
  split <;> first | rfl | exact absurd rfl h
theorem yy_nI_c {n : Nat} (h : n < 2147483648) : (nI n).toNatClampNeg = n := by
  unfold nI
  rw [Int32.toNatClampNeg, Int32.toInt_ofNat_of_lt h]
  rfl
theorem yy_xin_nI {n N : Nat} (h : n < 2147483648) : xin (nI n) N = decide (n < N) := by
  unfold xin
  rw [yy_nI_c h]
  have : (0 : Int32) ≤ nI n := by
    rw [Int32.le_iff_toInt_le]
    unfold nI
    rw [Int32.toInt_ofNat_of_lt h]
    exact Int.natCast_nonneg n
  rw [decide_eq_true this, Bool.true_and]
theorem yy_xin_nI' {n N : Nat} (h : n < N) (hN : N < 2147483648) : xin (nI n) N = true := by
  rw [yy_xin_nI (by omega), decide_eq_true h]
theorem yy_caR_264 {sc : xSc} {c : yy_CT} {j : Nat} (h : j < 32) : aR sc (yy_cH c) (some 264) (nI j) = some (yy_cR 264 c j) := by
  rw [p_aR (f := yy_cR 264 c) (n := 32) (ty := .object "PageScribe$Name") rfl rfl (yy_xin_nI' h (by decide)), yy_nI_c (by omega)]
theorem yy_caN_264 (sc : xSc) (c : yy_CT) : aN sc (yy_cH c) (some 264) = some (nI 32) := rfl
theorem yy_caR_269 {sc : xSc} {c : yy_CT} {j : Nat} (h : j < 41) : aR sc (yy_cH c) (some 269) (nI j) = some (yy_cR 269 c j) := by
  rw [p_aR (f := yy_cR 269 c) (n := 41) (ty := .object "PageScribe$Slot") rfl rfl (yy_xin_nI' h (by decide)), yy_nI_c (by omega)]
theorem yy_caN_269 (sc : xSc) (c : yy_CT) : aN sc (yy_cH c) (some 269) = some (nI 41) := rfl
theorem yy_caR_270 {sc : xSc} {c : yy_CT} {j : Nat} (h : j < 160) : aR sc (yy_cH c) (some 270) (nI j) = some (yy_cR 270 c j) := by
  rw [p_aR (f := yy_cR 270 c) (n := 160) (ty := .object "PageScribe$Slot") rfl rfl (yy_xin_nI' h (by decide)), yy_nI_c (by omega)]
theorem yy_caN_270 (sc : xSc) (c : yy_CT) : aN sc (yy_cH c) (some 270) = some (nI 160) := rfl
theorem yy_caR_271 {sc : xSc} {c : yy_CT} {j : Nat} (h : j < 120) : aR sc (yy_cH c) (some 271) (nI j) = some (yy_cR 271 c j) := by
  rw [p_aR (f := yy_cR 271 c) (n := 120) (ty := .object "PageScribe$Slot") rfl rfl (yy_xin_nI' h (by decide)), yy_nI_c (by omega)]
theorem yy_caN_271 (sc : xSc) (c : yy_CT) : aN sc (yy_cH c) (some 271) = some (nI 120) := rfl
theorem yy_caR_273 {sc : xSc} {c : yy_CT} {j : Nat} (h : j < 7) : aR sc (yy_cH c) (some 273) (nI j) = some (yy_cR 273 c j) := by
  rw [p_aR (f := yy_cR 273 c) (n := 7) (ty := .object "java/lang/Object") rfl rfl (yy_xin_nI' h (by decide)), yy_nI_c (by omega)]
theorem yy_caN_273 (sc : xSc) (c : yy_CT) : aN sc (yy_cH c) (some 273) = some (nI 7) := rfl
theorem yy_caR_274 {sc : xSc} {c : yy_CT} {j : Nat} (h : j < 6) : aR sc (yy_cH c) (some 274) (nI j) = some (yy_cR 274 c j) := by
  rw [p_aR (f := yy_cR 274 c) (n := 6) (ty := .object "PageScribe$Dict") rfl rfl (yy_xin_nI' h (by decide)), yy_nI_c (by omega)]
theorem yy_caN_274 (sc : xSc) (c : yy_CT) : aN sc (yy_cH c) (some 274) = some (nI 6) := rfl
theorem yy_caR_277 {sc : xSc} {c : yy_CT} {j : Nat} (h : j < 3) : aR sc (yy_cH c) (some 277) (nI j) = some (yy_cR 277 c j) := by
  rw [p_aR (f := yy_cR 277 c) (n := 3) (ty := .object "PageScribe$Save") rfl rfl (yy_xin_nI' h (by decide)), yy_nI_c (by omega)]
theorem yy_caN_277 (sc : xSc) (c : yy_CT) : aN sc (yy_cH c) (some 277) = some (nI 3) := rfl
theorem yy_cbR_264 {sc : xSc} {c : yy_CT} {j : Nat} {x : Option Nat} (h : j < 32) (hx : x = none ∨ xis sc (yy_cH c) 3 x = true) : bR "PageScribe$Name" 3 sc (yy_cH c) (some 264) (nI j) x = some (yy_cH (yy_tR 264 (va_up (yy_cR 264 c) j x) c)) := by
  rw [p_bR (f := yy_cR 264 c) (n := 32) (by decide) rfl (yy_xin_nI' h (by decide)) hx, yy_nI_c (by omega)]
  refine congrArg some (yy_c_fix rfl rfl (fun b h => ?_) rfl rfl rfl rfl rfl rfl rfl)
  unfold yy_cF
  split <;> first | rfl | exact absurd rfl h
theorem yy_cbR_269 {sc : xSc} {c : yy_CT} {j : Nat} {x : Option Nat} (h : j < 41) (hx : x = none ∨ xis sc (yy_cH c) 2 x = true) : bR "PageScribe$Slot" 2 sc (yy_cH c) (some 269) (nI j) x = some (yy_cH (yy_tR 269 (va_up (yy_cR 269 c) j x) c)) := by
  rw [p_bR (f := yy_cR 269 c) (n := 41) (by decide) rfl (yy_xin_nI' h (by decide)) hx, yy_nI_c (by omega)]
  refine congrArg some (yy_c_fix rfl rfl (fun b h => ?_) rfl rfl rfl rfl rfl rfl rfl)
  unfold yy_cF
  split <;> first | rfl | exact absurd rfl h
theorem yy_cbR_270 {sc : xSc} {c : yy_CT} {j : Nat} {x : Option Nat} (h : j < 160) (hx : x = none ∨ xis sc (yy_cH c) 2 x = true) : bR "PageScribe$Slot" 2 sc (yy_cH c) (some 270) (nI j) x = some (yy_cH (yy_tR 270 (va_up (yy_cR 270 c) j x) c)) := by
  rw [p_bR (f := yy_cR 270 c) (n := 160) (by decide) rfl (yy_xin_nI' h (by decide)) hx, yy_nI_c (by omega)]
  refine congrArg some (yy_c_fix rfl rfl (fun b h => ?_) rfl rfl rfl rfl rfl rfl rfl)
  unfold yy_cF
  split <;> first | rfl | exact absurd rfl h
theorem yy_cbR_271 {sc : xSc} {c : yy_CT} {j : Nat} {x : Option Nat} (h : j < 120) (hx : x = none ∨ xis sc (yy_cH c) 2 x = true) : bR "PageScribe$Slot" 2 sc (yy_cH c) (some 271) (nI j) x = some (yy_cH (yy_tR 271 (va_up (yy_cR 271 c) j x) c)) := by
  rw [p_bR (f := yy_cR 271 c) (n := 120) (by decide) rfl (yy_xin_nI' h (by decide)) hx, yy_nI_c (by omega)]
  refine congrArg some (yy_c_fix rfl rfl (fun b h => ?_) rfl rfl rfl rfl rfl rfl rfl)
  unfold yy_cF
  split <;> first | rfl | exact absurd rfl h
theorem yy_cbR_273 {sc : xSc} {c : yy_CT} {j : Nat} {x : Option Nat} (h : j < 7) (hx : x = none ∨ xis sc (yy_cH c) 4 x = true) : bR "java/lang/Object" 4 sc (yy_cH c) (some 273) (nI j) x = some (yy_cH (yy_tR 273 (va_up (yy_cR 273 c) j x) c)) := by
  rw [p_bR (f := yy_cR 273 c) (n := 7) (by decide) rfl (yy_xin_nI' h (by decide)) hx, yy_nI_c (by omega)]
  refine congrArg some (yy_c_fix rfl rfl (fun b h => ?_) rfl rfl rfl rfl rfl rfl rfl)
  unfold yy_cF
  split <;> first | rfl | exact absurd rfl h
theorem yy_cbR_274 {sc : xSc} {c : yy_CT} {j : Nat} {x : Option Nat} (h : j < 6) (hx : x = none ∨ xis sc (yy_cH c) 4 x = true) : bR "PageScribe$Dict" 4 sc (yy_cH c) (some 274) (nI j) x = some (yy_cH (yy_tR 274 (va_up (yy_cR 274 c) j x) c)) := by
  rw [p_bR (f := yy_cR 274 c) (n := 6) (by decide) rfl (yy_xin_nI' h (by decide)) hx, yy_nI_c (by omega)]
  refine congrArg some (yy_c_fix rfl rfl (fun b h => ?_) rfl rfl rfl rfl rfl rfl rfl)
  unfold yy_cF
  split <;> first | rfl | exact absurd rfl h
theorem yy_cbR_277 {sc : xSc} {c : yy_CT} {j : Nat} {x : Option Nat} (h : j < 3) (hx : x = none ∨ xis sc (yy_cH c) 6 x = true) : bR "PageScribe$Save" 6 sc (yy_cH c) (some 277) (nI j) x = some (yy_cH (yy_tR 277 (va_up (yy_cR 277 c) j x) c)) := by
  rw [p_bR (f := yy_cR 277 c) (n := 3) (by decide) rfl (yy_xin_nI' h (by decide)) hx, yy_nI_c (by omega)]
  refine congrArg some (yy_c_fix rfl rfl (fun b h => ?_) rfl rfl rfl rfl rfl rfl rfl)
  unfold yy_cF
  split <;> first | rfl | exact absurd rfl h
theorem yy_caI_275 {sc : xSc} {c : yy_CT} {j : Nat} (h : j < 20) : aI .int sc (yy_cH c) (some 275) (nI j) = some (yy_cA 275 c j) := by
  rw [p_aI (f := yy_cA 275 c) (n := 20) rfl (yy_xin_nI' h (by decide)), yy_nI_c (by omega)]
theorem yy_cbI_275 {c : yy_CT} {j : Nat} {x : Int32} (h : j < 20) : bI .int (yy_cH c) (some 275) (nI j) x = some (yy_cH (yy_tA 275 (va_up (yy_cA 275 c) j x) c)) := by
  rw [p_bI (f := yy_cA 275 c) (n := 20) (by decide) rfl (yy_xin_nI' h (by decide)), yy_nI_c (by omega)]
  refine congrArg some (yy_c_fix rfl rfl (fun b h => ?_) rfl rfl rfl rfl rfl rfl rfl)
  unfold yy_cF
  split <;> first | rfl | exact absurd rfl h
theorem yy_caI_276 {sc : xSc} {c : yy_CT} {j : Nat} (h : j < 20) : aI .int sc (yy_cH c) (some 276) (nI j) = some (yy_cA 276 c j) := by
  rw [p_aI (f := yy_cA 276 c) (n := 20) rfl (yy_xin_nI' h (by decide)), yy_nI_c (by omega)]
theorem yy_cbI_276 {c : yy_CT} {j : Nat} {x : Int32} (h : j < 20) : bI .int (yy_cH c) (some 276) (nI j) x = some (yy_cH (yy_tA 276 (va_up (yy_cA 276 c) j x) c)) := by
  rw [p_bI (f := yy_cA 276 c) (n := 20) (by decide) rfl (yy_xin_nI' h (by decide)), yy_nI_c (by omega)]
  refine congrArg some (yy_c_fix rfl rfl (fun b h => ?_) rfl rfl rfl rfl rfl rfl rfl)
  unfold yy_cF
  split <;> first | rfl | exact absurd rfl h
theorem yy_caI_280 {sc : xSc} {c : yy_CT} {j : Nat} (h : j < 30) : aI .int sc (yy_cH c) (some 280) (nI j) = some (yy_cA 280 c j) := by
  rw [p_aI (f := yy_cA 280 c) (n := 30) rfl (yy_xin_nI' h (by decide)), yy_nI_c (by omega)]
theorem yy_cbI_280 {c : yy_CT} {j : Nat} {x : Int32} (h : j < 30) : bI .int (yy_cH c) (some 280) (nI j) x = some (yy_cH (yy_tA 280 (va_up (yy_cA 280 c) j x) c)) := by
  rw [p_bI (f := yy_cA 280 c) (n := 30) (by decide) rfl (yy_xin_nI' h (by decide)), yy_nI_c (by omega)]
  refine congrArg some (yy_c_fix rfl rfl (fun b h => ?_) rfl rfl rfl rfl rfl rfl rfl)
  unfold yy_cF
  split <;> first | rfl | exact absurd rfl h
theorem yy_caI_281 {sc : xSc} {c : yy_CT} {j : Nat} (h : j < 30) : aI .int sc (yy_cH c) (some 281) (nI j) = some (yy_cA 281 c j) := by
  rw [p_aI (f := yy_cA 281 c) (n := 30) rfl (yy_xin_nI' h (by decide)), yy_nI_c (by omega)]
theorem yy_cbI_281 {c : yy_CT} {j : Nat} {x : Int32} (h : j < 30) : bI .int (yy_cH c) (some 281) (nI j) x = some (yy_cH (yy_tA 281 (va_up (yy_cA 281 c) j x) c)) := by
  rw [p_bI (f := yy_cA 281 c) (n := 30) (by decide) rfl (yy_xin_nI' h (by decide)), yy_nI_c (by omega)]
  refine congrArg some (yy_c_fix rfl rfl (fun b h => ?_) rfl rfl rfl rfl rfl rfl rfl)
  unfold yy_cF
  split <;> first | rfl | exact absurd rfl h
theorem yy_caI_282 {sc : xSc} {c : yy_CT} {j : Nat} (h : j < 30) : aI .int sc (yy_cH c) (some 282) (nI j) = some (yy_cA 282 c j) := by
  rw [p_aI (f := yy_cA 282 c) (n := 30) rfl (yy_xin_nI' h (by decide)), yy_nI_c (by omega)]
theorem yy_cbI_282 {c : yy_CT} {j : Nat} {x : Int32} (h : j < 30) : bI .int (yy_cH c) (some 282) (nI j) x = some (yy_cH (yy_tA 282 (va_up (yy_cA 282 c) j x) c)) := by
  rw [p_bI (f := yy_cA 282 c) (n := 30) (by decide) rfl (yy_xin_nI' h (by decide)), yy_nI_c (by omega)]
  refine congrArg some (yy_c_fix rfl rfl (fun b h => ?_) rfl rfl rfl rfl rfl rfl rfl)
  unfold yy_cF
  split <;> first | rfl | exact absurd rfl h
theorem yy_caI_268 {sc : xSc} {c : yy_CT} {j : Nat} (h : j < 120) : aI .byte sc (yy_cH c) (some 268) (nI j) = some (yy_cA 268 c j) := by
  rw [p_aI (f := yy_cA 268 c) (n := 120) rfl (yy_xin_nI' h (by decide)), yy_nI_c (by omega)]
theorem yy_cbI_268 {c : yy_CT} {j : Nat} {x : Int32} (h : j < 120) : bI .byte (yy_cH c) (some 268) (nI j) x = some (yy_cH (yy_tA 268 (va_up (yy_cA 268 c) j x) c)) := by
  rw [p_bI (f := yy_cA 268 c) (n := 120) (by decide) rfl (yy_xin_nI' h (by decide)), yy_nI_c (by omega)]
  refine congrArg some (yy_c_fix rfl rfl (fun b h => ?_) rfl rfl rfl rfl rfl rfl rfl)
  unfold yy_cF
  split <;> first | rfl | exact absurd rfl h
theorem yy_caI_284 {sc : xSc} {c : yy_CT} {j : Nat} (h : j < 24) : aI .byte sc (yy_cH c) (some 284) (nI j) = some (yy_cA 284 c j) := by
  rw [p_aI (f := yy_cA 284 c) (n := 24) rfl (yy_xin_nI' h (by decide)), yy_nI_c (by omega)]
theorem yy_cbI_284 {c : yy_CT} {j : Nat} {x : Int32} (h : j < 24) : bI .byte (yy_cH c) (some 284) (nI j) x = some (yy_cH (yy_tA 284 (va_up (yy_cA 284 c) j x) c)) := by
  rw [p_bI (f := yy_cA 284 c) (n := 24) (by decide) rfl (yy_xin_nI' h (by decide)), yy_nI_c (by omega)]
  refine congrArg some (yy_c_fix rfl rfl (fun b h => ?_) rfl rfl rfl rfl rfl rfl rfl)
  unfold yy_cF
  split <;> first | rfl | exact absurd rfl h
theorem yy_caI_285 {sc : xSc} {c : yy_CT} {j : Nat} (h : j < 24) : aI .byte sc (yy_cH c) (some 285) (nI j) = some (yy_cA 285 c j) := by
  rw [p_aI (f := yy_cA 285 c) (n := 24) rfl (yy_xin_nI' h (by decide)), yy_nI_c (by omega)]
theorem yy_cbI_285 {c : yy_CT} {j : Nat} {x : Int32} (h : j < 24) : bI .byte (yy_cH c) (some 285) (nI j) x = some (yy_cH (yy_tA 285 (va_up (yy_cA 285 c) j x) c)) := by
  rw [p_bI (f := yy_cA 285 c) (n := 24) (by decide) rfl (yy_xin_nI' h (by decide)), yy_nI_c (by omega)]
  refine congrArg some (yy_c_fix rfl rfl (fun b h => ?_) rfl rfl rfl rfl rfl rfl rfl)
  unfold yy_cF
  split <;> first | rfl | exact absurd rfl h
theorem yy_caI_286 {sc : xSc} {c : yy_CT} {j : Nat} (h : j < 24) : aI .byte sc (yy_cH c) (some 286) (nI j) = some (yy_cA 286 c j) := by
  rw [p_aI (f := yy_cA 286 c) (n := 24) rfl (yy_xin_nI' h (by decide)), yy_nI_c (by omega)]
theorem yy_cbI_286 {c : yy_CT} {j : Nat} {x : Int32} (h : j < 24) : bI .byte (yy_cH c) (some 286) (nI j) x = some (yy_cH (yy_tA 286 (va_up (yy_cA 286 c) j x) c)) := by
  rw [p_bI (f := yy_cA 286 c) (n := 24) (by decide) rfl (yy_xin_nI' h (by decide)), yy_nI_c (by omega)]
  refine congrArg some (yy_c_fix rfl rfl (fun b h => ?_) rfl rfl rfl rfl rfl rfl rfl)
  unfold yy_cF
  split <;> first | rfl | exact absurd rfl h
theorem yy_caI_287 {sc : xSc} {c : yy_CT} {j : Nat} (h : j < 24) : aI .byte sc (yy_cH c) (some 287) (nI j) = some (yy_cA 287 c j) := by
  rw [p_aI (f := yy_cA 287 c) (n := 24) rfl (yy_xin_nI' h (by decide)), yy_nI_c (by omega)]
theorem yy_cbI_287 {c : yy_CT} {j : Nat} {x : Int32} (h : j < 24) : bI .byte (yy_cH c) (some 287) (nI j) x = some (yy_cH (yy_tA 287 (va_up (yy_cA 287 c) j x) c)) := by
  rw [p_bI (f := yy_cA 287 c) (n := 24) (by decide) rfl (yy_xin_nI' h (by decide)), yy_nI_c (by omega)]
  refine congrArg some (yy_c_fix rfl rfl (fun b h => ?_) rfl rfl rfl rfl rfl rfl rfl)
  unfold yy_cF
  split <;> first | rfl | exact absurd rfl h
theorem yy_caI_288 {sc : xSc} {c : yy_CT} {j : Nat} (h : j < 24) : aI .byte sc (yy_cH c) (some 288) (nI j) = some (yy_cA 288 c j) := by
  rw [p_aI (f := yy_cA 288 c) (n := 24) rfl (yy_xin_nI' h (by decide)), yy_nI_c (by omega)]
theorem yy_cbI_288 {c : yy_CT} {j : Nat} {x : Int32} (h : j < 24) : bI .byte (yy_cH c) (some 288) (nI j) x = some (yy_cH (yy_tA 288 (va_up (yy_cA 288 c) j x) c)) := by
  rw [p_bI (f := yy_cA 288 c) (n := 24) (by decide) rfl (yy_xin_nI' h (by decide)), yy_nI_c (by omega)]
  refine congrArg some (yy_c_fix rfl rfl (fun b h => ?_) rfl rfl rfl rfl rfl rfl rfl)
  unfold yy_cF
  split <;> first | rfl | exact absurd rfl h
theorem yy_caI_289 {sc : xSc} {c : yy_CT} {j : Nat} (h : j < 24) : aI .byte sc (yy_cH c) (some 289) (nI j) = some (yy_cA 289 c j) := by
  rw [p_aI (f := yy_cA 289 c) (n := 24) rfl (yy_xin_nI' h (by decide)), yy_nI_c (by omega)]
theorem yy_cbI_289 {c : yy_CT} {j : Nat} {x : Int32} (h : j < 24) : bI .byte (yy_cH c) (some 289) (nI j) x = some (yy_cH (yy_tA 289 (va_up (yy_cA 289 c) j x) c)) := by
  rw [p_bI (f := yy_cA 289 c) (n := 24) (by decide) rfl (yy_xin_nI' h (by decide)), yy_nI_c (by omega)]
  refine congrArg some (yy_c_fix rfl rfl (fun b h => ?_) rfl rfl rfl rfl rfl rfl rfl)
  unfold yy_cF
  split <;> first | rfl | exact absurd rfl h
theorem yy_caI_290 {sc : xSc} {c : yy_CT} {j : Nat} (h : j < 24) : aI .byte sc (yy_cH c) (some 290) (nI j) = some (yy_cA 290 c j) := by
  rw [p_aI (f := yy_cA 290 c) (n := 24) rfl (yy_xin_nI' h (by decide)), yy_nI_c (by omega)]
theorem yy_cbI_290 {c : yy_CT} {j : Nat} {x : Int32} (h : j < 24) : bI .byte (yy_cH c) (some 290) (nI j) x = some (yy_cH (yy_tA 290 (va_up (yy_cA 290 c) j x) c)) := by
  rw [p_bI (f := yy_cA 290 c) (n := 24) (by decide) rfl (yy_xin_nI' h (by decide)), yy_nI_c (by omega)]
  refine congrArg some (yy_c_fix rfl rfl (fun b h => ?_) rfl rfl rfl rfl rfl rfl rfl)
  unfold yy_cF
  split <;> first | rfl | exact absurd rfl h
theorem yy_caI_291 {sc : xSc} {c : yy_CT} {j : Nat} (h : j < 24) : aI .byte sc (yy_cH c) (some 291) (nI j) = some (yy_cA 291 c j) := by
  rw [p_aI (f := yy_cA 291 c) (n := 24) rfl (yy_xin_nI' h (by decide)), yy_nI_c (by omega)]
theorem yy_cbI_291 {c : yy_CT} {j : Nat} {x : Int32} (h : j < 24) : bI .byte (yy_cH c) (some 291) (nI j) x = some (yy_cH (yy_tA 291 (va_up (yy_cA 291 c) j x) c)) := by
  rw [p_bI (f := yy_cA 291 c) (n := 24) (by decide) rfl (yy_xin_nI' h (by decide)), yy_nI_c (by omega)]
  refine congrArg some (yy_c_fix rfl rfl (fun b h => ?_) rfl rfl rfl rfl rfl rfl rfl)
  unfold yy_cF
  split <;> first | rfl | exact absurd rfl h
theorem yy_caI_292 {sc : xSc} {c : yy_CT} {j : Nat} (h : j < 24) : aI .byte sc (yy_cH c) (some 292) (nI j) = some (yy_cA 292 c j) := by
  rw [p_aI (f := yy_cA 292 c) (n := 24) rfl (yy_xin_nI' h (by decide)), yy_nI_c (by omega)]
theorem yy_cbI_292 {c : yy_CT} {j : Nat} {x : Int32} (h : j < 24) : bI .byte (yy_cH c) (some 292) (nI j) x = some (yy_cH (yy_tA 292 (va_up (yy_cA 292 c) j x) c)) := by
  rw [p_bI (f := yy_cA 292 c) (n := 24) (by decide) rfl (yy_xin_nI' h (by decide)), yy_nI_c (by omega)]
  refine congrArg some (yy_c_fix rfl rfl (fun b h => ?_) rfl rfl rfl rfl rfl rfl rfl)
  unfold yy_cF
  split <;> first | rfl | exact absurd rfl h
theorem yy_caI_293 {sc : xSc} {c : yy_CT} {j : Nat} (h : j < 24) : aI .byte sc (yy_cH c) (some 293) (nI j) = some (yy_cA 293 c j) := by
  rw [p_aI (f := yy_cA 293 c) (n := 24) rfl (yy_xin_nI' h (by decide)), yy_nI_c (by omega)]
theorem yy_cbI_293 {c : yy_CT} {j : Nat} {x : Int32} (h : j < 24) : bI .byte (yy_cH c) (some 293) (nI j) x = some (yy_cH (yy_tA 293 (va_up (yy_cA 293 c) j x) c)) := by
  rw [p_bI (f := yy_cA 293 c) (n := 24) (by decide) rfl (yy_xin_nI' h (by decide)), yy_nI_c (by omega)]
  refine congrArg some (yy_c_fix rfl rfl (fun b h => ?_) rfl rfl rfl rfl rfl rfl rfl)
  unfold yy_cF
  split <;> first | rfl | exact absurd rfl h
theorem yy_caI_294 {sc : xSc} {c : yy_CT} {j : Nat} (h : j < 24) : aI .byte sc (yy_cH c) (some 294) (nI j) = some (yy_cA 294 c j) := by
  rw [p_aI (f := yy_cA 294 c) (n := 24) rfl (yy_xin_nI' h (by decide)), yy_nI_c (by omega)]
theorem yy_cbI_294 {c : yy_CT} {j : Nat} {x : Int32} (h : j < 24) : bI .byte (yy_cH c) (some 294) (nI j) x = some (yy_cH (yy_tA 294 (va_up (yy_cA 294 c) j x) c)) := by
  rw [p_bI (f := yy_cA 294 c) (n := 24) (by decide) rfl (yy_xin_nI' h (by decide)), yy_nI_c (by omega)]
  refine congrArg some (yy_c_fix rfl rfl (fun b h => ?_) rfl rfl rfl rfl rfl rfl rfl)
  unfold yy_cF
  split <;> first | rfl | exact absurd rfl h
theorem yy_caI_295 {sc : xSc} {c : yy_CT} {j : Nat} (h : j < 24) : aI .byte sc (yy_cH c) (some 295) (nI j) = some (yy_cA 295 c j) := by
  rw [p_aI (f := yy_cA 295 c) (n := 24) rfl (yy_xin_nI' h (by decide)), yy_nI_c (by omega)]
theorem yy_cbI_295 {c : yy_CT} {j : Nat} {x : Int32} (h : j < 24) : bI .byte (yy_cH c) (some 295) (nI j) x = some (yy_cH (yy_tA 295 (va_up (yy_cA 295 c) j x) c)) := by
  rw [p_bI (f := yy_cA 295 c) (n := 24) (by decide) rfl (yy_xin_nI' h (by decide)), yy_nI_c (by omega)]
  refine congrArg some (yy_c_fix rfl rfl (fun b h => ?_) rfl rfl rfl rfl rfl rfl rfl)
  unfold yy_cF
  split <;> first | rfl | exact absurd rfl h
theorem yy_caI_296 {sc : xSc} {c : yy_CT} {j : Nat} (h : j < 24) : aI .byte sc (yy_cH c) (some 296) (nI j) = some (yy_cA 296 c j) := by
  rw [p_aI (f := yy_cA 296 c) (n := 24) rfl (yy_xin_nI' h (by decide)), yy_nI_c (by omega)]
theorem yy_cbI_296 {c : yy_CT} {j : Nat} {x : Int32} (h : j < 24) : bI .byte (yy_cH c) (some 296) (nI j) x = some (yy_cH (yy_tA 296 (va_up (yy_cA 296 c) j x) c)) := by
  rw [p_bI (f := yy_cA 296 c) (n := 24) (by decide) rfl (yy_xin_nI' h (by decide)), yy_nI_c (by omega)]
  refine congrArg some (yy_c_fix rfl rfl (fun b h => ?_) rfl rfl rfl rfl rfl rfl rfl)
  unfold yy_cF
  split <;> first | rfl | exact absurd rfl h
theorem yy_caI_297 {sc : xSc} {c : yy_CT} {j : Nat} (h : j < 24) : aI .byte sc (yy_cH c) (some 297) (nI j) = some (yy_cA 297 c j) := by
  rw [p_aI (f := yy_cA 297 c) (n := 24) rfl (yy_xin_nI' h (by decide)), yy_nI_c (by omega)]
theorem yy_cbI_297 {c : yy_CT} {j : Nat} {x : Int32} (h : j < 24) : bI .byte (yy_cH c) (some 297) (nI j) x = some (yy_cH (yy_tA 297 (va_up (yy_cA 297 c) j x) c)) := by
  rw [p_bI (f := yy_cA 297 c) (n := 24) (by decide) rfl (yy_xin_nI' h (by decide)), yy_nI_c (by omega)]
  refine congrArg some (yy_c_fix rfl rfl (fun b h => ?_) rfl rfl rfl rfl rfl rfl rfl)
  unfold yy_cF
  split <;> first | rfl | exact absurd rfl h
theorem yy_caI_298 {sc : xSc} {c : yy_CT} {j : Nat} (h : j < 24) : aI .byte sc (yy_cH c) (some 298) (nI j) = some (yy_cA 298 c j) := by
  rw [p_aI (f := yy_cA 298 c) (n := 24) rfl (yy_xin_nI' h (by decide)), yy_nI_c (by omega)]
theorem yy_cbI_298 {c : yy_CT} {j : Nat} {x : Int32} (h : j < 24) : bI .byte (yy_cH c) (some 298) (nI j) x = some (yy_cH (yy_tA 298 (va_up (yy_cA 298 c) j x) c)) := by
  rw [p_bI (f := yy_cA 298 c) (n := 24) (by decide) rfl (yy_xin_nI' h (by decide)), yy_nI_c (by omega)]
  refine congrArg some (yy_c_fix rfl rfl (fun b h => ?_) rfl rfl rfl rfl rfl rfl rfl)
  unfold yy_cF
  split <;> first | rfl | exact absurd rfl h
theorem yy_caI_299 {sc : xSc} {c : yy_CT} {j : Nat} (h : j < 24) : aI .byte sc (yy_cH c) (some 299) (nI j) = some (yy_cA 299 c j) := by
  rw [p_aI (f := yy_cA 299 c) (n := 24) rfl (yy_xin_nI' h (by decide)), yy_nI_c (by omega)]
theorem yy_cbI_299 {c : yy_CT} {j : Nat} {x : Int32} (h : j < 24) : bI .byte (yy_cH c) (some 299) (nI j) x = some (yy_cH (yy_tA 299 (va_up (yy_cA 299 c) j x) c)) := by
  rw [p_bI (f := yy_cA 299 c) (n := 24) (by decide) rfl (yy_xin_nI' h (by decide)), yy_nI_c (by omega)]
  refine congrArg some (yy_c_fix rfl rfl (fun b h => ?_) rfl rfl rfl rfl rfl rfl rfl)
  unfold yy_cF
  split <;> first | rfl | exact absurd rfl h
theorem yy_caD_278 {sc : xSc} {c : yy_CT} {j : Nat} (h : j < 30) : aD sc (yy_cH c) (some 278) (nI j) = some (yy_cD 278 c j) := by
  rw [p_aD (f := yy_cD 278 c) (n := 30) rfl (yy_xin_nI' h (by decide)), yy_nI_c (by omega)]
theorem yy_cbD_278 {c : yy_CT} {j : Nat} {x : UInt64} (h : j < 30) : bD (yy_cH c) (some 278) (nI j) x = some (yy_cH (yy_tD 278 (va_up (yy_cD 278 c) j x) c)) := by
  rw [p_bD (f := yy_cD 278 c) (n := 30) (by decide) rfl (yy_xin_nI' h (by decide)), yy_nI_c (by omega)]
  refine congrArg some (yy_c_fix rfl rfl (fun b h => ?_) rfl rfl rfl rfl rfl rfl rfl)
  unfold yy_cF
  split <;> first | rfl | exact absurd rfl h
theorem yy_caD_279 {sc : xSc} {c : yy_CT} {j : Nat} (h : j < 30) : aD sc (yy_cH c) (some 279) (nI j) = some (yy_cD 279 c j) := by
  rw [p_aD (f := yy_cD 279 c) (n := 30) rfl (yy_xin_nI' h (by decide)), yy_nI_c (by omega)]
theorem yy_cbD_279 {c : yy_CT} {j : Nat} {x : UInt64} (h : j < 30) : bD (yy_cH c) (some 279) (nI j) x = some (yy_cH (yy_tD 279 (va_up (yy_cD 279 c) j x) c)) := by
  rw [p_bD (f := yy_cD 279 c) (n := 30) (by decide) rfl (yy_xin_nI' h (by decide)), yy_nI_c (by omega)]
  refine congrArg some (yy_c_fix rfl rfl (fun b h => ?_) rfl rfl rfl rfl rfl rfl rfl)
  unfold yy_cF
  split <;> first | rfl | exact absurd rfl h
