/-! the component's state as a tuple: ints (P's by field; 100 101 text, 102 103 word, 104 105 dicts), int arrays by address, double arrays, reference arrays, slots, dicts, other cells, latest, gray, text's bytes (address, length), next, slots -/
abbrev SV : Type := Option Nat × Int32 × Int32 × Int32 × Int32 × UInt64 × Option Nat × Option Nat
abbrev DV : Type := Int32 × Int32 × Int32 × Option Nat
abbrev CT : Type := (Nat → Int32) × (Nat → Nat → Int32) × (Nat → Nat → UInt64) × (Nat → Nat → Option Nat) × (Nat → Option SV) × (Nat → Option DV) × (Nat → Option xE) × (Option Nat) × UInt32 × (Nat × Nat) × Nat × Nat
def cI (k : Nat) (c : CT) : Int32 := c.1 k
def cA (k : Nat) (c : CT) : (Nat → Int32) := c.2.1 k
def cD (k : Nat) (c : CT) : (Nat → UInt64) := c.2.2.1 k
def cR (k : Nat) (c : CT) : (Nat → Option Nat) := c.2.2.2.1 k
def cS (c : CT) (a : Nat) : Option SV := c.2.2.2.2.1 a
def cT (c : CT) (a : Nat) : Option DV := c.2.2.2.2.2.1 a
def cO (c : CT) (a : Nat) : Option xE := c.2.2.2.2.2.2.1 a
def cl (c : CT) : (Option Nat) := c.2.2.2.2.2.2.2.1
def cg (c : CT) : UInt32 := c.2.2.2.2.2.2.2.2.1
def cb (c : CT) : (Nat × Nat) := c.2.2.2.2.2.2.2.2.2.1
def cn (c : CT) : Nat := c.2.2.2.2.2.2.2.2.2.2.1
def cz (c : CT) : Nat := c.2.2.2.2.2.2.2.2.2.2.2
def tI (k : Nat) (x : Int32) (c : CT) : CT := (va_up c.1 k x, c.2)
def tA (k : Nat) (x : (Nat → Int32)) (c : CT) : CT := (c.1, va_up c.2.1 k x, c.2.2)
def tD (k : Nat) (x : (Nat → UInt64)) (c : CT) : CT := (c.1, c.2.1, va_up c.2.2.1 k x, c.2.2.2)
def tR (k : Nat) (x : (Nat → Option Nat)) (c : CT) : CT := (c.1, c.2.1, c.2.2.1, va_up c.2.2.2.1 k x, c.2.2.2.2)
def tS (a : Nat) (x : Option SV) (c : CT) : CT := (c.1, c.2.1, c.2.2.1, c.2.2.2.1, va_up c.2.2.2.2.1 a x, c.2.2.2.2.2)
def tT (a : Nat) (x : Option DV) (c : CT) : CT := (c.1, c.2.1, c.2.2.1, c.2.2.2.1, c.2.2.2.2.1, va_up c.2.2.2.2.2.1 a x, c.2.2.2.2.2.2)
def tO (a : Nat) (x : Option xE) (c : CT) : CT := (c.1, c.2.1, c.2.2.1, c.2.2.2.1, c.2.2.2.2.1, c.2.2.2.2.2.1, va_up c.2.2.2.2.2.2.1 a x, c.2.2.2.2.2.2.2)
def tl (x : (Option Nat)) (c : CT) : CT := (c.1, c.2.1, c.2.2.1, c.2.2.2.1, c.2.2.2.2.1, c.2.2.2.2.2.1, c.2.2.2.2.2.2.1, x, c.2.2.2.2.2.2.2.2)
def tg (x : UInt32) (c : CT) : CT := (c.1, c.2.1, c.2.2.1, c.2.2.2.1, c.2.2.2.2.1, c.2.2.2.2.2.1, c.2.2.2.2.2.2.1, c.2.2.2.2.2.2.2.1, x, c.2.2.2.2.2.2.2.2.2)
def tb (x : (Nat × Nat)) (c : CT) : CT := (c.1, c.2.1, c.2.2.1, c.2.2.2.1, c.2.2.2.2.1, c.2.2.2.2.2.1, c.2.2.2.2.2.2.1, c.2.2.2.2.2.2.2.1, c.2.2.2.2.2.2.2.2.1, x, c.2.2.2.2.2.2.2.2.2.2)
def tn (x : Nat) (c : CT) : CT := (c.1, c.2.1, c.2.2.1, c.2.2.2.1, c.2.2.2.2.1, c.2.2.2.2.2.1, c.2.2.2.2.2.2.1, c.2.2.2.2.2.2.2.1, c.2.2.2.2.2.2.2.2.1, c.2.2.2.2.2.2.2.2.2.1, x, c.2.2.2.2.2.2.2.2.2.2.2)
def tz (x : Nat) (c : CT) : CT := (c.1, c.2.1, c.2.2.1, c.2.2.2.1, c.2.2.2.2.1, c.2.2.2.2.2.1, c.2.2.2.2.2.2.1, c.2.2.2.2.2.2.2.1, c.2.2.2.2.2.2.2.2.1, c.2.2.2.2.2.2.2.2.2.1, c.2.2.2.2.2.2.2.2.2.2.1, x)
theorem cI_tI (k : Nat) (j : Nat) (x : Int32) (c : CT) : cI k (tI j x c) = if k = j then x else cI k c := rfl
theorem cI_tA (k : Nat) (j : Nat) (x : (Nat → Int32)) (c : CT) : cI k (tA j x c) = cI k c := rfl
theorem cI_tD (k : Nat) (j : Nat) (x : (Nat → UInt64)) (c : CT) : cI k (tD j x c) = cI k c := rfl
theorem cI_tR (k : Nat) (j : Nat) (x : (Nat → Option Nat)) (c : CT) : cI k (tR j x c) = cI k c := rfl
theorem cI_tS (k : Nat) (b : Nat) (x : Option SV) (c : CT) : cI k (tS b x c) = cI k c := rfl
theorem cI_tT (k : Nat) (b : Nat) (x : Option DV) (c : CT) : cI k (tT b x c) = cI k c := rfl
theorem cI_tO (k : Nat) (b : Nat) (x : Option xE) (c : CT) : cI k (tO b x c) = cI k c := rfl
theorem cI_tl (k : Nat) (x : (Option Nat)) (c : CT) : cI k (tl x c) = cI k c := rfl
theorem cI_tg (k : Nat) (x : UInt32) (c : CT) : cI k (tg x c) = cI k c := rfl
theorem cI_tb (k : Nat) (x : (Nat × Nat)) (c : CT) : cI k (tb x c) = cI k c := rfl
theorem cI_tn (k : Nat) (x : Nat) (c : CT) : cI k (tn x c) = cI k c := rfl
theorem cI_tz (k : Nat) (x : Nat) (c : CT) : cI k (tz x c) = cI k c := rfl
theorem cA_tI (k : Nat) (j : Nat) (x : Int32) (c : CT) : cA k (tI j x c) = cA k c := rfl
theorem cA_tA (k : Nat) (j : Nat) (x : (Nat → Int32)) (c : CT) : cA k (tA j x c) = if k = j then x else cA k c := rfl
theorem cA_tD (k : Nat) (j : Nat) (x : (Nat → UInt64)) (c : CT) : cA k (tD j x c) = cA k c := rfl
theorem cA_tR (k : Nat) (j : Nat) (x : (Nat → Option Nat)) (c : CT) : cA k (tR j x c) = cA k c := rfl
theorem cA_tS (k : Nat) (b : Nat) (x : Option SV) (c : CT) : cA k (tS b x c) = cA k c := rfl
theorem cA_tT (k : Nat) (b : Nat) (x : Option DV) (c : CT) : cA k (tT b x c) = cA k c := rfl
theorem cA_tO (k : Nat) (b : Nat) (x : Option xE) (c : CT) : cA k (tO b x c) = cA k c := rfl
theorem cA_tl (k : Nat) (x : (Option Nat)) (c : CT) : cA k (tl x c) = cA k c := rfl
theorem cA_tg (k : Nat) (x : UInt32) (c : CT) : cA k (tg x c) = cA k c := rfl
theorem cA_tb (k : Nat) (x : (Nat × Nat)) (c : CT) : cA k (tb x c) = cA k c := rfl
theorem cA_tn (k : Nat) (x : Nat) (c : CT) : cA k (tn x c) = cA k c := rfl
theorem cA_tz (k : Nat) (x : Nat) (c : CT) : cA k (tz x c) = cA k c := rfl
theorem cD_tI (k : Nat) (j : Nat) (x : Int32) (c : CT) : cD k (tI j x c) = cD k c := rfl
theorem cD_tA (k : Nat) (j : Nat) (x : (Nat → Int32)) (c : CT) : cD k (tA j x c) = cD k c := rfl
theorem cD_tD (k : Nat) (j : Nat) (x : (Nat → UInt64)) (c : CT) : cD k (tD j x c) = if k = j then x else cD k c := rfl
theorem cD_tR (k : Nat) (j : Nat) (x : (Nat → Option Nat)) (c : CT) : cD k (tR j x c) = cD k c := rfl
theorem cD_tS (k : Nat) (b : Nat) (x : Option SV) (c : CT) : cD k (tS b x c) = cD k c := rfl
theorem cD_tT (k : Nat) (b : Nat) (x : Option DV) (c : CT) : cD k (tT b x c) = cD k c := rfl
theorem cD_tO (k : Nat) (b : Nat) (x : Option xE) (c : CT) : cD k (tO b x c) = cD k c := rfl
theorem cD_tl (k : Nat) (x : (Option Nat)) (c : CT) : cD k (tl x c) = cD k c := rfl
theorem cD_tg (k : Nat) (x : UInt32) (c : CT) : cD k (tg x c) = cD k c := rfl
theorem cD_tb (k : Nat) (x : (Nat × Nat)) (c : CT) : cD k (tb x c) = cD k c := rfl
theorem cD_tn (k : Nat) (x : Nat) (c : CT) : cD k (tn x c) = cD k c := rfl
theorem cD_tz (k : Nat) (x : Nat) (c : CT) : cD k (tz x c) = cD k c := rfl
theorem cR_tI (k : Nat) (j : Nat) (x : Int32) (c : CT) : cR k (tI j x c) = cR k c := rfl
theorem cR_tA (k : Nat) (j : Nat) (x : (Nat → Int32)) (c : CT) : cR k (tA j x c) = cR k c := rfl
theorem cR_tD (k : Nat) (j : Nat) (x : (Nat → UInt64)) (c : CT) : cR k (tD j x c) = cR k c := rfl
theorem cR_tR (k : Nat) (j : Nat) (x : (Nat → Option Nat)) (c : CT) : cR k (tR j x c) = if k = j then x else cR k c := rfl
theorem cR_tS (k : Nat) (b : Nat) (x : Option SV) (c : CT) : cR k (tS b x c) = cR k c := rfl
theorem cR_tT (k : Nat) (b : Nat) (x : Option DV) (c : CT) : cR k (tT b x c) = cR k c := rfl
theorem cR_tO (k : Nat) (b : Nat) (x : Option xE) (c : CT) : cR k (tO b x c) = cR k c := rfl
theorem cR_tl (k : Nat) (x : (Option Nat)) (c : CT) : cR k (tl x c) = cR k c := rfl
theorem cR_tg (k : Nat) (x : UInt32) (c : CT) : cR k (tg x c) = cR k c := rfl
theorem cR_tb (k : Nat) (x : (Nat × Nat)) (c : CT) : cR k (tb x c) = cR k c := rfl
theorem cR_tn (k : Nat) (x : Nat) (c : CT) : cR k (tn x c) = cR k c := rfl
theorem cR_tz (k : Nat) (x : Nat) (c : CT) : cR k (tz x c) = cR k c := rfl
theorem cS_tI (a : Nat) (j : Nat) (x : Int32) (c : CT) : cS (tI j x c) a = cS c a := rfl
theorem cS_tA (a : Nat) (j : Nat) (x : (Nat → Int32)) (c : CT) : cS (tA j x c) a = cS c a := rfl
theorem cS_tD (a : Nat) (j : Nat) (x : (Nat → UInt64)) (c : CT) : cS (tD j x c) a = cS c a := rfl
theorem cS_tR (a : Nat) (j : Nat) (x : (Nat → Option Nat)) (c : CT) : cS (tR j x c) a = cS c a := rfl
theorem cS_tS (a : Nat) (b : Nat) (x : Option SV) (c : CT) : cS (tS b x c) a = if a = b then x else cS c a := rfl
theorem cS_tT (a : Nat) (b : Nat) (x : Option DV) (c : CT) : cS (tT b x c) a = cS c a := rfl
theorem cS_tO (a : Nat) (b : Nat) (x : Option xE) (c : CT) : cS (tO b x c) a = cS c a := rfl
theorem cS_tl (a : Nat) (x : (Option Nat)) (c : CT) : cS (tl x c) a = cS c a := rfl
theorem cS_tg (a : Nat) (x : UInt32) (c : CT) : cS (tg x c) a = cS c a := rfl
theorem cS_tb (a : Nat) (x : (Nat × Nat)) (c : CT) : cS (tb x c) a = cS c a := rfl
theorem cS_tn (a : Nat) (x : Nat) (c : CT) : cS (tn x c) a = cS c a := rfl
theorem cS_tz (a : Nat) (x : Nat) (c : CT) : cS (tz x c) a = cS c a := rfl
theorem cT_tI (a : Nat) (j : Nat) (x : Int32) (c : CT) : cT (tI j x c) a = cT c a := rfl
theorem cT_tA (a : Nat) (j : Nat) (x : (Nat → Int32)) (c : CT) : cT (tA j x c) a = cT c a := rfl
theorem cT_tD (a : Nat) (j : Nat) (x : (Nat → UInt64)) (c : CT) : cT (tD j x c) a = cT c a := rfl
theorem cT_tR (a : Nat) (j : Nat) (x : (Nat → Option Nat)) (c : CT) : cT (tR j x c) a = cT c a := rfl
theorem cT_tS (a : Nat) (b : Nat) (x : Option SV) (c : CT) : cT (tS b x c) a = cT c a := rfl
theorem cT_tT (a : Nat) (b : Nat) (x : Option DV) (c : CT) : cT (tT b x c) a = if a = b then x else cT c a := rfl
theorem cT_tO (a : Nat) (b : Nat) (x : Option xE) (c : CT) : cT (tO b x c) a = cT c a := rfl
theorem cT_tl (a : Nat) (x : (Option Nat)) (c : CT) : cT (tl x c) a = cT c a := rfl
theorem cT_tg (a : Nat) (x : UInt32) (c : CT) : cT (tg x c) a = cT c a := rfl
theorem cT_tb (a : Nat) (x : (Nat × Nat)) (c : CT) : cT (tb x c) a = cT c a := rfl
theorem cT_tn (a : Nat) (x : Nat) (c : CT) : cT (tn x c) a = cT c a := rfl
theorem cT_tz (a : Nat) (x : Nat) (c : CT) : cT (tz x c) a = cT c a := rfl
theorem cO_tI (a : Nat) (j : Nat) (x : Int32) (c : CT) : cO (tI j x c) a = cO c a := rfl
theorem cO_tA (a : Nat) (j : Nat) (x : (Nat → Int32)) (c : CT) : cO (tA j x c) a = cO c a := rfl
theorem cO_tD (a : Nat) (j : Nat) (x : (Nat → UInt64)) (c : CT) : cO (tD j x c) a = cO c a := rfl
theorem cO_tR (a : Nat) (j : Nat) (x : (Nat → Option Nat)) (c : CT) : cO (tR j x c) a = cO c a := rfl
theorem cO_tS (a : Nat) (b : Nat) (x : Option SV) (c : CT) : cO (tS b x c) a = cO c a := rfl
theorem cO_tT (a : Nat) (b : Nat) (x : Option DV) (c : CT) : cO (tT b x c) a = cO c a := rfl
theorem cO_tO (a : Nat) (b : Nat) (x : Option xE) (c : CT) : cO (tO b x c) a = if a = b then x else cO c a := rfl
theorem cO_tl (a : Nat) (x : (Option Nat)) (c : CT) : cO (tl x c) a = cO c a := rfl
theorem cO_tg (a : Nat) (x : UInt32) (c : CT) : cO (tg x c) a = cO c a := rfl
theorem cO_tb (a : Nat) (x : (Nat × Nat)) (c : CT) : cO (tb x c) a = cO c a := rfl
theorem cO_tn (a : Nat) (x : Nat) (c : CT) : cO (tn x c) a = cO c a := rfl
theorem cO_tz (a : Nat) (x : Nat) (c : CT) : cO (tz x c) a = cO c a := rfl
theorem cl_tI (j : Nat) (x : Int32) (c : CT) : cl (tI j x c) = cl c := rfl
theorem cl_tA (j : Nat) (x : (Nat → Int32)) (c : CT) : cl (tA j x c) = cl c := rfl
theorem cl_tD (j : Nat) (x : (Nat → UInt64)) (c : CT) : cl (tD j x c) = cl c := rfl
theorem cl_tR (j : Nat) (x : (Nat → Option Nat)) (c : CT) : cl (tR j x c) = cl c := rfl
theorem cl_tS (b : Nat) (x : Option SV) (c : CT) : cl (tS b x c) = cl c := rfl
theorem cl_tT (b : Nat) (x : Option DV) (c : CT) : cl (tT b x c) = cl c := rfl
theorem cl_tO (b : Nat) (x : Option xE) (c : CT) : cl (tO b x c) = cl c := rfl
theorem cl_tl (x : (Option Nat)) (c : CT) : cl (tl x c) = x := rfl
theorem cl_tg (x : UInt32) (c : CT) : cl (tg x c) = cl c := rfl
theorem cl_tb (x : (Nat × Nat)) (c : CT) : cl (tb x c) = cl c := rfl
theorem cl_tn (x : Nat) (c : CT) : cl (tn x c) = cl c := rfl
theorem cl_tz (x : Nat) (c : CT) : cl (tz x c) = cl c := rfl
theorem cg_tI (j : Nat) (x : Int32) (c : CT) : cg (tI j x c) = cg c := rfl
theorem cg_tA (j : Nat) (x : (Nat → Int32)) (c : CT) : cg (tA j x c) = cg c := rfl
theorem cg_tD (j : Nat) (x : (Nat → UInt64)) (c : CT) : cg (tD j x c) = cg c := rfl
theorem cg_tR (j : Nat) (x : (Nat → Option Nat)) (c : CT) : cg (tR j x c) = cg c := rfl
theorem cg_tS (b : Nat) (x : Option SV) (c : CT) : cg (tS b x c) = cg c := rfl
theorem cg_tT (b : Nat) (x : Option DV) (c : CT) : cg (tT b x c) = cg c := rfl
theorem cg_tO (b : Nat) (x : Option xE) (c : CT) : cg (tO b x c) = cg c := rfl
theorem cg_tl (x : (Option Nat)) (c : CT) : cg (tl x c) = cg c := rfl
theorem cg_tg (x : UInt32) (c : CT) : cg (tg x c) = x := rfl
theorem cg_tb (x : (Nat × Nat)) (c : CT) : cg (tb x c) = cg c := rfl
theorem cg_tn (x : Nat) (c : CT) : cg (tn x c) = cg c := rfl
theorem cg_tz (x : Nat) (c : CT) : cg (tz x c) = cg c := rfl
theorem cb_tI (j : Nat) (x : Int32) (c : CT) : cb (tI j x c) = cb c := rfl
theorem cb_tA (j : Nat) (x : (Nat → Int32)) (c : CT) : cb (tA j x c) = cb c := rfl
theorem cb_tD (j : Nat) (x : (Nat → UInt64)) (c : CT) : cb (tD j x c) = cb c := rfl
theorem cb_tR (j : Nat) (x : (Nat → Option Nat)) (c : CT) : cb (tR j x c) = cb c := rfl
theorem cb_tS (b : Nat) (x : Option SV) (c : CT) : cb (tS b x c) = cb c := rfl
theorem cb_tT (b : Nat) (x : Option DV) (c : CT) : cb (tT b x c) = cb c := rfl
theorem cb_tO (b : Nat) (x : Option xE) (c : CT) : cb (tO b x c) = cb c := rfl
theorem cb_tl (x : (Option Nat)) (c : CT) : cb (tl x c) = cb c := rfl
theorem cb_tg (x : UInt32) (c : CT) : cb (tg x c) = cb c := rfl
theorem cb_tb (x : (Nat × Nat)) (c : CT) : cb (tb x c) = x := rfl
theorem cb_tn (x : Nat) (c : CT) : cb (tn x c) = cb c := rfl
theorem cb_tz (x : Nat) (c : CT) : cb (tz x c) = cb c := rfl
theorem cn_tI (j : Nat) (x : Int32) (c : CT) : cn (tI j x c) = cn c := rfl
theorem cn_tA (j : Nat) (x : (Nat → Int32)) (c : CT) : cn (tA j x c) = cn c := rfl
theorem cn_tD (j : Nat) (x : (Nat → UInt64)) (c : CT) : cn (tD j x c) = cn c := rfl
theorem cn_tR (j : Nat) (x : (Nat → Option Nat)) (c : CT) : cn (tR j x c) = cn c := rfl
theorem cn_tS (b : Nat) (x : Option SV) (c : CT) : cn (tS b x c) = cn c := rfl
theorem cn_tT (b : Nat) (x : Option DV) (c : CT) : cn (tT b x c) = cn c := rfl
theorem cn_tO (b : Nat) (x : Option xE) (c : CT) : cn (tO b x c) = cn c := rfl
theorem cn_tl (x : (Option Nat)) (c : CT) : cn (tl x c) = cn c := rfl
theorem cn_tg (x : UInt32) (c : CT) : cn (tg x c) = cn c := rfl
theorem cn_tb (x : (Nat × Nat)) (c : CT) : cn (tb x c) = cn c := rfl
theorem cn_tn (x : Nat) (c : CT) : cn (tn x c) = x := rfl
theorem cn_tz (x : Nat) (c : CT) : cn (tz x c) = cn c := rfl
theorem cz_tI (j : Nat) (x : Int32) (c : CT) : cz (tI j x c) = cz c := rfl
theorem cz_tA (j : Nat) (x : (Nat → Int32)) (c : CT) : cz (tA j x c) = cz c := rfl
theorem cz_tD (j : Nat) (x : (Nat → UInt64)) (c : CT) : cz (tD j x c) = cz c := rfl
theorem cz_tR (j : Nat) (x : (Nat → Option Nat)) (c : CT) : cz (tR j x c) = cz c := rfl
theorem cz_tS (b : Nat) (x : Option SV) (c : CT) : cz (tS b x c) = cz c := rfl
theorem cz_tT (b : Nat) (x : Option DV) (c : CT) : cz (tT b x c) = cz c := rfl
theorem cz_tO (b : Nat) (x : Option xE) (c : CT) : cz (tO b x c) = cz c := rfl
theorem cz_tl (x : (Option Nat)) (c : CT) : cz (tl x c) = cz c := rfl
theorem cz_tg (x : UInt32) (c : CT) : cz (tg x c) = cz c := rfl
theorem cz_tb (x : (Nat × Nat)) (c : CT) : cz (tb x c) = cz c := rfl
theorem cz_tn (x : Nat) (c : CT) : cz (tn x c) = cz c := rfl
theorem cz_tz (x : Nat) (c : CT) : cz (tz x c) = x := rfl
def PF (c : CT) : List xV := [vA 257, vA 264, vA 265, vA 267, vI (cI 4 c), vI (cI 5 c), vA 269, vA 270, vA 271, vI (cI 9 c), vI (cI 10 c), vI (cI 11 c), vA 272, vA 274, vI (cI 14 c), vI (cI 15 c), vI (cI 16 c), vI (cI 17 c), vI (cI 18 c), vA 275, vA 276, vI (cI 21 c), vI (cI 22 c), vI (cI 23 c), vI (cI 24 c), vA 277, vI (cI 26 c), vI (cI 27 c), vR (cl c), vF (cg c), vA 278, vA 279, vA 280, vA 281, vA 282, vI (cI 35 c), vI (cI 36 c), vA 283, vI (cI 38 c), vI (cI 39 c)]
def slV (v : SV) : List xV := [vR v.1, vI v.2.1, vI v.2.2.1, vI v.2.2.2.1, vI v.2.2.2.2.1, vD v.2.2.2.2.2.1, vR v.2.2.2.2.2.2.1, vR v.2.2.2.2.2.2.2]
def dcV (v : DV) : List xV := [vI v.1, vI v.2.1, vI v.2.2.1, vR v.2.2.2]
def cF (c : CT) (a : Nat) : Option xE := match a with
  | 256 => some (.inl (0, PF c))
  | 257 => some (.inr (.object "PageScribe$Group", (6, .inr (.inr (.inr (.inr fun j => some (258 + j)))))))
  | 258 => some (.inl (10, []))
  | 259 => some (.inl (11, []))
  | 260 => some (.inl (12, []))
  | 261 => some (.inl (13, []))
  | 262 => some (.inl (14, []))
  | 263 => some (.inl (15, []))
  | 264 => some (.inr (.object "PageScribe$Name", (32, .inr (.inr (.inr (.inr (cR 264 c)))))))
  | 265 => some (.inl (16, [vA (cb c).1, vI 0, vI (cI 101 c), vI (cI 100 c)]))
  | 267 => some (.inl (16, [vA 268, vI 0, vI (cI 103 c), vI (cI 102 c)]))
  | 268 => some (.inr (.byte, (120, .inl (cA 268 c))))
  | 269 => some (.inr (.object "PageScribe$Slot", (41, .inr (.inr (.inr (.inr (cR 269 c)))))))
  | 270 => some (.inr (.object "PageScribe$Slot", (160, .inr (.inr (.inr (.inr (cR 270 c)))))))
  | 271 => some (.inr (.object "PageScribe$Slot", (120, .inr (.inr (.inr (.inr (cR 271 c)))))))
  | 272 => some (.inl (17, [vA 273, vI (cI 104 c), vI (cI 105 c)]))
  | 273 => some (.inr (.object "java/lang/Object", (7, .inr (.inr (.inr (.inr (cR 273 c)))))))
  | 274 => some (.inr (.object "PageScribe$Dict", (6, .inr (.inr (.inr (.inr (cR 274 c)))))))
  | 275 => some (.inr (.int, (20, .inl (cA 275 c))))
  | 276 => some (.inr (.int, (20, .inl (cA 276 c))))
  | 277 => some (.inr (.object "PageScribe$Save", (3, .inr (.inr (.inr (.inr (cR 277 c)))))))
  | 278 => some (.inr (.double, (30, .inr (.inr (.inr (.inl (cD 278 c)))))))
  | 279 => some (.inr (.double, (30, .inr (.inr (.inr (.inl (cD 279 c)))))))
  | 280 => some (.inr (.int, (30, .inl (cA 280 c))))
  | 281 => some (.inr (.int, (30, .inl (cA 281 c))))
  | 282 => some (.inr (.int, (30, .inl (cA 282 c))))
  | 283 => some (.inr (.array .byte, (16, .inr (.inr (.inr (.inr fun j => some (284 + j)))))))
  | 284 => some (.inr (.byte, (24, .inl (cA 284 c))))
  | 285 => some (.inr (.byte, (24, .inl (cA 285 c))))
  | 286 => some (.inr (.byte, (24, .inl (cA 286 c))))
  | 287 => some (.inr (.byte, (24, .inl (cA 287 c))))
  | 288 => some (.inr (.byte, (24, .inl (cA 288 c))))
  | 289 => some (.inr (.byte, (24, .inl (cA 289 c))))
  | 290 => some (.inr (.byte, (24, .inl (cA 290 c))))
  | 291 => some (.inr (.byte, (24, .inl (cA 291 c))))
  | 292 => some (.inr (.byte, (24, .inl (cA 292 c))))
  | 293 => some (.inr (.byte, (24, .inl (cA 293 c))))
  | 294 => some (.inr (.byte, (24, .inl (cA 294 c))))
  | 295 => some (.inr (.byte, (24, .inl (cA 295 c))))
  | 296 => some (.inr (.byte, (24, .inl (cA 296 c))))
  | 297 => some (.inr (.byte, (24, .inl (cA 297 c))))
  | 298 => some (.inr (.byte, (24, .inl (cA 298 c))))
  | 299 => some (.inr (.byte, (24, .inl (cA 299 c))))
  | _ => cO c a
def cX (a : Nat) : Bool := Nat.blt a 300 && !Nat.beq a 266
def cM (c : CT) (a : Nat) : Option xE := if cX a = true then cF c a else if a = (cb c).1 then some (.inr (.byte, ((cb c).2, .inl (cA 266 c)))) else match cS c a with
  | some v => some (.inl (2, slV v))
  | none => match cT c a with
    | some d => some (.inl (4, dcV d))
    | none => cO c a
def cH (c : CT) : xH := (cM c, cn c, cz c)
/-- a slot, a dict, another cell at an address -/
def slv (c : CT) (a : Nat) : Option SV := if cX a = false ∧ a ≠ (cb c).1 then cS c a else none
def dcv (c : CT) (a : Nat) : Option DV := if cX a = false ∧ a ≠ (cb c).1 ∧ cS c a = none then cT c a else none
def ov (c : CT) (a : Nat) : Option xE := if cX a = false ∧ a ≠ (cb c).1 ∧ cS c a = none ∧ cT c a = none then cO c a else none
theorem c_up {c c2 : CT} {a : Nat} {e : xE} (h1 : cM c2 a = some e) (h2 : ∀ b, b ≠ a → cM c2 b = cM c b) (h3 : cn c2 = cn c) (h4 : cz c2 = cz c) : xup (cH c) a e = cH c2 := by
  show (va_up (cM c) a (some e), cn c, cz c) = (cM c2, cn c2, cz c2)
  rw [h3, h4]
  refine congrArg (fun z => (z, cn c, cz c)) (funext fun b => ?_)
  unfold va_up
  by_cases hb : b = a
  · subst hb
    rw [if_pos rfl, h1]
  · rw [if_neg hb, h2 b hb]
theorem c_new {c c2 : CT} {e : xE} {n : Nat} (h1 : cM c2 (cn c) = some e) (h2 : ∀ b, b ≠ cn c → cM c2 b = cM c b) (h3 : cn c2 = cn c + 1) (h4 : cz c2 = cz c + n) : xnew (cH c) e n = cH c2 := by
  show (va_up (cM c) (cn c) (some e), cn c + 1, cz c + n) = (cM c2, cn c2, cz c2)
  rw [h3, h4]
  refine congrArg (fun z => (z, cn c + 1, cz c + n)) (funext fun b => ?_)
  unfold va_up
  by_cases hb : b = cn c
  · subst hb
    rw [if_pos rfl, h1]
  · rw [if_neg hb, h2 b hb]
/-- a fixed cell changes alone -/
theorem c_fix {c c2 : CT} {a : Nat} {e : xE} (hX : cX a = true) (h1 : cF c2 a = some e) (hF : ∀ b, b ≠ a → cF c2 b = cF c b) (hb : cb c2 = cb c) (hA : cA 266 c2 = cA 266 c) (hS : cS c2 = cS c) (hT : cT c2 = cT c) (hO : cO c2 = cO c) (h3 : cn c2 = cn c) (h4 : cz c2 = cz c) : xup (cH c) a e = cH c2 := by
  refine c_up ?_ ?_ h3 h4
  · unfold cM
    rw [if_pos hX, h1]
  · intro b hb2
    unfold cM
    rw [hF b hb2, hb, hA, hS, hT, hO]
theorem cgI_4 (sc : xSc) (c : CT) : gI sc (cH c) 0 4 (some 256) = some (cI 4 c) := rfl
theorem cgI_5 (sc : xSc) (c : CT) : gI sc (cH c) 0 5 (some 256) = some (cI 5 c) := rfl
theorem cgI_9 (sc : xSc) (c : CT) : gI sc (cH c) 0 9 (some 256) = some (cI 9 c) := rfl
theorem cgI_10 (sc : xSc) (c : CT) : gI sc (cH c) 0 10 (some 256) = some (cI 10 c) := rfl
theorem cgI_11 (sc : xSc) (c : CT) : gI sc (cH c) 0 11 (some 256) = some (cI 11 c) := rfl
theorem cgI_14 (sc : xSc) (c : CT) : gI sc (cH c) 0 14 (some 256) = some (cI 14 c) := rfl
theorem cgI_15 (sc : xSc) (c : CT) : gI sc (cH c) 0 15 (some 256) = some (cI 15 c) := rfl
theorem cgI_16 (sc : xSc) (c : CT) : gI sc (cH c) 0 16 (some 256) = some (cI 16 c) := rfl
theorem cgI_17 (sc : xSc) (c : CT) : gI sc (cH c) 0 17 (some 256) = some (cI 17 c) := rfl
theorem cgI_18 (sc : xSc) (c : CT) : gI sc (cH c) 0 18 (some 256) = some (cI 18 c) := rfl
theorem cgI_21 (sc : xSc) (c : CT) : gI sc (cH c) 0 21 (some 256) = some (cI 21 c) := rfl
theorem cgI_22 (sc : xSc) (c : CT) : gI sc (cH c) 0 22 (some 256) = some (cI 22 c) := rfl
theorem cgI_23 (sc : xSc) (c : CT) : gI sc (cH c) 0 23 (some 256) = some (cI 23 c) := rfl
theorem cgI_24 (sc : xSc) (c : CT) : gI sc (cH c) 0 24 (some 256) = some (cI 24 c) := rfl
theorem cgI_26 (sc : xSc) (c : CT) : gI sc (cH c) 0 26 (some 256) = some (cI 26 c) := rfl
theorem cgI_27 (sc : xSc) (c : CT) : gI sc (cH c) 0 27 (some 256) = some (cI 27 c) := rfl
theorem cgI_35 (sc : xSc) (c : CT) : gI sc (cH c) 0 35 (some 256) = some (cI 35 c) := rfl
theorem cgI_36 (sc : xSc) (c : CT) : gI sc (cH c) 0 36 (some 256) = some (cI 36 c) := rfl
theorem cgI_38 (sc : xSc) (c : CT) : gI sc (cH c) 0 38 (some 256) = some (cI 38 c) := rfl
theorem cgI_39 (sc : xSc) (c : CT) : gI sc (cH c) 0 39 (some 256) = some (cI 39 c) := rfl
theorem cgR_0 (sc : xSc) (c : CT) : gR sc (cH c) 0 0 (some 256) = some (some 257) := rfl
theorem cgR_1 (sc : xSc) (c : CT) : gR sc (cH c) 0 1 (some 256) = some (some 264) := rfl
theorem cgR_2 (sc : xSc) (c : CT) : gR sc (cH c) 0 2 (some 256) = some (some 265) := rfl
theorem cgR_3 (sc : xSc) (c : CT) : gR sc (cH c) 0 3 (some 256) = some (some 267) := rfl
theorem cgR_6 (sc : xSc) (c : CT) : gR sc (cH c) 0 6 (some 256) = some (some 269) := rfl
theorem cgR_7 (sc : xSc) (c : CT) : gR sc (cH c) 0 7 (some 256) = some (some 270) := rfl
theorem cgR_8 (sc : xSc) (c : CT) : gR sc (cH c) 0 8 (some 256) = some (some 271) := rfl
theorem cgR_12 (sc : xSc) (c : CT) : gR sc (cH c) 0 12 (some 256) = some (some 272) := rfl
theorem cgR_13 (sc : xSc) (c : CT) : gR sc (cH c) 0 13 (some 256) = some (some 274) := rfl
theorem cgR_19 (sc : xSc) (c : CT) : gR sc (cH c) 0 19 (some 256) = some (some 275) := rfl
theorem cgR_20 (sc : xSc) (c : CT) : gR sc (cH c) 0 20 (some 256) = some (some 276) := rfl
theorem cgR_25 (sc : xSc) (c : CT) : gR sc (cH c) 0 25 (some 256) = some (some 277) := rfl
theorem cgR_30 (sc : xSc) (c : CT) : gR sc (cH c) 0 30 (some 256) = some (some 278) := rfl
theorem cgR_31 (sc : xSc) (c : CT) : gR sc (cH c) 0 31 (some 256) = some (some 279) := rfl
theorem cgR_32 (sc : xSc) (c : CT) : gR sc (cH c) 0 32 (some 256) = some (some 280) := rfl
theorem cgR_33 (sc : xSc) (c : CT) : gR sc (cH c) 0 33 (some 256) = some (some 281) := rfl
theorem cgR_34 (sc : xSc) (c : CT) : gR sc (cH c) 0 34 (some 256) = some (some 282) := rfl
theorem cgR_37 (sc : xSc) (c : CT) : gR sc (cH c) 0 37 (some 256) = some (some 283) := rfl
theorem cgR_28 (sc : xSc) (c : CT) : gR sc (cH c) 0 28 (some 256) = some (cl c) := rfl
theorem cgF_29 (sc : xSc) (c : CT) : gF sc (cH c) 0 29 (some 256) = some (cg c) := rfl
theorem cis_P (sc : xSc) (c : CT) : xis sc (cH c) 0 (some 256) = true := rfl
theorem cF_P {c c2 : CT} (h : ∀ b, b ≠ 256 → cF c2 b = cF c b) (hb : cb c2 = cb c) (hA : cA 266 c2 = cA 266 c) (hS : cS c2 = cS c) (hT : cT c2 = cT c) (hO : cO c2 = cO c) (h3 : cn c2 = cn c) (h4 : cz c2 = cz c) {k : Nat} {v : xV} (hp : (PF c).set k v = PF c2) : pV (cH c) 0 k (some 256) v = some (cH c2) := by
  have h0 : (cH c).1 256 = some (.inl (0, PF c)) := rfl
  rw [p_pV (by decide) h0, hp]
  exact congrArg some (c_fix rfl rfl h hb hA hS hT hO h3 h4)
theorem cF_tI (k : Nat) (x : Int32) (c : CT) (hk : k < 100) (b : Nat) (h : b ≠ 256) : cF (tI k x c) b = cF c b := by
  unfold cF
  split <;> first | rfl | exact absurd rfl h | skip
  all_goals simp only [cI_tI, cb_tI]
  all_goals (repeat rw [if_neg (by omega)])
theorem cpI_4 (c : CT) (x : Int32) : pV (cH c) 0 4 (some 256) (vI x) = some (cH (tI 4 x c)) := cF_P (cF_tI 4 x c (by decide)) rfl rfl rfl rfl rfl rfl rfl rfl
theorem cpI_5 (c : CT) (x : Int32) : pV (cH c) 0 5 (some 256) (vI x) = some (cH (tI 5 x c)) := cF_P (cF_tI 5 x c (by decide)) rfl rfl rfl rfl rfl rfl rfl rfl
theorem cpI_9 (c : CT) (x : Int32) : pV (cH c) 0 9 (some 256) (vI x) = some (cH (tI 9 x c)) := cF_P (cF_tI 9 x c (by decide)) rfl rfl rfl rfl rfl rfl rfl rfl
theorem cpI_10 (c : CT) (x : Int32) : pV (cH c) 0 10 (some 256) (vI x) = some (cH (tI 10 x c)) := cF_P (cF_tI 10 x c (by decide)) rfl rfl rfl rfl rfl rfl rfl rfl
theorem cpI_11 (c : CT) (x : Int32) : pV (cH c) 0 11 (some 256) (vI x) = some (cH (tI 11 x c)) := cF_P (cF_tI 11 x c (by decide)) rfl rfl rfl rfl rfl rfl rfl rfl
theorem cpI_14 (c : CT) (x : Int32) : pV (cH c) 0 14 (some 256) (vI x) = some (cH (tI 14 x c)) := cF_P (cF_tI 14 x c (by decide)) rfl rfl rfl rfl rfl rfl rfl rfl
theorem cpI_15 (c : CT) (x : Int32) : pV (cH c) 0 15 (some 256) (vI x) = some (cH (tI 15 x c)) := cF_P (cF_tI 15 x c (by decide)) rfl rfl rfl rfl rfl rfl rfl rfl
theorem cpI_16 (c : CT) (x : Int32) : pV (cH c) 0 16 (some 256) (vI x) = some (cH (tI 16 x c)) := cF_P (cF_tI 16 x c (by decide)) rfl rfl rfl rfl rfl rfl rfl rfl
theorem cpI_17 (c : CT) (x : Int32) : pV (cH c) 0 17 (some 256) (vI x) = some (cH (tI 17 x c)) := cF_P (cF_tI 17 x c (by decide)) rfl rfl rfl rfl rfl rfl rfl rfl
theorem cpI_18 (c : CT) (x : Int32) : pV (cH c) 0 18 (some 256) (vI x) = some (cH (tI 18 x c)) := cF_P (cF_tI 18 x c (by decide)) rfl rfl rfl rfl rfl rfl rfl rfl
theorem cpI_21 (c : CT) (x : Int32) : pV (cH c) 0 21 (some 256) (vI x) = some (cH (tI 21 x c)) := cF_P (cF_tI 21 x c (by decide)) rfl rfl rfl rfl rfl rfl rfl rfl
theorem cpI_22 (c : CT) (x : Int32) : pV (cH c) 0 22 (some 256) (vI x) = some (cH (tI 22 x c)) := cF_P (cF_tI 22 x c (by decide)) rfl rfl rfl rfl rfl rfl rfl rfl
theorem cpI_23 (c : CT) (x : Int32) : pV (cH c) 0 23 (some 256) (vI x) = some (cH (tI 23 x c)) := cF_P (cF_tI 23 x c (by decide)) rfl rfl rfl rfl rfl rfl rfl rfl
theorem cpI_24 (c : CT) (x : Int32) : pV (cH c) 0 24 (some 256) (vI x) = some (cH (tI 24 x c)) := cF_P (cF_tI 24 x c (by decide)) rfl rfl rfl rfl rfl rfl rfl rfl
theorem cpI_26 (c : CT) (x : Int32) : pV (cH c) 0 26 (some 256) (vI x) = some (cH (tI 26 x c)) := cF_P (cF_tI 26 x c (by decide)) rfl rfl rfl rfl rfl rfl rfl rfl
theorem cpI_27 (c : CT) (x : Int32) : pV (cH c) 0 27 (some 256) (vI x) = some (cH (tI 27 x c)) := cF_P (cF_tI 27 x c (by decide)) rfl rfl rfl rfl rfl rfl rfl rfl
theorem cpI_35 (c : CT) (x : Int32) : pV (cH c) 0 35 (some 256) (vI x) = some (cH (tI 35 x c)) := cF_P (cF_tI 35 x c (by decide)) rfl rfl rfl rfl rfl rfl rfl rfl
theorem cpI_36 (c : CT) (x : Int32) : pV (cH c) 0 36 (some 256) (vI x) = some (cH (tI 36 x c)) := cF_P (cF_tI 36 x c (by decide)) rfl rfl rfl rfl rfl rfl rfl rfl
theorem cpI_38 (c : CT) (x : Int32) : pV (cH c) 0 38 (some 256) (vI x) = some (cH (tI 38 x c)) := cF_P (cF_tI 38 x c (by decide)) rfl rfl rfl rfl rfl rfl rfl rfl
theorem cpI_39 (c : CT) (x : Int32) : pV (cH c) 0 39 (some 256) (vI x) = some (cH (tI 39 x c)) := cF_P (cF_tI 39 x c (by decide)) rfl rfl rfl rfl rfl rfl rfl rfl
theorem cpR_28 (c : CT) (x : Option Nat) : pV (cH c) 0 28 (some 256) (vR x) = some (cH (tl x c)) := by
  refine cF_P (c := c) (c2 := tl x c) (fun b h => ?_) rfl rfl rfl rfl rfl rfl rfl rfl
  unfold cF
  split <;> first | rfl | exact absurd rfl h
theorem cpF_29 (c : CT) (x : UInt32) : pV (cH c) 0 29 (some 256) (vF x) = some (cH (tg x c)) := by
  refine cF_P (c := c) (c2 := tg x c) (fun b h => ?_) rfl rfl rfl rfl rfl rfl rfl rfl
  unfold cF
  split <;> first | rfl | exact absurd rfl h
theorem cgR_AL (sc : xSc) (c : CT) : gR sc (cH c) 17 0 (some 272) = some (some 273) := rfl
theorem cgI_AL1 (sc : xSc) (c : CT) : gI sc (cH c) 17 1 (some 272) = some (cI 104 c) := rfl
theorem cgI_AL2 (sc : xSc) (c : CT) : gI sc (cH c) 17 2 (some 272) = some (cI 105 c) := rfl
theorem cis_AL (sc : xSc) (c : CT) : xis sc (cH c) 17 (some 272) = true := rfl
theorem cgR_T0 (sc : xSc) (c : CT) : gR sc (cH c) 16 0 (some 265) = some (some (cb c).1) := rfl
theorem cgI_T1 (sc : xSc) (c : CT) : gI sc (cH c) 16 1 (some 265) = some 0 := rfl
theorem cgI_T3 (sc : xSc) (c : CT) : gI sc (cH c) 16 3 (some 265) = some (cI 100 c) := rfl
theorem cis_T (sc : xSc) (c : CT) : xis sc (cH c) 16 (some 265) = true := rfl
theorem cgR_W0 (sc : xSc) (c : CT) : gR sc (cH c) 16 0 (some 267) = some (some 268) := rfl
theorem cgI_W1 (sc : xSc) (c : CT) : gI sc (cH c) 16 1 (some 267) = some 0 := rfl
theorem cgI_W3 (sc : xSc) (c : CT) : gI sc (cH c) 16 3 (some 267) = some (cI 102 c) := rfl
theorem cis_W (sc : xSc) (c : CT) : xis sc (cH c) 16 (some 267) = true := rfl
def xfs (e : Option xE) : List xV := match e with
  | some (.inl o) => o.2
  | _ => []
theorem cpI_AL1 (c : CT) (x : Int32) : pV (cH c) 17 1 (some 272) (vI x) = some (cH (tI 104 x c)) := by
  rw [p_pV (fs := xfs ((cH c).1 272)) (by decide) rfl]
  refine congrArg some (c_fix rfl rfl (fun b h => ?_) rfl rfl rfl rfl rfl rfl rfl)
  unfold cF
  split <;> first | rfl | exact absurd rfl h
theorem cpI_AL2 (c : CT) (x : Int32) : pV (cH c) 17 2 (some 272) (vI x) = some (cH (tI 105 x c)) := by
  rw [p_pV (fs := xfs ((cH c).1 272)) (by decide) rfl]
  refine congrArg some (c_fix rfl rfl (fun b h => ?_) rfl rfl rfl rfl rfl rfl rfl)
  unfold cF
  split <;> first | rfl | exact absurd rfl h
theorem cpI_T3 (c : CT) (x : Int32) : pV (cH c) 16 3 (some 265) (vI x) = some (cH (tI 100 x c)) := by
  rw [p_pV (fs := xfs ((cH c).1 265)) (by decide) rfl]
  refine congrArg some (c_fix rfl rfl (fun b h => ?_) rfl rfl rfl rfl rfl rfl rfl)
  unfold cF
  split <;> first | rfl | exact absurd rfl h
theorem cpI_T2 (c : CT) (x : Int32) : pV (cH c) 16 2 (some 265) (vI x) = some (cH (tI 101 x c)) := by
  rw [p_pV (fs := xfs ((cH c).1 265)) (by decide) rfl]
  refine congrArg some (c_fix rfl rfl (fun b h => ?_) rfl rfl rfl rfl rfl rfl rfl)
  unfold cF
  split <;> first | rfl | exact absurd rfl h
theorem cpI_W3 (c : CT) (x : Int32) : pV (cH c) 16 3 (some 267) (vI x) = some (cH (tI 102 x c)) := by
  rw [p_pV (fs := xfs ((cH c).1 267)) (by decide) rfl]
  refine congrArg some (c_fix rfl rfl (fun b h => ?_) rfl rfl rfl rfl rfl rfl rfl)
  unfold cF
  split <;> first | rfl | exact absurd rfl h
theorem cpI_W2 (c : CT) (x : Int32) : pV (cH c) 16 2 (some 267) (vI x) = some (cH (tI 103 x c)) := by
  rw [p_pV (fs := xfs ((cH c).1 267)) (by decide) rfl]
  refine congrArg some (c_fix rfl rfl (fun b h => ?_) rfl rfl rfl rfl rfl rfl rfl)
  unfold cF
  split <;> first | rfl | exact absurd rfl h
theorem nI_c {n : Nat} (h : n < 2147483648) : (nI n).toNatClampNeg = n := by
  unfold nI
  rw [Int32.toNatClampNeg, Int32.toInt_ofNat_of_lt h]
  rfl
theorem xin_nI {n N : Nat} (h : n < 2147483648) : xin (nI n) N = decide (n < N) := by
  unfold xin
  rw [nI_c h]
  have : (0 : Int32) ≤ nI n := by
    rw [Int32.le_iff_toInt_le]
    unfold nI
    rw [Int32.toInt_ofNat_of_lt h]
    exact Int.natCast_nonneg n
  rw [decide_eq_true this, Bool.true_and]
theorem xin_nI' {n N : Nat} (h : n < N) (hN : N < 2147483648) : xin (nI n) N = true := by
  rw [xin_nI (by omega), decide_eq_true h]
theorem caR_264 {sc : xSc} {c : CT} {j : Nat} (h : j < 32) : aR sc (cH c) (some 264) (nI j) = some (cR 264 c j) := by
  rw [p_aR (f := cR 264 c) (n := 32) (ty := .object "PageScribe$Name") rfl rfl (xin_nI' h (by decide)), nI_c (by omega)]
theorem caN_264 (sc : xSc) (c : CT) : aN sc (cH c) (some 264) = some (nI 32) := rfl
theorem caR_269 {sc : xSc} {c : CT} {j : Nat} (h : j < 41) : aR sc (cH c) (some 269) (nI j) = some (cR 269 c j) := by
  rw [p_aR (f := cR 269 c) (n := 41) (ty := .object "PageScribe$Slot") rfl rfl (xin_nI' h (by decide)), nI_c (by omega)]
theorem caN_269 (sc : xSc) (c : CT) : aN sc (cH c) (some 269) = some (nI 41) := rfl
theorem caR_270 {sc : xSc} {c : CT} {j : Nat} (h : j < 160) : aR sc (cH c) (some 270) (nI j) = some (cR 270 c j) := by
  rw [p_aR (f := cR 270 c) (n := 160) (ty := .object "PageScribe$Slot") rfl rfl (xin_nI' h (by decide)), nI_c (by omega)]
theorem caN_270 (sc : xSc) (c : CT) : aN sc (cH c) (some 270) = some (nI 160) := rfl
theorem caR_271 {sc : xSc} {c : CT} {j : Nat} (h : j < 120) : aR sc (cH c) (some 271) (nI j) = some (cR 271 c j) := by
  rw [p_aR (f := cR 271 c) (n := 120) (ty := .object "PageScribe$Slot") rfl rfl (xin_nI' h (by decide)), nI_c (by omega)]
theorem caN_271 (sc : xSc) (c : CT) : aN sc (cH c) (some 271) = some (nI 120) := rfl
theorem caR_273 {sc : xSc} {c : CT} {j : Nat} (h : j < 7) : aR sc (cH c) (some 273) (nI j) = some (cR 273 c j) := by
  rw [p_aR (f := cR 273 c) (n := 7) (ty := .object "java/lang/Object") rfl rfl (xin_nI' h (by decide)), nI_c (by omega)]
theorem caN_273 (sc : xSc) (c : CT) : aN sc (cH c) (some 273) = some (nI 7) := rfl
theorem caR_274 {sc : xSc} {c : CT} {j : Nat} (h : j < 6) : aR sc (cH c) (some 274) (nI j) = some (cR 274 c j) := by
  rw [p_aR (f := cR 274 c) (n := 6) (ty := .object "PageScribe$Dict") rfl rfl (xin_nI' h (by decide)), nI_c (by omega)]
theorem caN_274 (sc : xSc) (c : CT) : aN sc (cH c) (some 274) = some (nI 6) := rfl
theorem caR_277 {sc : xSc} {c : CT} {j : Nat} (h : j < 3) : aR sc (cH c) (some 277) (nI j) = some (cR 277 c j) := by
  rw [p_aR (f := cR 277 c) (n := 3) (ty := .object "PageScribe$Save") rfl rfl (xin_nI' h (by decide)), nI_c (by omega)]
theorem caN_277 (sc : xSc) (c : CT) : aN sc (cH c) (some 277) = some (nI 3) := rfl
theorem cbR_264 {sc : xSc} {c : CT} {j : Nat} {x : Option Nat} (h : j < 32) (hx : x = none ∨ xis sc (cH c) 3 x = true) : bR "PageScribe$Name" 3 sc (cH c) (some 264) (nI j) x = some (cH (tR 264 (va_up (cR 264 c) j x) c)) := by
  rw [p_bR (f := cR 264 c) (n := 32) (by decide) rfl (xin_nI' h (by decide)) hx, nI_c (by omega)]
  refine congrArg some (c_fix rfl rfl (fun b h => ?_) rfl rfl rfl rfl rfl rfl rfl)
  unfold cF
  split <;> first | rfl | exact absurd rfl h
theorem cbR_269 {sc : xSc} {c : CT} {j : Nat} {x : Option Nat} (h : j < 41) (hx : x = none ∨ xis sc (cH c) 2 x = true) : bR "PageScribe$Slot" 2 sc (cH c) (some 269) (nI j) x = some (cH (tR 269 (va_up (cR 269 c) j x) c)) := by
  rw [p_bR (f := cR 269 c) (n := 41) (by decide) rfl (xin_nI' h (by decide)) hx, nI_c (by omega)]
  refine congrArg some (c_fix rfl rfl (fun b h => ?_) rfl rfl rfl rfl rfl rfl rfl)
  unfold cF
  split <;> first | rfl | exact absurd rfl h
theorem cbR_270 {sc : xSc} {c : CT} {j : Nat} {x : Option Nat} (h : j < 160) (hx : x = none ∨ xis sc (cH c) 2 x = true) : bR "PageScribe$Slot" 2 sc (cH c) (some 270) (nI j) x = some (cH (tR 270 (va_up (cR 270 c) j x) c)) := by
  rw [p_bR (f := cR 270 c) (n := 160) (by decide) rfl (xin_nI' h (by decide)) hx, nI_c (by omega)]
  refine congrArg some (c_fix rfl rfl (fun b h => ?_) rfl rfl rfl rfl rfl rfl rfl)
  unfold cF
  split <;> first | rfl | exact absurd rfl h
theorem cbR_271 {sc : xSc} {c : CT} {j : Nat} {x : Option Nat} (h : j < 120) (hx : x = none ∨ xis sc (cH c) 2 x = true) : bR "PageScribe$Slot" 2 sc (cH c) (some 271) (nI j) x = some (cH (tR 271 (va_up (cR 271 c) j x) c)) := by
  rw [p_bR (f := cR 271 c) (n := 120) (by decide) rfl (xin_nI' h (by decide)) hx, nI_c (by omega)]
  refine congrArg some (c_fix rfl rfl (fun b h => ?_) rfl rfl rfl rfl rfl rfl rfl)
  unfold cF
  split <;> first | rfl | exact absurd rfl h
theorem cbR_273 {sc : xSc} {c : CT} {j : Nat} {x : Option Nat} (h : j < 7) (hx : x = none ∨ xis sc (cH c) 4 x = true) : bR "java/lang/Object" 4 sc (cH c) (some 273) (nI j) x = some (cH (tR 273 (va_up (cR 273 c) j x) c)) := by
  rw [p_bR (f := cR 273 c) (n := 7) (by decide) rfl (xin_nI' h (by decide)) hx, nI_c (by omega)]
  refine congrArg some (c_fix rfl rfl (fun b h => ?_) rfl rfl rfl rfl rfl rfl rfl)
  unfold cF
  split <;> first | rfl | exact absurd rfl h
theorem cbR_274 {sc : xSc} {c : CT} {j : Nat} {x : Option Nat} (h : j < 6) (hx : x = none ∨ xis sc (cH c) 4 x = true) : bR "PageScribe$Dict" 4 sc (cH c) (some 274) (nI j) x = some (cH (tR 274 (va_up (cR 274 c) j x) c)) := by
  rw [p_bR (f := cR 274 c) (n := 6) (by decide) rfl (xin_nI' h (by decide)) hx, nI_c (by omega)]
  refine congrArg some (c_fix rfl rfl (fun b h => ?_) rfl rfl rfl rfl rfl rfl rfl)
  unfold cF
  split <;> first | rfl | exact absurd rfl h
theorem cbR_277 {sc : xSc} {c : CT} {j : Nat} {x : Option Nat} (h : j < 3) (hx : x = none ∨ xis sc (cH c) 6 x = true) : bR "PageScribe$Save" 6 sc (cH c) (some 277) (nI j) x = some (cH (tR 277 (va_up (cR 277 c) j x) c)) := by
  rw [p_bR (f := cR 277 c) (n := 3) (by decide) rfl (xin_nI' h (by decide)) hx, nI_c (by omega)]
  refine congrArg some (c_fix rfl rfl (fun b h => ?_) rfl rfl rfl rfl rfl rfl rfl)
  unfold cF
  split <;> first | rfl | exact absurd rfl h
theorem caI_275 {sc : xSc} {c : CT} {j : Nat} (h : j < 20) : aI .int sc (cH c) (some 275) (nI j) = some (cA 275 c j) := by
  rw [p_aI (f := cA 275 c) (n := 20) rfl (xin_nI' h (by decide)), nI_c (by omega)]
theorem cbI_275 {c : CT} {j : Nat} {x : Int32} (h : j < 20) : bI .int (cH c) (some 275) (nI j) x = some (cH (tA 275 (va_up (cA 275 c) j x) c)) := by
  rw [p_bI (f := cA 275 c) (n := 20) (by decide) rfl (xin_nI' h (by decide)), nI_c (by omega)]
  refine congrArg some (c_fix rfl rfl (fun b h => ?_) rfl rfl rfl rfl rfl rfl rfl)
  unfold cF
  split <;> first | rfl | exact absurd rfl h
theorem caI_276 {sc : xSc} {c : CT} {j : Nat} (h : j < 20) : aI .int sc (cH c) (some 276) (nI j) = some (cA 276 c j) := by
  rw [p_aI (f := cA 276 c) (n := 20) rfl (xin_nI' h (by decide)), nI_c (by omega)]
theorem cbI_276 {c : CT} {j : Nat} {x : Int32} (h : j < 20) : bI .int (cH c) (some 276) (nI j) x = some (cH (tA 276 (va_up (cA 276 c) j x) c)) := by
  rw [p_bI (f := cA 276 c) (n := 20) (by decide) rfl (xin_nI' h (by decide)), nI_c (by omega)]
  refine congrArg some (c_fix rfl rfl (fun b h => ?_) rfl rfl rfl rfl rfl rfl rfl)
  unfold cF
  split <;> first | rfl | exact absurd rfl h
theorem caI_280 {sc : xSc} {c : CT} {j : Nat} (h : j < 30) : aI .int sc (cH c) (some 280) (nI j) = some (cA 280 c j) := by
  rw [p_aI (f := cA 280 c) (n := 30) rfl (xin_nI' h (by decide)), nI_c (by omega)]
theorem cbI_280 {c : CT} {j : Nat} {x : Int32} (h : j < 30) : bI .int (cH c) (some 280) (nI j) x = some (cH (tA 280 (va_up (cA 280 c) j x) c)) := by
  rw [p_bI (f := cA 280 c) (n := 30) (by decide) rfl (xin_nI' h (by decide)), nI_c (by omega)]
  refine congrArg some (c_fix rfl rfl (fun b h => ?_) rfl rfl rfl rfl rfl rfl rfl)
  unfold cF
  split <;> first | rfl | exact absurd rfl h
theorem caI_281 {sc : xSc} {c : CT} {j : Nat} (h : j < 30) : aI .int sc (cH c) (some 281) (nI j) = some (cA 281 c j) := by
  rw [p_aI (f := cA 281 c) (n := 30) rfl (xin_nI' h (by decide)), nI_c (by omega)]
theorem cbI_281 {c : CT} {j : Nat} {x : Int32} (h : j < 30) : bI .int (cH c) (some 281) (nI j) x = some (cH (tA 281 (va_up (cA 281 c) j x) c)) := by
  rw [p_bI (f := cA 281 c) (n := 30) (by decide) rfl (xin_nI' h (by decide)), nI_c (by omega)]
  refine congrArg some (c_fix rfl rfl (fun b h => ?_) rfl rfl rfl rfl rfl rfl rfl)
  unfold cF
  split <;> first | rfl | exact absurd rfl h
theorem caI_282 {sc : xSc} {c : CT} {j : Nat} (h : j < 30) : aI .int sc (cH c) (some 282) (nI j) = some (cA 282 c j) := by
  rw [p_aI (f := cA 282 c) (n := 30) rfl (xin_nI' h (by decide)), nI_c (by omega)]
theorem cbI_282 {c : CT} {j : Nat} {x : Int32} (h : j < 30) : bI .int (cH c) (some 282) (nI j) x = some (cH (tA 282 (va_up (cA 282 c) j x) c)) := by
  rw [p_bI (f := cA 282 c) (n := 30) (by decide) rfl (xin_nI' h (by decide)), nI_c (by omega)]
  refine congrArg some (c_fix rfl rfl (fun b h => ?_) rfl rfl rfl rfl rfl rfl rfl)
  unfold cF
  split <;> first | rfl | exact absurd rfl h
theorem caI_268 {sc : xSc} {c : CT} {j : Nat} (h : j < 120) : aI .byte sc (cH c) (some 268) (nI j) = some (cA 268 c j) := by
  rw [p_aI (f := cA 268 c) (n := 120) rfl (xin_nI' h (by decide)), nI_c (by omega)]
theorem cbI_268 {c : CT} {j : Nat} {x : Int32} (h : j < 120) : bI .byte (cH c) (some 268) (nI j) x = some (cH (tA 268 (va_up (cA 268 c) j x) c)) := by
  rw [p_bI (f := cA 268 c) (n := 120) (by decide) rfl (xin_nI' h (by decide)), nI_c (by omega)]
  refine congrArg some (c_fix rfl rfl (fun b h => ?_) rfl rfl rfl rfl rfl rfl rfl)
  unfold cF
  split <;> first | rfl | exact absurd rfl h
theorem caI_284 {sc : xSc} {c : CT} {j : Nat} (h : j < 24) : aI .byte sc (cH c) (some 284) (nI j) = some (cA 284 c j) := by
  rw [p_aI (f := cA 284 c) (n := 24) rfl (xin_nI' h (by decide)), nI_c (by omega)]
theorem cbI_284 {c : CT} {j : Nat} {x : Int32} (h : j < 24) : bI .byte (cH c) (some 284) (nI j) x = some (cH (tA 284 (va_up (cA 284 c) j x) c)) := by
  rw [p_bI (f := cA 284 c) (n := 24) (by decide) rfl (xin_nI' h (by decide)), nI_c (by omega)]
  refine congrArg some (c_fix rfl rfl (fun b h => ?_) rfl rfl rfl rfl rfl rfl rfl)
  unfold cF
  split <;> first | rfl | exact absurd rfl h
theorem caI_285 {sc : xSc} {c : CT} {j : Nat} (h : j < 24) : aI .byte sc (cH c) (some 285) (nI j) = some (cA 285 c j) := by
  rw [p_aI (f := cA 285 c) (n := 24) rfl (xin_nI' h (by decide)), nI_c (by omega)]
theorem cbI_285 {c : CT} {j : Nat} {x : Int32} (h : j < 24) : bI .byte (cH c) (some 285) (nI j) x = some (cH (tA 285 (va_up (cA 285 c) j x) c)) := by
  rw [p_bI (f := cA 285 c) (n := 24) (by decide) rfl (xin_nI' h (by decide)), nI_c (by omega)]
  refine congrArg some (c_fix rfl rfl (fun b h => ?_) rfl rfl rfl rfl rfl rfl rfl)
  unfold cF
  split <;> first | rfl | exact absurd rfl h
theorem caI_286 {sc : xSc} {c : CT} {j : Nat} (h : j < 24) : aI .byte sc (cH c) (some 286) (nI j) = some (cA 286 c j) := by
  rw [p_aI (f := cA 286 c) (n := 24) rfl (xin_nI' h (by decide)), nI_c (by omega)]
theorem cbI_286 {c : CT} {j : Nat} {x : Int32} (h : j < 24) : bI .byte (cH c) (some 286) (nI j) x = some (cH (tA 286 (va_up (cA 286 c) j x) c)) := by
  rw [p_bI (f := cA 286 c) (n := 24) (by decide) rfl (xin_nI' h (by decide)), nI_c (by omega)]
  refine congrArg some (c_fix rfl rfl (fun b h => ?_) rfl rfl rfl rfl rfl rfl rfl)
  unfold cF
  split <;> first | rfl | exact absurd rfl h
theorem caI_287 {sc : xSc} {c : CT} {j : Nat} (h : j < 24) : aI .byte sc (cH c) (some 287) (nI j) = some (cA 287 c j) := by
  rw [p_aI (f := cA 287 c) (n := 24) rfl (xin_nI' h (by decide)), nI_c (by omega)]
theorem cbI_287 {c : CT} {j : Nat} {x : Int32} (h : j < 24) : bI .byte (cH c) (some 287) (nI j) x = some (cH (tA 287 (va_up (cA 287 c) j x) c)) := by
  rw [p_bI (f := cA 287 c) (n := 24) (by decide) rfl (xin_nI' h (by decide)), nI_c (by omega)]
  refine congrArg some (c_fix rfl rfl (fun b h => ?_) rfl rfl rfl rfl rfl rfl rfl)
  unfold cF
  split <;> first | rfl | exact absurd rfl h
theorem caI_288 {sc : xSc} {c : CT} {j : Nat} (h : j < 24) : aI .byte sc (cH c) (some 288) (nI j) = some (cA 288 c j) := by
  rw [p_aI (f := cA 288 c) (n := 24) rfl (xin_nI' h (by decide)), nI_c (by omega)]
theorem cbI_288 {c : CT} {j : Nat} {x : Int32} (h : j < 24) : bI .byte (cH c) (some 288) (nI j) x = some (cH (tA 288 (va_up (cA 288 c) j x) c)) := by
  rw [p_bI (f := cA 288 c) (n := 24) (by decide) rfl (xin_nI' h (by decide)), nI_c (by omega)]
  refine congrArg some (c_fix rfl rfl (fun b h => ?_) rfl rfl rfl rfl rfl rfl rfl)
  unfold cF
  split <;> first | rfl | exact absurd rfl h
theorem caI_289 {sc : xSc} {c : CT} {j : Nat} (h : j < 24) : aI .byte sc (cH c) (some 289) (nI j) = some (cA 289 c j) := by
  rw [p_aI (f := cA 289 c) (n := 24) rfl (xin_nI' h (by decide)), nI_c (by omega)]
theorem cbI_289 {c : CT} {j : Nat} {x : Int32} (h : j < 24) : bI .byte (cH c) (some 289) (nI j) x = some (cH (tA 289 (va_up (cA 289 c) j x) c)) := by
  rw [p_bI (f := cA 289 c) (n := 24) (by decide) rfl (xin_nI' h (by decide)), nI_c (by omega)]
  refine congrArg some (c_fix rfl rfl (fun b h => ?_) rfl rfl rfl rfl rfl rfl rfl)
  unfold cF
  split <;> first | rfl | exact absurd rfl h
theorem caI_290 {sc : xSc} {c : CT} {j : Nat} (h : j < 24) : aI .byte sc (cH c) (some 290) (nI j) = some (cA 290 c j) := by
  rw [p_aI (f := cA 290 c) (n := 24) rfl (xin_nI' h (by decide)), nI_c (by omega)]
theorem cbI_290 {c : CT} {j : Nat} {x : Int32} (h : j < 24) : bI .byte (cH c) (some 290) (nI j) x = some (cH (tA 290 (va_up (cA 290 c) j x) c)) := by
  rw [p_bI (f := cA 290 c) (n := 24) (by decide) rfl (xin_nI' h (by decide)), nI_c (by omega)]
  refine congrArg some (c_fix rfl rfl (fun b h => ?_) rfl rfl rfl rfl rfl rfl rfl)
  unfold cF
  split <;> first | rfl | exact absurd rfl h
theorem caI_291 {sc : xSc} {c : CT} {j : Nat} (h : j < 24) : aI .byte sc (cH c) (some 291) (nI j) = some (cA 291 c j) := by
  rw [p_aI (f := cA 291 c) (n := 24) rfl (xin_nI' h (by decide)), nI_c (by omega)]
theorem cbI_291 {c : CT} {j : Nat} {x : Int32} (h : j < 24) : bI .byte (cH c) (some 291) (nI j) x = some (cH (tA 291 (va_up (cA 291 c) j x) c)) := by
  rw [p_bI (f := cA 291 c) (n := 24) (by decide) rfl (xin_nI' h (by decide)), nI_c (by omega)]
  refine congrArg some (c_fix rfl rfl (fun b h => ?_) rfl rfl rfl rfl rfl rfl rfl)
  unfold cF
  split <;> first | rfl | exact absurd rfl h
theorem caI_292 {sc : xSc} {c : CT} {j : Nat} (h : j < 24) : aI .byte sc (cH c) (some 292) (nI j) = some (cA 292 c j) := by
  rw [p_aI (f := cA 292 c) (n := 24) rfl (xin_nI' h (by decide)), nI_c (by omega)]
theorem cbI_292 {c : CT} {j : Nat} {x : Int32} (h : j < 24) : bI .byte (cH c) (some 292) (nI j) x = some (cH (tA 292 (va_up (cA 292 c) j x) c)) := by
  rw [p_bI (f := cA 292 c) (n := 24) (by decide) rfl (xin_nI' h (by decide)), nI_c (by omega)]
  refine congrArg some (c_fix rfl rfl (fun b h => ?_) rfl rfl rfl rfl rfl rfl rfl)
  unfold cF
  split <;> first | rfl | exact absurd rfl h
theorem caI_293 {sc : xSc} {c : CT} {j : Nat} (h : j < 24) : aI .byte sc (cH c) (some 293) (nI j) = some (cA 293 c j) := by
  rw [p_aI (f := cA 293 c) (n := 24) rfl (xin_nI' h (by decide)), nI_c (by omega)]
theorem cbI_293 {c : CT} {j : Nat} {x : Int32} (h : j < 24) : bI .byte (cH c) (some 293) (nI j) x = some (cH (tA 293 (va_up (cA 293 c) j x) c)) := by
  rw [p_bI (f := cA 293 c) (n := 24) (by decide) rfl (xin_nI' h (by decide)), nI_c (by omega)]
  refine congrArg some (c_fix rfl rfl (fun b h => ?_) rfl rfl rfl rfl rfl rfl rfl)
  unfold cF
  split <;> first | rfl | exact absurd rfl h
theorem caI_294 {sc : xSc} {c : CT} {j : Nat} (h : j < 24) : aI .byte sc (cH c) (some 294) (nI j) = some (cA 294 c j) := by
  rw [p_aI (f := cA 294 c) (n := 24) rfl (xin_nI' h (by decide)), nI_c (by omega)]
theorem cbI_294 {c : CT} {j : Nat} {x : Int32} (h : j < 24) : bI .byte (cH c) (some 294) (nI j) x = some (cH (tA 294 (va_up (cA 294 c) j x) c)) := by
  rw [p_bI (f := cA 294 c) (n := 24) (by decide) rfl (xin_nI' h (by decide)), nI_c (by omega)]
  refine congrArg some (c_fix rfl rfl (fun b h => ?_) rfl rfl rfl rfl rfl rfl rfl)
  unfold cF
  split <;> first | rfl | exact absurd rfl h
theorem caI_295 {sc : xSc} {c : CT} {j : Nat} (h : j < 24) : aI .byte sc (cH c) (some 295) (nI j) = some (cA 295 c j) := by
  rw [p_aI (f := cA 295 c) (n := 24) rfl (xin_nI' h (by decide)), nI_c (by omega)]
theorem cbI_295 {c : CT} {j : Nat} {x : Int32} (h : j < 24) : bI .byte (cH c) (some 295) (nI j) x = some (cH (tA 295 (va_up (cA 295 c) j x) c)) := by
  rw [p_bI (f := cA 295 c) (n := 24) (by decide) rfl (xin_nI' h (by decide)), nI_c (by omega)]
  refine congrArg some (c_fix rfl rfl (fun b h => ?_) rfl rfl rfl rfl rfl rfl rfl)
  unfold cF
  split <;> first | rfl | exact absurd rfl h
theorem caI_296 {sc : xSc} {c : CT} {j : Nat} (h : j < 24) : aI .byte sc (cH c) (some 296) (nI j) = some (cA 296 c j) := by
  rw [p_aI (f := cA 296 c) (n := 24) rfl (xin_nI' h (by decide)), nI_c (by omega)]
theorem cbI_296 {c : CT} {j : Nat} {x : Int32} (h : j < 24) : bI .byte (cH c) (some 296) (nI j) x = some (cH (tA 296 (va_up (cA 296 c) j x) c)) := by
  rw [p_bI (f := cA 296 c) (n := 24) (by decide) rfl (xin_nI' h (by decide)), nI_c (by omega)]
  refine congrArg some (c_fix rfl rfl (fun b h => ?_) rfl rfl rfl rfl rfl rfl rfl)
  unfold cF
  split <;> first | rfl | exact absurd rfl h
theorem caI_297 {sc : xSc} {c : CT} {j : Nat} (h : j < 24) : aI .byte sc (cH c) (some 297) (nI j) = some (cA 297 c j) := by
  rw [p_aI (f := cA 297 c) (n := 24) rfl (xin_nI' h (by decide)), nI_c (by omega)]
theorem cbI_297 {c : CT} {j : Nat} {x : Int32} (h : j < 24) : bI .byte (cH c) (some 297) (nI j) x = some (cH (tA 297 (va_up (cA 297 c) j x) c)) := by
  rw [p_bI (f := cA 297 c) (n := 24) (by decide) rfl (xin_nI' h (by decide)), nI_c (by omega)]
  refine congrArg some (c_fix rfl rfl (fun b h => ?_) rfl rfl rfl rfl rfl rfl rfl)
  unfold cF
  split <;> first | rfl | exact absurd rfl h
theorem caI_298 {sc : xSc} {c : CT} {j : Nat} (h : j < 24) : aI .byte sc (cH c) (some 298) (nI j) = some (cA 298 c j) := by
  rw [p_aI (f := cA 298 c) (n := 24) rfl (xin_nI' h (by decide)), nI_c (by omega)]
theorem cbI_298 {c : CT} {j : Nat} {x : Int32} (h : j < 24) : bI .byte (cH c) (some 298) (nI j) x = some (cH (tA 298 (va_up (cA 298 c) j x) c)) := by
  rw [p_bI (f := cA 298 c) (n := 24) (by decide) rfl (xin_nI' h (by decide)), nI_c (by omega)]
  refine congrArg some (c_fix rfl rfl (fun b h => ?_) rfl rfl rfl rfl rfl rfl rfl)
  unfold cF
  split <;> first | rfl | exact absurd rfl h
theorem caI_299 {sc : xSc} {c : CT} {j : Nat} (h : j < 24) : aI .byte sc (cH c) (some 299) (nI j) = some (cA 299 c j) := by
  rw [p_aI (f := cA 299 c) (n := 24) rfl (xin_nI' h (by decide)), nI_c (by omega)]
theorem cbI_299 {c : CT} {j : Nat} {x : Int32} (h : j < 24) : bI .byte (cH c) (some 299) (nI j) x = some (cH (tA 299 (va_up (cA 299 c) j x) c)) := by
  rw [p_bI (f := cA 299 c) (n := 24) (by decide) rfl (xin_nI' h (by decide)), nI_c (by omega)]
  refine congrArg some (c_fix rfl rfl (fun b h => ?_) rfl rfl rfl rfl rfl rfl rfl)
  unfold cF
  split <;> first | rfl | exact absurd rfl h
theorem caD_278 {sc : xSc} {c : CT} {j : Nat} (h : j < 30) : aD sc (cH c) (some 278) (nI j) = some (cD 278 c j) := by
  rw [p_aD (f := cD 278 c) (n := 30) rfl (xin_nI' h (by decide)), nI_c (by omega)]
theorem cbD_278 {c : CT} {j : Nat} {x : UInt64} (h : j < 30) : bD (cH c) (some 278) (nI j) x = some (cH (tD 278 (va_up (cD 278 c) j x) c)) := by
  rw [p_bD (f := cD 278 c) (n := 30) (by decide) rfl (xin_nI' h (by decide)), nI_c (by omega)]
  refine congrArg some (c_fix rfl rfl (fun b h => ?_) rfl rfl rfl rfl rfl rfl rfl)
  unfold cF
  split <;> first | rfl | exact absurd rfl h
theorem caD_279 {sc : xSc} {c : CT} {j : Nat} (h : j < 30) : aD sc (cH c) (some 279) (nI j) = some (cD 279 c j) := by
  rw [p_aD (f := cD 279 c) (n := 30) rfl (xin_nI' h (by decide)), nI_c (by omega)]
theorem cbD_279 {c : CT} {j : Nat} {x : UInt64} (h : j < 30) : bD (cH c) (some 279) (nI j) x = some (cH (tD 279 (va_up (cD 279 c) j x) c)) := by
  rw [p_bD (f := cD 279 c) (n := 30) (by decide) rfl (xin_nI' h (by decide)), nI_c (by omega)]
  refine congrArg some (c_fix rfl rfl (fun b h => ?_) rfl rfl rfl rfl rfl rfl rfl)
  unfold cF
  split <;> first | rfl | exact absurd rfl h
