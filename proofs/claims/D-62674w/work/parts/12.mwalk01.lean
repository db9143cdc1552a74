def mF : Nat := 200000
def f_M_base_b15  (t0 : Int32) : Option Int32 := some t0
theorem w_M_base_b15 {sc : xSc} {d : Nat} {Q : xR → xH → Prop} {hh : xH} {rZ : Int32}  (hQ : Q (.inl (some (vI rZ))) hh) (t0 : Int32) (h : f_M_base_b15  t0 = some rZ) : xW sc m_M_base (d + 0) Q (hh) 15 [none] [vI t0] := by
  unfold f_M_base_b15 at h
  cases h
  exact x_iret (ty := .int) (pc := 15) d_M_base_15 rfl (rfl) hQ
def f_M_base (a1 : Int32) : Option Int32 := (if a1 = 0 then f_M_base_b15 (0 : Int32) else f_M_base_b15 ((10 : Int32) + ((10 : Int32) * a1)))
theorem w_M_base {sc : xSc} {d : Nat} {Q : xR → xH → Prop} {hh : xH} {rZ : Int32} (hQ : Q (.inl (some (vI rZ))) hh) (a1 : Int32) (h : f_M_base a1 = some rZ) : xW sc m_M_base (d + 0) Q (hh) 0 (xent [vI a1] m_M_base.2.2.1) [] := by
  show xW sc m_M_base (d + 0) Q (hh) 0 [some (vI a1)] []
  unfold f_M_base at h
  refine x_iload_n (pc := 0) d_M_base_0 rfl ?_
  refine x_if_ne (tgt := 8) (pc := 1) d_M_base_1 (by decide) (fun c1 => ?_) (fun c1 => ?_)
  · rw [if_neg c1] at h
    refine x_bipush (v := (10 : Int32)) (pc := 8) d_M_base_8 (by decide) ?_
    refine x_bipush (v := (10 : Int32)) (pc := 10) d_M_base_10 (by decide) ?_
    refine x_iload_n (pc := 12) d_M_base_12 rfl ?_
    refine x_imul (pc := 13) d_M_base_13 ?_
    refine x_iadd (pc := 14) d_M_base_14 ?_
    exact x_wk (L' := [none]) ⟨Or.inl rfl, trivial⟩ (w_M_base_b15 hQ ((10 : Int32) + ((10 : Int32) * a1)) h)
  · rw [if_pos c1] at h
    refine x_iconst (v := (0 : Int32)) (pc := 4) d_M_base_4 (by decide) ?_
    refine x_goto (tgt := 15) (pc := 5) d_M_base_5 (by decide) ?_
    exact x_wk (L' := [none]) ⟨Or.inl rfl, trivial⟩ (w_M_base_b15 hQ (0 : Int32) h)
def f_M_below_b19  (t0 : UInt64) : Option UInt64 := some t0
theorem w_M_below_b19 {sc : xSc} {d : Nat} {Q : xR → xH → Prop} {hh : xH} {rZ : UInt64}  (hQ : Q (.inl (some (vD rZ))) hh) (t0 : UInt64) (h : f_M_below_b19  t0 = some rZ) : xW sc m_M_below (d + 0) Q (hh) 19 [none, none, none, none] [vD t0] := by
  unfold f_M_below_b19 at h
  cases h
  exact x_dret (pc := 19) d_M_below_19 rfl hQ
def f_M_below (a1 : UInt64) : Option UInt64 := (if (Op.cmpValue (FP.dcmp (FP.l2d (FP.d2l a1)) a1) .l) ≤ 0 then f_M_below_b19 (FP.l2d (FP.d2l a1)) else f_M_below_b19 (FP.l2d ((FP.d2l a1) - (1 : Int64))))
theorem w_M_below {sc : xSc} {d : Nat} {Q : xR → xH → Prop} {hh : xH} {rZ : UInt64} (hQ : Q (.inl (some (vD rZ))) hh) (a1 : UInt64) (h : f_M_below a1 = some rZ) : xW sc m_M_below (d + 0) Q (hh) 0 (xent [vD a1] m_M_below.2.2.1) [] := by
  show xW sc m_M_below (d + 0) Q (hh) 0 [some (vD a1), none, none, none] []
  unfold f_M_below at h
  refine x_dload_n (pc := 0) d_M_below_0 rfl ?_
  refine x_d2l (pc := 1) d_M_below_1 ?_
  refine x_lstore_n (pc := 2) d_M_below_2 (by decide) ?_
  show xW sc m_M_below (d + 0) Q (hh) 3 [some (vD a1), none, some (vL (FP.d2l a1)), none] []
  refine x_lload_n (pc := 3) d_M_below_3 rfl ?_
  refine x_l2d (pc := 4) d_M_below_4 ?_
  refine x_dload_n (pc := 5) d_M_below_5 rfl ?_
  refine x_dcmp (pc := 6) d_M_below_6 ?_
  refine x_if_le (tgt := 17) (pc := 7) d_M_below_7 (by decide) (fun c1 => ?_) (fun c1 => ?_)
  · rw [if_pos c1] at h
    refine x_lload_n (pc := 17) d_M_below_17 rfl ?_
    refine x_l2d (pc := 18) d_M_below_18 ?_
    exact x_wk (L' := [none, none, none, none]) ⟨Or.inl rfl, Or.inl rfl, Or.inl rfl, Or.inl rfl, trivial⟩ (w_M_below_b19 hQ (FP.l2d (FP.d2l a1)) h)
  · rw [if_neg c1] at h
    refine x_lload_n (pc := 10) d_M_below_10 rfl ?_
    refine x_lconst (v := (1 : Int64)) (pc := 11) d_M_below_11 (by decide) ?_
    refine x_lsub (pc := 12) d_M_below_12 ?_
    refine x_l2d (pc := 13) d_M_below_13 ?_
    refine x_goto (tgt := 19) (pc := 14) d_M_below_14 (by decide) ?_
    exact x_wk (L' := [none, none, none, none]) ⟨Or.inl rfl, Or.inl rfl, Or.inl rfl, Or.inl rfl, trivial⟩ (w_M_below_b19 hQ (FP.l2d ((FP.d2l a1) - (1 : Int64))) h)
def f_M_count (a1 : Int64) : Option Int32 := some ((a1 >>> ((10 : Int32).toInt64 &&& 63)).toInt32)
theorem w_M_count {sc : xSc} {d : Nat} {Q : xR → xH → Prop} {hh : xH} {rZ : Int32} (hQ : Q (.inl (some (vI rZ))) hh) (a1 : Int64) (h : f_M_count a1 = some rZ) : xW sc m_M_count (d + 0) Q (hh) 0 (xent [vL a1] m_M_count.2.2.1) [] := by
  show xW sc m_M_count (d + 0) Q (hh) 0 [some (vL a1), none] []
  unfold f_M_count at h
  refine x_lload_n (pc := 0) d_M_count_0 rfl ?_
  refine x_bipush (v := (10 : Int32)) (pc := 1) d_M_count_1 (by decide) ?_
  refine x_lshr (pc := 3) d_M_count_3 ?_
  refine x_l2i (pc := 4) d_M_count_4 ?_
  cases h
  exact x_iret (ty := .int) (pc := 5) d_M_count_5 rfl (rfl) hQ
def f_M_cover_b297  (s : MT) : Option MT := some s
theorem w_M_cover_b297 {sc : xSc} {d : Nat} {Q : xR → xH → Prop} {R : xH} {sZ : MT}  (hQ : Q (.inl none) (mH sZ R)) (s : MT) (h : f_M_cover_b297  s = some sZ) : xW sc m_M_cover (d + 0) Q (mH s R) 297 [none, none, none, none, none, none, none, none, none, none, none, none, none] [] := by
  unfold f_M_cover_b297 at h
  cases h
  exact x_vret (pc := 297) d_M_cover_297 rfl hQ
def f_M_cover_b256  (l1 : Int32) (t0 : Int32) (s : MT) : Option MT := (if t0 = 0 then f_M_cover_b297 s else (if (mI 34 s) = 0 then none else (if (mI 34 s) = 0 then none else (if xn32 (FP.fmul (1097859072 : UInt32) (mG s)) = true then (if xn32 (FP.fadd (FP.fmul (1097859072 : UInt32) (mG s)) (1056964608 : UInt32)) = true then (if xin (((24 : Int32) * (l1 / (mI 34 s))) + (l1 - l1 / (mI 34 s) * (mI 34 s))) 384 = true then f_M_cover_b297 (sA 36 (va_up (mA 36 s) (((24 : Int32) * (l1 / (mI 34 s))) + (l1 - l1 / (mI 34 s) * (mI 34 s))).toNatClampNeg (FP.f2i (FP.fadd (FP.fmul (1097859072 : UInt32) (mG s)) (1056964608 : UInt32)))) s) else none) else none) else none))))
theorem w_M_cover_b256 {sc : xSc} {d : Nat} {Q : xR → xH → Prop} {R : xH} {sZ : MT}  (hQ : Q (.inl none) (mH sZ R)) (l1 : Int32) (t0 : Int32) (s : MT) (h : f_M_cover_b256  l1 t0 s = some sZ) : xW sc m_M_cover (d + 0) Q (mH s R) 256 [some (vA 373), some (vI l1), none, none, none, none, none, none, none, none, none, none, none] [vI t0] := by
  unfold f_M_cover_b256 at h
  refine x_istore (pc := 256) d_M_cover_256 (by decide) ?_
  show xW sc m_M_cover (d + 0) Q (mH s R) 258 [some (vA 373), some (vI l1), none, none, none, none, none, none, none, some (vI t0), none, none, none] []
  refine x_iload (pc := 258) d_M_cover_258 rfl ?_
  refine x_if_eq (tgt := 297) (pc := 260) d_M_cover_260 (by decide) (fun c1 => ?_) (fun c1 => ?_)
  · rw [if_pos c1] at h
    exact x_wk (L' := [none, none, none, none, none, none, none, none, none, none, none, none, none]) ⟨Or.inl rfl, Or.inl rfl, Or.inl rfl, Or.inl rfl, Or.inl rfl, Or.inl rfl, Or.inl rfl, Or.inl rfl, Or.inl rfl, Or.inl rfl, Or.inl rfl, Or.inl rfl, Or.inl rfl, trivial⟩ (w_M_cover_b297 hQ s h)
  · rw [if_neg c1] at h
    refine x_aload_n (pc := 263) d_M_cover_263 rfl ?_
    refine x_getf (c := 1) (k := 36) (v := vA 392) (pc := 264) d_M_cover_264 l_M_71 (xm_at s R) rfl ?_
    refine x_bipush (v := (24 : Int32)) (pc := 267) d_M_cover_267 (by decide) ?_
    refine x_iload_n (pc := 269) d_M_cover_269 rfl ?_
    refine x_aload_n (pc := 270) d_M_cover_270 rfl ?_
    refine x_getf (c := 1) (k := 34) (v := vI (mI 34 s)) (pc := 271) d_M_cover_271 l_M_236 (xm_at s R) rfl ?_
    obtain ⟨c2, h⟩ := itn_some h
    refine x_idiv (pc := 274) d_M_cover_274 (c2) ?_
    refine x_imul (pc := 275) d_M_cover_275 ?_
    refine x_iload_n (pc := 276) d_M_cover_276 rfl ?_
    refine x_aload_n (pc := 277) d_M_cover_277 rfl ?_
    refine x_getf (c := 1) (k := 34) (v := vI (mI 34 s)) (pc := 278) d_M_cover_278 l_M_236 (xm_at s R) rfl ?_
    obtain ⟨c3, h⟩ := itn_some h
    refine x_irem (pc := 281) d_M_cover_281 (c3) ?_
    refine x_iadd (pc := 282) d_M_cover_282 ?_
    refine x_ldcwf (v := (1097859072 : UInt32)) (pc := 283) d_M_cover_283 c_M_562 ?_
    refine x_aload_n (pc := 286) d_M_cover_286 rfl ?_
    refine x_getf (c := 1) (k := 37) (v := vF (mG s)) (pc := 287) d_M_cover_287 l_M_74 (xm_at s R) rfl ?_
    obtain ⟨c4, h⟩ := ite_some h
    refine x_fmul (pc := 290) d_M_cover_290 (xn32_v c4) ?_
    refine x_ldcwf (v := (1056964608 : UInt32)) (pc := 291) d_M_cover_291 c_M_563 ?_
    obtain ⟨c5, h⟩ := ite_some h
    refine x_fadd (pc := 294) d_M_cover_294 (xn32_v c5) ?_
    refine x_f2i (pc := 295) d_M_cover_295 ?_
    obtain ⟨c6, h⟩ := ite_some h
    refine xm_s36 (pc := 296) d_M_cover_296 c6 ?_
    exact x_wk (L' := [none, none, none, none, none, none, none, none, none, none, none, none, none]) ⟨Or.inl rfl, Or.inl rfl, Or.inl rfl, Or.inl rfl, Or.inl rfl, Or.inl rfl, Or.inl rfl, Or.inl rfl, Or.inl rfl, Or.inl rfl, Or.inl rfl, Or.inl rfl, Or.inl rfl, trivial⟩ (w_M_cover_b297 hQ (sA 36 (va_up (mA 36 s) (((24 : Int32) * (l1 / (mI 34 s))) + (l1 - l1 / (mI 34 s) * (mI 34 s))).toNatClampNeg (FP.f2i (FP.fadd (FP.fmul (1097859072 : UInt32) (mG s)) (1056964608 : UInt32)))) s) h)
def f_M_cover_b215 (k34 : Int32 → Int32 → UInt64 → UInt64 → Int32 → Int32 → Int32 → MT → Option MT) (l1 : Int32) (l2 : Int32) (l3 : UInt64) (l5 : UInt64) (l7 : Int32) (l8 : Int32) (l9 : Int32) (s : MT) : Option MT := k34 l1 l2 l3 l5 l7 l8 (l9 + Int32.ofInt 1) s
theorem w_M_cover_b215 {sc : xSc} {d : Nat} {Q : xR → xH → Prop} {R : xH} {sZ : MT} (k34 : Int32 → Int32 → UInt64 → UInt64 → Int32 → Int32 → Int32 → MT → Option MT) (hk34 : ∀ (l1 : Int32) (l2 : Int32) (l3 : UInt64) (l5 : UInt64) (l7 : Int32) (l8 : Int32) (l9 : Int32) (s : MT), k34 l1 l2 l3 l5 l7 l8 l9 s = some sZ → xW sc m_M_cover (d + 0) Q (mH s R) 34 [some (vA 373), some (vI l1), some (vI l2), some (vD l3), none, some (vD l5), none, some (vI l7), some (vI l8), some (vI l9), none, none, none] []) (hQ : Q (.inl none) (mH sZ R)) (l1 : Int32) (l2 : Int32) (l3 : UInt64) (l5 : UInt64) (l7 : Int32) (l8 : Int32) (l9 : Int32) (s : MT) (h : f_M_cover_b215 k34 l1 l2 l3 l5 l7 l8 l9 s = some sZ) : xW sc m_M_cover (d + 0) Q (mH s R) 215 [some (vA 373), some (vI l1), some (vI l2), some (vD l3), none, some (vD l5), none, some (vI l7), some (vI l8), some (vI l9), none, none, none] [] := by
  unfold f_M_cover_b215 at h
  refine x_iinc (pc := 215) d_M_cover_215 rfl (by decide) ?_
  show xW sc m_M_cover (d + 0) Q (mH s R) 218 [some (vA 373), some (vI l1), some (vI l2), some (vD l3), none, some (vD l5), none, some (vI l7), some (vI l8), some (vI (l9 + Int32.ofInt 1)), none, none, none] []
  refine x_goto (tgt := 34) (pc := 218) d_M_cover_218 (by decide) ?_
  exact hk34 l1 l2 l3 l5 l7 l8 (l9 + Int32.ofInt 1) s h
def f_M_cover_b179 (k34 : Int32 → Int32 → UInt64 → UInt64 → Int32 → Int32 → Int32 → MT → Option MT) (l1 : Int32) (l2 : Int32) (l3 : UInt64) (l5 : UInt64) (l7 : Int32) (l8 : Int32) (l9 : Int32) (l10 : Int32) (l11 : UInt64) (s : MT) : Option MT := (if xin l10 30 = true then (if 0 < (Op.cmpValue (FP.dcmp (mD 39 s l10.toNatClampNeg) l5) .g) then f_M_cover_b215 k34 l1 l2 l3 l5 l7 l8 l9 s else (if xin l9 30 = true then (if 0 ≤ (Op.cmpValue (FP.dcmp l5 (mD 39 s l9.toNatClampNeg)) .g) then f_M_cover_b215 k34 l1 l2 l3 l5 l7 l8 l9 s else (if 0 ≤ (Op.cmpValue (FP.dcmp l11 FP.dconst0) .g) then f_M_cover_b215 k34 l1 l2 l3 l5 l7 l8 l9 s else f_M_cover_b215 k34 l1 l2 l3 l5 l7 (l8 + Int32.ofInt 1) l9 s)) else none)) else none)
theorem w_M_cover_b179 {sc : xSc} {d : Nat} {Q : xR → xH → Prop} {R : xH} {sZ : MT} (k34 : Int32 → Int32 → UInt64 → UInt64 → Int32 → Int32 → Int32 → MT → Option MT) (hk34 : ∀ (l1 : Int32) (l2 : Int32) (l3 : UInt64) (l5 : UInt64) (l7 : Int32) (l8 : Int32) (l9 : Int32) (s : MT), k34 l1 l2 l3 l5 l7 l8 l9 s = some sZ → xW sc m_M_cover (d + 0) Q (mH s R) 34 [some (vA 373), some (vI l1), some (vI l2), some (vD l3), none, some (vD l5), none, some (vI l7), some (vI l8), some (vI l9), none, none, none] []) (hQ : Q (.inl none) (mH sZ R)) (l1 : Int32) (l2 : Int32) (l3 : UInt64) (l5 : UInt64) (l7 : Int32) (l8 : Int32) (l9 : Int32) (l10 : Int32) (l11 : UInt64) (s : MT) (h : f_M_cover_b179 k34 l1 l2 l3 l5 l7 l8 l9 l10 l11 s = some sZ) : xW sc m_M_cover (d + 0) Q (mH s R) 179 [some (vA 373), some (vI l1), some (vI l2), some (vD l3), none, some (vD l5), none, some (vI l7), some (vI l8), some (vI l9), some (vI l10), some (vD l11), none] [] := by
  unfold f_M_cover_b179 at h
  refine x_aload_n (pc := 179) d_M_cover_179 rfl ?_
  refine x_getf (c := 1) (k := 39) (v := vA 394) (pc := 180) d_M_cover_180 l_M_81 (xm_at s R) rfl ?_
  refine x_iload (pc := 183) d_M_cover_183 rfl ?_
  obtain ⟨c1, h⟩ := ite_some h
  refine x_dald (pc := 185) d_M_cover_185 (xm_a39 s R) (xin_vp c1) ?_
  refine x_dload (pc := 186) d_M_cover_186 rfl ?_
  refine x_dcmp (pc := 188) d_M_cover_188 ?_
  refine x_if_gt (tgt := 215) (pc := 189) d_M_cover_189 (by decide) (fun c2 => ?_) (fun c2 => ?_)
  · rw [if_pos c2] at h
    exact x_wk (L' := [some (vA 373), some (vI l1), some (vI l2), some (vD l3), none, some (vD l5), none, some (vI l7), some (vI l8), some (vI l9), none, none, none]) ⟨Or.inr rfl, Or.inr rfl, Or.inr rfl, Or.inr rfl, Or.inl rfl, Or.inr rfl, Or.inl rfl, Or.inr rfl, Or.inr rfl, Or.inr rfl, Or.inl rfl, Or.inl rfl, Or.inl rfl, trivial⟩ (w_M_cover_b215 k34 hk34 hQ l1 l2 l3 l5 l7 l8 l9 s h)
  · rw [if_neg c2] at h
    refine x_dload (pc := 192) d_M_cover_192 rfl ?_
    refine x_aload_n (pc := 194) d_M_cover_194 rfl ?_
    refine x_getf (c := 1) (k := 39) (v := vA 394) (pc := 195) d_M_cover_195 l_M_81 (xm_at s R) rfl ?_
    refine x_iload (pc := 198) d_M_cover_198 rfl ?_
    obtain ⟨c3, h⟩ := ite_some h
    refine x_dald (pc := 200) d_M_cover_200 (xm_a39 s R) (xin_vp c3) ?_
    refine x_dcmp (pc := 201) d_M_cover_201 ?_
    refine x_if_ge (tgt := 215) (pc := 202) d_M_cover_202 (by decide) (fun c4 => ?_) (fun c4 => ?_)
    · rw [if_pos c4] at h
      exact x_wk (L' := [some (vA 373), some (vI l1), some (vI l2), some (vD l3), none, some (vD l5), none, some (vI l7), some (vI l8), some (vI l9), none, none, none]) ⟨Or.inr rfl, Or.inr rfl, Or.inr rfl, Or.inr rfl, Or.inl rfl, Or.inr rfl, Or.inl rfl, Or.inr rfl, Or.inr rfl, Or.inr rfl, Or.inl rfl, Or.inl rfl, Or.inl rfl, trivial⟩ (w_M_cover_b215 k34 hk34 hQ l1 l2 l3 l5 l7 l8 l9 s h)
    · rw [if_neg c4] at h
      refine x_dload (pc := 205) d_M_cover_205 rfl ?_
      refine x_dconst0 (pc := 207) d_M_cover_207 ?_
      refine x_dcmp (pc := 208) d_M_cover_208 ?_
      refine x_if_ge (tgt := 215) (pc := 209) d_M_cover_209 (by decide) (fun c5 => ?_) (fun c5 => ?_)
      · rw [if_pos c5] at h
        exact x_wk (L' := [some (vA 373), some (vI l1), some (vI l2), some (vD l3), none, some (vD l5), none, some (vI l7), some (vI l8), some (vI l9), none, none, none]) ⟨Or.inr rfl, Or.inr rfl, Or.inr rfl, Or.inr rfl, Or.inl rfl, Or.inr rfl, Or.inl rfl, Or.inr rfl, Or.inr rfl, Or.inr rfl, Or.inl rfl, Or.inl rfl, Or.inl rfl, trivial⟩ (w_M_cover_b215 k34 hk34 hQ l1 l2 l3 l5 l7 l8 l9 s h)
      · rw [if_neg c5] at h
        refine x_iinc (pc := 212) d_M_cover_212 rfl (by decide) ?_
        show xW sc m_M_cover (d + 0) Q (mH s R) 215 [some (vA 373), some (vI l1), some (vI l2), some (vD l3), none, some (vD l5), none, some (vI l7), some (vI (l8 + Int32.ofInt 1)), some (vI l9), some (vI l10), some (vD l11), none] []
        exact x_wk (L' := [some (vA 373), some (vI l1), some (vI l2), some (vD l3), none, some (vD l5), none, some (vI l7), some (vI (l8 + Int32.ofInt 1)), some (vI l9), none, none, none]) ⟨Or.inr rfl, Or.inr rfl, Or.inr rfl, Or.inr rfl, Or.inl rfl, Or.inr rfl, Or.inl rfl, Or.inr rfl, Or.inr rfl, Or.inr rfl, Or.inl rfl, Or.inl rfl, Or.inl rfl, trivial⟩ (w_M_cover_b215 k34 hk34 hQ l1 l2 l3 l5 l7 (l8 + Int32.ofInt 1) l9 s h)
def f_M_cover_b87 (k34 : Int32 → Int32 → UInt64 → UInt64 → Int32 → Int32 → Int32 → MT → Option MT) (l1 : Int32) (l2 : Int32) (l3 : UInt64) (l5 : UInt64) (l7 : Int32) (l8 : Int32) (l9 : Int32) (t0 : Int32) (s : MT) : Option MT := (if xin t0 30 = true then (if xin l9 30 = true then (if xn64 (FP.dsub (mD 38 s t0.toNatClampNeg) (mD 38 s l9.toNatClampNeg)) = true then (if xin l9 30 = true then (if xn64 (FP.dsub l5 (mD 39 s l9.toNatClampNeg)) = true then (if xn64 (FP.dmul (FP.dsub (mD 38 s t0.toNatClampNeg) (mD 38 s l9.toNatClampNeg)) (FP.dsub l5 (mD 39 s l9.toNatClampNeg))) = true then (if xin l9 30 = true then (if xn64 (FP.dsub l3 (mD 38 s l9.toNatClampNeg)) = true then (if xin t0 30 = true then (if xin l9 30 = true then (if xn64 (FP.dsub (mD 39 s t0.toNatClampNeg) (mD 39 s l9.toNatClampNeg)) = true then (if xn64 (FP.dmul (FP.dsub l3 (mD 38 s l9.toNatClampNeg)) (FP.dsub (mD 39 s t0.toNatClampNeg) (mD 39 s l9.toNatClampNeg))) = true then (if xn64 (FP.dsub (FP.dmul (FP.dsub (mD 38 s t0.toNatClampNeg) (mD 38 s l9.toNatClampNeg)) (FP.dsub l5 (mD 39 s l9.toNatClampNeg))) (FP.dmul (FP.dsub l3 (mD 38 s l9.toNatClampNeg)) (FP.dsub (mD 39 s t0.toNatClampNeg) (mD 39 s l9.toNatClampNeg)))) = true then (if xin l9 30 = true then (if 0 < (Op.cmpValue (FP.dcmp (mD 39 s l9.toNatClampNeg) l5) .g) then f_M_cover_b179 k34 l1 l2 l3 l5 l7 l8 l9 t0 (FP.dsub (FP.dmul (FP.dsub (mD 38 s t0.toNatClampNeg) (mD 38 s l9.toNatClampNeg)) (FP.dsub l5 (mD 39 s l9.toNatClampNeg))) (FP.dmul (FP.dsub l3 (mD 38 s l9.toNatClampNeg)) (FP.dsub (mD 39 s t0.toNatClampNeg) (mD 39 s l9.toNatClampNeg)))) s else (if xin t0 30 = true then (if 0 ≤ (Op.cmpValue (FP.dcmp l5 (mD 39 s t0.toNatClampNeg)) .g) then f_M_cover_b179 k34 l1 l2 l3 l5 l7 l8 l9 t0 (FP.dsub (FP.dmul (FP.dsub (mD 38 s t0.toNatClampNeg) (mD 38 s l9.toNatClampNeg)) (FP.dsub l5 (mD 39 s l9.toNatClampNeg))) (FP.dmul (FP.dsub l3 (mD 38 s l9.toNatClampNeg)) (FP.dsub (mD 39 s t0.toNatClampNeg) (mD 39 s l9.toNatClampNeg)))) s else (if (Op.cmpValue (FP.dcmp (FP.dsub (FP.dmul (FP.dsub (mD 38 s t0.toNatClampNeg) (mD 38 s l9.toNatClampNeg)) (FP.dsub l5 (mD 39 s l9.toNatClampNeg))) (FP.dmul (FP.dsub l3 (mD 38 s l9.toNatClampNeg)) (FP.dsub (mD 39 s t0.toNatClampNeg) (mD 39 s l9.toNatClampNeg)))) FP.dconst0) .l) ≤ 0 then f_M_cover_b179 k34 l1 l2 l3 l5 l7 l8 l9 t0 (FP.dsub (FP.dmul (FP.dsub (mD 38 s t0.toNatClampNeg) (mD 38 s l9.toNatClampNeg)) (FP.dsub l5 (mD 39 s l9.toNatClampNeg))) (FP.dmul (FP.dsub l3 (mD 38 s l9.toNatClampNeg)) (FP.dsub (mD 39 s t0.toNatClampNeg) (mD 39 s l9.toNatClampNeg)))) s else f_M_cover_b179 k34 l1 l2 l3 l5 (l7 + Int32.ofInt 1) l8 l9 t0 (FP.dsub (FP.dmul (FP.dsub (mD 38 s t0.toNatClampNeg) (mD 38 s l9.toNatClampNeg)) (FP.dsub l5 (mD 39 s l9.toNatClampNeg))) (FP.dmul (FP.dsub l3 (mD 38 s l9.toNatClampNeg)) (FP.dsub (mD 39 s t0.toNatClampNeg) (mD 39 s l9.toNatClampNeg)))) s)) else none)) else none) else none) else none) else none) else none) else none) else none) else none) else none) else none) else none) else none) else none) else none)
theorem w_M_cover_b87 {sc : xSc} {d : Nat} {Q : xR → xH → Prop} {R : xH} {sZ : MT} (k34 : Int32 → Int32 → UInt64 → UInt64 → Int32 → Int32 → Int32 → MT → Option MT) (hk34 : ∀ (l1 : Int32) (l2 : Int32) (l3 : UInt64) (l5 : UInt64) (l7 : Int32) (l8 : Int32) (l9 : Int32) (s : MT), k34 l1 l2 l3 l5 l7 l8 l9 s = some sZ → xW sc m_M_cover (d + 0) Q (mH s R) 34 [some (vA 373), some (vI l1), some (vI l2), some (vD l3), none, some (vD l5), none, some (vI l7), some (vI l8), some (vI l9), none, none, none] []) (hQ : Q (.inl none) (mH sZ R)) (l1 : Int32) (l2 : Int32) (l3 : UInt64) (l5 : UInt64) (l7 : Int32) (l8 : Int32) (l9 : Int32) (t0 : Int32) (s : MT) (h : f_M_cover_b87 k34 l1 l2 l3 l5 l7 l8 l9 t0 s = some sZ) : xW sc m_M_cover (d + 0) Q (mH s R) 87 [some (vA 373), some (vI l1), some (vI l2), some (vD l3), none, some (vD l5), none, some (vI l7), some (vI l8), some (vI l9), none, none, none] [vI t0] := by
  unfold f_M_cover_b87 at h
  refine x_istore (pc := 87) d_M_cover_87 (by decide) ?_
  show xW sc m_M_cover (d + 0) Q (mH s R) 89 [some (vA 373), some (vI l1), some (vI l2), some (vD l3), none, some (vD l5), none, some (vI l7), some (vI l8), some (vI l9), some (vI t0), none, none] []
  refine x_aload_n (pc := 89) d_M_cover_89 rfl ?_
  refine x_getf (c := 1) (k := 38) (v := vA 393) (pc := 90) d_M_cover_90 l_M_78 (xm_at s R) rfl ?_
  refine x_iload (pc := 93) d_M_cover_93 rfl ?_
  obtain ⟨c1, h⟩ := ite_some h
  refine x_dald (pc := 95) d_M_cover_95 (xm_a38 s R) (xin_vp c1) ?_
  refine x_aload_n (pc := 96) d_M_cover_96 rfl ?_
  refine x_getf (c := 1) (k := 38) (v := vA 393) (pc := 97) d_M_cover_97 l_M_78 (xm_at s R) rfl ?_
  refine x_iload (pc := 100) d_M_cover_100 rfl ?_
  obtain ⟨c2, h⟩ := ite_some h
  refine x_dald (pc := 102) d_M_cover_102 (xm_a38 s R) (xin_vp c2) ?_
  obtain ⟨c3, h⟩ := ite_some h
  refine x_dsub (pc := 103) d_M_cover_103 (xn64_v c3) ?_
  refine x_dload (pc := 104) d_M_cover_104 rfl ?_
  refine x_aload_n (pc := 106) d_M_cover_106 rfl ?_
  refine x_getf (c := 1) (k := 39) (v := vA 394) (pc := 107) d_M_cover_107 l_M_81 (xm_at s R) rfl ?_
  refine x_iload (pc := 110) d_M_cover_110 rfl ?_
  obtain ⟨c4, h⟩ := ite_some h
  refine x_dald (pc := 112) d_M_cover_112 (xm_a39 s R) (xin_vp c4) ?_
  obtain ⟨c5, h⟩ := ite_some h
  refine x_dsub (pc := 113) d_M_cover_113 (xn64_v c5) ?_
  obtain ⟨c6, h⟩ := ite_some h
  refine x_dmul (pc := 114) d_M_cover_114 (xn64_v c6) ?_
  refine x_dload_n (pc := 115) d_M_cover_115 rfl ?_
  refine x_aload_n (pc := 116) d_M_cover_116 rfl ?_
  refine x_getf (c := 1) (k := 38) (v := vA 393) (pc := 117) d_M_cover_117 l_M_78 (xm_at s R) rfl ?_
  refine x_iload (pc := 120) d_M_cover_120 rfl ?_
  obtain ⟨c7, h⟩ := ite_some h
  refine x_dald (pc := 122) d_M_cover_122 (xm_a38 s R) (xin_vp c7) ?_
  obtain ⟨c8, h⟩ := ite_some h
  refine x_dsub (pc := 123) d_M_cover_123 (xn64_v c8) ?_
  refine x_aload_n (pc := 124) d_M_cover_124 rfl ?_
  refine x_getf (c := 1) (k := 39) (v := vA 394) (pc := 125) d_M_cover_125 l_M_81 (xm_at s R) rfl ?_
  refine x_iload (pc := 128) d_M_cover_128 rfl ?_
  obtain ⟨c9, h⟩ := ite_some h
  refine x_dald (pc := 130) d_M_cover_130 (xm_a39 s R) (xin_vp c9) ?_
  refine x_aload_n (pc := 131) d_M_cover_131 rfl ?_
  refine x_getf (c := 1) (k := 39) (v := vA 394) (pc := 132) d_M_cover_132 l_M_81 (xm_at s R) rfl ?_
  refine x_iload (pc := 135) d_M_cover_135 rfl ?_
  obtain ⟨c10, h⟩ := ite_some h
  refine x_dald (pc := 137) d_M_cover_137 (xm_a39 s R) (xin_vp c10) ?_
  obtain ⟨c11, h⟩ := ite_some h
  refine x_dsub (pc := 138) d_M_cover_138 (xn64_v c11) ?_
  obtain ⟨c12, h⟩ := ite_some h
  refine x_dmul (pc := 139) d_M_cover_139 (xn64_v c12) ?_
  obtain ⟨c13, h⟩ := ite_some h
  refine x_dsub (pc := 140) d_M_cover_140 (xn64_v c13) ?_
  refine x_dstore (pc := 141) d_M_cover_141 (by decide) ?_
  show xW sc m_M_cover (d + 0) Q (mH s R) 143 [some (vA 373), some (vI l1), some (vI l2), some (vD l3), none, some (vD l5), none, some (vI l7), some (vI l8), some (vI l9), some (vI t0), some (vD (FP.dsub (FP.dmul (FP.dsub (mD 38 s t0.toNatClampNeg) (mD 38 s l9.toNatClampNeg)) (FP.dsub l5 (mD 39 s l9.toNatClampNeg))) (FP.dmul (FP.dsub l3 (mD 38 s l9.toNatClampNeg)) (FP.dsub (mD 39 s t0.toNatClampNeg) (mD 39 s l9.toNatClampNeg))))), none] []
  refine x_aload_n (pc := 143) d_M_cover_143 rfl ?_
  refine x_getf (c := 1) (k := 39) (v := vA 394) (pc := 144) d_M_cover_144 l_M_81 (xm_at s R) rfl ?_
  refine x_iload (pc := 147) d_M_cover_147 rfl ?_
  obtain ⟨c14, h⟩ := ite_some h
  refine x_dald (pc := 149) d_M_cover_149 (xm_a39 s R) (xin_vp c14) ?_
  refine x_dload (pc := 150) d_M_cover_150 rfl ?_
  refine x_dcmp (pc := 152) d_M_cover_152 ?_
  refine x_if_gt (tgt := 179) (pc := 153) d_M_cover_153 (by decide) (fun c15 => ?_) (fun c15 => ?_)
  · rw [if_pos c15] at h
    exact w_M_cover_b179 k34 hk34 hQ l1 l2 l3 l5 l7 l8 l9 t0 (FP.dsub (FP.dmul (FP.dsub (mD 38 s t0.toNatClampNeg) (mD 38 s l9.toNatClampNeg)) (FP.dsub l5 (mD 39 s l9.toNatClampNeg))) (FP.dmul (FP.dsub l3 (mD 38 s l9.toNatClampNeg)) (FP.dsub (mD 39 s t0.toNatClampNeg) (mD 39 s l9.toNatClampNeg)))) s h
  · rw [if_neg c15] at h
    refine x_dload (pc := 156) d_M_cover_156 rfl ?_
    refine x_aload_n (pc := 158) d_M_cover_158 rfl ?_
    refine x_getf (c := 1) (k := 39) (v := vA 394) (pc := 159) d_M_cover_159 l_M_81 (xm_at s R) rfl ?_
    refine x_iload (pc := 162) d_M_cover_162 rfl ?_
    obtain ⟨c16, h⟩ := ite_some h
    refine x_dald (pc := 164) d_M_cover_164 (xm_a39 s R) (xin_vp c16) ?_
    refine x_dcmp (pc := 165) d_M_cover_165 ?_
    refine x_if_ge (tgt := 179) (pc := 166) d_M_cover_166 (by decide) (fun c17 => ?_) (fun c17 => ?_)
    · rw [if_pos c17] at h
      exact w_M_cover_b179 k34 hk34 hQ l1 l2 l3 l5 l7 l8 l9 t0 (FP.dsub (FP.dmul (FP.dsub (mD 38 s t0.toNatClampNeg) (mD 38 s l9.toNatClampNeg)) (FP.dsub l5 (mD 39 s l9.toNatClampNeg))) (FP.dmul (FP.dsub l3 (mD 38 s l9.toNatClampNeg)) (FP.dsub (mD 39 s t0.toNatClampNeg) (mD 39 s l9.toNatClampNeg)))) s h
    · rw [if_neg c17] at h
      refine x_dload (pc := 169) d_M_cover_169 rfl ?_
      refine x_dconst0 (pc := 171) d_M_cover_171 ?_
      refine x_dcmp (pc := 172) d_M_cover_172 ?_
      refine x_if_le (tgt := 179) (pc := 173) d_M_cover_173 (by decide) (fun c18 => ?_) (fun c18 => ?_)
      · rw [if_pos c18] at h
        exact w_M_cover_b179 k34 hk34 hQ l1 l2 l3 l5 l7 l8 l9 t0 (FP.dsub (FP.dmul (FP.dsub (mD 38 s t0.toNatClampNeg) (mD 38 s l9.toNatClampNeg)) (FP.dsub l5 (mD 39 s l9.toNatClampNeg))) (FP.dmul (FP.dsub l3 (mD 38 s l9.toNatClampNeg)) (FP.dsub (mD 39 s t0.toNatClampNeg) (mD 39 s l9.toNatClampNeg)))) s h
      · rw [if_neg c18] at h
        refine x_iinc (pc := 176) d_M_cover_176 rfl (by decide) ?_
        show xW sc m_M_cover (d + 0) Q (mH s R) 179 [some (vA 373), some (vI l1), some (vI l2), some (vD l3), none, some (vD l5), none, some (vI (l7 + Int32.ofInt 1)), some (vI l8), some (vI l9), some (vI t0), some (vD (FP.dsub (FP.dmul (FP.dsub (mD 38 s t0.toNatClampNeg) (mD 38 s l9.toNatClampNeg)) (FP.dsub l5 (mD 39 s l9.toNatClampNeg))) (FP.dmul (FP.dsub l3 (mD 38 s l9.toNatClampNeg)) (FP.dsub (mD 39 s t0.toNatClampNeg) (mD 39 s l9.toNatClampNeg))))), none] []
        exact w_M_cover_b179 k34 hk34 hQ l1 l2 l3 l5 (l7 + Int32.ofInt 1) l8 l9 t0 (FP.dsub (FP.dmul (FP.dsub (mD 38 s t0.toNatClampNeg) (mD 38 s l9.toNatClampNeg)) (FP.dsub l5 (mD 39 s l9.toNatClampNeg))) (FP.dmul (FP.dsub l3 (mD 38 s l9.toNatClampNeg)) (FP.dsub (mD 39 s t0.toNatClampNeg) (mD 39 s l9.toNatClampNeg)))) s h
def f_M_cover_b80 (k34 : Int32 → Int32 → UInt64 → UInt64 → Int32 → Int32 → Int32 → MT → Option MT) (l1 : Int32) (l2 : Int32) (l3 : UInt64) (l5 : UInt64) (l7 : Int32) (l8 : Int32) (l9 : Int32) (s : MT) : Option MT := (if xin l9 30 = true then f_M_cover_b87 k34 l1 l2 l3 l5 l7 l8 l9 (mA 40 s l9.toNatClampNeg) s else none)
theorem w_M_cover_b80 {sc : xSc} {d : Nat} {Q : xR → xH → Prop} {R : xH} {sZ : MT} (k34 : Int32 → Int32 → UInt64 → UInt64 → Int32 → Int32 → Int32 → MT → Option MT) (hk34 : ∀ (l1 : Int32) (l2 : Int32) (l3 : UInt64) (l5 : UInt64) (l7 : Int32) (l8 : Int32) (l9 : Int32) (s : MT), k34 l1 l2 l3 l5 l7 l8 l9 s = some sZ → xW sc m_M_cover (d + 0) Q (mH s R) 34 [some (vA 373), some (vI l1), some (vI l2), some (vD l3), none, some (vD l5), none, some (vI l7), some (vI l8), some (vI l9), none, none, none] []) (hQ : Q (.inl none) (mH sZ R)) (l1 : Int32) (l2 : Int32) (l3 : UInt64) (l5 : UInt64) (l7 : Int32) (l8 : Int32) (l9 : Int32) (s : MT) (h : f_M_cover_b80 k34 l1 l2 l3 l5 l7 l8 l9 s = some sZ) : xW sc m_M_cover (d + 0) Q (mH s R) 80 [some (vA 373), some (vI l1), some (vI l2), some (vD l3), none, some (vD l5), none, some (vI l7), some (vI l8), some (vI l9), none, none, none] [] := by
  unfold f_M_cover_b80 at h
  refine x_aload_n (pc := 80) d_M_cover_80 rfl ?_
  refine x_getf (c := 1) (k := 40) (v := vA 395) (pc := 81) d_M_cover_81 l_M_84 (xm_at s R) rfl ?_
  refine x_iload (pc := 84) d_M_cover_84 rfl ?_
  obtain ⟨c1, h⟩ := ite_some h
  refine x_iald (pc := 86) d_M_cover_86 (xm_a40 s R) (xin_vp c1) ?_
  exact w_M_cover_b87 k34 hk34 hQ l1 l2 l3 l5 l7 l8 l9 (mA 40 s l9.toNatClampNeg) s h
def f_M_cover_b34  : Nat → Int32 → Int32 → UInt64 → UInt64 → Int32 → Int32 → Int32 → MT → Option MT
  | 0, _, _, _, _, _, _, _, _ => none
  | n + 1, l1, l2, l3, l5, l7, l8, l9, s => (if (mI 41 s) ≤ l9 then (if l2 = 0 then (if l7 = l8 then f_M_cover_b256 l1 (0 : Int32) s else f_M_cover_b256 l1 (1 : Int32) s) else (if (2 : Int32) = 0 then none else (if ((l7 + l8) - (l7 + l8) / (2 : Int32) * (2 : Int32)) = (1 : Int32) then f_M_cover_b256 l1 (1 : Int32) s else f_M_cover_b256 l1 (0 : Int32) s))) else (if (mI 41 s) ≤ (l9 + (1 : Int32)) then f_M_cover_b80 (f_M_cover_b34 n) l1 l2 l3 l5 l7 l8 l9 s else (if xin (l9 + (1 : Int32)) 30 = true then (if xin l9 30 = true then (if (mA 40 s (l9 + (1 : Int32)).toNatClampNeg) = (mA 40 s l9.toNatClampNeg) then f_M_cover_b87 (f_M_cover_b34 n) l1 l2 l3 l5 l7 l8 l9 (l9 + (1 : Int32)) s else f_M_cover_b80 (f_M_cover_b34 n) l1 l2 l3 l5 l7 l8 l9 s) else none) else none)))
theorem w_M_cover_b34 {sc : xSc} {d : Nat} {Q : xR → xH → Prop} {R : xH} {sZ : MT}  (hQ : Q (.inl none) (mH sZ R)) : ∀ (n : Nat) (l1 : Int32) (l2 : Int32) (l3 : UInt64) (l5 : UInt64) (l7 : Int32) (l8 : Int32) (l9 : Int32) (s : MT), f_M_cover_b34  n l1 l2 l3 l5 l7 l8 l9 s = some sZ → xW sc m_M_cover (d + 0) Q (mH s R) 34 [some (vA 373), some (vI l1), some (vI l2), some (vD l3), none, some (vD l5), none, some (vI l7), some (vI l8), some (vI l9), none, none, none] [] := by
  intro n
  induction n with
  | zero =>
    intro l1 l2 l3 l5 l7 l8 l9 s h
    cases h
  | succ n hk34 =>
    intro l1 l2 l3 l5 l7 l8 l9 s h
    unfold f_M_cover_b34 at h
    refine x_iload (pc := 34) d_M_cover_34 rfl ?_
    refine x_aload_n (pc := 36) d_M_cover_36 rfl ?_
    refine x_getf (c := 1) (k := 41) (v := vI (mI 41 s)) (pc := 37) d_M_cover_37 l_M_547 (xm_at s R) rfl ?_
    refine x_icmp_ge (tgt := 221) (pc := 40) d_M_cover_40 (by decide) (fun c1 => ?_) (fun c1 => ?_)
    · rw [if_pos c1] at h
      refine x_iload_n (pc := 221) d_M_cover_221 rfl ?_
      refine x_if_eq (tgt := 244) (pc := 222) d_M_cover_222 (by decide) (fun c2 => ?_) (fun c2 => ?_)
      · rw [if_pos c2] at h
        refine x_iload (pc := 244) d_M_cover_244 rfl ?_
        refine x_iload (pc := 246) d_M_cover_246 rfl ?_
        refine x_icmp_eq (tgt := 255) (pc := 248) d_M_cover_248 (by decide) (fun c3 => ?_) (fun c3 => ?_)
        · rw [if_pos c3] at h
          refine x_iconst (v := (0 : Int32)) (pc := 255) d_M_cover_255 (by decide) ?_
          exact x_wk (L' := [some (vA 373), some (vI l1), none, none, none, none, none, none, none, none, none, none, none]) ⟨Or.inr rfl, Or.inr rfl, Or.inl rfl, Or.inl rfl, Or.inl rfl, Or.inl rfl, Or.inl rfl, Or.inl rfl, Or.inl rfl, Or.inl rfl, Or.inl rfl, Or.inl rfl, Or.inl rfl, trivial⟩ (w_M_cover_b256 hQ l1 (0 : Int32) s h)
        · rw [if_neg c3] at h
          refine x_iconst (v := (1 : Int32)) (pc := 251) d_M_cover_251 (by decide) ?_
          refine x_goto (tgt := 256) (pc := 252) d_M_cover_252 (by decide) ?_
          exact x_wk (L' := [some (vA 373), some (vI l1), none, none, none, none, none, none, none, none, none, none, none]) ⟨Or.inr rfl, Or.inr rfl, Or.inl rfl, Or.inl rfl, Or.inl rfl, Or.inl rfl, Or.inl rfl, Or.inl rfl, Or.inl rfl, Or.inl rfl, Or.inl rfl, Or.inl rfl, Or.inl rfl, trivial⟩ (w_M_cover_b256 hQ l1 (1 : Int32) s h)
      · rw [if_neg c2] at h
        refine x_iload (pc := 225) d_M_cover_225 rfl ?_
        refine x_iload (pc := 227) d_M_cover_227 rfl ?_
        refine x_iadd (pc := 229) d_M_cover_229 ?_
        refine x_iconst (v := (2 : Int32)) (pc := 230) d_M_cover_230 (by decide) ?_
        obtain ⟨c4, h⟩ := itn_some h
        refine x_irem (pc := 231) d_M_cover_231 (c4) ?_
        refine x_iconst (v := (1 : Int32)) (pc := 232) d_M_cover_232 (by decide) ?_
        refine x_icmp_ne (tgt := 240) (pc := 233) d_M_cover_233 (by decide) (fun c5 => ?_) (fun c5 => ?_)
        · rw [if_neg c5] at h
          refine x_iconst (v := (0 : Int32)) (pc := 240) d_M_cover_240 (by decide) ?_
          refine x_goto (tgt := 256) (pc := 241) d_M_cover_241 (by decide) ?_
          exact x_wk (L' := [some (vA 373), some (vI l1), none, none, none, none, none, none, none, none, none, none, none]) ⟨Or.inr rfl, Or.inr rfl, Or.inl rfl, Or.inl rfl, Or.inl rfl, Or.inl rfl, Or.inl rfl, Or.inl rfl, Or.inl rfl, Or.inl rfl, Or.inl rfl, Or.inl rfl, Or.inl rfl, trivial⟩ (w_M_cover_b256 hQ l1 (0 : Int32) s h)
        · rw [if_pos c5] at h
          refine x_iconst (v := (1 : Int32)) (pc := 236) d_M_cover_236 (by decide) ?_
          refine x_goto (tgt := 256) (pc := 237) d_M_cover_237 (by decide) ?_
          exact x_wk (L' := [some (vA 373), some (vI l1), none, none, none, none, none, none, none, none, none, none, none]) ⟨Or.inr rfl, Or.inr rfl, Or.inl rfl, Or.inl rfl, Or.inl rfl, Or.inl rfl, Or.inl rfl, Or.inl rfl, Or.inl rfl, Or.inl rfl, Or.inl rfl, Or.inl rfl, Or.inl rfl, trivial⟩ (w_M_cover_b256 hQ l1 (1 : Int32) s h)
    · rw [if_neg c1] at h
      refine x_iload (pc := 43) d_M_cover_43 rfl ?_
      refine x_iconst (v := (1 : Int32)) (pc := 45) d_M_cover_45 (by decide) ?_
      refine x_iadd (pc := 46) d_M_cover_46 ?_
      refine x_aload_n (pc := 47) d_M_cover_47 rfl ?_
      refine x_getf (c := 1) (k := 41) (v := vI (mI 41 s)) (pc := 48) d_M_cover_48 l_M_547 (xm_at s R) rfl ?_
      refine x_icmp_ge (tgt := 80) (pc := 51) d_M_cover_51 (by decide) (fun c6 => ?_) (fun c6 => ?_)
      · rw [if_pos c6] at h
        exact w_M_cover_b80 (f_M_cover_b34 n) hk34 hQ l1 l2 l3 l5 l7 l8 l9 s h
      · rw [if_neg c6] at h
        refine x_aload_n (pc := 54) d_M_cover_54 rfl ?_
        refine x_getf (c := 1) (k := 40) (v := vA 395) (pc := 55) d_M_cover_55 l_M_84 (xm_at s R) rfl ?_
        refine x_iload (pc := 58) d_M_cover_58 rfl ?_
        refine x_iconst (v := (1 : Int32)) (pc := 60) d_M_cover_60 (by decide) ?_
        refine x_iadd (pc := 61) d_M_cover_61 ?_
        obtain ⟨c7, h⟩ := ite_some h
        refine x_iald (pc := 62) d_M_cover_62 (xm_a40 s R) (xin_vp c7) ?_
        refine x_aload_n (pc := 63) d_M_cover_63 rfl ?_
        refine x_getf (c := 1) (k := 40) (v := vA 395) (pc := 64) d_M_cover_64 l_M_84 (xm_at s R) rfl ?_
        refine x_iload (pc := 67) d_M_cover_67 rfl ?_
        obtain ⟨c8, h⟩ := ite_some h
        refine x_iald (pc := 69) d_M_cover_69 (xm_a40 s R) (xin_vp c8) ?_
        refine x_icmp_ne (tgt := 80) (pc := 70) d_M_cover_70 (by decide) (fun c9 => ?_) (fun c9 => ?_)
        · rw [if_neg c9] at h
          exact w_M_cover_b80 (f_M_cover_b34 n) hk34 hQ l1 l2 l3 l5 l7 l8 l9 s h
        · rw [if_pos c9] at h
          refine x_iload (pc := 73) d_M_cover_73 rfl ?_
          refine x_iconst (v := (1 : Int32)) (pc := 75) d_M_cover_75 (by decide) ?_
          refine x_iadd (pc := 76) d_M_cover_76 ?_
          refine x_goto (tgt := 87) (pc := 77) d_M_cover_77 (by decide) ?_
          exact w_M_cover_b87 (f_M_cover_b34 n) hk34 hQ l1 l2 l3 l5 l7 l8 l9 (l9 + (1 : Int32)) s h
def f_M_cover (s : MT) (a1 : Int32) (a2 : Int32) : Option MT := (if (mI 34 s) = 0 then none else (if xn64 (FP.dadd (FP.i2d (a1 - a1 / (mI 34 s) * (mI 34 s))) (4602678819172646912 : UInt64)) = true then (if (mI 34 s) = 0 then none else (if xn64 (FP.dadd (FP.i2d (a1 / (mI 34 s))) (4602678819172646912 : UInt64)) = true then f_M_cover_b34 mF a1 a2 (FP.dadd (FP.i2d (a1 - a1 / (mI 34 s) * (mI 34 s))) (4602678819172646912 : UInt64)) (FP.dadd (FP.i2d (a1 / (mI 34 s))) (4602678819172646912 : UInt64)) (0 : Int32) (0 : Int32) (0 : Int32) s else none)) else none))
theorem w_M_cover {sc : xSc} {d : Nat} {Q : xR → xH → Prop} {R : xH} {sZ : MT} (hQ : Q (.inl none) (mH sZ R)) (s : MT) (a1 : Int32) (a2 : Int32) (h : f_M_cover s a1 a2 = some sZ) : xW sc m_M_cover (d + 0) Q (mH s R) 0 (xent [vA 373, vI a1, vI a2] m_M_cover.2.2.1) [] := by
  show xW sc m_M_cover (d + 0) Q (mH s R) 0 [some (vA 373), some (vI a1), some (vI a2), none, none, none, none, none, none, none, none, none, none] []
  unfold f_M_cover at h
  refine x_iload_n (pc := 0) d_M_cover_0 rfl ?_
  refine x_aload_n (pc := 1) d_M_cover_1 rfl ?_
  refine x_getf (c := 1) (k := 34) (v := vI (mI 34 s)) (pc := 2) d_M_cover_2 l_M_236 (xm_at s R) rfl ?_
  obtain ⟨c1, h⟩ := itn_some h
  refine x_irem (pc := 5) d_M_cover_5 (c1) ?_
  refine x_i2d (pc := 6) d_M_cover_6 ?_
  refine x_ldc2d (v := (4602678819172646912 : UInt64)) (pc := 7) d_M_cover_7 c_M_484 ?_
  obtain ⟨c2, h⟩ := ite_some h
  refine x_dadd (pc := 10) d_M_cover_10 (xn64_v c2) ?_
  refine x_dstore_n (pc := 11) d_M_cover_11 (by decide) ?_
  show xW sc m_M_cover (d + 0) Q (mH s R) 12 [some (vA 373), some (vI a1), some (vI a2), some (vD (FP.dadd (FP.i2d (a1 - a1 / (mI 34 s) * (mI 34 s))) (4602678819172646912 : UInt64))), none, none, none, none, none, none, none, none, none] []
  refine x_iload_n (pc := 12) d_M_cover_12 rfl ?_
  refine x_aload_n (pc := 13) d_M_cover_13 rfl ?_
  refine x_getf (c := 1) (k := 34) (v := vI (mI 34 s)) (pc := 14) d_M_cover_14 l_M_236 (xm_at s R) rfl ?_
  obtain ⟨c3, h⟩ := itn_some h
  refine x_idiv (pc := 17) d_M_cover_17 (c3) ?_
  refine x_i2d (pc := 18) d_M_cover_18 ?_
  refine x_ldc2d (v := (4602678819172646912 : UInt64)) (pc := 19) d_M_cover_19 c_M_484 ?_
  obtain ⟨c4, h⟩ := ite_some h
  refine x_dadd (pc := 22) d_M_cover_22 (xn64_v c4) ?_
  refine x_dstore (pc := 23) d_M_cover_23 (by decide) ?_
  show xW sc m_M_cover (d + 0) Q (mH s R) 25 [some (vA 373), some (vI a1), some (vI a2), some (vD (FP.dadd (FP.i2d (a1 - a1 / (mI 34 s) * (mI 34 s))) (4602678819172646912 : UInt64))), none, some (vD (FP.dadd (FP.i2d (a1 / (mI 34 s))) (4602678819172646912 : UInt64))), none, none, none, none, none, none, none] []
  refine x_iconst (v := (0 : Int32)) (pc := 25) d_M_cover_25 (by decide) ?_
  refine x_istore (pc := 26) d_M_cover_26 (by decide) ?_
  show xW sc m_M_cover (d + 0) Q (mH s R) 28 [some (vA 373), some (vI a1), some (vI a2), some (vD (FP.dadd (FP.i2d (a1 - a1 / (mI 34 s) * (mI 34 s))) (4602678819172646912 : UInt64))), none, some (vD (FP.dadd (FP.i2d (a1 / (mI 34 s))) (4602678819172646912 : UInt64))), none, some (vI (0 : Int32)), none, none, none, none, none] []
  refine x_iconst (v := (0 : Int32)) (pc := 28) d_M_cover_28 (by decide) ?_
  refine x_istore (pc := 29) d_M_cover_29 (by decide) ?_
  show xW sc m_M_cover (d + 0) Q (mH s R) 31 [some (vA 373), some (vI a1), some (vI a2), some (vD (FP.dadd (FP.i2d (a1 - a1 / (mI 34 s) * (mI 34 s))) (4602678819172646912 : UInt64))), none, some (vD (FP.dadd (FP.i2d (a1 / (mI 34 s))) (4602678819172646912 : UInt64))), none, some (vI (0 : Int32)), some (vI (0 : Int32)), none, none, none, none] []
  refine x_iconst (v := (0 : Int32)) (pc := 31) d_M_cover_31 (by decide) ?_
  refine x_istore (pc := 32) d_M_cover_32 (by decide) ?_
  show xW sc m_M_cover (d + 0) Q (mH s R) 34 [some (vA 373), some (vI a1), some (vI a2), some (vD (FP.dadd (FP.i2d (a1 - a1 / (mI 34 s) * (mI 34 s))) (4602678819172646912 : UInt64))), none, some (vD (FP.dadd (FP.i2d (a1 / (mI 34 s))) (4602678819172646912 : UInt64))), none, some (vI (0 : Int32)), some (vI (0 : Int32)), some (vI (0 : Int32)), none, none, none] []
  exact w_M_cover_b34 hQ mF a1 a2 (FP.dadd (FP.i2d (a1 - a1 / (mI 34 s) * (mI 34 s))) (4602678819172646912 : UInt64)) (FP.dadd (FP.i2d (a1 / (mI 34 s))) (4602678819172646912 : UInt64)) (0 : Int32) (0 : Int32) (0 : Int32) s h
def f_M_depth (s : MT) : Option (Int32 × MT) := some (mI 4 (sI 0 (0 : Int32) s), sI 0 (0 : Int32) s)
theorem w_M_depth {sc : xSc} {d : Nat} {Q : xR → xH → Prop} {R : xH} {sZ : MT} {rZ : Int32} (hQ : Q (.inl (some (vI rZ))) (mH sZ R)) (s : MT) (h : f_M_depth s = some (rZ, sZ)) : xW sc m_M_depth (d + 0) Q (mH s R) 0 (xent [vA 373] m_M_depth.2.2.1) [] := by
  show xW sc m_M_depth (d + 0) Q (mH s R) 0 [some (vA 373)] []
  unfold f_M_depth at h
  refine x_aload_n (pc := 0) d_M_depth_0 rfl ?_
  refine x_iconst (v := (0 : Int32)) (pc := 1) d_M_depth_1 (by decide) ?_
  refine xm_p0 (pc := 2) d_M_depth_2 l_M_242 ?_
  refine x_aload_n (pc := 5) d_M_depth_5 rfl ?_
  refine x_getf (c := 1) (k := 4) (v := vI (mI 4 (sI 0 (0 : Int32) s))) (pc := 6) d_M_depth_6 l_M_247 (xm_at (sI 0 (0 : Int32) s) R) rfl ?_
  cases h
  exact x_iret (ty := .int) (pc := 9) d_M_depth_9 rfl (rfl) hQ
def f_M_fault (s : MT) : Option (Int32 × MT) := some (mI 33 (sI 0 (0 : Int32) s), sI 0 (0 : Int32) s)
theorem w_M_fault {sc : xSc} {d : Nat} {Q : xR → xH → Prop} {R : xH} {sZ : MT} {rZ : Int32} (hQ : Q (.inl (some (vI rZ))) (mH sZ R)) (s : MT) (h : f_M_fault s = some (rZ, sZ)) : xW sc m_M_fault (d + 0) Q (mH s R) 0 (xent [vA 373] m_M_fault.2.2.1) [] := by
  show xW sc m_M_fault (d + 0) Q (mH s R) 0 [some (vA 373)] []
  unfold f_M_fault at h
  refine x_aload_n (pc := 0) d_M_fault_0 rfl ?_
  refine x_iconst (v := (0 : Int32)) (pc := 1) d_M_fault_1 (by decide) ?_
  refine xm_p0 (pc := 2) d_M_fault_2 l_M_242 ?_
  refine x_aload_n (pc := 5) d_M_fault_5 rfl ?_
  refine x_getf (c := 1) (k := 33) (v := vI (mI 33 (sI 0 (0 : Int32) s))) (pc := 6) d_M_fault_6 l_M_402 (xm_at (sI 0 (0 : Int32) s) R) rfl ?_
  cases h
  exact x_iret (ty := .int) (pc := 9) d_M_fault_9 rfl (rfl) hQ
def f_M_first (a1 : Int64) : Option Int32 := some ((a1 &&& (1023 : Int64)).toInt32)
theorem w_M_first {sc : xSc} {d : Nat} {Q : xR → xH → Prop} {hh : xH} {rZ : Int32} (hQ : Q (.inl (some (vI rZ))) hh) (a1 : Int64) (h : f_M_first a1 = some rZ) : xW sc m_M_first (d + 0) Q (hh) 0 (xent [vL a1] m_M_first.2.2.1) [] := by
  show xW sc m_M_first (d + 0) Q (hh) 0 [some (vL a1), none] []
  unfold f_M_first at h
  refine x_lload_n (pc := 0) d_M_first_0 rfl ?_
  refine x_ldc2 (v := (1023 : Int64)) (pc := 1) d_M_first_1 c_M_245 ?_
  refine x_land (pc := 4) d_M_first_4 ?_
  refine x_l2i (pc := 5) d_M_first_5 ?_
  cases h
  exact x_iret (ty := .int) (pc := 6) d_M_first_6 rfl (rfl) hQ
def f_M_frame_b55  (t0 : Int32) (t1 : Int32) (s : MT) : Option MT := some (sI 16 (t1 + t0) s)
theorem w_M_frame_b55 {sc : xSc} {d : Nat} {Q : xR → xH → Prop} {R : xH} {sZ : MT}  (hQ : Q (.inl none) (mH sZ R)) (t0 : Int32) (t1 : Int32) (s : MT) (h : f_M_frame_b55  t0 t1 s = some sZ) : xW sc m_M_frame (d + 0) Q (mH s R) 55 [none, none, none, none] [vI t0, vI t1, vA 373] := by
  unfold f_M_frame_b55 at h
  refine x_iadd (pc := 55) d_M_frame_55 ?_
  refine xm_p16 (pc := 56) d_M_frame_56 l_M_349 ?_
  cases h
  exact x_vret (pc := 59) d_M_frame_59 rfl hQ
def f_M_frame (s : MT) (a1 : Int32) (a2 : Int64) : Option MT := (if xin (mI 15 s) 560 = true then (if xin (mI 15 (sA 17 (va_up (mA 17 s) (mI 15 s).toNatClampNeg a1) s)) 560 = true then (if xin (mI 15 (sL 18 (va_up (mL 18 (sA 17 (va_up (mA 17 s) (mI 15 s).toNatClampNeg a1) s)) (mI 15 (sA 17 (va_up (mA 17 s) (mI 15 s).toNatClampNeg a1) s)).toNatClampNeg a2) (sA 17 (va_up (mA 17 s) (mI 15 s).toNatClampNeg a1) s))) 560 = true then (if (2 : Int32) < a1 then f_M_frame_b55 (0 : Int32) (mI 16 (sI 15 ((mI 15 (sA 19 (va_up (mA 19 (sL 18 (va_up (mL 18 (sA 17 (va_up (mA 17 s) (mI 15 s).toNatClampNeg a1) s)) (mI 15 (sA 17 (va_up (mA 17 s) (mI 15 s).toNatClampNeg a1) s)).toNatClampNeg a2) (sA 17 (va_up (mA 17 s) (mI 15 s).toNatClampNeg a1) s))) (mI 15 (sL 18 (va_up (mL 18 (sA 17 (va_up (mA 17 s) (mI 15 s).toNatClampNeg a1) s)) (mI 15 (sA 17 (va_up (mA 17 s) (mI 15 s).toNatClampNeg a1) s)).toNatClampNeg a2) (sA 17 (va_up (mA 17 s) (mI 15 s).toNatClampNeg a1) s))).toNatClampNeg (0 : Int32)) (sL 18 (va_up (mL 18 (sA 17 (va_up (mA 17 s) (mI 15 s).toNatClampNeg a1) s)) (mI 15 (sA 17 (va_up (mA 17 s) (mI 15 s).toNatClampNeg a1) s)).toNatClampNeg a2) (sA 17 (va_up (mA 17 s) (mI 15 s).toNatClampNeg a1) s)))) + (1 : Int32)) (sA 19 (va_up (mA 19 (sL 18 (va_up (mL 18 (sA 17 (va_up (mA 17 s) (mI 15 s).toNatClampNeg a1) s)) (mI 15 (sA 17 (va_up (mA 17 s) (mI 15 s).toNatClampNeg a1) s)).toNatClampNeg a2) (sA 17 (va_up (mA 17 s) (mI 15 s).toNatClampNeg a1) s))) (mI 15 (sL 18 (va_up (mL 18 (sA 17 (va_up (mA 17 s) (mI 15 s).toNatClampNeg a1) s)) (mI 15 (sA 17 (va_up (mA 17 s) (mI 15 s).toNatClampNeg a1) s)).toNatClampNeg a2) (sA 17 (va_up (mA 17 s) (mI 15 s).toNatClampNeg a1) s))).toNatClampNeg (0 : Int32)) (sL 18 (va_up (mL 18 (sA 17 (va_up (mA 17 s) (mI 15 s).toNatClampNeg a1) s)) (mI 15 (sA 17 (va_up (mA 17 s) (mI 15 s).toNatClampNeg a1) s)).toNatClampNeg a2) (sA 17 (va_up (mA 17 s) (mI 15 s).toNatClampNeg a1) s))))) (sI 15 ((mI 15 (sA 19 (va_up (mA 19 (sL 18 (va_up (mL 18 (sA 17 (va_up (mA 17 s) (mI 15 s).toNatClampNeg a1) s)) (mI 15 (sA 17 (va_up (mA 17 s) (mI 15 s).toNatClampNeg a1) s)).toNatClampNeg a2) (sA 17 (va_up (mA 17 s) (mI 15 s).toNatClampNeg a1) s))) (mI 15 (sL 18 (va_up (mL 18 (sA 17 (va_up (mA 17 s) (mI 15 s).toNatClampNeg a1) s)) (mI 15 (sA 17 (va_up (mA 17 s) (mI 15 s).toNatClampNeg a1) s)).toNatClampNeg a2) (sA 17 (va_up (mA 17 s) (mI 15 s).toNatClampNeg a1) s))).toNatClampNeg (0 : Int32)) (sL 18 (va_up (mL 18 (sA 17 (va_up (mA 17 s) (mI 15 s).toNatClampNeg a1) s)) (mI 15 (sA 17 (va_up (mA 17 s) (mI 15 s).toNatClampNeg a1) s)).toNatClampNeg a2) (sA 17 (va_up (mA 17 s) (mI 15 s).toNatClampNeg a1) s)))) + (1 : Int32)) (sA 19 (va_up (mA 19 (sL 18 (va_up (mL 18 (sA 17 (va_up (mA 17 s) (mI 15 s).toNatClampNeg a1) s)) (mI 15 (sA 17 (va_up (mA 17 s) (mI 15 s).toNatClampNeg a1) s)).toNatClampNeg a2) (sA 17 (va_up (mA 17 s) (mI 15 s).toNatClampNeg a1) s))) (mI 15 (sL 18 (va_up (mL 18 (sA 17 (va_up (mA 17 s) (mI 15 s).toNatClampNeg a1) s)) (mI 15 (sA 17 (va_up (mA 17 s) (mI 15 s).toNatClampNeg a1) s)).toNatClampNeg a2) (sA 17 (va_up (mA 17 s) (mI 15 s).toNatClampNeg a1) s))).toNatClampNeg (0 : Int32)) (sL 18 (va_up (mL 18 (sA 17 (va_up (mA 17 s) (mI 15 s).toNatClampNeg a1) s)) (mI 15 (sA 17 (va_up (mA 17 s) (mI 15 s).toNatClampNeg a1) s)).toNatClampNeg a2) (sA 17 (va_up (mA 17 s) (mI 15 s).toNatClampNeg a1) s)))) else f_M_frame_b55 (1 : Int32) (mI 16 (sI 15 ((mI 15 (sA 19 (va_up (mA 19 (sL 18 (va_up (mL 18 (sA 17 (va_up (mA 17 s) (mI 15 s).toNatClampNeg a1) s)) (mI 15 (sA 17 (va_up (mA 17 s) (mI 15 s).toNatClampNeg a1) s)).toNatClampNeg a2) (sA 17 (va_up (mA 17 s) (mI 15 s).toNatClampNeg a1) s))) (mI 15 (sL 18 (va_up (mL 18 (sA 17 (va_up (mA 17 s) (mI 15 s).toNatClampNeg a1) s)) (mI 15 (sA 17 (va_up (mA 17 s) (mI 15 s).toNatClampNeg a1) s)).toNatClampNeg a2) (sA 17 (va_up (mA 17 s) (mI 15 s).toNatClampNeg a1) s))).toNatClampNeg (0 : Int32)) (sL 18 (va_up (mL 18 (sA 17 (va_up (mA 17 s) (mI 15 s).toNatClampNeg a1) s)) (mI 15 (sA 17 (va_up (mA 17 s) (mI 15 s).toNatClampNeg a1) s)).toNatClampNeg a2) (sA 17 (va_up (mA 17 s) (mI 15 s).toNatClampNeg a1) s)))) + (1 : Int32)) (sA 19 (va_up (mA 19 (sL 18 (va_up (mL 18 (sA 17 (va_up (mA 17 s) (mI 15 s).toNatClampNeg a1) s)) (mI 15 (sA 17 (va_up (mA 17 s) (mI 15 s).toNatClampNeg a1) s)).toNatClampNeg a2) (sA 17 (va_up (mA 17 s) (mI 15 s).toNatClampNeg a1) s))) (mI 15 (sL 18 (va_up (mL 18 (sA 17 (va_up (mA 17 s) (mI 15 s).toNatClampNeg a1) s)) (mI 15 (sA 17 (va_up (mA 17 s) (mI 15 s).toNatClampNeg a1) s)).toNatClampNeg a2) (sA 17 (va_up (mA 17 s) (mI 15 s).toNatClampNeg a1) s))).toNatClampNeg (0 : Int32)) (sL 18 (va_up (mL 18 (sA 17 (va_up (mA 17 s) (mI 15 s).toNatClampNeg a1) s)) (mI 15 (sA 17 (va_up (mA 17 s) (mI 15 s).toNatClampNeg a1) s)).toNatClampNeg a2) (sA 17 (va_up (mA 17 s) (mI 15 s).toNatClampNeg a1) s))))) (sI 15 ((mI 15 (sA 19 (va_up (mA 19 (sL 18 (va_up (mL 18 (sA 17 (va_up (mA 17 s) (mI 15 s).toNatClampNeg a1) s)) (mI 15 (sA 17 (va_up (mA 17 s) (mI 15 s).toNatClampNeg a1) s)).toNatClampNeg a2) (sA 17 (va_up (mA 17 s) (mI 15 s).toNatClampNeg a1) s))) (mI 15 (sL 18 (va_up (mL 18 (sA 17 (va_up (mA 17 s) (mI 15 s).toNatClampNeg a1) s)) (mI 15 (sA 17 (va_up (mA 17 s) (mI 15 s).toNatClampNeg a1) s)).toNatClampNeg a2) (sA 17 (va_up (mA 17 s) (mI 15 s).toNatClampNeg a1) s))).toNatClampNeg (0 : Int32)) (sL 18 (va_up (mL 18 (sA 17 (va_up (mA 17 s) (mI 15 s).toNatClampNeg a1) s)) (mI 15 (sA 17 (va_up (mA 17 s) (mI 15 s).toNatClampNeg a1) s)).toNatClampNeg a2) (sA 17 (va_up (mA 17 s) (mI 15 s).toNatClampNeg a1) s)))) + (1 : Int32)) (sA 19 (va_up (mA 19 (sL 18 (va_up (mL 18 (sA 17 (va_up (mA 17 s) (mI 15 s).toNatClampNeg a1) s)) (mI 15 (sA 17 (va_up (mA 17 s) (mI 15 s).toNatClampNeg a1) s)).toNatClampNeg a2) (sA 17 (va_up (mA 17 s) (mI 15 s).toNatClampNeg a1) s))) (mI 15 (sL 18 (va_up (mL 18 (sA 17 (va_up (mA 17 s) (mI 15 s).toNatClampNeg a1) s)) (mI 15 (sA 17 (va_up (mA 17 s) (mI 15 s).toNatClampNeg a1) s)).toNatClampNeg a2) (sA 17 (va_up (mA 17 s) (mI 15 s).toNatClampNeg a1) s))).toNatClampNeg (0 : Int32)) (sL 18 (va_up (mL 18 (sA 17 (va_up (mA 17 s) (mI 15 s).toNatClampNeg a1) s)) (mI 15 (sA 17 (va_up (mA 17 s) (mI 15 s).toNatClampNeg a1) s)).toNatClampNeg a2) (sA 17 (va_up (mA 17 s) (mI 15 s).toNatClampNeg a1) s))))) else none) else none) else none)
theorem w_M_frame {sc : xSc} {d : Nat} {Q : xR → xH → Prop} {R : xH} {sZ : MT} (hQ : Q (.inl none) (mH sZ R)) (s : MT) (a1 : Int32) (a2 : Int64) (h : f_M_frame s a1 a2 = some sZ) : xW sc m_M_frame (d + 0) Q (mH s R) 0 (xent [vA 373, vI a1, vL a2] m_M_frame.2.2.1) [] := by
  show xW sc m_M_frame (d + 0) Q (mH s R) 0 [some (vA 373), some (vI a1), some (vL a2), none] []
  unfold f_M_frame at h
  refine x_aload_n (pc := 0) d_M_frame_0 rfl ?_
  refine x_getf (c := 1) (k := 17) (v := vA 383) (pc := 1) d_M_frame_1 l_M_43 (xm_at s R) rfl ?_
  refine x_aload_n (pc := 4) d_M_frame_4 rfl ?_
  refine x_getf (c := 1) (k := 15) (v := vI (mI 15 s)) (pc := 5) d_M_frame_5 l_M_346 (xm_at s R) rfl ?_
  refine x_iload_n (pc := 8) d_M_frame_8 rfl ?_
  obtain ⟨c1, h⟩ := ite_some h
  refine xm_s17 (pc := 9) d_M_frame_9 c1 ?_
  refine x_aload_n (pc := 10) d_M_frame_10 rfl ?_
  refine x_getf (c := 1) (k := 18) (v := vA 384) (pc := 11) d_M_frame_11 l_M_46 (xm_at (sA 17 (va_up (mA 17 s) (mI 15 s).toNatClampNeg a1) s) R) rfl ?_
  refine x_aload_n (pc := 14) d_M_frame_14 rfl ?_
  refine x_getf (c := 1) (k := 15) (v := vI (mI 15 (sA 17 (va_up (mA 17 s) (mI 15 s).toNatClampNeg a1) s))) (pc := 15) d_M_frame_15 l_M_346 (xm_at (sA 17 (va_up (mA 17 s) (mI 15 s).toNatClampNeg a1) s) R) rfl ?_
  refine x_lload_n (pc := 18) d_M_frame_18 rfl ?_
  obtain ⟨c2, h⟩ := ite_some h
  refine xm_s18 (pc := 19) d_M_frame_19 c2 ?_
  refine x_aload_n (pc := 20) d_M_frame_20 rfl ?_
  refine x_getf (c := 1) (k := 19) (v := vA 385) (pc := 21) d_M_frame_21 l_M_49 (xm_at (sL 18 (va_up (mL 18 (sA 17 (va_up (mA 17 s) (mI 15 s).toNatClampNeg a1) s)) (mI 15 (sA 17 (va_up (mA 17 s) (mI 15 s).toNatClampNeg a1) s)).toNatClampNeg a2) (sA 17 (va_up (mA 17 s) (mI 15 s).toNatClampNeg a1) s)) R) rfl ?_
  refine x_aload_n (pc := 24) d_M_frame_24 rfl ?_
  refine x_getf (c := 1) (k := 15) (v := vI (mI 15 (sL 18 (va_up (mL 18 (sA 17 (va_up (mA 17 s) (mI 15 s).toNatClampNeg a1) s)) (mI 15 (sA 17 (va_up (mA 17 s) (mI 15 s).toNatClampNeg a1) s)).toNatClampNeg a2) (sA 17 (va_up (mA 17 s) (mI 15 s).toNatClampNeg a1) s)))) (pc := 25) d_M_frame_25 l_M_346 (xm_at (sL 18 (va_up (mL 18 (sA 17 (va_up (mA 17 s) (mI 15 s).toNatClampNeg a1) s)) (mI 15 (sA 17 (va_up (mA 17 s) (mI 15 s).toNatClampNeg a1) s)).toNatClampNeg a2) (sA 17 (va_up (mA 17 s) (mI 15 s).toNatClampNeg a1) s)) R) rfl ?_
  refine x_iconst (v := (0 : Int32)) (pc := 28) d_M_frame_28 (by decide) ?_
  obtain ⟨c3, h⟩ := ite_some h
  refine xm_s19 (pc := 29) d_M_frame_29 c3 ?_
  refine x_aload_n (pc := 30) d_M_frame_30 rfl ?_
  refine x_dup (pc := 31) d_M_frame_31 rfl ?_
  refine x_getf (c := 1) (k := 15) (v := vI (mI 15 (sA 19 (va_up (mA 19 (sL 18 (va_up (mL 18 (sA 17 (va_up (mA 17 s) (mI 15 s).toNatClampNeg a1) s)) (mI 15 (sA 17 (va_up (mA 17 s) (mI 15 s).toNatClampNeg a1) s)).toNatClampNeg a2) (sA 17 (va_up (mA 17 s) (mI 15 s).toNatClampNeg a1) s))) (mI 15 (sL 18 (va_up (mL 18 (sA 17 (va_up (mA 17 s) (mI 15 s).toNatClampNeg a1) s)) (mI 15 (sA 17 (va_up (mA 17 s) (mI 15 s).toNatClampNeg a1) s)).toNatClampNeg a2) (sA 17 (va_up (mA 17 s) (mI 15 s).toNatClampNeg a1) s))).toNatClampNeg (0 : Int32)) (sL 18 (va_up (mL 18 (sA 17 (va_up (mA 17 s) (mI 15 s).toNatClampNeg a1) s)) (mI 15 (sA 17 (va_up (mA 17 s) (mI 15 s).toNatClampNeg a1) s)).toNatClampNeg a2) (sA 17 (va_up (mA 17 s) (mI 15 s).toNatClampNeg a1) s))))) (pc := 32) d_M_frame_32 l_M_346 (xm_at (sA 19 (va_up (mA 19 (sL 18 (va_up (mL 18 (sA 17 (va_up (mA 17 s) (mI 15 s).toNatClampNeg a1) s)) (mI 15 (sA 17 (va_up (mA 17 s) (mI 15 s).toNatClampNeg a1) s)).toNatClampNeg a2) (sA 17 (va_up (mA 17 s) (mI 15 s).toNatClampNeg a1) s))) (mI 15 (sL 18 (va_up (mL 18 (sA 17 (va_up (mA 17 s) (mI 15 s).toNatClampNeg a1) s)) (mI 15 (sA 17 (va_up (mA 17 s) (mI 15 s).toNatClampNeg a1) s)).toNatClampNeg a2) (sA 17 (va_up (mA 17 s) (mI 15 s).toNatClampNeg a1) s))).toNatClampNeg (0 : Int32)) (sL 18 (va_up (mL 18 (sA 17 (va_up (mA 17 s) (mI 15 s).toNatClampNeg a1) s)) (mI 15 (sA 17 (va_up (mA 17 s) (mI 15 s).toNatClampNeg a1) s)).toNatClampNeg a2) (sA 17 (va_up (mA 17 s) (mI 15 s).toNatClampNeg a1) s))) R) rfl ?_
  refine x_iconst (v := (1 : Int32)) (pc := 35) d_M_frame_35 (by decide) ?_
  refine x_iadd (pc := 36) d_M_frame_36 ?_
  refine xm_p15 (pc := 37) d_M_frame_37 l_M_346 ?_
  refine x_aload_n (pc := 40) d_M_frame_40 rfl ?_
  refine x_dup (pc := 41) d_M_frame_41 rfl ?_
  refine x_getf (c := 1) (k := 16) (v := vI (mI 16 (sI 15 ((mI 15 (sA 19 (va_up (mA 19 (sL 18 (va_up (mL 18 (sA 17 (va_up (mA 17 s) (mI 15 s).toNatClampNeg a1) s)) (mI 15 (sA 17 (va_up (mA 17 s) (mI 15 s).toNatClampNeg a1) s)).toNatClampNeg a2) (sA 17 (va_up (mA 17 s) (mI 15 s).toNatClampNeg a1) s))) (mI 15 (sL 18 (va_up (mL 18 (sA 17 (va_up (mA 17 s) (mI 15 s).toNatClampNeg a1) s)) (mI 15 (sA 17 (va_up (mA 17 s) (mI 15 s).toNatClampNeg a1) s)).toNatClampNeg a2) (sA 17 (va_up (mA 17 s) (mI 15 s).toNatClampNeg a1) s))).toNatClampNeg (0 : Int32)) (sL 18 (va_up (mL 18 (sA 17 (va_up (mA 17 s) (mI 15 s).toNatClampNeg a1) s)) (mI 15 (sA 17 (va_up (mA 17 s) (mI 15 s).toNatClampNeg a1) s)).toNatClampNeg a2) (sA 17 (va_up (mA 17 s) (mI 15 s).toNatClampNeg a1) s)))) + (1 : Int32)) (sA 19 (va_up (mA 19 (sL 18 (va_up (mL 18 (sA 17 (va_up (mA 17 s) (mI 15 s).toNatClampNeg a1) s)) (mI 15 (sA 17 (va_up (mA 17 s) (mI 15 s).toNatClampNeg a1) s)).toNatClampNeg a2) (sA 17 (va_up (mA 17 s) (mI 15 s).toNatClampNeg a1) s))) (mI 15 (sL 18 (va_up (mL 18 (sA 17 (va_up (mA 17 s) (mI 15 s).toNatClampNeg a1) s)) (mI 15 (sA 17 (va_up (mA 17 s) (mI 15 s).toNatClampNeg a1) s)).toNatClampNeg a2) (sA 17 (va_up (mA 17 s) (mI 15 s).toNatClampNeg a1) s))).toNatClampNeg (0 : Int32)) (sL 18 (va_up (mL 18 (sA 17 (va_up (mA 17 s) (mI 15 s).toNatClampNeg a1) s)) (mI 15 (sA 17 (va_up (mA 17 s) (mI 15 s).toNatClampNeg a1) s)).toNatClampNeg a2) (sA 17 (va_up (mA 17 s) (mI 15 s).toNatClampNeg a1) s)))))) (pc := 42) d_M_frame_42 l_M_349 (xm_at (sI 15 ((mI 15 (sA 19 (va_up (mA 19 (sL 18 (va_up (mL 18 (sA 17 (va_up (mA 17 s) (mI 15 s).toNatClampNeg a1) s)) (mI 15 (sA 17 (va_up (mA 17 s) (mI 15 s).toNatClampNeg a1) s)).toNatClampNeg a2) (sA 17 (va_up (mA 17 s) (mI 15 s).toNatClampNeg a1) s))) (mI 15 (sL 18 (va_up (mL 18 (sA 17 (va_up (mA 17 s) (mI 15 s).toNatClampNeg a1) s)) (mI 15 (sA 17 (va_up (mA 17 s) (mI 15 s).toNatClampNeg a1) s)).toNatClampNeg a2) (sA 17 (va_up (mA 17 s) (mI 15 s).toNatClampNeg a1) s))).toNatClampNeg (0 : Int32)) (sL 18 (va_up (mL 18 (sA 17 (va_up (mA 17 s) (mI 15 s).toNatClampNeg a1) s)) (mI 15 (sA 17 (va_up (mA 17 s) (mI 15 s).toNatClampNeg a1) s)).toNatClampNeg a2) (sA 17 (va_up (mA 17 s) (mI 15 s).toNatClampNeg a1) s)))) + (1 : Int32)) (sA 19 (va_up (mA 19 (sL 18 (va_up (mL 18 (sA 17 (va_up (mA 17 s) (mI 15 s).toNatClampNeg a1) s)) (mI 15 (sA 17 (va_up (mA 17 s) (mI 15 s).toNatClampNeg a1) s)).toNatClampNeg a2) (sA 17 (va_up (mA 17 s) (mI 15 s).toNatClampNeg a1) s))) (mI 15 (sL 18 (va_up (mL 18 (sA 17 (va_up (mA 17 s) (mI 15 s).toNatClampNeg a1) s)) (mI 15 (sA 17 (va_up (mA 17 s) (mI 15 s).toNatClampNeg a1) s)).toNatClampNeg a2) (sA 17 (va_up (mA 17 s) (mI 15 s).toNatClampNeg a1) s))).toNatClampNeg (0 : Int32)) (sL 18 (va_up (mL 18 (sA 17 (va_up (mA 17 s) (mI 15 s).toNatClampNeg a1) s)) (mI 15 (sA 17 (va_up (mA 17 s) (mI 15 s).toNatClampNeg a1) s)).toNatClampNeg a2) (sA 17 (va_up (mA 17 s) (mI 15 s).toNatClampNeg a1) s)))) R) rfl ?_
  refine x_iload_n (pc := 45) d_M_frame_45 rfl ?_
  refine x_iconst (v := (2 : Int32)) (pc := 46) d_M_frame_46 (by decide) ?_
  refine x_icmp_gt (tgt := 54) (pc := 47) d_M_frame_47 (by decide) (fun c4 => ?_) (fun c4 => ?_)
  · rw [if_pos c4] at h
    refine x_iconst (v := (0 : Int32)) (pc := 54) d_M_frame_54 (by decide) ?_
    exact x_wk (L' := [none, none, none, none]) ⟨Or.inl rfl, Or.inl rfl, Or.inl rfl, Or.inl rfl, trivial⟩ (w_M_frame_b55 hQ (0 : Int32) (mI 16 (sI 15 ((mI 15 (sA 19 (va_up (mA 19 (sL 18 (va_up (mL 18 (sA 17 (va_up (mA 17 s) (mI 15 s).toNatClampNeg a1) s)) (mI 15 (sA 17 (va_up (mA 17 s) (mI 15 s).toNatClampNeg a1) s)).toNatClampNeg a2) (sA 17 (va_up (mA 17 s) (mI 15 s).toNatClampNeg a1) s))) (mI 15 (sL 18 (va_up (mL 18 (sA 17 (va_up (mA 17 s) (mI 15 s).toNatClampNeg a1) s)) (mI 15 (sA 17 (va_up (mA 17 s) (mI 15 s).toNatClampNeg a1) s)).toNatClampNeg a2) (sA 17 (va_up (mA 17 s) (mI 15 s).toNatClampNeg a1) s))).toNatClampNeg (0 : Int32)) (sL 18 (va_up (mL 18 (sA 17 (va_up (mA 17 s) (mI 15 s).toNatClampNeg a1) s)) (mI 15 (sA 17 (va_up (mA 17 s) (mI 15 s).toNatClampNeg a1) s)).toNatClampNeg a2) (sA 17 (va_up (mA 17 s) (mI 15 s).toNatClampNeg a1) s)))) + (1 : Int32)) (sA 19 (va_up (mA 19 (sL 18 (va_up (mL 18 (sA 17 (va_up (mA 17 s) (mI 15 s).toNatClampNeg a1) s)) (mI 15 (sA 17 (va_up (mA 17 s) (mI 15 s).toNatClampNeg a1) s)).toNatClampNeg a2) (sA 17 (va_up (mA 17 s) (mI 15 s).toNatClampNeg a1) s))) (mI 15 (sL 18 (va_up (mL 18 (sA 17 (va_up (mA 17 s) (mI 15 s).toNatClampNeg a1) s)) (mI 15 (sA 17 (va_up (mA 17 s) (mI 15 s).toNatClampNeg a1) s)).toNatClampNeg a2) (sA 17 (va_up (mA 17 s) (mI 15 s).toNatClampNeg a1) s))).toNatClampNeg (0 : Int32)) (sL 18 (va_up (mL 18 (sA 17 (va_up (mA 17 s) (mI 15 s).toNatClampNeg a1) s)) (mI 15 (sA 17 (va_up (mA 17 s) (mI 15 s).toNatClampNeg a1) s)).toNatClampNeg a2) (sA 17 (va_up (mA 17 s) (mI 15 s).toNatClampNeg a1) s))))) (sI 15 ((mI 15 (sA 19 (va_up (mA 19 (sL 18 (va_up (mL 18 (sA 17 (va_up (mA 17 s) (mI 15 s).toNatClampNeg a1) s)) (mI 15 (sA 17 (va_up (mA 17 s) (mI 15 s).toNatClampNeg a1) s)).toNatClampNeg a2) (sA 17 (va_up (mA 17 s) (mI 15 s).toNatClampNeg a1) s))) (mI 15 (sL 18 (va_up (mL 18 (sA 17 (va_up (mA 17 s) (mI 15 s).toNatClampNeg a1) s)) (mI 15 (sA 17 (va_up (mA 17 s) (mI 15 s).toNatClampNeg a1) s)).toNatClampNeg a2) (sA 17 (va_up (mA 17 s) (mI 15 s).toNatClampNeg a1) s))).toNatClampNeg (0 : Int32)) (sL 18 (va_up (mL 18 (sA 17 (va_up (mA 17 s) (mI 15 s).toNatClampNeg a1) s)) (mI 15 (sA 17 (va_up (mA 17 s) (mI 15 s).toNatClampNeg a1) s)).toNatClampNeg a2) (sA 17 (va_up (mA 17 s) (mI 15 s).toNatClampNeg a1) s)))) + (1 : Int32)) (sA 19 (va_up (mA 19 (sL 18 (va_up (mL 18 (sA 17 (va_up (mA 17 s) (mI 15 s).toNatClampNeg a1) s)) (mI 15 (sA 17 (va_up (mA 17 s) (mI 15 s).toNatClampNeg a1) s)).toNatClampNeg a2) (sA 17 (va_up (mA 17 s) (mI 15 s).toNatClampNeg a1) s))) (mI 15 (sL 18 (va_up (mL 18 (sA 17 (va_up (mA 17 s) (mI 15 s).toNatClampNeg a1) s)) (mI 15 (sA 17 (va_up (mA 17 s) (mI 15 s).toNatClampNeg a1) s)).toNatClampNeg a2) (sA 17 (va_up (mA 17 s) (mI 15 s).toNatClampNeg a1) s))).toNatClampNeg (0 : Int32)) (sL 18 (va_up (mL 18 (sA 17 (va_up (mA 17 s) (mI 15 s).toNatClampNeg a1) s)) (mI 15 (sA 17 (va_up (mA 17 s) (mI 15 s).toNatClampNeg a1) s)).toNatClampNeg a2) (sA 17 (va_up (mA 17 s) (mI 15 s).toNatClampNeg a1) s)))) h)
  · rw [if_neg c4] at h
    refine x_iconst (v := (1 : Int32)) (pc := 50) d_M_frame_50 (by decide) ?_
    refine x_goto (tgt := 55) (pc := 51) d_M_frame_51 (by decide) ?_
    exact x_wk (L' := [none, none, none, none]) ⟨Or.inl rfl, Or.inl rfl, Or.inl rfl, Or.inl rfl, trivial⟩ (w_M_frame_b55 hQ (1 : Int32) (mI 16 (sI 15 ((mI 15 (sA 19 (va_up (mA 19 (sL 18 (va_up (mL 18 (sA 17 (va_up (mA 17 s) (mI 15 s).toNatClampNeg a1) s)) (mI 15 (sA 17 (va_up (mA 17 s) (mI 15 s).toNatClampNeg a1) s)).toNatClampNeg a2) (sA 17 (va_up (mA 17 s) (mI 15 s).toNatClampNeg a1) s))) (mI 15 (sL 18 (va_up (mL 18 (sA 17 (va_up (mA 17 s) (mI 15 s).toNatClampNeg a1) s)) (mI 15 (sA 17 (va_up (mA 17 s) (mI 15 s).toNatClampNeg a1) s)).toNatClampNeg a2) (sA 17 (va_up (mA 17 s) (mI 15 s).toNatClampNeg a1) s))).toNatClampNeg (0 : Int32)) (sL 18 (va_up (mL 18 (sA 17 (va_up (mA 17 s) (mI 15 s).toNatClampNeg a1) s)) (mI 15 (sA 17 (va_up (mA 17 s) (mI 15 s).toNatClampNeg a1) s)).toNatClampNeg a2) (sA 17 (va_up (mA 17 s) (mI 15 s).toNatClampNeg a1) s)))) + (1 : Int32)) (sA 19 (va_up (mA 19 (sL 18 (va_up (mL 18 (sA 17 (va_up (mA 17 s) (mI 15 s).toNatClampNeg a1) s)) (mI 15 (sA 17 (va_up (mA 17 s) (mI 15 s).toNatClampNeg a1) s)).toNatClampNeg a2) (sA 17 (va_up (mA 17 s) (mI 15 s).toNatClampNeg a1) s))) (mI 15 (sL 18 (va_up (mL 18 (sA 17 (va_up (mA 17 s) (mI 15 s).toNatClampNeg a1) s)) (mI 15 (sA 17 (va_up (mA 17 s) (mI 15 s).toNatClampNeg a1) s)).toNatClampNeg a2) (sA 17 (va_up (mA 17 s) (mI 15 s).toNatClampNeg a1) s))).toNatClampNeg (0 : Int32)) (sL 18 (va_up (mL 18 (sA 17 (va_up (mA 17 s) (mI 15 s).toNatClampNeg a1) s)) (mI 15 (sA 17 (va_up (mA 17 s) (mI 15 s).toNatClampNeg a1) s)).toNatClampNeg a2) (sA 17 (va_up (mA 17 s) (mI 15 s).toNatClampNeg a1) s))))) (sI 15 ((mI 15 (sA 19 (va_up (mA 19 (sL 18 (va_up (mL 18 (sA 17 (va_up (mA 17 s) (mI 15 s).toNatClampNeg a1) s)) (mI 15 (sA 17 (va_up (mA 17 s) (mI 15 s).toNatClampNeg a1) s)).toNatClampNeg a2) (sA 17 (va_up (mA 17 s) (mI 15 s).toNatClampNeg a1) s))) (mI 15 (sL 18 (va_up (mL 18 (sA 17 (va_up (mA 17 s) (mI 15 s).toNatClampNeg a1) s)) (mI 15 (sA 17 (va_up (mA 17 s) (mI 15 s).toNatClampNeg a1) s)).toNatClampNeg a2) (sA 17 (va_up (mA 17 s) (mI 15 s).toNatClampNeg a1) s))).toNatClampNeg (0 : Int32)) (sL 18 (va_up (mL 18 (sA 17 (va_up (mA 17 s) (mI 15 s).toNatClampNeg a1) s)) (mI 15 (sA 17 (va_up (mA 17 s) (mI 15 s).toNatClampNeg a1) s)).toNatClampNeg a2) (sA 17 (va_up (mA 17 s) (mI 15 s).toNatClampNeg a1) s)))) + (1 : Int32)) (sA 19 (va_up (mA 19 (sL 18 (va_up (mL 18 (sA 17 (va_up (mA 17 s) (mI 15 s).toNatClampNeg a1) s)) (mI 15 (sA 17 (va_up (mA 17 s) (mI 15 s).toNatClampNeg a1) s)).toNatClampNeg a2) (sA 17 (va_up (mA 17 s) (mI 15 s).toNatClampNeg a1) s))) (mI 15 (sL 18 (va_up (mL 18 (sA 17 (va_up (mA 17 s) (mI 15 s).toNatClampNeg a1) s)) (mI 15 (sA 17 (va_up (mA 17 s) (mI 15 s).toNatClampNeg a1) s)).toNatClampNeg a2) (sA 17 (va_up (mA 17 s) (mI 15 s).toNatClampNeg a1) s))).toNatClampNeg (0 : Int32)) (sL 18 (va_up (mL 18 (sA 17 (va_up (mA 17 s) (mI 15 s).toNatClampNeg a1) s)) (mI 15 (sA 17 (va_up (mA 17 s) (mI 15 s).toNatClampNeg a1) s)).toNatClampNeg a2) (sA 17 (va_up (mA 17 s) (mI 15 s).toNatClampNeg a1) s)))) h)
def f_M_isDigit_b17  (t0 : Int32) : Option Int32 := (if xbo t0 = true then some t0 else none)
theorem w_M_isDigit_b17 {sc : xSc} {d : Nat} {Q : xR → xH → Prop} {hh : xH} {rZ : Int32}  (hQ : Q (.inl (some (vI rZ))) hh) (t0 : Int32) (h : f_M_isDigit_b17  t0 = some rZ) : xW sc m_M_isDigit (d + 0) Q (hh) 17 [none] [vI t0] := by
  unfold f_M_isDigit_b17 at h
  obtain ⟨c1, h⟩ := ite_some h
  cases h
  exact x_iret (ty := .boolean) (pc := 17) d_M_isDigit_17 rfl (xbo_n c1) hQ
def f_M_isDigit_b16   : Option Int32 := f_M_isDigit_b17 (0 : Int32)
theorem w_M_isDigit_b16 {sc : xSc} {d : Nat} {Q : xR → xH → Prop} {hh : xH} {rZ : Int32}  (hQ : Q (.inl (some (vI rZ))) hh)  (h : f_M_isDigit_b16   = some rZ) : xW sc m_M_isDigit (d + 0) Q (hh) 16 [none] [] := by
  unfold f_M_isDigit_b16 at h
  refine x_iconst (v := (0 : Int32)) (pc := 16) d_M_isDigit_16 (by decide) ?_
  exact w_M_isDigit_b17 hQ (0 : Int32) h
def f_M_isDigit (a1 : Int32) : Option Int32 := (if a1 < (48 : Int32) then f_M_isDigit_b16 else (if (57 : Int32) < a1 then f_M_isDigit_b16 else f_M_isDigit_b17 (1 : Int32)))
theorem w_M_isDigit {sc : xSc} {d : Nat} {Q : xR → xH → Prop} {hh : xH} {rZ : Int32} (hQ : Q (.inl (some (vI rZ))) hh) (a1 : Int32) (h : f_M_isDigit a1 = some rZ) : xW sc m_M_isDigit (d + 0) Q (hh) 0 (xent [vI a1] m_M_isDigit.2.2.1) [] := by
  show xW sc m_M_isDigit (d + 0) Q (hh) 0 [some (vI a1)] []
  unfold f_M_isDigit at h
  refine x_iload_n (pc := 0) d_M_isDigit_0 rfl ?_
  refine x_bipush (v := (48 : Int32)) (pc := 1) d_M_isDigit_1 (by decide) ?_
  refine x_icmp_lt (tgt := 16) (pc := 3) d_M_isDigit_3 (by decide) (fun c1 => ?_) (fun c1 => ?_)
  · rw [if_pos c1] at h
    exact x_wk (L' := [none]) ⟨Or.inl rfl, trivial⟩ (w_M_isDigit_b16 hQ h)
  · rw [if_neg c1] at h
    refine x_iload_n (pc := 6) d_M_isDigit_6 rfl ?_
    refine x_bipush (v := (57 : Int32)) (pc := 7) d_M_isDigit_7 (by decide) ?_
    refine x_icmp_gt (tgt := 16) (pc := 9) d_M_isDigit_9 (by decide) (fun c2 => ?_) (fun c2 => ?_)
    · rw [if_pos c2] at h
      exact x_wk (L' := [none]) ⟨Or.inl rfl, trivial⟩ (w_M_isDigit_b16 hQ h)
    · rw [if_neg c2] at h
      refine x_iconst (v := (1 : Int32)) (pc := 12) d_M_isDigit_12 (by decide) ?_
      refine x_goto (tgt := 17) (pc := 13) d_M_isDigit_13 (by decide) ?_
      exact x_wk (L' := [none]) ⟨Or.inl rfl, trivial⟩ (w_M_isDigit_b17 hQ (1 : Int32) h)
def f_M_isLetter_b17  (t0 : Int32) : Option Int32 := (if xbo t0 = true then some t0 else none)
theorem w_M_isLetter_b17 {sc : xSc} {d : Nat} {Q : xR → xH → Prop} {hh : xH} {rZ : Int32}  (hQ : Q (.inl (some (vI rZ))) hh) (t0 : Int32) (h : f_M_isLetter_b17  t0 = some rZ) : xW sc m_M_isLetter (d + 0) Q (hh) 17 [none] [vI t0] := by
  unfold f_M_isLetter_b17 at h
  obtain ⟨c1, h⟩ := ite_some h
  cases h
  exact x_iret (ty := .boolean) (pc := 17) d_M_isLetter_17 rfl (xbo_n c1) hQ
def f_M_isLetter_b16   : Option Int32 := f_M_isLetter_b17 (0 : Int32)
theorem w_M_isLetter_b16 {sc : xSc} {d : Nat} {Q : xR → xH → Prop} {hh : xH} {rZ : Int32}  (hQ : Q (.inl (some (vI rZ))) hh)  (h : f_M_isLetter_b16   = some rZ) : xW sc m_M_isLetter (d + 0) Q (hh) 16 [none] [] := by
  unfold f_M_isLetter_b16 at h
  refine x_iconst (v := (0 : Int32)) (pc := 16) d_M_isLetter_16 (by decide) ?_
  exact w_M_isLetter_b17 hQ (0 : Int32) h
def f_M_isLetter (a1 : Int32) : Option Int32 := (if a1 < (97 : Int32) then f_M_isLetter_b16 else (if (122 : Int32) < a1 then f_M_isLetter_b16 else f_M_isLetter_b17 (1 : Int32)))
theorem w_M_isLetter {sc : xSc} {d : Nat} {Q : xR → xH → Prop} {hh : xH} {rZ : Int32} (hQ : Q (.inl (some (vI rZ))) hh) (a1 : Int32) (h : f_M_isLetter a1 = some rZ) : xW sc m_M_isLetter (d + 0) Q (hh) 0 (xent [vI a1] m_M_isLetter.2.2.1) [] := by
  show xW sc m_M_isLetter (d + 0) Q (hh) 0 [some (vI a1)] []
  unfold f_M_isLetter at h
  refine x_iload_n (pc := 0) d_M_isLetter_0 rfl ?_
  refine x_bipush (v := (97 : Int32)) (pc := 1) d_M_isLetter_1 (by decide) ?_
  refine x_icmp_lt (tgt := 16) (pc := 3) d_M_isLetter_3 (by decide) (fun c1 => ?_) (fun c1 => ?_)
  · rw [if_pos c1] at h
    exact x_wk (L' := [none]) ⟨Or.inl rfl, trivial⟩ (w_M_isLetter_b16 hQ h)
  · rw [if_neg c1] at h
    refine x_iload_n (pc := 6) d_M_isLetter_6 rfl ?_
    refine x_bipush (v := (122 : Int32)) (pc := 7) d_M_isLetter_7 (by decide) ?_
    refine x_icmp_gt (tgt := 16) (pc := 9) d_M_isLetter_9 (by decide) (fun c2 => ?_) (fun c2 => ?_)
    · rw [if_pos c2] at h
      exact x_wk (L' := [none]) ⟨Or.inl rfl, trivial⟩ (w_M_isLetter_b16 hQ h)
    · rw [if_neg c2] at h
      refine x_iconst (v := (1 : Int32)) (pc := 12) d_M_isLetter_12 (by decide) ?_
      refine x_goto (tgt := 17) (pc := 13) d_M_isLetter_13 (by decide) ?_
      exact x_wk (L' := [none]) ⟨Or.inl rfl, trivial⟩ (w_M_isLetter_b17 hQ (1 : Int32) h)
def f_M_isNumber_b15  (t0 : Int32) (s : MT) : Option (Int32 × MT) := (if xbo t0 = true then some (t0, s) else none)
theorem w_M_isNumber_b15 {sc : xSc} {d : Nat} {Q : xR → xH → Prop} {R : xH} {sZ : MT} {rZ : Int32}  (hQ : Q (.inl (some (vI rZ))) (mH sZ R)) (t0 : Int32) (s : MT) (h : f_M_isNumber_b15  t0 s = some (rZ, sZ)) : xW sc m_M_isNumber (d + 0) Q (mH s R) 15 [none, none] [vI t0] := by
  unfold f_M_isNumber_b15 at h
  obtain ⟨c1, h⟩ := ite_some h
  cases h
  exact x_iret (ty := .boolean) (pc := 15) d_M_isNumber_15 rfl (xbo_n c1) hQ
def f_M_isNumber (s : MT) (a1 : Int32) : Option (Int32 × MT) := (if xin a1 1300 = true then (if (2 : Int32) ≤ (mA 1 s a1.toNatClampNeg) then f_M_isNumber_b15 (0 : Int32) s else f_M_isNumber_b15 (1 : Int32) s) else none)
theorem w_M_isNumber {sc : xSc} {d : Nat} {Q : xR → xH → Prop} {R : xH} {sZ : MT} {rZ : Int32} (hQ : Q (.inl (some (vI rZ))) (mH sZ R)) (s : MT) (a1 : Int32) (h : f_M_isNumber s a1 = some (rZ, sZ)) : xW sc m_M_isNumber (d + 0) Q (mH s R) 0 (xent [vA 373, vI a1] m_M_isNumber.2.2.1) [] := by
  show xW sc m_M_isNumber (d + 0) Q (mH s R) 0 [some (vA 373), some (vI a1)] []
  unfold f_M_isNumber at h
  refine x_aload_n (pc := 0) d_M_isNumber_0 rfl ?_
  refine x_getf (c := 1) (k := 1) (v := vA 374) (pc := 1) d_M_isNumber_1 l_M_7 (xm_at s R) rfl ?_
  refine x_iload_n (pc := 4) d_M_isNumber_4 rfl ?_
  obtain ⟨c1, h⟩ := ite_some h
  refine x_iald (pc := 5) d_M_isNumber_5 (xm_a1 s R) (xin_vp c1) ?_
  refine x_iconst (v := (2 : Int32)) (pc := 6) d_M_isNumber_6 (by decide) ?_
  refine x_icmp_ge (tgt := 14) (pc := 7) d_M_isNumber_7 (by decide) (fun c2 => ?_) (fun c2 => ?_)
  · rw [if_pos c2] at h
    refine x_iconst (v := (0 : Int32)) (pc := 14) d_M_isNumber_14 (by decide) ?_
    exact x_wk (L' := [none, none]) ⟨Or.inl rfl, Or.inl rfl, trivial⟩ (w_M_isNumber_b15 hQ (0 : Int32) s h)
  · rw [if_neg c2] at h
    refine x_iconst (v := (1 : Int32)) (pc := 10) d_M_isNumber_10 (by decide) ?_
    refine x_goto (tgt := 15) (pc := 11) d_M_isNumber_11 (by decide) ?_
    exact x_wk (L' := [none, none]) ⟨Or.inl rfl, Or.inl rfl, trivial⟩ (w_M_isNumber_b15 hQ (1 : Int32) s h)
def f_M_isProcedure_b16  (t0 : Int32) (s : MT) : Option (Int32 × MT) := (if xbo t0 = true then some (t0, s) else none)
theorem w_M_isProcedure_b16 {sc : xSc} {d : Nat} {Q : xR → xH → Prop} {R : xH} {sZ : MT} {rZ : Int32}  (hQ : Q (.inl (some (vI rZ))) (mH sZ R)) (t0 : Int32) (s : MT) (h : f_M_isProcedure_b16  t0 s = some (rZ, sZ)) : xW sc m_M_isProcedure (d + 0) Q (mH s R) 16 [none, none] [vI t0] := by
  unfold f_M_isProcedure_b16 at h
  obtain ⟨c1, h⟩ := ite_some h
  cases h
  exact x_iret (ty := .boolean) (pc := 16) d_M_isProcedure_16 rfl (xbo_n c1) hQ
def f_M_isProcedure (s : MT) (a1 : Int32) : Option (Int32 × MT) := (if xin a1 1300 = true then (if (mA 1 s a1.toNatClampNeg) = (13 : Int32) then f_M_isProcedure_b16 (1 : Int32) s else f_M_isProcedure_b16 (0 : Int32) s) else none)
theorem w_M_isProcedure {sc : xSc} {d : Nat} {Q : xR → xH → Prop} {R : xH} {sZ : MT} {rZ : Int32} (hQ : Q (.inl (some (vI rZ))) (mH sZ R)) (s : MT) (a1 : Int32) (h : f_M_isProcedure s a1 = some (rZ, sZ)) : xW sc m_M_isProcedure (d + 0) Q (mH s R) 0 (xent [vA 373, vI a1] m_M_isProcedure.2.2.1) [] := by
  show xW sc m_M_isProcedure (d + 0) Q (mH s R) 0 [some (vA 373), some (vI a1)] []
  unfold f_M_isProcedure at h
  refine x_aload_n (pc := 0) d_M_isProcedure_0 rfl ?_
  refine x_getf (c := 1) (k := 1) (v := vA 374) (pc := 1) d_M_isProcedure_1 l_M_7 (xm_at s R) rfl ?_
  refine x_iload_n (pc := 4) d_M_isProcedure_4 rfl ?_
  obtain ⟨c1, h⟩ := ite_some h
  refine x_iald (pc := 5) d_M_isProcedure_5 (xm_a1 s R) (xin_vp c1) ?_
  refine x_bipush (v := (13 : Int32)) (pc := 6) d_M_isProcedure_6 (by decide) ?_
  refine x_icmp_ne (tgt := 15) (pc := 8) d_M_isProcedure_8 (by decide) (fun c2 => ?_) (fun c2 => ?_)
  · rw [if_neg c2] at h
    refine x_iconst (v := (0 : Int32)) (pc := 15) d_M_isProcedure_15 (by decide) ?_
    exact x_wk (L' := [none, none]) ⟨Or.inl rfl, Or.inl rfl, trivial⟩ (w_M_isProcedure_b16 hQ (0 : Int32) s h)
  · rw [if_pos c2] at h
    refine x_iconst (v := (1 : Int32)) (pc := 11) d_M_isProcedure_11 (by decide) ?_
    refine x_goto (tgt := 16) (pc := 12) d_M_isProcedure_12 (by decide) ?_
    exact x_wk (L' := [none, none]) ⟨Or.inl rfl, Or.inl rfl, trivial⟩ (w_M_isProcedure_b16 hQ (1 : Int32) s h)
def f_M_kind_b45  (t0 : Int32) (s : MT) : Option (Int32 × MT) := some (t0, s)
theorem w_M_kind_b45 {sc : xSc} {d : Nat} {Q : xR → xH → Prop} {R : xH} {sZ : MT} {rZ : Int32}  (hQ : Q (.inl (some (vI rZ))) (mH sZ R)) (t0 : Int32) (s : MT) (h : f_M_kind_b45  t0 s = some (rZ, sZ)) : xW sc m_M_kind (d + 0) Q (mH s R) 45 [none, none] [vI t0] := by
  unfold f_M_kind_b45 at h
  cases h
  exact x_iret (ty := .int) (pc := 45) d_M_kind_45 rfl (rfl) hQ
def f_M_kind_b18  (l1 : Int32) (t0 : Int32) (s : MT) : Option (Int32 × MT) := (if (mI 0 (sI 0 t0 s)) ≤ 0 then (if xin (((mI 4 (sI 0 t0 s)) - (1 : Int32)) - l1) 1300 = true then f_M_kind_b45 (mA 1 (sI 0 t0 s) (((mI 4 (sI 0 t0 s)) - (1 : Int32)) - l1).toNatClampNeg) (sI 0 t0 s) else none) else f_M_kind_b45 (0 : Int32) (sI 0 t0 s))
theorem w_M_kind_b18 {sc : xSc} {d : Nat} {Q : xR → xH → Prop} {R : xH} {sZ : MT} {rZ : Int32}  (hQ : Q (.inl (some (vI rZ))) (mH sZ R)) (l1 : Int32) (t0 : Int32) (s : MT) (h : f_M_kind_b18  l1 t0 s = some (rZ, sZ)) : xW sc m_M_kind (d + 0) Q (mH s R) 18 [some (vA 373), some (vI l1)] [vI t0, vA 373] := by
  unfold f_M_kind_b18 at h
  refine xm_p0 (pc := 18) d_M_kind_18 l_M_242 ?_
  refine x_aload_n (pc := 21) d_M_kind_21 rfl ?_
  refine x_getf (c := 1) (k := 0) (v := vI (mI 0 (sI 0 t0 s))) (pc := 22) d_M_kind_22 l_M_242 (xm_at (sI 0 t0 s) R) rfl ?_
  refine x_if_le (tgt := 32) (pc := 25) d_M_kind_25 (by decide) (fun c1 => ?_) (fun c1 => ?_)
  · rw [if_pos c1] at h
    refine x_aload_n (pc := 32) d_M_kind_32 rfl ?_
    refine x_getf (c := 1) (k := 1) (v := vA 374) (pc := 33) d_M_kind_33 l_M_7 (xm_at (sI 0 t0 s) R) rfl ?_
    refine x_aload_n (pc := 36) d_M_kind_36 rfl ?_
    refine x_getf (c := 1) (k := 4) (v := vI (mI 4 (sI 0 t0 s))) (pc := 37) d_M_kind_37 l_M_247 (xm_at (sI 0 t0 s) R) rfl ?_
    refine x_iconst (v := (1 : Int32)) (pc := 40) d_M_kind_40 (by decide) ?_
    refine x_isub (pc := 41) d_M_kind_41 ?_
    refine x_iload_n (pc := 42) d_M_kind_42 rfl ?_
    refine x_isub (pc := 43) d_M_kind_43 ?_
    obtain ⟨c2, h⟩ := ite_some h
    refine x_iald (pc := 44) d_M_kind_44 (xm_a1 (sI 0 t0 s) R) (xin_vp c2) ?_
    exact x_wk (L' := [none, none]) ⟨Or.inl rfl, Or.inl rfl, trivial⟩ (w_M_kind_b45 hQ (mA 1 (sI 0 t0 s) (((mI 4 (sI 0 t0 s)) - (1 : Int32)) - l1).toNatClampNeg) (sI 0 t0 s) h)
  · rw [if_neg c1] at h
    refine x_iconst (v := (0 : Int32)) (pc := 28) d_M_kind_28 (by decide) ?_
    refine x_goto (tgt := 45) (pc := 29) d_M_kind_29 (by decide) ?_
    exact x_wk (L' := [none, none]) ⟨Or.inl rfl, Or.inl rfl, trivial⟩ (w_M_kind_b45 hQ (0 : Int32) (sI 0 t0 s) h)
def f_M_kind_b13  (l1 : Int32) (s : MT) : Option (Int32 × MT) := f_M_kind_b18 l1 (1 : Int32) s
theorem w_M_kind_b13 {sc : xSc} {d : Nat} {Q : xR → xH → Prop} {R : xH} {sZ : MT} {rZ : Int32}  (hQ : Q (.inl (some (vI rZ))) (mH sZ R)) (l1 : Int32) (s : MT) (h : f_M_kind_b13  l1 s = some (rZ, sZ)) : xW sc m_M_kind (d + 0) Q (mH s R) 13 [some (vA 373), some (vI l1)] [vA 373] := by
  unfold f_M_kind_b13 at h
  refine x_iconst (v := (1 : Int32)) (pc := 13) d_M_kind_13 (by decide) ?_
  refine x_goto (tgt := 18) (pc := 14) d_M_kind_14 (by decide) ?_
  exact w_M_kind_b18 hQ l1 (1 : Int32) s h
def f_M_kind (s : MT) (a1 : Int32) : Option (Int32 × MT) := (if a1 < 0 then f_M_kind_b13 a1 s else (if a1 < (mI 4 s) then f_M_kind_b18 a1 (0 : Int32) s else f_M_kind_b13 a1 s))
theorem w_M_kind {sc : xSc} {d : Nat} {Q : xR → xH → Prop} {R : xH} {sZ : MT} {rZ : Int32} (hQ : Q (.inl (some (vI rZ))) (mH sZ R)) (s : MT) (a1 : Int32) (h : f_M_kind s a1 = some (rZ, sZ)) : xW sc m_M_kind (d + 0) Q (mH s R) 0 (xent [vA 373, vI a1] m_M_kind.2.2.1) [] := by
  show xW sc m_M_kind (d + 0) Q (mH s R) 0 [some (vA 373), some (vI a1)] []
  unfold f_M_kind at h
  refine x_aload_n (pc := 0) d_M_kind_0 rfl ?_
  refine x_iload_n (pc := 1) d_M_kind_1 rfl ?_
  refine x_if_lt (tgt := 13) (pc := 2) d_M_kind_2 (by decide) (fun c1 => ?_) (fun c1 => ?_)
  · rw [if_pos c1] at h
    exact w_M_kind_b13 hQ a1 s h
  · rw [if_neg c1] at h
    refine x_iload_n (pc := 5) d_M_kind_5 rfl ?_
    refine x_aload_n (pc := 6) d_M_kind_6 rfl ?_
    refine x_getf (c := 1) (k := 4) (v := vI (mI 4 s)) (pc := 7) d_M_kind_7 l_M_247 (xm_at s R) rfl ?_
    refine x_icmp_lt (tgt := 17) (pc := 10) d_M_kind_10 (by decide) (fun c2 => ?_) (fun c2 => ?_)
    · rw [if_pos c2] at h
      refine x_iconst (v := (0 : Int32)) (pc := 17) d_M_kind_17 (by decide) ?_
      exact w_M_kind_b18 hQ a1 (0 : Int32) s h
    · rw [if_neg c2] at h
      exact w_M_kind_b13 hQ a1 s h
def f_M_kindOf (s : MT) (a1 : Int32) : Option (Int32 × MT) := (if xin a1 1300 = true then some ((mA 1 s a1.toNatClampNeg) &&& (7 : Int32), s) else none)
theorem w_M_kindOf {sc : xSc} {d : Nat} {Q : xR → xH → Prop} {R : xH} {sZ : MT} {rZ : Int32} (hQ : Q (.inl (some (vI rZ))) (mH sZ R)) (s : MT) (a1 : Int32) (h : f_M_kindOf s a1 = some (rZ, sZ)) : xW sc m_M_kindOf (d + 0) Q (mH s R) 0 (xent [vA 373, vI a1] m_M_kindOf.2.2.1) [] := by
  show xW sc m_M_kindOf (d + 0) Q (mH s R) 0 [some (vA 373), some (vI a1)] []
  unfold f_M_kindOf at h
  refine x_aload_n (pc := 0) d_M_kindOf_0 rfl ?_
  refine x_getf (c := 1) (k := 1) (v := vA 374) (pc := 1) d_M_kindOf_1 l_M_7 (xm_at s R) rfl ?_
  refine x_iload_n (pc := 4) d_M_kindOf_4 rfl ?_
  obtain ⟨c1, h⟩ := ite_some h
  refine x_iald (pc := 5) d_M_kindOf_5 (xm_a1 s R) (xin_vp c1) ?_
  refine x_bipush (v := (7 : Int32)) (pc := 6) d_M_kindOf_6 (by decide) ?_
  refine x_iand (pc := 8) d_M_kindOf_8 ?_
  cases h
  exact x_iret (ty := .int) (pc := 9) d_M_kindOf_9 rfl (rfl) hQ
def f_M_leave_b33  (t0 : Int32) (t1 : Int32) (s : MT) : Option MT := some (sI 16 (t1 - t0) s)
theorem w_M_leave_b33 {sc : xSc} {d : Nat} {Q : xR → xH → Prop} {R : xH} {sZ : MT}  (hQ : Q (.inl none) (mH sZ R)) (t0 : Int32) (t1 : Int32) (s : MT) (h : f_M_leave_b33  t0 t1 s = some sZ) : xW sc m_M_leave (d + 0) Q (mH s R) 33 [none] [vI t0, vI t1, vA 373] := by
  unfold f_M_leave_b33 at h
  refine x_isub (pc := 33) d_M_leave_33 ?_
  refine xm_p16 (pc := 34) d_M_leave_34 l_M_349 ?_
  cases h
  exact x_vret (pc := 37) d_M_leave_37 rfl hQ
def f_M_leave (s : MT) : Option MT := (if xin (mI 15 (sI 15 ((mI 15 s) - (1 : Int32)) s)) 560 = true then (if (2 : Int32) < (mA 17 (sI 15 ((mI 15 s) - (1 : Int32)) s) (mI 15 (sI 15 ((mI 15 s) - (1 : Int32)) s)).toNatClampNeg) then f_M_leave_b33 (0 : Int32) (mI 16 (sI 15 ((mI 15 s) - (1 : Int32)) s)) (sI 15 ((mI 15 s) - (1 : Int32)) s) else f_M_leave_b33 (1 : Int32) (mI 16 (sI 15 ((mI 15 s) - (1 : Int32)) s)) (sI 15 ((mI 15 s) - (1 : Int32)) s)) else none)
theorem w_M_leave {sc : xSc} {d : Nat} {Q : xR → xH → Prop} {R : xH} {sZ : MT} (hQ : Q (.inl none) (mH sZ R)) (s : MT) (h : f_M_leave s = some sZ) : xW sc m_M_leave (d + 0) Q (mH s R) 0 (xent [vA 373] m_M_leave.2.2.1) [] := by
  show xW sc m_M_leave (d + 0) Q (mH s R) 0 [some (vA 373)] []
  unfold f_M_leave at h
  refine x_aload_n (pc := 0) d_M_leave_0 rfl ?_
  refine x_dup (pc := 1) d_M_leave_1 rfl ?_
  refine x_getf (c := 1) (k := 15) (v := vI (mI 15 s)) (pc := 2) d_M_leave_2 l_M_346 (xm_at s R) rfl ?_
  refine x_iconst (v := (1 : Int32)) (pc := 5) d_M_leave_5 (by decide) ?_
  refine x_isub (pc := 6) d_M_leave_6 ?_
  refine xm_p15 (pc := 7) d_M_leave_7 l_M_346 ?_
  refine x_aload_n (pc := 10) d_M_leave_10 rfl ?_
  refine x_dup (pc := 11) d_M_leave_11 rfl ?_
  refine x_getf (c := 1) (k := 16) (v := vI (mI 16 (sI 15 ((mI 15 s) - (1 : Int32)) s))) (pc := 12) d_M_leave_12 l_M_349 (xm_at (sI 15 ((mI 15 s) - (1 : Int32)) s) R) rfl ?_
  refine x_aload_n (pc := 15) d_M_leave_15 rfl ?_
  refine x_getf (c := 1) (k := 17) (v := vA 383) (pc := 16) d_M_leave_16 l_M_43 (xm_at (sI 15 ((mI 15 s) - (1 : Int32)) s) R) rfl ?_
  refine x_aload_n (pc := 19) d_M_leave_19 rfl ?_
  refine x_getf (c := 1) (k := 15) (v := vI (mI 15 (sI 15 ((mI 15 s) - (1 : Int32)) s))) (pc := 20) d_M_leave_20 l_M_346 (xm_at (sI 15 ((mI 15 s) - (1 : Int32)) s) R) rfl ?_
  obtain ⟨c1, h⟩ := ite_some h
  refine x_iald (pc := 23) d_M_leave_23 (xm_a17 (sI 15 ((mI 15 s) - (1 : Int32)) s) R) (xin_vp c1) ?_
  refine x_iconst (v := (2 : Int32)) (pc := 24) d_M_leave_24 (by decide) ?_
  refine x_icmp_gt (tgt := 32) (pc := 25) d_M_leave_25 (by decide) (fun c2 => ?_) (fun c2 => ?_)
  · rw [if_pos c2] at h
    refine x_iconst (v := (0 : Int32)) (pc := 32) d_M_leave_32 (by decide) ?_
    exact x_wk (L' := [none]) ⟨Or.inl rfl, trivial⟩ (w_M_leave_b33 hQ (0 : Int32) (mI 16 (sI 15 ((mI 15 s) - (1 : Int32)) s)) (sI 15 ((mI 15 s) - (1 : Int32)) s) h)
  · rw [if_neg c2] at h
    refine x_iconst (v := (1 : Int32)) (pc := 28) d_M_leave_28 (by decide) ?_
    refine x_goto (tgt := 33) (pc := 29) d_M_leave_29 (by decide) ?_
    exact x_wk (L' := [none]) ⟨Or.inl rfl, trivial⟩ (w_M_leave_b33 hQ (1 : Int32) (mI 16 (sI 15 ((mI 15 s) - (1 : Int32)) s)) (sI 15 ((mI 15 s) - (1 : Int32)) s) h)
def f_M_letters_b24  (l2 : Int32) : Option Int32 := some l2
theorem w_M_letters_b24 {sc : xSc} {d : Nat} {Q : xR → xH → Prop} {hh : xH} {rZ : Int32}  (hQ : Q (.inl (some (vI rZ))) hh) (l2 : Int32) (h : f_M_letters_b24  l2 = some rZ) : xW sc m_M_letters (d + 0) Q (hh) 24 [none, none, some (vI l2)] [] := by
  unfold f_M_letters_b24 at h
  refine x_iload_n (pc := 24) d_M_letters_24 rfl ?_
  cases h
  exact x_iret (ty := .int) (pc := 25) d_M_letters_25 rfl (rfl) hQ
def f_M_letters_b2  : Nat → Int64 → Int32 → Option Int32
  | 0, _, _ => none
  | n + 1, l0, l2 => (if (12 : Int32) ≤ l2 then f_M_letters_b24 l2 else (if (lg_cmp (l0 >>> (((5 : Int32) * l2).toInt64 &&& 63)) (0 : Int64)) = 0 then f_M_letters_b24 l2 else (f_M_letters_b2 n) l0 (l2 + Int32.ofInt 1)))
theorem w_M_letters_b2 {sc : xSc} {d : Nat} {Q : xR → xH → Prop} {hh : xH} {rZ : Int32}  (hQ : Q (.inl (some (vI rZ))) hh) : ∀ (n : Nat) (l0 : Int64) (l2 : Int32), f_M_letters_b2  n l0 l2 = some rZ → xW sc m_M_letters (d + 0) Q (hh) 2 [some (vL l0), none, some (vI l2)] [] := by
  intro n
  induction n with
  | zero =>
    intro l0 l2 h
    cases h
  | succ n hk2 =>
    intro l0 l2 h
    unfold f_M_letters_b2 at h
    refine x_iload_n (pc := 2) d_M_letters_2 rfl ?_
    refine x_bipush (v := (12 : Int32)) (pc := 3) d_M_letters_3 (by decide) ?_
    refine x_icmp_ge (tgt := 24) (pc := 5) d_M_letters_5 (by decide) (fun c1 => ?_) (fun c1 => ?_)
    · rw [if_pos c1] at h
      exact x_wk (L' := [none, none, some (vI l2)]) ⟨Or.inl rfl, Or.inl rfl, Or.inr rfl, trivial⟩ (w_M_letters_b24 hQ l2 h)
    · rw [if_neg c1] at h
      refine x_lload_n (pc := 8) d_M_letters_8 rfl ?_
      refine x_iconst (v := (5 : Int32)) (pc := 9) d_M_letters_9 (by decide) ?_
      refine x_iload_n (pc := 10) d_M_letters_10 rfl ?_
      refine x_imul (pc := 11) d_M_letters_11 ?_
      refine x_lshr (pc := 12) d_M_letters_12 ?_
      refine x_lconst (v := (0 : Int64)) (pc := 13) d_M_letters_13 (by decide) ?_
      refine x_lcmp (pc := 14) d_M_letters_14 ?_
      refine x_if_eq (tgt := 24) (pc := 15) d_M_letters_15 (by decide) (fun c2 => ?_) (fun c2 => ?_)
      · rw [if_pos c2] at h
        exact x_wk (L' := [none, none, some (vI l2)]) ⟨Or.inl rfl, Or.inl rfl, Or.inr rfl, trivial⟩ (w_M_letters_b24 hQ l2 h)
      · rw [if_neg c2] at h
        refine x_iinc (pc := 18) d_M_letters_18 rfl (by decide) ?_
        show xW sc m_M_letters (d + 0) Q (hh) 21 [some (vL l0), none, some (vI (l2 + Int32.ofInt 1))] []
        refine x_goto (tgt := 2) (pc := 21) d_M_letters_21 (by decide) ?_
        exact hk2 l0 (l2 + Int32.ofInt 1) h
def f_M_letters (a1 : Int64) : Option Int32 := f_M_letters_b2 mF a1 (0 : Int32)
theorem w_M_letters {sc : xSc} {d : Nat} {Q : xR → xH → Prop} {hh : xH} {rZ : Int32} (hQ : Q (.inl (some (vI rZ))) hh) (a1 : Int64) (h : f_M_letters a1 = some rZ) : xW sc m_M_letters (d + 0) Q (hh) 0 (xent [vL a1] m_M_letters.2.2.1) [] := by
  show xW sc m_M_letters (d + 0) Q (hh) 0 [some (vL a1), none, none] []
  unfold f_M_letters at h
  refine x_iconst (v := (0 : Int32)) (pc := 0) d_M_letters_0 (by decide) ?_
  refine x_istore_n (pc := 1) d_M_letters_1 (by decide) ?_
  show xW sc m_M_letters (d + 0) Q (hh) 2 [some (vL a1), none, some (vI (0 : Int32))] []
  exact w_M_letters_b2 hQ mF a1 (0 : Int32) h
def f_M_look_b19  (t0 : Int32) (s : MT) : Option (Int32 × MT) := (if xch t0 = true then some (t0, s) else none)
theorem w_M_look_b19 {sc : xSc} {d : Nat} {Q : xR → xH → Prop} {R : xH} {sZ : MT} {rZ : Int32}  (hQ : Q (.inl (some (vI rZ))) (mH sZ R)) (t0 : Int32) (s : MT) (h : f_M_look_b19  t0 s = some (rZ, sZ)) : xW sc m_M_look (d + 0) Q (mH s R) 19 [none, none] [vI t0] := by
  unfold f_M_look_b19 at h
  obtain ⟨c1, h⟩ := ite_some h
  cases h
  exact x_iret (ty := .char) (pc := 19) d_M_look_19 rfl (xch_n c1) hQ
def f_M_look (s : MT) (a1 : Int32) : Option (Int32 × MT) := (if (mI 24 s) ≤ a1 then f_M_look_b19 (32 : Int32) s else (if xin a1 120 = true then f_M_look_b19 (mA 23 s a1.toNatClampNeg) s else none))
theorem w_M_look {sc : xSc} {d : Nat} {Q : xR → xH → Prop} {R : xH} {sZ : MT} {rZ : Int32} (hQ : Q (.inl (some (vI rZ))) (mH sZ R)) (s : MT) (a1 : Int32) (h : f_M_look s a1 = some (rZ, sZ)) : xW sc m_M_look (d + 0) Q (mH s R) 0 (xent [vA 373, vI a1] m_M_look.2.2.1) [] := by
  show xW sc m_M_look (d + 0) Q (mH s R) 0 [some (vA 373), some (vI a1)] []
  unfold f_M_look at h
  refine x_iload_n (pc := 0) d_M_look_0 rfl ?_
  refine x_aload_n (pc := 1) d_M_look_1 rfl ?_
  refine x_getf (c := 1) (k := 24) (v := vI (mI 24 s)) (pc := 2) d_M_look_2 l_M_270 (xm_at s R) rfl ?_
  refine x_icmp_ge (tgt := 17) (pc := 5) d_M_look_5 (by decide) (fun c1 => ?_) (fun c1 => ?_)
  · rw [if_pos c1] at h
    refine x_bipush (v := (32 : Int32)) (pc := 17) d_M_look_17 (by decide) ?_
    exact x_wk (L' := [none, none]) ⟨Or.inl rfl, Or.inl rfl, trivial⟩ (w_M_look_b19 hQ (32 : Int32) s h)
  · rw [if_neg c1] at h
    refine x_aload_n (pc := 8) d_M_look_8 rfl ?_
    refine x_getf (c := 1) (k := 23) (v := vA 389) (pc := 9) d_M_look_9 l_M_61 (xm_at s R) rfl ?_
    refine x_iload_n (pc := 12) d_M_look_12 rfl ?_
    obtain ⟨c2, h⟩ := ite_some h
    refine x_cald (pc := 13) d_M_look_13 (xm_a23 s R) (xin_vp c2) ?_
    refine x_goto (tgt := 19) (pc := 14) d_M_look_14 (by decide) ?_
    exact x_wk (L' := [none, none]) ⟨Or.inl rfl, Or.inl rfl, trivial⟩ (w_M_look_b19 hQ (mA 23 s a1.toNatClampNeg) s h)
def f_M_move (s : MT) (a1 : Int32) (a2 : Int32) : Option MT := (if xin a2 1300 = true then (if xin a1 1300 = true then (if xin a2 1300 = true then (if xin a1 1300 = true then (if xin a2 1300 = true then (if xin a1 1300 = true then some (sD 3 (va_up (mD 3 (sL 2 (va_up (mL 2 (sA 1 (va_up (mA 1 s) a1.toNatClampNeg (mA 1 s a2.toNatClampNeg)) s)) a1.toNatClampNeg (mL 2 (sA 1 (va_up (mA 1 s) a1.toNatClampNeg (mA 1 s a2.toNatClampNeg)) s) a2.toNatClampNeg)) (sA 1 (va_up (mA 1 s) a1.toNatClampNeg (mA 1 s a2.toNatClampNeg)) s))) a1.toNatClampNeg (mD 3 (sL 2 (va_up (mL 2 (sA 1 (va_up (mA 1 s) a1.toNatClampNeg (mA 1 s a2.toNatClampNeg)) s)) a1.toNatClampNeg (mL 2 (sA 1 (va_up (mA 1 s) a1.toNatClampNeg (mA 1 s a2.toNatClampNeg)) s) a2.toNatClampNeg)) (sA 1 (va_up (mA 1 s) a1.toNatClampNeg (mA 1 s a2.toNatClampNeg)) s)) a2.toNatClampNeg)) (sL 2 (va_up (mL 2 (sA 1 (va_up (mA 1 s) a1.toNatClampNeg (mA 1 s a2.toNatClampNeg)) s)) a1.toNatClampNeg (mL 2 (sA 1 (va_up (mA 1 s) a1.toNatClampNeg (mA 1 s a2.toNatClampNeg)) s) a2.toNatClampNeg)) (sA 1 (va_up (mA 1 s) a1.toNatClampNeg (mA 1 s a2.toNatClampNeg)) s))) else none) else none) else none) else none) else none) else none)
theorem w_M_move {sc : xSc} {d : Nat} {Q : xR → xH → Prop} {R : xH} {sZ : MT} (hQ : Q (.inl none) (mH sZ R)) (s : MT) (a1 : Int32) (a2 : Int32) (h : f_M_move s a1 a2 = some sZ) : xW sc m_M_move (d + 0) Q (mH s R) 0 (xent [vA 373, vI a1, vI a2] m_M_move.2.2.1) [] := by
  show xW sc m_M_move (d + 0) Q (mH s R) 0 [some (vA 373), some (vI a1), some (vI a2)] []
  unfold f_M_move at h
  refine x_aload_n (pc := 0) d_M_move_0 rfl ?_
  refine x_getf (c := 1) (k := 1) (v := vA 374) (pc := 1) d_M_move_1 l_M_7 (xm_at s R) rfl ?_
  refine x_iload_n (pc := 4) d_M_move_4 rfl ?_
  refine x_aload_n (pc := 5) d_M_move_5 rfl ?_
  refine x_getf (c := 1) (k := 1) (v := vA 374) (pc := 6) d_M_move_6 l_M_7 (xm_at s R) rfl ?_
  refine x_iload_n (pc := 9) d_M_move_9 rfl ?_
  obtain ⟨c1, h⟩ := ite_some h
  refine x_iald (pc := 10) d_M_move_10 (xm_a1 s R) (xin_vp c1) ?_
  obtain ⟨c2, h⟩ := ite_some h
  refine xm_s1 (pc := 11) d_M_move_11 c2 ?_
  refine x_aload_n (pc := 12) d_M_move_12 rfl ?_
  refine x_getf (c := 1) (k := 2) (v := vA 375) (pc := 13) d_M_move_13 l_M_13 (xm_at (sA 1 (va_up (mA 1 s) a1.toNatClampNeg (mA 1 s a2.toNatClampNeg)) s) R) rfl ?_
  refine x_iload_n (pc := 16) d_M_move_16 rfl ?_
  refine x_aload_n (pc := 17) d_M_move_17 rfl ?_
  refine x_getf (c := 1) (k := 2) (v := vA 375) (pc := 18) d_M_move_18 l_M_13 (xm_at (sA 1 (va_up (mA 1 s) a1.toNatClampNeg (mA 1 s a2.toNatClampNeg)) s) R) rfl ?_
  refine x_iload_n (pc := 21) d_M_move_21 rfl ?_
  obtain ⟨c3, h⟩ := ite_some h
  refine x_lald (pc := 22) d_M_move_22 (xm_a2 (sA 1 (va_up (mA 1 s) a1.toNatClampNeg (mA 1 s a2.toNatClampNeg)) s) R) (xin_vp c3) ?_
  obtain ⟨c4, h⟩ := ite_some h
  refine xm_s2 (pc := 23) d_M_move_23 c4 ?_
  refine x_aload_n (pc := 24) d_M_move_24 rfl ?_
  refine x_getf (c := 1) (k := 3) (v := vA 376) (pc := 25) d_M_move_25 l_M_17 (xm_at (sL 2 (va_up (mL 2 (sA 1 (va_up (mA 1 s) a1.toNatClampNeg (mA 1 s a2.toNatClampNeg)) s)) a1.toNatClampNeg (mL 2 (sA 1 (va_up (mA 1 s) a1.toNatClampNeg (mA 1 s a2.toNatClampNeg)) s) a2.toNatClampNeg)) (sA 1 (va_up (mA 1 s) a1.toNatClampNeg (mA 1 s a2.toNatClampNeg)) s)) R) rfl ?_
  refine x_iload_n (pc := 28) d_M_move_28 rfl ?_
  refine x_aload_n (pc := 29) d_M_move_29 rfl ?_
  refine x_getf (c := 1) (k := 3) (v := vA 376) (pc := 30) d_M_move_30 l_M_17 (xm_at (sL 2 (va_up (mL 2 (sA 1 (va_up (mA 1 s) a1.toNatClampNeg (mA 1 s a2.toNatClampNeg)) s)) a1.toNatClampNeg (mL 2 (sA 1 (va_up (mA 1 s) a1.toNatClampNeg (mA 1 s a2.toNatClampNeg)) s) a2.toNatClampNeg)) (sA 1 (va_up (mA 1 s) a1.toNatClampNeg (mA 1 s a2.toNatClampNeg)) s)) R) rfl ?_
  refine x_iload_n (pc := 33) d_M_move_33 rfl ?_
  obtain ⟨c5, h⟩ := ite_some h
  refine x_dald (pc := 34) d_M_move_34 (xm_a3 (sL 2 (va_up (mL 2 (sA 1 (va_up (mA 1 s) a1.toNatClampNeg (mA 1 s a2.toNatClampNeg)) s)) a1.toNatClampNeg (mL 2 (sA 1 (va_up (mA 1 s) a1.toNatClampNeg (mA 1 s a2.toNatClampNeg)) s) a2.toNatClampNeg)) (sA 1 (va_up (mA 1 s) a1.toNatClampNeg (mA 1 s a2.toNatClampNeg)) s)) R) (xin_vp c5) ?_
  obtain ⟨c6, h⟩ := ite_some h
  refine xm_s3 (pc := 35) d_M_move_35 c6 ?_
  cases h
  exact x_vret (pc := 36) d_M_move_36 rfl hQ
def f_M_numberAt_b25  (t0 : UInt64) (s : MT) : Option (UInt64 × MT) := some (t0, s)
theorem w_M_numberAt_b25 {sc : xSc} {d : Nat} {Q : xR → xH → Prop} {R : xH} {sZ : MT} {rZ : UInt64}  (hQ : Q (.inl (some (vD rZ))) (mH sZ R)) (t0 : UInt64) (s : MT) (h : f_M_numberAt_b25  t0 s = some (rZ, sZ)) : xW sc m_M_numberAt (d + 0) Q (mH s R) 25 [none, none] [vD t0] := by
  unfold f_M_numberAt_b25 at h
  cases h
  exact x_dret (pc := 25) d_M_numberAt_25 rfl hQ
def f_M_numberAt (s : MT) (a1 : Int32) : Option (UInt64 × MT) := (if xin a1 1300 = true then (if (mA 1 s a1.toNatClampNeg) = 0 then (if xin a1 1300 = true then f_M_numberAt_b25 (FP.l2d (mL 2 s a1.toNatClampNeg)) s else none) else (if xin a1 1300 = true then f_M_numberAt_b25 (mD 3 s a1.toNatClampNeg) s else none)) else none)
theorem w_M_numberAt {sc : xSc} {d : Nat} {Q : xR → xH → Prop} {R : xH} {sZ : MT} {rZ : UInt64} (hQ : Q (.inl (some (vD rZ))) (mH sZ R)) (s : MT) (a1 : Int32) (h : f_M_numberAt s a1 = some (rZ, sZ)) : xW sc m_M_numberAt (d + 0) Q (mH s R) 0 (xent [vA 373, vI a1] m_M_numberAt.2.2.1) [] := by
  show xW sc m_M_numberAt (d + 0) Q (mH s R) 0 [some (vA 373), some (vI a1)] []
  unfold f_M_numberAt at h
  refine x_aload_n (pc := 0) d_M_numberAt_0 rfl ?_
  refine x_getf (c := 1) (k := 1) (v := vA 374) (pc := 1) d_M_numberAt_1 l_M_7 (xm_at s R) rfl ?_
  refine x_iload_n (pc := 4) d_M_numberAt_4 rfl ?_
  obtain ⟨c1, h⟩ := ite_some h
  refine x_iald (pc := 5) d_M_numberAt_5 (xm_a1 s R) (xin_vp c1) ?_
  refine x_if_ne (tgt := 19) (pc := 6) d_M_numberAt_6 (by decide) (fun c2 => ?_) (fun c2 => ?_)
  · rw [if_neg c2] at h
    refine x_aload_n (pc := 19) d_M_numberAt_19 rfl ?_
    refine x_getf (c := 1) (k := 3) (v := vA 376) (pc := 20) d_M_numberAt_20 l_M_17 (xm_at s R) rfl ?_
    refine x_iload_n (pc := 23) d_M_numberAt_23 rfl ?_
    obtain ⟨c3, h⟩ := ite_some h
    refine x_dald (pc := 24) d_M_numberAt_24 (xm_a3 s R) (xin_vp c3) ?_
    exact x_wk (L' := [none, none]) ⟨Or.inl rfl, Or.inl rfl, trivial⟩ (w_M_numberAt_b25 hQ (mD 3 s a1.toNatClampNeg) s h)
  · rw [if_pos c2] at h
    refine x_aload_n (pc := 9) d_M_numberAt_9 rfl ?_
    refine x_getf (c := 1) (k := 2) (v := vA 375) (pc := 10) d_M_numberAt_10 l_M_13 (xm_at s R) rfl ?_
    refine x_iload_n (pc := 13) d_M_numberAt_13 rfl ?_
    obtain ⟨c4, h⟩ := ite_some h
    refine x_lald (pc := 14) d_M_numberAt_14 (xm_a2 s R) (xin_vp c4) ?_
    refine x_l2d (pc := 15) d_M_numberAt_15 ?_
    refine x_goto (tgt := 25) (pc := 16) d_M_numberAt_16 (by decide) ?_
    exact x_wk (L' := [none, none]) ⟨Or.inl rfl, Or.inl rfl, trivial⟩ (w_M_numberAt_b25 hQ (FP.l2d (mL 2 s a1.toNatClampNeg)) s h)
def f_M_operatorOf_b24  : Nat → Int64 → Int32 → MT → Option (Int32 × MT)
  | 0, _, _, _ => none
  | n + 1, l1, l3, s => (if (35 : Int32) ≤ l3 then some ((-1 : Int32), s) else (if xin l3 35 = true then (if (lg_cmp (mL 43 s l3.toNatClampNeg) l1) = 0 then some (l3, s) else (if xin l3 35 = true then (if (lg_cmp (mL 44 s l3.toNatClampNeg) l1) = 0 then some ((35 : Int32) + l3, s) else (f_M_operatorOf_b24 n) l1 (l3 + Int32.ofInt 1) s) else none)) else none))
theorem w_M_operatorOf_b24 {sc : xSc} {d : Nat} {Q : xR → xH → Prop} {R : xH} {sZ : MT} {rZ : Int32}  (hQ : Q (.inl (some (vI rZ))) (mH sZ R)) : ∀ (n : Nat) (l1 : Int64) (l3 : Int32) (s : MT), f_M_operatorOf_b24  n l1 l3 s = some (rZ, sZ) → xW sc m_M_operatorOf (d + 0) Q (mH s R) 24 [some (vA 373), some (vL l1), none, some (vI l3)] [] := by
  intro n
  induction n with
  | zero =>
    intro l1 l3 s h
    cases h
  | succ n hk24 =>
    intro l1 l3 s h
    unfold f_M_operatorOf_b24 at h
    refine x_iload_n (pc := 24) d_M_operatorOf_24 rfl ?_
    refine x_bipush (v := (35 : Int32)) (pc := 25) d_M_operatorOf_25 (by decide) ?_
    refine x_icmp_ge (tgt := 65) (pc := 27) d_M_operatorOf_27 (by decide) (fun c1 => ?_) (fun c1 => ?_)
    · rw [if_pos c1] at h
      refine x_iconst (v := (-1 : Int32)) (pc := 65) d_M_operatorOf_65 (by decide) ?_
      cases h
      exact x_iret (ty := .int) (pc := 66) d_M_operatorOf_66 rfl (rfl) hQ
    · rw [if_neg c1] at h
      refine x_aload_n (pc := 30) d_M_operatorOf_30 rfl ?_
      refine x_getf (c := 1) (k := 43) (v := vA 397) (pc := 31) d_M_operatorOf_31 l_M_160 (xm_at s R) rfl ?_
      refine x_iload_n (pc := 34) d_M_operatorOf_34 rfl ?_
      obtain ⟨c2, h⟩ := ite_some h
      refine x_lald (pc := 35) d_M_operatorOf_35 (xm_a43 s R) (xin_vp c2) ?_
      refine x_lload_n (pc := 36) d_M_operatorOf_36 rfl ?_
      refine x_lcmp (pc := 37) d_M_operatorOf_37 ?_
      refine x_if_ne (tgt := 43) (pc := 38) d_M_operatorOf_38 (by decide) (fun c3 => ?_) (fun c3 => ?_)
      · rw [if_neg c3] at h
        refine x_aload_n (pc := 43) d_M_operatorOf_43 rfl ?_
        refine x_getf (c := 1) (k := 44) (v := vA 398) (pc := 44) d_M_operatorOf_44 l_M_233 (xm_at s R) rfl ?_
        refine x_iload_n (pc := 47) d_M_operatorOf_47 rfl ?_
        obtain ⟨c4, h⟩ := ite_some h
        refine x_lald (pc := 48) d_M_operatorOf_48 (xm_a44 s R) (xin_vp c4) ?_
        refine x_lload_n (pc := 49) d_M_operatorOf_49 rfl ?_
        refine x_lcmp (pc := 50) d_M_operatorOf_50 ?_
        refine x_if_ne (tgt := 59) (pc := 51) d_M_operatorOf_51 (by decide) (fun c5 => ?_) (fun c5 => ?_)
        · rw [if_neg c5] at h
          refine x_iinc (pc := 59) d_M_operatorOf_59 rfl (by decide) ?_
          show xW sc m_M_operatorOf (d + 0) Q (mH s R) 62 [some (vA 373), some (vL l1), none, some (vI (l3 + Int32.ofInt 1))] []
          refine x_goto (tgt := 24) (pc := 62) d_M_operatorOf_62 (by decide) ?_
          exact hk24 l1 (l3 + Int32.ofInt 1) s h
        · rw [if_pos c5] at h
          refine x_bipush (v := (35 : Int32)) (pc := 54) d_M_operatorOf_54 (by decide) ?_
          refine x_iload_n (pc := 56) d_M_operatorOf_56 rfl ?_
          refine x_iadd (pc := 57) d_M_operatorOf_57 ?_
          cases h
          exact x_iret (ty := .int) (pc := 58) d_M_operatorOf_58 rfl (rfl) hQ
      · rw [if_pos c3] at h
        refine x_iload_n (pc := 41) d_M_operatorOf_41 rfl ?_
        cases h
        exact x_iret (ty := .int) (pc := 42) d_M_operatorOf_42 rfl (rfl) hQ
def f_M_operatorOf_b16  (l1 : Int64) (s : MT) : Option (Int32 × MT) := some (l1.toInt32 + (43 : Int32), s)
theorem w_M_operatorOf_b16 {sc : xSc} {d : Nat} {Q : xR → xH → Prop} {R : xH} {sZ : MT} {rZ : Int32}  (hQ : Q (.inl (some (vI rZ))) (mH sZ R)) (l1 : Int64) (s : MT) (h : f_M_operatorOf_b16  l1 s = some (rZ, sZ)) : xW sc m_M_operatorOf (d + 0) Q (mH s R) 16 [none, some (vL l1), none, none] [] := by
  unfold f_M_operatorOf_b16 at h
  refine x_lload_n (pc := 16) d_M_operatorOf_16 rfl ?_
  refine x_l2i (pc := 17) d_M_operatorOf_17 ?_
  refine x_bipush (v := (43 : Int32)) (pc := 18) d_M_operatorOf_18 (by decide) ?_
  refine x_iadd (pc := 20) d_M_operatorOf_20 ?_
  cases h
  exact x_iret (ty := .int) (pc := 21) d_M_operatorOf_21 rfl (rfl) hQ
def f_M_operatorOf (s : MT) (a1 : Int64) : Option (Int32 × MT) := (if (lg_cmp a1 (27 : Int64)) = 0 then f_M_operatorOf_b16 a1 s else (if (lg_cmp a1 (28 : Int64)) = 0 then f_M_operatorOf_b16 a1 s else f_M_operatorOf_b24 mF a1 (0 : Int32) s))
theorem w_M_operatorOf {sc : xSc} {d : Nat} {Q : xR → xH → Prop} {R : xH} {sZ : MT} {rZ : Int32} (hQ : Q (.inl (some (vI rZ))) (mH sZ R)) (s : MT) (a1 : Int64) (h : f_M_operatorOf s a1 = some (rZ, sZ)) : xW sc m_M_operatorOf (d + 0) Q (mH s R) 0 (xent [vA 373, vL a1] m_M_operatorOf.2.2.1) [] := by
  show xW sc m_M_operatorOf (d + 0) Q (mH s R) 0 [some (vA 373), some (vL a1), none, none] []
  unfold f_M_operatorOf at h
  refine x_lload_n (pc := 0) d_M_operatorOf_0 rfl ?_
  refine x_ldc2 (v := (27 : Int64)) (pc := 1) d_M_operatorOf_1 c_M_314 ?_
  refine x_lcmp (pc := 4) d_M_operatorOf_4 ?_
  refine x_if_eq (tgt := 16) (pc := 5) d_M_operatorOf_5 (by decide) (fun c1 => ?_) (fun c1 => ?_)
  · rw [if_pos c1] at h
    exact x_wk (L' := [none, some (vL a1), none, none]) ⟨Or.inl rfl, Or.inr rfl, Or.inl rfl, Or.inl rfl, trivial⟩ (w_M_operatorOf_b16 hQ a1 s h)
  · rw [if_neg c1] at h
    refine x_lload_n (pc := 8) d_M_operatorOf_8 rfl ?_
    refine x_ldc2 (v := (28 : Int64)) (pc := 9) d_M_operatorOf_9 c_M_316 ?_
    refine x_lcmp (pc := 12) d_M_operatorOf_12 ?_
    refine x_if_ne (tgt := 22) (pc := 13) d_M_operatorOf_13 (by decide) (fun c2 => ?_) (fun c2 => ?_)
    · rw [if_neg c2] at h
      refine x_iconst (v := (0 : Int32)) (pc := 22) d_M_operatorOf_22 (by decide) ?_
      refine x_istore_n (pc := 23) d_M_operatorOf_23 (by decide) ?_
      show xW sc m_M_operatorOf (d + 0) Q (mH s R) 24 [some (vA 373), some (vL a1), none, some (vI (0 : Int32))] []
      exact w_M_operatorOf_b24 hQ mF a1 (0 : Int32) s h
    · rw [if_pos c2] at h
      exact x_wk (L' := [none, some (vL a1), none, none]) ⟨Or.inl rfl, Or.inr rfl, Or.inl rfl, Or.inl rfl, trivial⟩ (w_M_operatorOf_b16 hQ a1 s h)
def f_M_page_b31 (k9 : Int32 → Int32 → MT → Option (Int32 × MT)) (l2 : Int32) (t0 : Int32) (t1 : Int32) (s : MT) : Option (Int32 × MT) := (if xin l2 384 = true then k9 (t1 + t0) (l2 + Int32.ofInt 1) (sA 36 (va_up (mA 36 s) l2.toNatClampNeg (0 : Int32)) s) else none)
theorem w_M_page_b31 {sc : xSc} {d : Nat} {Q : xR → xH → Prop} {R : xH} {sZ : MT} {rZ : Int32} (k9 : Int32 → Int32 → MT → Option (Int32 × MT)) (hk9 : ∀ (l1 : Int32) (l2 : Int32) (s : MT), k9 l1 l2 s = some (rZ, sZ) → xW sc m_M_page (d + 0) Q (mH s R) 9 [some (vA 373), some (vI l1), some (vI l2)] []) (hQ : Q (.inl (some (vI rZ))) (mH sZ R)) (l2 : Int32) (t0 : Int32) (t1 : Int32) (s : MT) (h : f_M_page_b31 k9 l2 t0 t1 s = some (rZ, sZ)) : xW sc m_M_page (d + 0) Q (mH s R) 31 [some (vA 373), none, some (vI l2)] [vI t0, vI t1] := by
  unfold f_M_page_b31 at h
  refine x_iadd (pc := 31) d_M_page_31 ?_
  refine x_istore_n (pc := 32) d_M_page_32 (by decide) ?_
  show xW sc m_M_page (d + 0) Q (mH s R) 33 [some (vA 373), some (vI (t1 + t0)), some (vI l2)] []
  refine x_aload_n (pc := 33) d_M_page_33 rfl ?_
  refine x_getf (c := 1) (k := 36) (v := vA 392) (pc := 34) d_M_page_34 l_M_71 (xm_at s R) rfl ?_
  refine x_iload_n (pc := 37) d_M_page_37 rfl ?_
  refine x_iconst (v := (0 : Int32)) (pc := 38) d_M_page_38 (by decide) ?_
  obtain ⟨c1, h⟩ := ite_some h
  refine xm_s36 (pc := 39) d_M_page_39 c1 ?_
  refine x_iinc (pc := 40) d_M_page_40 rfl (by decide) ?_
  show xW sc m_M_page (d + 0) Q (mH (sA 36 (va_up (mA 36 s) l2.toNatClampNeg (0 : Int32)) s) R) 43 [some (vA 373), some (vI (t1 + t0)), some (vI (l2 + Int32.ofInt 1))] []
  refine x_goto (tgt := 9) (pc := 43) d_M_page_43 (by decide) ?_
  exact hk9 (t1 + t0) (l2 + Int32.ofInt 1) (sA 36 (va_up (mA 36 s) l2.toNatClampNeg (0 : Int32)) s) h
def f_M_page_b9  : Nat → Int32 → Int32 → MT → Option (Int32 × MT)
  | 0, _, _, _ => none
  | n + 1, l1, l2, s => (if (384 : Int32) ≤ l2 then some (l1, s) else (if xin l2 384 = true then (if (mA 36 s l2.toNatClampNeg) ≤ 0 then f_M_page_b31 (f_M_page_b9 n) l2 (0 : Int32) l1 s else f_M_page_b31 (f_M_page_b9 n) l2 (1 : Int32) l1 s) else none))
theorem w_M_page_b9 {sc : xSc} {d : Nat} {Q : xR → xH → Prop} {R : xH} {sZ : MT} {rZ : Int32}  (hQ : Q (.inl (some (vI rZ))) (mH sZ R)) : ∀ (n : Nat) (l1 : Int32) (l2 : Int32) (s : MT), f_M_page_b9  n l1 l2 s = some (rZ, sZ) → xW sc m_M_page (d + 0) Q (mH s R) 9 [some (vA 373), some (vI l1), some (vI l2)] [] := by
  intro n
  induction n with
  | zero =>
    intro l1 l2 s h
    cases h
  | succ n hk9 =>
    intro l1 l2 s h
    unfold f_M_page_b9 at h
    refine x_iload_n (pc := 9) d_M_page_9 rfl ?_
    refine x_sipush (v := (384 : Int32)) (pc := 10) d_M_page_10 (by decide) ?_
    refine x_icmp_ge (tgt := 46) (pc := 13) d_M_page_13 (by decide) (fun c1 => ?_) (fun c1 => ?_)
    · rw [if_pos c1] at h
      refine x_iload_n (pc := 46) d_M_page_46 rfl ?_
      cases h
      exact x_iret (ty := .int) (pc := 47) d_M_page_47 rfl (rfl) hQ
    · rw [if_neg c1] at h
      refine x_iload_n (pc := 16) d_M_page_16 rfl ?_
      refine x_aload_n (pc := 17) d_M_page_17 rfl ?_
      refine x_getf (c := 1) (k := 36) (v := vA 392) (pc := 18) d_M_page_18 l_M_71 (xm_at s R) rfl ?_
      refine x_iload_n (pc := 21) d_M_page_21 rfl ?_
      obtain ⟨c2, h⟩ := ite_some h
      refine x_iald (pc := 22) d_M_page_22 (xm_a36 s R) (xin_vp c2) ?_
      refine x_if_le (tgt := 30) (pc := 23) d_M_page_23 (by decide) (fun c3 => ?_) (fun c3 => ?_)
      · rw [if_pos c3] at h
        refine x_iconst (v := (0 : Int32)) (pc := 30) d_M_page_30 (by decide) ?_
        exact x_wk (L' := [some (vA 373), none, some (vI l2)]) ⟨Or.inr rfl, Or.inl rfl, Or.inr rfl, trivial⟩ (w_M_page_b31 (f_M_page_b9 n) hk9 hQ l2 (0 : Int32) l1 s h)
      · rw [if_neg c3] at h
        refine x_iconst (v := (1 : Int32)) (pc := 26) d_M_page_26 (by decide) ?_
        refine x_goto (tgt := 31) (pc := 27) d_M_page_27 (by decide) ?_
        exact x_wk (L' := [some (vA 373), none, some (vI l2)]) ⟨Or.inr rfl, Or.inl rfl, Or.inr rfl, trivial⟩ (w_M_page_b31 (f_M_page_b9 n) hk9 hQ l2 (1 : Int32) l1 s h)
def f_M_page (s : MT) : Option (Int32 × MT) := f_M_page_b9 mF (0 : Int32) (0 : Int32) (sI 0 (0 : Int32) s)
theorem w_M_page {sc : xSc} {d : Nat} {Q : xR → xH → Prop} {R : xH} {sZ : MT} {rZ : Int32} (hQ : Q (.inl (some (vI rZ))) (mH sZ R)) (s : MT) (h : f_M_page s = some (rZ, sZ)) : xW sc m_M_page (d + 0) Q (mH s R) 0 (xent [vA 373] m_M_page.2.2.1) [] := by
  show xW sc m_M_page (d + 0) Q (mH s R) 0 [some (vA 373), none, none] []
  unfold f_M_page at h
  refine x_aload_n (pc := 0) d_M_page_0 rfl ?_
  refine x_iconst (v := (0 : Int32)) (pc := 1) d_M_page_1 (by decide) ?_
  refine xm_p0 (pc := 2) d_M_page_2 l_M_242 ?_
  refine x_iconst (v := (0 : Int32)) (pc := 5) d_M_page_5 (by decide) ?_
  refine x_istore_n (pc := 6) d_M_page_6 (by decide) ?_
  show xW sc m_M_page (d + 0) Q (mH (sI 0 (0 : Int32) s) R) 7 [some (vA 373), some (vI (0 : Int32)), none] []
  refine x_iconst (v := (0 : Int32)) (pc := 7) d_M_page_7 (by decide) ?_
  refine x_istore_n (pc := 8) d_M_page_8 (by decide) ?_
  show xW sc m_M_page (d + 0) Q (mH (sI 0 (0 : Int32) s) R) 9 [some (vA 373), some (vI (0 : Int32)), some (vI (0 : Int32))] []
  exact w_M_page_b9 hQ mF (0 : Int32) (0 : Int32) (sI 0 (0 : Int32) s) h
def f_M_pattern_b159  (t0 : Int32) (s : MT) : Option (Int32 × MT) := some (t0, s)
theorem w_M_pattern_b159 {sc : xSc} {d : Nat} {Q : xR → xH → Prop} {R : xH} {sZ : MT} {rZ : Int32}  (hQ : Q (.inl (some (vI rZ))) (mH sZ R)) (t0 : Int32) (s : MT) (h : f_M_pattern_b159  t0 s = some (rZ, sZ)) : xW sc m_M_pattern (d + 0) Q (mH s R) 159 [none, none] [vI t0] := by
  unfold f_M_pattern_b159 at h
  cases h
  exact x_iret (ty := .int) (pc := 159) d_M_pattern_159 rfl (rfl) hQ
def f_M_pattern_b139  (t0 : Int32) (s : MT) : Option (Int32 × MT) := some (t0, s)
theorem w_M_pattern_b139 {sc : xSc} {d : Nat} {Q : xR → xH → Prop} {R : xH} {sZ : MT} {rZ : Int32}  (hQ : Q (.inl (some (vI rZ))) (mH sZ R)) (t0 : Int32) (s : MT) (h : f_M_pattern_b139  t0 s = some (rZ, sZ)) : xW sc m_M_pattern (d + 0) Q (mH s R) 139 [none, none] [vI t0] := by
  unfold f_M_pattern_b139 at h
  cases h
  exact x_iret (ty := .int) (pc := 139) d_M_pattern_139 rfl (rfl) hQ
def f_M_pattern_b76  (t0 : Int32) (s : MT) : Option (Int32 × MT) := some (t0, s)
theorem w_M_pattern_b76 {sc : xSc} {d : Nat} {Q : xR → xH → Prop} {R : xH} {sZ : MT} {rZ : Int32}  (hQ : Q (.inl (some (vI rZ))) (mH sZ R)) (t0 : Int32) (s : MT) (h : f_M_pattern_b76  t0 s = some (rZ, sZ)) : xW sc m_M_pattern (d + 0) Q (mH s R) 76 [none, none] [vI t0] := by
  unfold f_M_pattern_b76 at h
  cases h
  exact x_iret (ty := .int) (pc := 76) d_M_pattern_76 rfl (rfl) hQ
def f_M_pattern_b46  (t0 : Int32) (s : MT) : Option (Int32 × MT) := some (t0, s)
theorem w_M_pattern_b46 {sc : xSc} {d : Nat} {Q : xR → xH → Prop} {R : xH} {sZ : MT} {rZ : Int32}  (hQ : Q (.inl (some (vI rZ))) (mH sZ R)) (t0 : Int32) (s : MT) (h : f_M_pattern_b46  t0 s = some (rZ, sZ)) : xW sc m_M_pattern (d + 0) Q (mH s R) 46 [none, none] [vI t0] := by
  unfold f_M_pattern_b46 at h
  cases h
  exact x_iret (ty := .int) (pc := 46) d_M_pattern_46 rfl (rfl) hQ
def f_M_pattern (s : MT) (a1 : Int32) : Option (Int32 × MT) := (if (10 : Int32) ≤ a1 then (if (21 : Int32) ≤ a1 then (if (37 : Int32) ≤ a1 then (if (70 : Int32) ≤ a1 then f_M_pattern_b159 (0 : Int32) s else (if xin (a1 - (37 : Int32)) 33 = true then f_M_pattern_b159 (mA 42 s (a1 - (37 : Int32)).toNatClampNeg) s else none)) else (if (23 : Int32) ≤ a1 then (if (25 : Int32) ≤ a1 then (if (29 : Int32) ≤ a1 then (if (31 : Int32) ≤ a1 then (if a1 = (32 : Int32) then f_M_pattern_b139 (11 : Int32) s else f_M_pattern_b139 (9 : Int32) s) else f_M_pattern_b139 (99 : Int32) s) else f_M_pattern_b139 (22 : Int32) s) else f_M_pattern_b139 (99 : Int32) s) else f_M_pattern_b139 (0 : Int32) s)) else (if (14 : Int32) ≤ a1 then (if (16 : Int32) ≤ a1 then f_M_pattern_b76 (2 : Int32) s else f_M_pattern_b76 (11 : Int32) s) else f_M_pattern_b76 (22 : Int32) s)) else (if a1 = (5 : Int32) then f_M_pattern_b46 (11 : Int32) s else (if a1 ≤ (5 : Int32) then (if a1 ≤ (2 : Int32) then (if a1 = (1 : Int32) then f_M_pattern_b46 (99 : Int32) s else f_M_pattern_b46 (9 : Int32) s) else f_M_pattern_b46 (1 : Int32) s) else f_M_pattern_b46 (0 : Int32) s)))
theorem w_M_pattern {sc : xSc} {d : Nat} {Q : xR → xH → Prop} {R : xH} {sZ : MT} {rZ : Int32} (hQ : Q (.inl (some (vI rZ))) (mH sZ R)) (s : MT) (a1 : Int32) (h : f_M_pattern s a1 = some (rZ, sZ)) : xW sc m_M_pattern (d + 0) Q (mH s R) 0 (xent [vA 373, vI a1] m_M_pattern.2.2.1) [] := by
  show xW sc m_M_pattern (d + 0) Q (mH s R) 0 [some (vA 373), some (vI a1)] []
  unfold f_M_pattern at h
  refine x_iload_n (pc := 0) d_M_pattern_0 rfl ?_
  refine x_bipush (v := (10 : Int32)) (pc := 1) d_M_pattern_1 (by decide) ?_
  refine x_icmp_ge (tgt := 47) (pc := 3) d_M_pattern_3 (by decide) (fun c1 => ?_) (fun c1 => ?_)
  · rw [if_pos c1] at h
    refine x_iload_n (pc := 47) d_M_pattern_47 rfl ?_
    refine x_bipush (v := (21 : Int32)) (pc := 48) d_M_pattern_48 (by decide) ?_
    refine x_icmp_ge (tgt := 77) (pc := 50) d_M_pattern_50 (by decide) (fun c2 => ?_) (fun c2 => ?_)
    · rw [if_pos c2] at h
      refine x_iload_n (pc := 77) d_M_pattern_77 rfl ?_
      refine x_bipush (v := (37 : Int32)) (pc := 78) d_M_pattern_78 (by decide) ?_
      refine x_icmp_ge (tgt := 140) (pc := 80) d_M_pattern_80 (by decide) (fun c3 => ?_) (fun c3 => ?_)
      · rw [if_pos c3] at h
        refine x_iload_n (pc := 140) d_M_pattern_140 rfl ?_
        refine x_bipush (v := (70 : Int32)) (pc := 141) d_M_pattern_141 (by decide) ?_
        refine x_icmp_ge (tgt := 158) (pc := 143) d_M_pattern_143 (by decide) (fun c4 => ?_) (fun c4 => ?_)
        · rw [if_pos c4] at h
          refine x_iconst (v := (0 : Int32)) (pc := 158) d_M_pattern_158 (by decide) ?_
          exact x_wk (L' := [none, none]) ⟨Or.inl rfl, Or.inl rfl, trivial⟩ (w_M_pattern_b159 hQ (0 : Int32) s h)
        · rw [if_neg c4] at h
          refine x_aload_n (pc := 146) d_M_pattern_146 rfl ?_
          refine x_getf (c := 1) (k := 42) (v := vA 396) (pc := 147) d_M_pattern_147 l_M_87 (xm_at s R) rfl ?_
          refine x_iload_n (pc := 150) d_M_pattern_150 rfl ?_
          refine x_bipush (v := (37 : Int32)) (pc := 151) d_M_pattern_151 (by decide) ?_
          refine x_isub (pc := 153) d_M_pattern_153 ?_
          obtain ⟨c5, h⟩ := ite_some h
          refine x_iald (pc := 154) d_M_pattern_154 (xm_a42 s R) (xin_vp c5) ?_
          refine x_goto (tgt := 159) (pc := 155) d_M_pattern_155 (by decide) ?_
          exact x_wk (L' := [none, none]) ⟨Or.inl rfl, Or.inl rfl, trivial⟩ (w_M_pattern_b159 hQ (mA 42 s (a1 - (37 : Int32)).toNatClampNeg) s h)
      · rw [if_neg c3] at h
        refine x_iload_n (pc := 83) d_M_pattern_83 rfl ?_
        refine x_bipush (v := (23 : Int32)) (pc := 84) d_M_pattern_84 (by decide) ?_
        refine x_icmp_ge (tgt := 93) (pc := 86) d_M_pattern_86 (by decide) (fun c6 => ?_) (fun c6 => ?_)
        · rw [if_pos c6] at h
          refine x_iload_n (pc := 93) d_M_pattern_93 rfl ?_
          refine x_bipush (v := (25 : Int32)) (pc := 94) d_M_pattern_94 (by decide) ?_
          refine x_icmp_ge (tgt := 104) (pc := 96) d_M_pattern_96 (by decide) (fun c7 => ?_) (fun c7 => ?_)
          · rw [if_pos c7] at h
            refine x_iload_n (pc := 104) d_M_pattern_104 rfl ?_
            refine x_bipush (v := (29 : Int32)) (pc := 105) d_M_pattern_105 (by decide) ?_
            refine x_icmp_ge (tgt := 115) (pc := 107) d_M_pattern_107 (by decide) (fun c8 => ?_) (fun c8 => ?_)
            · rw [if_pos c8] at h
              refine x_iload_n (pc := 115) d_M_pattern_115 rfl ?_
              refine x_bipush (v := (31 : Int32)) (pc := 116) d_M_pattern_116 (by decide) ?_
              refine x_icmp_ge (tgt := 126) (pc := 118) d_M_pattern_118 (by decide) (fun c9 => ?_) (fun c9 => ?_)
              · rw [if_pos c9] at h
                refine x_iload_n (pc := 126) d_M_pattern_126 rfl ?_
                refine x_bipush (v := (32 : Int32)) (pc := 127) d_M_pattern_127 (by decide) ?_
                refine x_icmp_ne (tgt := 137) (pc := 129) d_M_pattern_129 (by decide) (fun c10 => ?_) (fun c10 => ?_)
                · rw [if_neg c10] at h
                  refine x_bipush (v := (9 : Int32)) (pc := 137) d_M_pattern_137 (by decide) ?_
                  exact x_wk (L' := [none, none]) ⟨Or.inl rfl, Or.inl rfl, trivial⟩ (w_M_pattern_b139 hQ (9 : Int32) s h)
                · rw [if_pos c10] at h
                  refine x_bipush (v := (11 : Int32)) (pc := 132) d_M_pattern_132 (by decide) ?_
                  refine x_goto (tgt := 139) (pc := 134) d_M_pattern_134 (by decide) ?_
                  exact x_wk (L' := [none, none]) ⟨Or.inl rfl, Or.inl rfl, trivial⟩ (w_M_pattern_b139 hQ (11 : Int32) s h)
              · rw [if_neg c9] at h
                refine x_bipush (v := (99 : Int32)) (pc := 121) d_M_pattern_121 (by decide) ?_
                refine x_goto (tgt := 139) (pc := 123) d_M_pattern_123 (by decide) ?_
                exact x_wk (L' := [none, none]) ⟨Or.inl rfl, Or.inl rfl, trivial⟩ (w_M_pattern_b139 hQ (99 : Int32) s h)
            · rw [if_neg c8] at h
              refine x_bipush (v := (22 : Int32)) (pc := 110) d_M_pattern_110 (by decide) ?_
              refine x_goto (tgt := 139) (pc := 112) d_M_pattern_112 (by decide) ?_
              exact x_wk (L' := [none, none]) ⟨Or.inl rfl, Or.inl rfl, trivial⟩ (w_M_pattern_b139 hQ (22 : Int32) s h)
          · rw [if_neg c7] at h
            refine x_bipush (v := (99 : Int32)) (pc := 99) d_M_pattern_99 (by decide) ?_
            refine x_goto (tgt := 139) (pc := 101) d_M_pattern_101 (by decide) ?_
            exact x_wk (L' := [none, none]) ⟨Or.inl rfl, Or.inl rfl, trivial⟩ (w_M_pattern_b139 hQ (99 : Int32) s h)
        · rw [if_neg c6] at h
          refine x_iconst (v := (0 : Int32)) (pc := 89) d_M_pattern_89 (by decide) ?_
          refine x_goto (tgt := 139) (pc := 90) d_M_pattern_90 (by decide) ?_
          exact x_wk (L' := [none, none]) ⟨Or.inl rfl, Or.inl rfl, trivial⟩ (w_M_pattern_b139 hQ (0 : Int32) s h)
    · rw [if_neg c2] at h
      refine x_iload_n (pc := 53) d_M_pattern_53 rfl ?_
      refine x_bipush (v := (14 : Int32)) (pc := 54) d_M_pattern_54 (by decide) ?_
      refine x_icmp_ge (tgt := 64) (pc := 56) d_M_pattern_56 (by decide) (fun c11 => ?_) (fun c11 => ?_)
      · rw [if_pos c11] at h
        refine x_iload_n (pc := 64) d_M_pattern_64 rfl ?_
        refine x_bipush (v := (16 : Int32)) (pc := 65) d_M_pattern_65 (by decide) ?_
        refine x_icmp_ge (tgt := 75) (pc := 67) d_M_pattern_67 (by decide) (fun c12 => ?_) (fun c12 => ?_)
        · rw [if_pos c12] at h
          refine x_iconst (v := (2 : Int32)) (pc := 75) d_M_pattern_75 (by decide) ?_
          exact x_wk (L' := [none, none]) ⟨Or.inl rfl, Or.inl rfl, trivial⟩ (w_M_pattern_b76 hQ (2 : Int32) s h)
        · rw [if_neg c12] at h
          refine x_bipush (v := (11 : Int32)) (pc := 70) d_M_pattern_70 (by decide) ?_
          refine x_goto (tgt := 76) (pc := 72) d_M_pattern_72 (by decide) ?_
          exact x_wk (L' := [none, none]) ⟨Or.inl rfl, Or.inl rfl, trivial⟩ (w_M_pattern_b76 hQ (11 : Int32) s h)
      · rw [if_neg c11] at h
        refine x_bipush (v := (22 : Int32)) (pc := 59) d_M_pattern_59 (by decide) ?_
        refine x_goto (tgt := 76) (pc := 61) d_M_pattern_61 (by decide) ?_
        exact x_wk (L' := [none, none]) ⟨Or.inl rfl, Or.inl rfl, trivial⟩ (w_M_pattern_b76 hQ (22 : Int32) s h)
  · rw [if_neg c1] at h
    refine x_iload_n (pc := 6) d_M_pattern_6 rfl ?_
    refine x_iconst (v := (5 : Int32)) (pc := 7) d_M_pattern_7 (by decide) ?_
    refine x_icmp_ne (tgt := 16) (pc := 8) d_M_pattern_8 (by decide) (fun c13 => ?_) (fun c13 => ?_)
    · rw [if_neg c13] at h
      refine x_iload_n (pc := 16) d_M_pattern_16 rfl ?_
      refine x_iconst (v := (5 : Int32)) (pc := 17) d_M_pattern_17 (by decide) ?_
      refine x_icmp_le (tgt := 25) (pc := 18) d_M_pattern_18 (by decide) (fun c14 => ?_) (fun c14 => ?_)
      · rw [if_pos c14] at h
        refine x_iload_n (pc := 25) d_M_pattern_25 rfl ?_
        refine x_iconst (v := (2 : Int32)) (pc := 26) d_M_pattern_26 (by decide) ?_
        refine x_icmp_le (tgt := 34) (pc := 27) d_M_pattern_27 (by decide) (fun c15 => ?_) (fun c15 => ?_)
        · rw [if_pos c15] at h
          refine x_iload_n (pc := 34) d_M_pattern_34 rfl ?_
          refine x_iconst (v := (1 : Int32)) (pc := 35) d_M_pattern_35 (by decide) ?_
          refine x_icmp_ne (tgt := 44) (pc := 36) d_M_pattern_36 (by decide) (fun c16 => ?_) (fun c16 => ?_)
          · rw [if_neg c16] at h
            refine x_bipush (v := (9 : Int32)) (pc := 44) d_M_pattern_44 (by decide) ?_
            exact x_wk (L' := [none, none]) ⟨Or.inl rfl, Or.inl rfl, trivial⟩ (w_M_pattern_b46 hQ (9 : Int32) s h)
          · rw [if_pos c16] at h
            refine x_bipush (v := (99 : Int32)) (pc := 39) d_M_pattern_39 (by decide) ?_
            refine x_goto (tgt := 46) (pc := 41) d_M_pattern_41 (by decide) ?_
            exact x_wk (L' := [none, none]) ⟨Or.inl rfl, Or.inl rfl, trivial⟩ (w_M_pattern_b46 hQ (99 : Int32) s h)
        · rw [if_neg c15] at h
          refine x_iconst (v := (1 : Int32)) (pc := 30) d_M_pattern_30 (by decide) ?_
          refine x_goto (tgt := 46) (pc := 31) d_M_pattern_31 (by decide) ?_
          exact x_wk (L' := [none, none]) ⟨Or.inl rfl, Or.inl rfl, trivial⟩ (w_M_pattern_b46 hQ (1 : Int32) s h)
      · rw [if_neg c14] at h
        refine x_iconst (v := (0 : Int32)) (pc := 21) d_M_pattern_21 (by decide) ?_
        refine x_goto (tgt := 46) (pc := 22) d_M_pattern_22 (by decide) ?_
        exact x_wk (L' := [none, none]) ⟨Or.inl rfl, Or.inl rfl, trivial⟩ (w_M_pattern_b46 hQ (0 : Int32) s h)
    · rw [if_pos c13] at h
      refine x_bipush (v := (11 : Int32)) (pc := 11) d_M_pattern_11 (by decide) ?_
      refine x_goto (tgt := 46) (pc := 13) d_M_pattern_13 (by decide) ?_
      exact x_wk (L' := [none, none]) ⟨Or.inl rfl, Or.inl rfl, trivial⟩ (w_M_pattern_b46 hQ (11 : Int32) s h)
def f_M_pixel_b44  (t0 : Int32) (s : MT) : Option (Int32 × MT) := some (t0, s)
theorem w_M_pixel_b44 {sc : xSc} {d : Nat} {Q : xR → xH → Prop} {R : xH} {sZ : MT} {rZ : Int32}  (hQ : Q (.inl (some (vI rZ))) (mH sZ R)) (t0 : Int32) (s : MT) (h : f_M_pixel_b44  t0 s = some (rZ, sZ)) : xW sc m_M_pixel (d + 0) Q (mH s R) 44 [none, none, none] [vI t0] := by
  unfold f_M_pixel_b44 at h
  cases h
  exact x_iret (ty := .int) (pc := 44) d_M_pixel_44 rfl (rfl) hQ
def f_M_pixel_b29  (s : MT) : Option (Int32 × MT) := f_M_pixel_b44 (-1 : Int32) s
theorem w_M_pixel_b29 {sc : xSc} {d : Nat} {Q : xR → xH → Prop} {R : xH} {sZ : MT} {rZ : Int32}  (hQ : Q (.inl (some (vI rZ))) (mH sZ R)) (s : MT) (h : f_M_pixel_b29  s = some (rZ, sZ)) : xW sc m_M_pixel (d + 0) Q (mH s R) 29 [none, none, none] [] := by
  unfold f_M_pixel_b29 at h
  refine x_iconst (v := (-1 : Int32)) (pc := 29) d_M_pixel_29 (by decide) ?_
  refine x_goto (tgt := 44) (pc := 30) d_M_pixel_30 (by decide) ?_
  exact w_M_pixel_b44 hQ (-1 : Int32) s h
def f_M_pixel (s : MT) (a1 : Int32) (a2 : Int32) : Option (Int32 × MT) := (if a1 < 0 then f_M_pixel_b29 (sI 0 (0 : Int32) s) else (if (mI 34 (sI 0 (0 : Int32) s)) ≤ a1 then f_M_pixel_b29 (sI 0 (0 : Int32) s) else (if a2 < 0 then f_M_pixel_b29 (sI 0 (0 : Int32) s) else (if a2 < (mI 35 (sI 0 (0 : Int32) s)) then (if xin (((24 : Int32) * a2) + a1) 384 = true then f_M_pixel_b44 (mA 36 (sI 0 (0 : Int32) s) (((24 : Int32) * a2) + a1).toNatClampNeg) (sI 0 (0 : Int32) s) else none) else f_M_pixel_b29 (sI 0 (0 : Int32) s)))))
theorem w_M_pixel {sc : xSc} {d : Nat} {Q : xR → xH → Prop} {R : xH} {sZ : MT} {rZ : Int32} (hQ : Q (.inl (some (vI rZ))) (mH sZ R)) (s : MT) (a1 : Int32) (a2 : Int32) (h : f_M_pixel s a1 a2 = some (rZ, sZ)) : xW sc m_M_pixel (d + 0) Q (mH s R) 0 (xent [vA 373, vI a1, vI a2] m_M_pixel.2.2.1) [] := by
  show xW sc m_M_pixel (d + 0) Q (mH s R) 0 [some (vA 373), some (vI a1), some (vI a2)] []
  unfold f_M_pixel at h
  refine x_aload_n (pc := 0) d_M_pixel_0 rfl ?_
  refine x_iconst (v := (0 : Int32)) (pc := 1) d_M_pixel_1 (by decide) ?_
  refine xm_p0 (pc := 2) d_M_pixel_2 l_M_242 ?_
  refine x_iload_n (pc := 5) d_M_pixel_5 rfl ?_
  refine x_if_lt (tgt := 29) (pc := 6) d_M_pixel_6 (by decide) (fun c1 => ?_) (fun c1 => ?_)
  · rw [if_pos c1] at h
    exact x_wk (L' := [none, none, none]) ⟨Or.inl rfl, Or.inl rfl, Or.inl rfl, trivial⟩ (w_M_pixel_b29 hQ (sI 0 (0 : Int32) s) h)
  · rw [if_neg c1] at h
    refine x_iload_n (pc := 9) d_M_pixel_9 rfl ?_
    refine x_aload_n (pc := 10) d_M_pixel_10 rfl ?_
    refine x_getf (c := 1) (k := 34) (v := vI (mI 34 (sI 0 (0 : Int32) s))) (pc := 11) d_M_pixel_11 l_M_236 (xm_at (sI 0 (0 : Int32) s) R) rfl ?_
    refine x_icmp_ge (tgt := 29) (pc := 14) d_M_pixel_14 (by decide) (fun c2 => ?_) (fun c2 => ?_)
    · rw [if_pos c2] at h
      exact x_wk (L' := [none, none, none]) ⟨Or.inl rfl, Or.inl rfl, Or.inl rfl, trivial⟩ (w_M_pixel_b29 hQ (sI 0 (0 : Int32) s) h)
    · rw [if_neg c2] at h
      refine x_iload_n (pc := 17) d_M_pixel_17 rfl ?_
      refine x_if_lt (tgt := 29) (pc := 18) d_M_pixel_18 (by decide) (fun c3 => ?_) (fun c3 => ?_)
      · rw [if_pos c3] at h
        exact x_wk (L' := [none, none, none]) ⟨Or.inl rfl, Or.inl rfl, Or.inl rfl, trivial⟩ (w_M_pixel_b29 hQ (sI 0 (0 : Int32) s) h)
      · rw [if_neg c3] at h
        refine x_iload_n (pc := 21) d_M_pixel_21 rfl ?_
        refine x_aload_n (pc := 22) d_M_pixel_22 rfl ?_
        refine x_getf (c := 1) (k := 35) (v := vI (mI 35 (sI 0 (0 : Int32) s))) (pc := 23) d_M_pixel_23 l_M_239 (xm_at (sI 0 (0 : Int32) s) R) rfl ?_
        refine x_icmp_lt (tgt := 33) (pc := 26) d_M_pixel_26 (by decide) (fun c4 => ?_) (fun c4 => ?_)
        · rw [if_pos c4] at h
          refine x_aload_n (pc := 33) d_M_pixel_33 rfl ?_
          refine x_getf (c := 1) (k := 36) (v := vA 392) (pc := 34) d_M_pixel_34 l_M_71 (xm_at (sI 0 (0 : Int32) s) R) rfl ?_
          refine x_bipush (v := (24 : Int32)) (pc := 37) d_M_pixel_37 (by decide) ?_
          refine x_iload_n (pc := 39) d_M_pixel_39 rfl ?_
          refine x_imul (pc := 40) d_M_pixel_40 ?_
          refine x_iload_n (pc := 41) d_M_pixel_41 rfl ?_
          refine x_iadd (pc := 42) d_M_pixel_42 ?_
          obtain ⟨c5, h⟩ := ite_some h
          refine x_iald (pc := 43) d_M_pixel_43 (xm_a36 (sI 0 (0 : Int32) s) R) (xin_vp c5) ?_
          exact x_wk (L' := [none, none, none]) ⟨Or.inl rfl, Or.inl rfl, Or.inl rfl, trivial⟩ (w_M_pixel_b44 hQ (mA 36 (sI 0 (0 : Int32) s) (((24 : Int32) * a2) + a1).toNatClampNeg) (sI 0 (0 : Int32) s) h)
        · rw [if_neg c4] at h
          exact x_wk (L' := [none, none, none]) ⟨Or.inl rfl, Or.inl rfl, Or.inl rfl, trivial⟩ (w_M_pixel_b29 hQ (sI 0 (0 : Int32) s) h)
def f_M_point (s : MT) (a1 : UInt64) (a2 : UInt64) (a3 : Int32) : Option (Int32 × MT) := (if xin (mI 41 s) 30 = true then (if xin (mI 41 (sD 38 (va_up (mD 38 s) (mI 41 s).toNatClampNeg a1) s)) 30 = true then (if xin (mI 41 (sD 39 (va_up (mD 39 (sD 38 (va_up (mD 38 s) (mI 41 s).toNatClampNeg a1) s)) (mI 41 (sD 38 (va_up (mD 38 s) (mI 41 s).toNatClampNeg a1) s)).toNatClampNeg a2) (sD 38 (va_up (mD 38 s) (mI 41 s).toNatClampNeg a1) s))) 30 = true then some ((0 : Int32), sI 41 ((mI 41 (sA 40 (va_up (mA 40 (sD 39 (va_up (mD 39 (sD 38 (va_up (mD 38 s) (mI 41 s).toNatClampNeg a1) s)) (mI 41 (sD 38 (va_up (mD 38 s) (mI 41 s).toNatClampNeg a1) s)).toNatClampNeg a2) (sD 38 (va_up (mD 38 s) (mI 41 s).toNatClampNeg a1) s))) (mI 41 (sD 39 (va_up (mD 39 (sD 38 (va_up (mD 38 s) (mI 41 s).toNatClampNeg a1) s)) (mI 41 (sD 38 (va_up (mD 38 s) (mI 41 s).toNatClampNeg a1) s)).toNatClampNeg a2) (sD 38 (va_up (mD 38 s) (mI 41 s).toNatClampNeg a1) s))).toNatClampNeg a3) (sD 39 (va_up (mD 39 (sD 38 (va_up (mD 38 s) (mI 41 s).toNatClampNeg a1) s)) (mI 41 (sD 38 (va_up (mD 38 s) (mI 41 s).toNatClampNeg a1) s)).toNatClampNeg a2) (sD 38 (va_up (mD 38 s) (mI 41 s).toNatClampNeg a1) s)))) + (1 : Int32)) (sA 40 (va_up (mA 40 (sD 39 (va_up (mD 39 (sD 38 (va_up (mD 38 s) (mI 41 s).toNatClampNeg a1) s)) (mI 41 (sD 38 (va_up (mD 38 s) (mI 41 s).toNatClampNeg a1) s)).toNatClampNeg a2) (sD 38 (va_up (mD 38 s) (mI 41 s).toNatClampNeg a1) s))) (mI 41 (sD 39 (va_up (mD 39 (sD 38 (va_up (mD 38 s) (mI 41 s).toNatClampNeg a1) s)) (mI 41 (sD 38 (va_up (mD 38 s) (mI 41 s).toNatClampNeg a1) s)).toNatClampNeg a2) (sD 38 (va_up (mD 38 s) (mI 41 s).toNatClampNeg a1) s))).toNatClampNeg a3) (sD 39 (va_up (mD 39 (sD 38 (va_up (mD 38 s) (mI 41 s).toNatClampNeg a1) s)) (mI 41 (sD 38 (va_up (mD 38 s) (mI 41 s).toNatClampNeg a1) s)).toNatClampNeg a2) (sD 38 (va_up (mD 38 s) (mI 41 s).toNatClampNeg a1) s)))) else none) else none) else none)
theorem w_M_point {sc : xSc} {d : Nat} {Q : xR → xH → Prop} {R : xH} {sZ : MT} {rZ : Int32} (hQ : Q (.inl (some (vI rZ))) (mH sZ R)) (s : MT) (a1 : UInt64) (a2 : UInt64) (a3 : Int32) (h : f_M_point s a1 a2 a3 = some (rZ, sZ)) : xW sc m_M_point (d + 0) Q (mH s R) 0 (xent [vA 373, vD a1, vD a2, vI a3] m_M_point.2.2.1) [] := by
  show xW sc m_M_point (d + 0) Q (mH s R) 0 [some (vA 373), some (vD a1), none, some (vD a2), none, some (vI a3)] []
  unfold f_M_point at h
  refine x_aload_n (pc := 0) d_M_point_0 rfl ?_
  refine x_getf (c := 1) (k := 38) (v := vA 393) (pc := 1) d_M_point_1 l_M_78 (xm_at s R) rfl ?_
  refine x_aload_n (pc := 4) d_M_point_4 rfl ?_
  refine x_getf (c := 1) (k := 41) (v := vI (mI 41 s)) (pc := 5) d_M_point_5 l_M_547 (xm_at s R) rfl ?_
  refine x_dload_n (pc := 8) d_M_point_8 rfl ?_
  obtain ⟨c1, h⟩ := ite_some h
  refine xm_s38 (pc := 9) d_M_point_9 c1 ?_
  refine x_aload_n (pc := 10) d_M_point_10 rfl ?_
  refine x_getf (c := 1) (k := 39) (v := vA 394) (pc := 11) d_M_point_11 l_M_81 (xm_at (sD 38 (va_up (mD 38 s) (mI 41 s).toNatClampNeg a1) s) R) rfl ?_
  refine x_aload_n (pc := 14) d_M_point_14 rfl ?_
  refine x_getf (c := 1) (k := 41) (v := vI (mI 41 (sD 38 (va_up (mD 38 s) (mI 41 s).toNatClampNeg a1) s))) (pc := 15) d_M_point_15 l_M_547 (xm_at (sD 38 (va_up (mD 38 s) (mI 41 s).toNatClampNeg a1) s) R) rfl ?_
  refine x_dload_n (pc := 18) d_M_point_18 rfl ?_
  obtain ⟨c2, h⟩ := ite_some h
  refine xm_s39 (pc := 19) d_M_point_19 c2 ?_
  refine x_aload_n (pc := 20) d_M_point_20 rfl ?_
  refine x_getf (c := 1) (k := 40) (v := vA 395) (pc := 21) d_M_point_21 l_M_84 (xm_at (sD 39 (va_up (mD 39 (sD 38 (va_up (mD 38 s) (mI 41 s).toNatClampNeg a1) s)) (mI 41 (sD 38 (va_up (mD 38 s) (mI 41 s).toNatClampNeg a1) s)).toNatClampNeg a2) (sD 38 (va_up (mD 38 s) (mI 41 s).toNatClampNeg a1) s)) R) rfl ?_
  refine x_aload_n (pc := 24) d_M_point_24 rfl ?_
  refine x_getf (c := 1) (k := 41) (v := vI (mI 41 (sD 39 (va_up (mD 39 (sD 38 (va_up (mD 38 s) (mI 41 s).toNatClampNeg a1) s)) (mI 41 (sD 38 (va_up (mD 38 s) (mI 41 s).toNatClampNeg a1) s)).toNatClampNeg a2) (sD 38 (va_up (mD 38 s) (mI 41 s).toNatClampNeg a1) s)))) (pc := 25) d_M_point_25 l_M_547 (xm_at (sD 39 (va_up (mD 39 (sD 38 (va_up (mD 38 s) (mI 41 s).toNatClampNeg a1) s)) (mI 41 (sD 38 (va_up (mD 38 s) (mI 41 s).toNatClampNeg a1) s)).toNatClampNeg a2) (sD 38 (va_up (mD 38 s) (mI 41 s).toNatClampNeg a1) s)) R) rfl ?_
  refine x_iload (pc := 28) d_M_point_28 rfl ?_
  obtain ⟨c3, h⟩ := ite_some h
  refine xm_s40 (pc := 30) d_M_point_30 c3 ?_
  refine x_aload_n (pc := 31) d_M_point_31 rfl ?_
  refine x_dup (pc := 32) d_M_point_32 rfl ?_
  refine x_getf (c := 1) (k := 41) (v := vI (mI 41 (sA 40 (va_up (mA 40 (sD 39 (va_up (mD 39 (sD 38 (va_up (mD 38 s) (mI 41 s).toNatClampNeg a1) s)) (mI 41 (sD 38 (va_up (mD 38 s) (mI 41 s).toNatClampNeg a1) s)).toNatClampNeg a2) (sD 38 (va_up (mD 38 s) (mI 41 s).toNatClampNeg a1) s))) (mI 41 (sD 39 (va_up (mD 39 (sD 38 (va_up (mD 38 s) (mI 41 s).toNatClampNeg a1) s)) (mI 41 (sD 38 (va_up (mD 38 s) (mI 41 s).toNatClampNeg a1) s)).toNatClampNeg a2) (sD 38 (va_up (mD 38 s) (mI 41 s).toNatClampNeg a1) s))).toNatClampNeg a3) (sD 39 (va_up (mD 39 (sD 38 (va_up (mD 38 s) (mI 41 s).toNatClampNeg a1) s)) (mI 41 (sD 38 (va_up (mD 38 s) (mI 41 s).toNatClampNeg a1) s)).toNatClampNeg a2) (sD 38 (va_up (mD 38 s) (mI 41 s).toNatClampNeg a1) s))))) (pc := 33) d_M_point_33 l_M_547 (xm_at (sA 40 (va_up (mA 40 (sD 39 (va_up (mD 39 (sD 38 (va_up (mD 38 s) (mI 41 s).toNatClampNeg a1) s)) (mI 41 (sD 38 (va_up (mD 38 s) (mI 41 s).toNatClampNeg a1) s)).toNatClampNeg a2) (sD 38 (va_up (mD 38 s) (mI 41 s).toNatClampNeg a1) s))) (mI 41 (sD 39 (va_up (mD 39 (sD 38 (va_up (mD 38 s) (mI 41 s).toNatClampNeg a1) s)) (mI 41 (sD 38 (va_up (mD 38 s) (mI 41 s).toNatClampNeg a1) s)).toNatClampNeg a2) (sD 38 (va_up (mD 38 s) (mI 41 s).toNatClampNeg a1) s))).toNatClampNeg a3) (sD 39 (va_up (mD 39 (sD 38 (va_up (mD 38 s) (mI 41 s).toNatClampNeg a1) s)) (mI 41 (sD 38 (va_up (mD 38 s) (mI 41 s).toNatClampNeg a1) s)).toNatClampNeg a2) (sD 38 (va_up (mD 38 s) (mI 41 s).toNatClampNeg a1) s))) R) rfl ?_
  refine x_iconst (v := (1 : Int32)) (pc := 36) d_M_point_36 (by decide) ?_
  refine x_iadd (pc := 37) d_M_point_37 ?_
  refine xm_p41 (pc := 38) d_M_point_38 l_M_547 ?_
  refine x_iconst (v := (0 : Int32)) (pc := 41) d_M_point_41 (by decide) ?_
  cases h
  exact x_iret (ty := .int) (pc := 42) d_M_point_42 rfl (rfl) hQ
def f_M_set (s : MT) (a1 : Int32) (a2 : Int32) (a3 : Int64) : Option MT := (if xin a1 1300 = true then (if xin a1 1300 = true then (if xin a1 1300 = true then some (sD 3 (va_up (mD 3 (sL 2 (va_up (mL 2 (sA 1 (va_up (mA 1 s) a1.toNatClampNeg a2) s)) a1.toNatClampNeg a3) (sA 1 (va_up (mA 1 s) a1.toNatClampNeg a2) s))) a1.toNatClampNeg FP.dconst0) (sL 2 (va_up (mL 2 (sA 1 (va_up (mA 1 s) a1.toNatClampNeg a2) s)) a1.toNatClampNeg a3) (sA 1 (va_up (mA 1 s) a1.toNatClampNeg a2) s))) else none) else none) else none)
theorem w_M_set {sc : xSc} {d : Nat} {Q : xR → xH → Prop} {R : xH} {sZ : MT} (hQ : Q (.inl none) (mH sZ R)) (s : MT) (a1 : Int32) (a2 : Int32) (a3 : Int64) (h : f_M_set s a1 a2 a3 = some sZ) : xW sc m_M_set (d + 0) Q (mH s R) 0 (xent [vA 373, vI a1, vI a2, vL a3] m_M_set.2.2.1) [] := by
  show xW sc m_M_set (d + 0) Q (mH s R) 0 [some (vA 373), some (vI a1), some (vI a2), some (vL a3), none] []
  unfold f_M_set at h
  refine x_aload_n (pc := 0) d_M_set_0 rfl ?_
  refine x_getf (c := 1) (k := 1) (v := vA 374) (pc := 1) d_M_set_1 l_M_7 (xm_at s R) rfl ?_
  refine x_iload_n (pc := 4) d_M_set_4 rfl ?_
  refine x_iload_n (pc := 5) d_M_set_5 rfl ?_
  obtain ⟨c1, h⟩ := ite_some h
  refine xm_s1 (pc := 6) d_M_set_6 c1 ?_
  refine x_aload_n (pc := 7) d_M_set_7 rfl ?_
  refine x_getf (c := 1) (k := 2) (v := vA 375) (pc := 8) d_M_set_8 l_M_13 (xm_at (sA 1 (va_up (mA 1 s) a1.toNatClampNeg a2) s) R) rfl ?_
  refine x_iload_n (pc := 11) d_M_set_11 rfl ?_
  refine x_lload_n (pc := 12) d_M_set_12 rfl ?_
  obtain ⟨c2, h⟩ := ite_some h
  refine xm_s2 (pc := 13) d_M_set_13 c2 ?_
  refine x_aload_n (pc := 14) d_M_set_14 rfl ?_
  refine x_getf (c := 1) (k := 3) (v := vA 376) (pc := 15) d_M_set_15 l_M_17 (xm_at (sL 2 (va_up (mL 2 (sA 1 (va_up (mA 1 s) a1.toNatClampNeg a2) s)) a1.toNatClampNeg a3) (sA 1 (va_up (mA 1 s) a1.toNatClampNeg a2) s)) R) rfl ?_
  refine x_iload_n (pc := 18) d_M_set_18 rfl ?_
  refine x_dconst0 (pc := 19) d_M_set_19 ?_
  obtain ⟨c3, h⟩ := ite_some h
  refine xm_s3 (pc := 20) d_M_set_20 c3 ?_
  cases h
  exact x_vret (pc := 21) d_M_set_21 rfl hQ
def f_M_step (s : MT) : Option (Int32 × MT) := (if (mI 32 s) = (mI 31 s) then some ((16 : Int32), s) else some ((0 : Int32), sI 32 ((mI 32 s) + (1 : Int32)) s))
theorem w_M_step {sc : xSc} {d : Nat} {Q : xR → xH → Prop} {R : xH} {sZ : MT} {rZ : Int32} (hQ : Q (.inl (some (vI rZ))) (mH sZ R)) (s : MT) (h : f_M_step s = some (rZ, sZ)) : xW sc m_M_step (d + 0) Q (mH s R) 0 (xent [vA 373] m_M_step.2.2.1) [] := by
  show xW sc m_M_step (d + 0) Q (mH s R) 0 [some (vA 373)] []
  unfold f_M_step at h
  refine x_aload_n (pc := 0) d_M_step_0 rfl ?_
  refine x_getf (c := 1) (k := 32) (v := vI (mI 32 s)) (pc := 1) d_M_step_1 l_M_356 (xm_at s R) rfl ?_
  refine x_aload_n (pc := 4) d_M_step_4 rfl ?_
  refine x_getf (c := 1) (k := 31) (v := vI (mI 31 s)) (pc := 5) d_M_step_5 l_M_359 (xm_at s R) rfl ?_
  refine x_icmp_ne (tgt := 14) (pc := 8) d_M_step_8 (by decide) (fun c1 => ?_) (fun c1 => ?_)
  · rw [if_neg c1] at h
    refine x_aload_n (pc := 14) d_M_step_14 rfl ?_
    refine x_dup (pc := 15) d_M_step_15 rfl ?_
    refine x_getf (c := 1) (k := 32) (v := vI (mI 32 s)) (pc := 16) d_M_step_16 l_M_356 (xm_at s R) rfl ?_
    refine x_iconst (v := (1 : Int32)) (pc := 19) d_M_step_19 (by decide) ?_
    refine x_iadd (pc := 20) d_M_step_20 ?_
    refine xm_p32 (pc := 21) d_M_step_21 l_M_356 ?_
    refine x_iconst (v := (0 : Int32)) (pc := 24) d_M_step_24 (by decide) ?_
    cases h
    exact x_iret (ty := .int) (pc := 25) d_M_step_25 rfl (rfl) hQ
  · rw [if_pos c1] at h
    refine x_bipush (v := (16 : Int32)) (pc := 11) d_M_step_11 (by decide) ?_
    cases h
    exact x_iret (ty := .int) (pc := 13) d_M_step_13 rfl (rfl) hQ
def f_M_steps (s : MT) : Option (Int32 × MT) := some (mI 32 (sI 0 (0 : Int32) s), sI 0 (0 : Int32) s)
theorem w_M_steps {sc : xSc} {d : Nat} {Q : xR → xH → Prop} {R : xH} {sZ : MT} {rZ : Int32} (hQ : Q (.inl (some (vI rZ))) (mH sZ R)) (s : MT) (h : f_M_steps s = some (rZ, sZ)) : xW sc m_M_steps (d + 0) Q (mH s R) 0 (xent [vA 373] m_M_steps.2.2.1) [] := by
  show xW sc m_M_steps (d + 0) Q (mH s R) 0 [some (vA 373)] []
  unfold f_M_steps at h
  refine x_aload_n (pc := 0) d_M_steps_0 rfl ?_
  refine x_iconst (v := (0 : Int32)) (pc := 1) d_M_steps_1 (by decide) ?_
  refine xm_p0 (pc := 2) d_M_steps_2 l_M_242 ?_
  refine x_aload_n (pc := 5) d_M_steps_5 rfl ?_
  refine x_getf (c := 1) (k := 32) (v := vI (mI 32 (sI 0 (0 : Int32) s))) (pc := 6) d_M_steps_6 l_M_356 (xm_at (sI 0 (0 : Int32) s) R) rfl ?_
  cases h
  exact x_iret (ty := .int) (pc := 9) d_M_steps_9 rfl (rfl) hQ
def f_M_thrown (s : MT) : Option (Int32 × MT) := some (mI 0 s, s)
theorem w_M_thrown {sc : xSc} {d : Nat} {Q : xR → xH → Prop} {R : xH} {sZ : MT} {rZ : Int32} (hQ : Q (.inl (some (vI rZ))) (mH sZ R)) (s : MT) (h : f_M_thrown s = some (rZ, sZ)) : xW sc m_M_thrown (d + 0) Q (mH s R) 0 (xent [vA 373] m_M_thrown.2.2.1) [] := by
  show xW sc m_M_thrown (d + 0) Q (mH s R) 0 [some (vA 373)] []
  unfold f_M_thrown at h
  refine x_aload_n (pc := 0) d_M_thrown_0 rfl ?_
  refine x_getf (c := 1) (k := 0) (v := vI (mI 0 s)) (pc := 1) d_M_thrown_1 l_M_242 (xm_at s R) rfl ?_
  cases h
  exact x_iret (ty := .int) (pc := 4) d_M_thrown_4 rfl (rfl) hQ
def f_M_topMark_b27  (l1 : Int32) (s : MT) : Option (Int32 × MT) := some (l1, s)
theorem w_M_topMark_b27 {sc : xSc} {d : Nat} {Q : xR → xH → Prop} {R : xH} {sZ : MT} {rZ : Int32}  (hQ : Q (.inl (some (vI rZ))) (mH sZ R)) (l1 : Int32) (s : MT) (h : f_M_topMark_b27  l1 s = some (rZ, sZ)) : xW sc m_M_topMark (d + 0) Q (mH s R) 27 [none, some (vI l1)] [] := by
  unfold f_M_topMark_b27 at h
  refine x_iload_n (pc := 27) d_M_topMark_27 rfl ?_
  cases h
  exact x_iret (ty := .int) (pc := 28) d_M_topMark_28 rfl (rfl) hQ
def f_M_topMark_b7  : Nat → Int32 → MT → Option (Int32 × MT)
  | 0, _, _ => none
  | n + 1, l1, s => (if l1 < 0 then f_M_topMark_b27 l1 s else (if xin l1 1300 = true then (if (mA 1 s l1.toNatClampNeg) = (4 : Int32) then f_M_topMark_b27 l1 s else (f_M_topMark_b7 n) (l1 + Int32.ofInt (-1)) s) else none))
theorem w_M_topMark_b7 {sc : xSc} {d : Nat} {Q : xR → xH → Prop} {R : xH} {sZ : MT} {rZ : Int32}  (hQ : Q (.inl (some (vI rZ))) (mH sZ R)) : ∀ (n : Nat) (l1 : Int32) (s : MT), f_M_topMark_b7  n l1 s = some (rZ, sZ) → xW sc m_M_topMark (d + 0) Q (mH s R) 7 [some (vA 373), some (vI l1)] [] := by
  intro n
  induction n with
  | zero =>
    intro l1 s h
    cases h
  | succ n hk7 =>
    intro l1 s h
    unfold f_M_topMark_b7 at h
    refine x_iload_n (pc := 7) d_M_topMark_7 rfl ?_
    refine x_if_lt (tgt := 27) (pc := 8) d_M_topMark_8 (by decide) (fun c1 => ?_) (fun c1 => ?_)
    · rw [if_pos c1] at h
      exact x_wk (L' := [none, some (vI l1)]) ⟨Or.inl rfl, Or.inr rfl, trivial⟩ (w_M_topMark_b27 hQ l1 s h)
    · rw [if_neg c1] at h
      refine x_aload_n (pc := 11) d_M_topMark_11 rfl ?_
      refine x_getf (c := 1) (k := 1) (v := vA 374) (pc := 12) d_M_topMark_12 l_M_7 (xm_at s R) rfl ?_
      refine x_iload_n (pc := 15) d_M_topMark_15 rfl ?_
      obtain ⟨c2, h⟩ := ite_some h
      refine x_iald (pc := 16) d_M_topMark_16 (xm_a1 s R) (xin_vp c2) ?_
      refine x_iconst (v := (4 : Int32)) (pc := 17) d_M_topMark_17 (by decide) ?_
      refine x_icmp_eq (tgt := 27) (pc := 18) d_M_topMark_18 (by decide) (fun c3 => ?_) (fun c3 => ?_)
      · rw [if_pos c3] at h
        exact x_wk (L' := [none, some (vI l1)]) ⟨Or.inl rfl, Or.inr rfl, trivial⟩ (w_M_topMark_b27 hQ l1 s h)
      · rw [if_neg c3] at h
        refine x_iinc (pc := 21) d_M_topMark_21 rfl (by decide) ?_
        show xW sc m_M_topMark (d + 0) Q (mH s R) 24 [some (vA 373), some (vI (l1 + Int32.ofInt (-1)))] []
        refine x_goto (tgt := 7) (pc := 24) d_M_topMark_24 (by decide) ?_
        exact hk7 (l1 + Int32.ofInt (-1)) s h
def f_M_topMark (s : MT) : Option (Int32 × MT) := f_M_topMark_b7 mF ((mI 4 s) - (1 : Int32)) s
theorem w_M_topMark {sc : xSc} {d : Nat} {Q : xR → xH → Prop} {R : xH} {sZ : MT} {rZ : Int32} (hQ : Q (.inl (some (vI rZ))) (mH sZ R)) (s : MT) (h : f_M_topMark s = some (rZ, sZ)) : xW sc m_M_topMark (d + 0) Q (mH s R) 0 (xent [vA 373] m_M_topMark.2.2.1) [] := by
  show xW sc m_M_topMark (d + 0) Q (mH s R) 0 [some (vA 373), none] []
  unfold f_M_topMark at h
  refine x_aload_n (pc := 0) d_M_topMark_0 rfl ?_
  refine x_getf (c := 1) (k := 4) (v := vI (mI 4 s)) (pc := 1) d_M_topMark_1 l_M_247 (xm_at s R) rfl ?_
  refine x_iconst (v := (1 : Int32)) (pc := 4) d_M_topMark_4 (by decide) ?_
  refine x_isub (pc := 5) d_M_topMark_5 ?_
  refine x_istore_n (pc := 6) d_M_topMark_6 (by decide) ?_
  show xW sc m_M_topMark (d + 0) Q (mH s R) 7 [some (vA 373), some (vI ((mI 4 s) - (1 : Int32)))] []
  exact w_M_topMark_b7 hQ mF ((mI 4 s) - (1 : Int32)) s h
def f_M_used_b120  (t0 : Int32) (s : MT) : Option (Int32 × MT) := some (t0, s)
theorem w_M_used_b120 {sc : xSc} {d : Nat} {Q : xR → xH → Prop} {R : xH} {sZ : MT} {rZ : Int32}  (hQ : Q (.inl (some (vI rZ))) (mH sZ R)) (t0 : Int32) (s : MT) (h : f_M_used_b120  t0 s = some (rZ, sZ)) : xW sc m_M_used (d + 0) Q (mH s R) 120 [none, none, none, none] [vI t0] := by
  unfold f_M_used_b120 at h
  cases h
  exact x_iret (ty := .int) (pc := 120) d_M_used_120 rfl (rfl) hQ
def f_M_used_b30 (k9 : Int32 → Int32 → Int32 → MT → Option (Int32 × MT)) (l1 : Int32) (l3 : Int32) (t0 : Int32) (t1 : Int32) (s : MT) : Option (Int32 × MT) := k9 l1 (t1 + t0) (l3 + Int32.ofInt 1) s
theorem w_M_used_b30 {sc : xSc} {d : Nat} {Q : xR → xH → Prop} {R : xH} {sZ : MT} {rZ : Int32} (k9 : Int32 → Int32 → Int32 → MT → Option (Int32 × MT)) (hk9 : ∀ (l1 : Int32) (l2 : Int32) (l3 : Int32) (s : MT), k9 l1 l2 l3 s = some (rZ, sZ) → xW sc m_M_used (d + 0) Q (mH s R) 9 [some (vA 373), some (vI l1), some (vI l2), some (vI l3)] []) (hQ : Q (.inl (some (vI rZ))) (mH sZ R)) (l1 : Int32) (l3 : Int32) (t0 : Int32) (t1 : Int32) (s : MT) (h : f_M_used_b30 k9 l1 l3 t0 t1 s = some (rZ, sZ)) : xW sc m_M_used (d + 0) Q (mH s R) 30 [some (vA 373), some (vI l1), none, some (vI l3)] [vI t0, vI t1] := by
  unfold f_M_used_b30 at h
  refine x_iadd (pc := 30) d_M_used_30 ?_
  refine x_istore_n (pc := 31) d_M_used_31 (by decide) ?_
  show xW sc m_M_used (d + 0) Q (mH s R) 32 [some (vA 373), some (vI l1), some (vI (t1 + t0)), some (vI l3)] []
  refine x_iinc (pc := 32) d_M_used_32 rfl (by decide) ?_
  show xW sc m_M_used (d + 0) Q (mH s R) 35 [some (vA 373), some (vI l1), some (vI (t1 + t0)), some (vI (l3 + Int32.ofInt 1))] []
  refine x_goto (tgt := 9) (pc := 35) d_M_used_35 (by decide) ?_
  exact hk9 l1 (t1 + t0) (l3 + Int32.ofInt 1) s h
def f_M_used_b9  : Nat → Int32 → Int32 → Int32 → MT → Option (Int32 × MT)
  | 0, _, _, _, _ => none
  | n + 1, l1, l2, l3, s => (if (7 : Int32) ≤ l3 then (if l1 = 0 then f_M_used_b120 (mI 5 s) s else (if l1 = (1 : Int32) then f_M_used_b120 l2 s else (if l1 = (2 : Int32) then f_M_used_b120 (mI 10 s) s else (if l1 = (3 : Int32) then f_M_used_b120 (mI 12 s) s else (if l1 = (4 : Int32) then f_M_used_b120 (mI 41 s) s else (if l1 = (5 : Int32) then f_M_used_b120 (mI 30 s) s else (if l1 = (6 : Int32) then f_M_used_b120 (mI 24 s) s else f_M_used_b120 (-1 : Int32) s))))))) else (if xin l3 28 = true then (if (mA 8 s l3.toNatClampNeg) ≤ 0 then f_M_used_b30 (f_M_used_b9 n) l1 l3 (0 : Int32) l2 s else f_M_used_b30 (f_M_used_b9 n) l1 l3 (1 : Int32) l2 s) else none))
theorem w_M_used_b9 {sc : xSc} {d : Nat} {Q : xR → xH → Prop} {R : xH} {sZ : MT} {rZ : Int32}  (hQ : Q (.inl (some (vI rZ))) (mH sZ R)) : ∀ (n : Nat) (l1 : Int32) (l2 : Int32) (l3 : Int32) (s : MT), f_M_used_b9  n l1 l2 l3 s = some (rZ, sZ) → xW sc m_M_used (d + 0) Q (mH s R) 9 [some (vA 373), some (vI l1), some (vI l2), some (vI l3)] [] := by
  intro n
  induction n with
  | zero =>
    intro l1 l2 l3 s h
    cases h
  | succ n hk9 =>
    intro l1 l2 l3 s h
    unfold f_M_used_b9 at h
    refine x_iload_n (pc := 9) d_M_used_9 rfl ?_
    refine x_bipush (v := (7 : Int32)) (pc := 10) d_M_used_10 (by decide) ?_
    refine x_icmp_ge (tgt := 38) (pc := 12) d_M_used_12 (by decide) (fun c1 => ?_) (fun c1 => ?_)
    · rw [if_pos c1] at h
      refine x_iload_n (pc := 38) d_M_used_38 rfl ?_
      refine x_if_ne (tgt := 49) (pc := 39) d_M_used_39 (by decide) (fun c2 => ?_) (fun c2 => ?_)
      · rw [if_neg c2] at h
        refine x_iload_n (pc := 49) d_M_used_49 rfl ?_
        refine x_iconst (v := (1 : Int32)) (pc := 50) d_M_used_50 (by decide) ?_
        refine x_icmp_ne (tgt := 58) (pc := 51) d_M_used_51 (by decide) (fun c3 => ?_) (fun c3 => ?_)
        · rw [if_neg c3] at h
          refine x_iload_n (pc := 58) d_M_used_58 rfl ?_
          refine x_iconst (v := (2 : Int32)) (pc := 59) d_M_used_59 (by decide) ?_
          refine x_icmp_ne (tgt := 70) (pc := 60) d_M_used_60 (by decide) (fun c4 => ?_) (fun c4 => ?_)
          · rw [if_neg c4] at h
            refine x_iload_n (pc := 70) d_M_used_70 rfl ?_
            refine x_iconst (v := (3 : Int32)) (pc := 71) d_M_used_71 (by decide) ?_
            refine x_icmp_ne (tgt := 82) (pc := 72) d_M_used_72 (by decide) (fun c5 => ?_) (fun c5 => ?_)
            · rw [if_neg c5] at h
              refine x_iload_n (pc := 82) d_M_used_82 rfl ?_
              refine x_iconst (v := (4 : Int32)) (pc := 83) d_M_used_83 (by decide) ?_
              refine x_icmp_ne (tgt := 94) (pc := 84) d_M_used_84 (by decide) (fun c6 => ?_) (fun c6 => ?_)
              · rw [if_neg c6] at h
                refine x_iload_n (pc := 94) d_M_used_94 rfl ?_
                refine x_iconst (v := (5 : Int32)) (pc := 95) d_M_used_95 (by decide) ?_
                refine x_icmp_ne (tgt := 106) (pc := 96) d_M_used_96 (by decide) (fun c7 => ?_) (fun c7 => ?_)
                · rw [if_neg c7] at h
                  refine x_iload_n (pc := 106) d_M_used_106 rfl ?_
                  refine x_bipush (v := (6 : Int32)) (pc := 107) d_M_used_107 (by decide) ?_
                  refine x_icmp_ne (tgt := 119) (pc := 109) d_M_used_109 (by decide) (fun c8 => ?_) (fun c8 => ?_)
                  · rw [if_neg c8] at h
                    refine x_iconst (v := (-1 : Int32)) (pc := 119) d_M_used_119 (by decide) ?_
                    exact x_wk (L' := [none, none, none, none]) ⟨Or.inl rfl, Or.inl rfl, Or.inl rfl, Or.inl rfl, trivial⟩ (w_M_used_b120 hQ (-1 : Int32) s h)
                  · rw [if_pos c8] at h
                    refine x_aload_n (pc := 112) d_M_used_112 rfl ?_
                    refine x_getf (c := 1) (k := 24) (v := vI (mI 24 s)) (pc := 113) d_M_used_113 l_M_270 (xm_at s R) rfl ?_
                    refine x_goto (tgt := 120) (pc := 116) d_M_used_116 (by decide) ?_
                    exact x_wk (L' := [none, none, none, none]) ⟨Or.inl rfl, Or.inl rfl, Or.inl rfl, Or.inl rfl, trivial⟩ (w_M_used_b120 hQ (mI 24 s) s h)
                · rw [if_pos c7] at h
                  refine x_aload_n (pc := 99) d_M_used_99 rfl ?_
                  refine x_getf (c := 1) (k := 30) (v := vI (mI 30 s)) (pc := 100) d_M_used_100 l_M_311 (xm_at s R) rfl ?_
                  refine x_goto (tgt := 120) (pc := 103) d_M_used_103 (by decide) ?_
                  exact x_wk (L' := [none, none, none, none]) ⟨Or.inl rfl, Or.inl rfl, Or.inl rfl, Or.inl rfl, trivial⟩ (w_M_used_b120 hQ (mI 30 s) s h)
              · rw [if_pos c6] at h
                refine x_aload_n (pc := 87) d_M_used_87 rfl ?_
                refine x_getf (c := 1) (k := 41) (v := vI (mI 41 s)) (pc := 88) d_M_used_88 l_M_547 (xm_at s R) rfl ?_
                refine x_goto (tgt := 120) (pc := 91) d_M_used_91 (by decide) ?_
                exact x_wk (L' := [none, none, none, none]) ⟨Or.inl rfl, Or.inl rfl, Or.inl rfl, Or.inl rfl, trivial⟩ (w_M_used_b120 hQ (mI 41 s) s h)
            · rw [if_pos c5] at h
              refine x_aload_n (pc := 75) d_M_used_75 rfl ?_
              refine x_getf (c := 1) (k := 12) (v := vI (mI 12 s)) (pc := 76) d_M_used_76 l_M_534 (xm_at s R) rfl ?_
              refine x_goto (tgt := 120) (pc := 79) d_M_used_79 (by decide) ?_
              exact x_wk (L' := [none, none, none, none]) ⟨Or.inl rfl, Or.inl rfl, Or.inl rfl, Or.inl rfl, trivial⟩ (w_M_used_b120 hQ (mI 12 s) s h)
          · rw [if_pos c4] at h
            refine x_aload_n (pc := 63) d_M_used_63 rfl ?_
            refine x_getf (c := 1) (k := 10) (v := vI (mI 10 s)) (pc := 64) d_M_used_64 l_M_33 (xm_at s R) rfl ?_
            refine x_goto (tgt := 120) (pc := 67) d_M_used_67 (by decide) ?_
            exact x_wk (L' := [none, none, none, none]) ⟨Or.inl rfl, Or.inl rfl, Or.inl rfl, Or.inl rfl, trivial⟩ (w_M_used_b120 hQ (mI 10 s) s h)
        · rw [if_pos c3] at h
          refine x_iload_n (pc := 54) d_M_used_54 rfl ?_
          refine x_goto (tgt := 120) (pc := 55) d_M_used_55 (by decide) ?_
          exact x_wk (L' := [none, none, none, none]) ⟨Or.inl rfl, Or.inl rfl, Or.inl rfl, Or.inl rfl, trivial⟩ (w_M_used_b120 hQ l2 s h)
      · rw [if_pos c2] at h
        refine x_aload_n (pc := 42) d_M_used_42 rfl ?_
        refine x_getf (c := 1) (k := 5) (v := vI (mI 5 s)) (pc := 43) d_M_used_43 l_M_325 (xm_at s R) rfl ?_
        refine x_goto (tgt := 120) (pc := 46) d_M_used_46 (by decide) ?_
        exact x_wk (L' := [none, none, none, none]) ⟨Or.inl rfl, Or.inl rfl, Or.inl rfl, Or.inl rfl, trivial⟩ (w_M_used_b120 hQ (mI 5 s) s h)
    · rw [if_neg c1] at h
      refine x_iload_n (pc := 15) d_M_used_15 rfl ?_
      refine x_aload_n (pc := 16) d_M_used_16 rfl ?_
      refine x_getf (c := 1) (k := 8) (v := vA 379) (pc := 17) d_M_used_17 l_M_27 (xm_at s R) rfl ?_
      refine x_iload_n (pc := 20) d_M_used_20 rfl ?_
      obtain ⟨c9, h⟩ := ite_some h
      refine x_iald (pc := 21) d_M_used_21 (xm_a8 s R) (xin_vp c9) ?_
      refine x_if_le (tgt := 29) (pc := 22) d_M_used_22 (by decide) (fun c10 => ?_) (fun c10 => ?_)
      · rw [if_pos c10] at h
        refine x_iconst (v := (0 : Int32)) (pc := 29) d_M_used_29 (by decide) ?_
        exact x_wk (L' := [some (vA 373), some (vI l1), none, some (vI l3)]) ⟨Or.inr rfl, Or.inr rfl, Or.inl rfl, Or.inr rfl, trivial⟩ (w_M_used_b30 (f_M_used_b9 n) hk9 hQ l1 l3 (0 : Int32) l2 s h)
      · rw [if_neg c10] at h
        refine x_iconst (v := (1 : Int32)) (pc := 25) d_M_used_25 (by decide) ?_
        refine x_goto (tgt := 30) (pc := 26) d_M_used_26 (by decide) ?_
        exact x_wk (L' := [some (vA 373), some (vI l1), none, some (vI l3)]) ⟨Or.inr rfl, Or.inr rfl, Or.inl rfl, Or.inr rfl, trivial⟩ (w_M_used_b30 (f_M_used_b9 n) hk9 hQ l1 l3 (1 : Int32) l2 s h)
def f_M_used (s : MT) (a1 : Int32) : Option (Int32 × MT) := f_M_used_b9 mF a1 (0 : Int32) (1 : Int32) (sI 0 (0 : Int32) s)
theorem w_M_used {sc : xSc} {d : Nat} {Q : xR → xH → Prop} {R : xH} {sZ : MT} {rZ : Int32} (hQ : Q (.inl (some (vI rZ))) (mH sZ R)) (s : MT) (a1 : Int32) (h : f_M_used s a1 = some (rZ, sZ)) : xW sc m_M_used (d + 0) Q (mH s R) 0 (xent [vA 373, vI a1] m_M_used.2.2.1) [] := by
  show xW sc m_M_used (d + 0) Q (mH s R) 0 [some (vA 373), some (vI a1), none, none] []
  unfold f_M_used at h
  refine x_aload_n (pc := 0) d_M_used_0 rfl ?_
  refine x_iconst (v := (0 : Int32)) (pc := 1) d_M_used_1 (by decide) ?_
  refine xm_p0 (pc := 2) d_M_used_2 l_M_242 ?_
  refine x_iconst (v := (0 : Int32)) (pc := 5) d_M_used_5 (by decide) ?_
  refine x_istore_n (pc := 6) d_M_used_6 (by decide) ?_
  show xW sc m_M_used (d + 0) Q (mH (sI 0 (0 : Int32) s) R) 7 [some (vA 373), some (vI a1), some (vI (0 : Int32)), none] []
  refine x_iconst (v := (1 : Int32)) (pc := 7) d_M_used_7 (by decide) ?_
  refine x_istore_n (pc := 8) d_M_used_8 (by decide) ?_
  show xW sc m_M_used (d + 0) Q (mH (sI 0 (0 : Int32) s) R) 9 [some (vA 373), some (vI a1), some (vI (0 : Int32)), some (vI (1 : Int32))] []
  exact w_M_used_b9 hQ mF a1 (0 : Int32) (1 : Int32) (sI 0 (0 : Int32) s) h
def f_M_whole_b5  : Nat → Int32 → Int32 → Int64 → Int32 → MT → Option (Int64 × MT)
  | 0, _, _, _, _, _ => none
  | n + 1, l1, l2, l3, l5, s => (if l2 ≤ l5 then some (l3, s) else (if xin (l1 + l5) 120 = true then (f_M_whole_b5 n) l1 l2 ((((10 : Int64) * l3) + ((mA 23 s (l1 + l5).toNatClampNeg).toInt64)) - (48 : Int64)) (l5 + Int32.ofInt 1) s else none))
theorem w_M_whole_b5 {sc : xSc} {d : Nat} {Q : xR → xH → Prop} {R : xH} {sZ : MT} {rZ : Int64}  (hQ : Q (.inl (some (vL rZ))) (mH sZ R)) : ∀ (n : Nat) (l1 : Int32) (l2 : Int32) (l3 : Int64) (l5 : Int32) (s : MT), f_M_whole_b5  n l1 l2 l3 l5 s = some (rZ, sZ) → xW sc m_M_whole (d + 0) Q (mH s R) 5 [some (vA 373), some (vI l1), some (vI l2), some (vL l3), none, some (vI l5)] [] := by
  intro n
  induction n with
  | zero =>
    intro l1 l2 l3 l5 s h
    cases h
  | succ n hk5 =>
    intro l1 l2 l3 l5 s h
    unfold f_M_whole_b5 at h
    refine x_iload (pc := 5) d_M_whole_5 rfl ?_
    refine x_iload_n (pc := 7) d_M_whole_7 rfl ?_
    refine x_icmp_ge (tgt := 38) (pc := 8) d_M_whole_8 (by decide) (fun c1 => ?_) (fun c1 => ?_)
    · rw [if_pos c1] at h
      refine x_lload_n (pc := 38) d_M_whole_38 rfl ?_
      cases h
      exact x_lret (pc := 39) d_M_whole_39 rfl hQ
    · rw [if_neg c1] at h
      refine x_ldc2 (v := (10 : Int64)) (pc := 11) d_M_whole_11 c_M_277 ?_
      refine x_lload_n (pc := 14) d_M_whole_14 rfl ?_
      refine x_lmul (pc := 15) d_M_whole_15 ?_
      refine x_aload_n (pc := 16) d_M_whole_16 rfl ?_
      refine x_getf (c := 1) (k := 23) (v := vA 389) (pc := 17) d_M_whole_17 l_M_61 (xm_at s R) rfl ?_
      refine x_iload_n (pc := 20) d_M_whole_20 rfl ?_
      refine x_iload (pc := 21) d_M_whole_21 rfl ?_
      refine x_iadd (pc := 23) d_M_whole_23 ?_
      obtain ⟨c2, h⟩ := ite_some h
      refine x_cald (pc := 24) d_M_whole_24 (xm_a23 s R) (xin_vp c2) ?_
      refine x_i2l (pc := 25) d_M_whole_25 ?_
      refine x_ladd (pc := 26) d_M_whole_26 ?_
      refine x_ldc2 (v := (48 : Int64)) (pc := 27) d_M_whole_27 c_M_279 ?_
      refine x_lsub (pc := 30) d_M_whole_30 ?_
      refine x_lstore_n (pc := 31) d_M_whole_31 (by decide) ?_
      show xW sc m_M_whole (d + 0) Q (mH s R) 32 [some (vA 373), some (vI l1), some (vI l2), some (vL ((((10 : Int64) * l3) + ((mA 23 s (l1 + l5).toNatClampNeg).toInt64)) - (48 : Int64))), none, some (vI l5)] []
      refine x_iinc (pc := 32) d_M_whole_32 rfl (by decide) ?_
      show xW sc m_M_whole (d + 0) Q (mH s R) 35 [some (vA 373), some (vI l1), some (vI l2), some (vL ((((10 : Int64) * l3) + ((mA 23 s (l1 + l5).toNatClampNeg).toInt64)) - (48 : Int64))), none, some (vI (l5 + Int32.ofInt 1))] []
      refine x_goto (tgt := 5) (pc := 35) d_M_whole_35 (by decide) ?_
      exact hk5 l1 l2 ((((10 : Int64) * l3) + ((mA 23 s (l1 + l5).toNatClampNeg).toInt64)) - (48 : Int64)) (l5 + Int32.ofInt 1) s h
def f_M_whole (s : MT) (a1 : Int32) (a2 : Int32) : Option (Int64 × MT) := f_M_whole_b5 mF a1 a2 (0 : Int64) (0 : Int32) s
theorem w_M_whole {sc : xSc} {d : Nat} {Q : xR → xH → Prop} {R : xH} {sZ : MT} {rZ : Int64} (hQ : Q (.inl (some (vL rZ))) (mH sZ R)) (s : MT) (a1 : Int32) (a2 : Int32) (h : f_M_whole s a1 a2 = some (rZ, sZ)) : xW sc m_M_whole (d + 0) Q (mH s R) 0 (xent [vA 373, vI a1, vI a2] m_M_whole.2.2.1) [] := by
  show xW sc m_M_whole (d + 0) Q (mH s R) 0 [some (vA 373), some (vI a1), some (vI a2), none, none, none] []
  unfold f_M_whole at h
  refine x_lconst (v := (0 : Int64)) (pc := 0) d_M_whole_0 (by decide) ?_
  refine x_lstore_n (pc := 1) d_M_whole_1 (by decide) ?_
  show xW sc m_M_whole (d + 0) Q (mH s R) 2 [some (vA 373), some (vI a1), some (vI a2), some (vL (0 : Int64)), none, none] []
  refine x_iconst (v := (0 : Int32)) (pc := 2) d_M_whole_2 (by decide) ?_
  refine x_istore (pc := 3) d_M_whole_3 (by decide) ?_
  show xW sc m_M_whole (d + 0) Q (mH s R) 5 [some (vA 373), some (vI a1), some (vI a2), some (vL (0 : Int64)), none, some (vI (0 : Int32))] []
  exact w_M_whole_b5 hQ mF a1 a2 (0 : Int64) (0 : Int32) s h
def f_M_write_b134 (k88 : Int64 → Int32 → MT → Option (Int32 × MT)) (l1 : Int64) (l4 : Int32) (s : MT) : Option (Int32 × MT) := k88 l1 (l4 + Int32.ofInt (-1)) s
theorem w_M_write_b134 {sc : xSc} {d : Nat} {Q : xR → xH → Prop} {R : xH} {sZ : MT} {rZ : Int32} (k88 : Int64 → Int32 → MT → Option (Int32 × MT)) (hk88 : ∀ (l1 : Int64) (l4 : Int32) (s : MT), k88 l1 l4 s = some (rZ, sZ) → xW sc m_M_write (d + 0) Q (mH s R) 88 [some (vA 373), some (vL l1), none, none, some (vI l4), none] []) (hQ : Q (.inl (some (vI rZ))) (mH sZ R)) (l1 : Int64) (l4 : Int32) (s : MT) (h : f_M_write_b134 k88 l1 l4 s = some (rZ, sZ)) : xW sc m_M_write (d + 0) Q (mH s R) 134 [some (vA 373), some (vL l1), none, none, some (vI l4), none] [] := by
  unfold f_M_write_b134 at h
  refine x_iinc (pc := 134) d_M_write_134 rfl (by decide) ?_
  show xW sc m_M_write (d + 0) Q (mH s R) 137 [some (vA 373), some (vL l1), none, none, some (vI (l4 + Int32.ofInt (-1))), none] []
  refine x_goto (tgt := 88) (pc := 137) d_M_write_137 (by decide) ?_
  exact hk88 l1 (l4 + Int32.ofInt (-1)) s h
def f_M_write_b88  : Nat → Int64 → Int32 → MT → Option (Int32 × MT)
  | 0, _, _, _ => none
  | n + 1, l1, l4, s => (if l4 < 0 then some ((1 : Int32), s) else (if (((l1 >>> (((8 : Int32) * l4).toInt64 &&& 63)) &&& (255 : Int64)).toInt32) = 0 then f_M_write_b134 (f_M_write_b88 n) l1 l4 s else (if xin (mI 24 s) 120 = true then f_M_write_b134 (f_M_write_b88 n) l1 l4 (sI 24 ((mI 24 (sA 23 (va_up (mA 23 s) (mI 24 s).toNatClampNeg (((((((l1 >>> (((8 : Int32) * l4).toInt64 &&& 63)) &&& (255 : Int64)).toInt32).toUInt32 % 65536).toInt32).toUInt32 % 65536).toInt32)) s)) + (1 : Int32)) (sA 23 (va_up (mA 23 s) (mI 24 s).toNatClampNeg (((((((l1 >>> (((8 : Int32) * l4).toInt64 &&& 63)) &&& (255 : Int64)).toInt32).toUInt32 % 65536).toInt32).toUInt32 % 65536).toInt32)) s)) else none)))
theorem w_M_write_b88 {sc : xSc} {d : Nat} {Q : xR → xH → Prop} {R : xH} {sZ : MT} {rZ : Int32}  (hQ : Q (.inl (some (vI rZ))) (mH sZ R)) : ∀ (n : Nat) (l1 : Int64) (l4 : Int32) (s : MT), f_M_write_b88  n l1 l4 s = some (rZ, sZ) → xW sc m_M_write (d + 0) Q (mH s R) 88 [some (vA 373), some (vL l1), none, none, some (vI l4), none] [] := by
  intro n
  induction n with
  | zero =>
    intro l1 l4 s h
    cases h
  | succ n hk88 =>
    intro l1 l4 s h
    unfold f_M_write_b88 at h
    refine x_iload (pc := 88) d_M_write_88 rfl ?_
    refine x_if_lt (tgt := 140) (pc := 90) d_M_write_90 (by decide) (fun c1 => ?_) (fun c1 => ?_)
    · rw [if_pos c1] at h
      refine x_iconst (v := (1 : Int32)) (pc := 140) d_M_write_140 (by decide) ?_
      cases h
      exact x_iret (ty := .boolean) (pc := 141) d_M_write_141 rfl (rfl) hQ
    · rw [if_neg c1] at h
      refine x_lload_n (pc := 93) d_M_write_93 rfl ?_
      refine x_bipush (v := (8 : Int32)) (pc := 94) d_M_write_94 (by decide) ?_
      refine x_iload (pc := 96) d_M_write_96 rfl ?_
      refine x_imul (pc := 98) d_M_write_98 ?_
      refine x_lshr (pc := 99) d_M_write_99 ?_
      refine x_ldc2 (v := (255 : Int64)) (pc := 100) d_M_write_100 c_M_564 ?_
      refine x_land (pc := 103) d_M_write_103 ?_
      refine x_l2i (pc := 104) d_M_write_104 ?_
      refine x_istore (pc := 105) d_M_write_105 (by decide) ?_
      show xW sc m_M_write (d + 0) Q (mH s R) 107 [some (vA 373), some (vL l1), none, none, some (vI l4), some (vI (((l1 >>> (((8 : Int32) * l4).toInt64 &&& 63)) &&& (255 : Int64)).toInt32))] []
      refine x_iload (pc := 107) d_M_write_107 rfl ?_
      refine x_if_eq (tgt := 134) (pc := 109) d_M_write_109 (by decide) (fun c2 => ?_) (fun c2 => ?_)
      · rw [if_pos c2] at h
        exact x_wk (L' := [some (vA 373), some (vL l1), none, none, some (vI l4), none]) ⟨Or.inr rfl, Or.inr rfl, Or.inl rfl, Or.inl rfl, Or.inr rfl, Or.inl rfl, trivial⟩ (w_M_write_b134 (f_M_write_b88 n) hk88 hQ l1 l4 s h)
      · rw [if_neg c2] at h
        refine x_aload_n (pc := 112) d_M_write_112 rfl ?_
        refine x_getf (c := 1) (k := 23) (v := vA 389) (pc := 113) d_M_write_113 l_M_61 (xm_at s R) rfl ?_
        refine x_aload_n (pc := 116) d_M_write_116 rfl ?_
        refine x_getf (c := 1) (k := 24) (v := vI (mI 24 s)) (pc := 117) d_M_write_117 l_M_270 (xm_at s R) rfl ?_
        refine x_iload (pc := 120) d_M_write_120 rfl ?_
        refine x_i2c (pc := 122) d_M_write_122 ?_
        obtain ⟨c3, h⟩ := ite_some h
        refine xm_s23 (pc := 123) d_M_write_123 c3 ?_
        refine x_aload_n (pc := 124) d_M_write_124 rfl ?_
        refine x_dup (pc := 125) d_M_write_125 rfl ?_
        refine x_getf (c := 1) (k := 24) (v := vI (mI 24 (sA 23 (va_up (mA 23 s) (mI 24 s).toNatClampNeg (((((((l1 >>> (((8 : Int32) * l4).toInt64 &&& 63)) &&& (255 : Int64)).toInt32).toUInt32 % 65536).toInt32).toUInt32 % 65536).toInt32)) s))) (pc := 126) d_M_write_126 l_M_270 (xm_at (sA 23 (va_up (mA 23 s) (mI 24 s).toNatClampNeg (((((((l1 >>> (((8 : Int32) * l4).toInt64 &&& 63)) &&& (255 : Int64)).toInt32).toUInt32 % 65536).toInt32).toUInt32 % 65536).toInt32)) s) R) rfl ?_
        refine x_iconst (v := (1 : Int32)) (pc := 129) d_M_write_129 (by decide) ?_
        refine x_iadd (pc := 130) d_M_write_130 ?_
        refine xm_p24 (pc := 131) d_M_write_131 l_M_270 ?_
        exact x_wk (L' := [some (vA 373), some (vL l1), none, none, some (vI l4), none]) ⟨Or.inr rfl, Or.inr rfl, Or.inl rfl, Or.inl rfl, Or.inr rfl, Or.inl rfl, trivial⟩ (w_M_write_b134 (f_M_write_b88 n) hk88 hQ l1 l4 (sI 24 ((mI 24 (sA 23 (va_up (mA 23 s) (mI 24 s).toNatClampNeg (((((((l1 >>> (((8 : Int32) * l4).toInt64 &&& 63)) &&& (255 : Int64)).toInt32).toUInt32 % 65536).toInt32).toUInt32 % 65536).toInt32)) s)) + (1 : Int32)) (sA 23 (va_up (mA 23 s) (mI 24 s).toNatClampNeg (((((((l1 >>> (((8 : Int32) * l4).toInt64 &&& 63)) &&& (255 : Int64)).toInt32).toUInt32 % 65536).toInt32).toUInt32 % 65536).toInt32)) s)) h)
def f_M_write_b63 (k10 : Int64 → Int32 → Int32 → MT → Option (Int32 × MT)) (l1 : Int64) (l4 : Int32) (t0 : Int32) (t1 : Int32) (s : MT) : Option (Int32 × MT) := k10 l1 (t1 + t0) (l4 + Int32.ofInt 1) s
theorem w_M_write_b63 {sc : xSc} {d : Nat} {Q : xR → xH → Prop} {R : xH} {sZ : MT} {rZ : Int32} (k10 : Int64 → Int32 → Int32 → MT → Option (Int32 × MT)) (hk10 : ∀ (l1 : Int64) (l3 : Int32) (l4 : Int32) (s : MT), k10 l1 l3 l4 s = some (rZ, sZ) → xW sc m_M_write (d + 0) Q (mH s R) 10 [some (vA 373), some (vL l1), none, some (vI l3), some (vI l4), none] []) (hQ : Q (.inl (some (vI rZ))) (mH sZ R)) (l1 : Int64) (l4 : Int32) (t0 : Int32) (t1 : Int32) (s : MT) (h : f_M_write_b63 k10 l1 l4 t0 t1 s = some (rZ, sZ)) : xW sc m_M_write (d + 0) Q (mH s R) 63 [some (vA 373), some (vL l1), none, none, some (vI l4), none] [vI t0, vI t1] := by
  unfold f_M_write_b63 at h
  refine x_iadd (pc := 63) d_M_write_63 ?_
  refine x_istore_n (pc := 64) d_M_write_64 (by decide) ?_
  show xW sc m_M_write (d + 0) Q (mH s R) 65 [some (vA 373), some (vL l1), none, some (vI (t1 + t0)), some (vI l4), none] []
  refine x_iinc (pc := 65) d_M_write_65 rfl (by decide) ?_
  show xW sc m_M_write (d + 0) Q (mH s R) 68 [some (vA 373), some (vL l1), none, some (vI (t1 + t0)), some (vI (l4 + Int32.ofInt 1)), none] []
  refine x_goto (tgt := 10) (pc := 68) d_M_write_68 (by decide) ?_
  exact hk10 l1 (t1 + t0) (l4 + Int32.ofInt 1) s h
def f_M_write_b52 (k10 : Int64 → Int32 → Int32 → MT → Option (Int32 × MT)) (l1 : Int64) (l3 : Int32) (l4 : Int32) (l5 : Int32) (s : MT) : Option (Int32 × MT) := (if l5 = 0 then f_M_write_b63 k10 l1 l4 (0 : Int32) l3 s else f_M_write_b63 k10 l1 l4 (1 : Int32) l3 s)
theorem w_M_write_b52 {sc : xSc} {d : Nat} {Q : xR → xH → Prop} {R : xH} {sZ : MT} {rZ : Int32} (k10 : Int64 → Int32 → Int32 → MT → Option (Int32 × MT)) (hk10 : ∀ (l1 : Int64) (l3 : Int32) (l4 : Int32) (s : MT), k10 l1 l3 l4 s = some (rZ, sZ) → xW sc m_M_write (d + 0) Q (mH s R) 10 [some (vA 373), some (vL l1), none, some (vI l3), some (vI l4), none] []) (hQ : Q (.inl (some (vI rZ))) (mH sZ R)) (l1 : Int64) (l3 : Int32) (l4 : Int32) (l5 : Int32) (s : MT) (h : f_M_write_b52 k10 l1 l3 l4 l5 s = some (rZ, sZ)) : xW sc m_M_write (d + 0) Q (mH s R) 52 [some (vA 373), some (vL l1), none, some (vI l3), some (vI l4), some (vI l5)] [] := by
  unfold f_M_write_b52 at h
  refine x_iload_n (pc := 52) d_M_write_52 rfl ?_
  refine x_iload (pc := 53) d_M_write_53 rfl ?_
  refine x_if_ne (tgt := 62) (pc := 55) d_M_write_55 (by decide) (fun c1 => ?_) (fun c1 => ?_)
  · rw [if_neg c1] at h
    refine x_iconst (v := (1 : Int32)) (pc := 62) d_M_write_62 (by decide) ?_
    exact x_wk (L' := [some (vA 373), some (vL l1), none, none, some (vI l4), none]) ⟨Or.inr rfl, Or.inr rfl, Or.inl rfl, Or.inl rfl, Or.inr rfl, Or.inl rfl, trivial⟩ (w_M_write_b63 k10 hk10 hQ l1 l4 (1 : Int32) l3 s h)
  · rw [if_pos c1] at h
    refine x_iconst (v := (0 : Int32)) (pc := 58) d_M_write_58 (by decide) ?_
    refine x_goto (tgt := 63) (pc := 59) d_M_write_59 (by decide) ?_
    exact x_wk (L' := [some (vA 373), some (vL l1), none, none, some (vI l4), none]) ⟨Or.inr rfl, Or.inr rfl, Or.inl rfl, Or.inl rfl, Or.inr rfl, Or.inl rfl, trivial⟩ (w_M_write_b63 k10 hk10 hQ l1 l4 (0 : Int32) l3 s h)
def f_M_write_b50  (s : MT) : Option (Int32 × MT) := some ((0 : Int32), s)
theorem w_M_write_b50 {sc : xSc} {d : Nat} {Q : xR → xH → Prop} {R : xH} {sZ : MT} {rZ : Int32}  (hQ : Q (.inl (some (vI rZ))) (mH sZ R)) (s : MT) (h : f_M_write_b50  s = some (rZ, sZ)) : xW sc m_M_write (d + 0) Q (mH s R) 50 [none, none, none, none, none, none] [] := by
  unfold f_M_write_b50 at h
  refine x_iconst (v := (0 : Int32)) (pc := 50) d_M_write_50 (by decide) ?_
  cases h
  exact x_iret (ty := .boolean) (pc := 51) d_M_write_51 rfl (rfl) hQ
def f_M_write_b10  : Nat → Int64 → Int32 → Int32 → MT → Option (Int32 × MT)
  | 0, _, _, _, _ => none
  | n + 1, l1, l3, l4, s => (if (8 : Int32) ≤ l4 then (if ((mI 24 s) + l3) ≤ (120 : Int32) then f_M_write_b88 mF l1 (7 : Int32) s else some ((0 : Int32), s)) else (if (((l1 >>> (((8 : Int32) * l4).toInt64 &&& 63)) &&& (255 : Int64)).toInt32) = 0 then f_M_write_b52 (f_M_write_b10 n) l1 l3 l4 (((l1 >>> (((8 : Int32) * l4).toInt64 &&& 63)) &&& (255 : Int64)).toInt32) s else (if (((l1 >>> (((8 : Int32) * l4).toInt64 &&& 63)) &&& (255 : Int64)).toInt32) < (32 : Int32) then f_M_write_b50 s else (if (((l1 >>> (((8 : Int32) * l4).toInt64 &&& 63)) &&& (255 : Int64)).toInt32) ≤ (126 : Int32) then f_M_write_b52 (f_M_write_b10 n) l1 l3 l4 (((l1 >>> (((8 : Int32) * l4).toInt64 &&& 63)) &&& (255 : Int64)).toInt32) s else f_M_write_b50 s))))
theorem w_M_write_b10 {sc : xSc} {d : Nat} {Q : xR → xH → Prop} {R : xH} {sZ : MT} {rZ : Int32}  (hQ : Q (.inl (some (vI rZ))) (mH sZ R)) : ∀ (n : Nat) (l1 : Int64) (l3 : Int32) (l4 : Int32) (s : MT), f_M_write_b10  n l1 l3 l4 s = some (rZ, sZ) → xW sc m_M_write (d + 0) Q (mH s R) 10 [some (vA 373), some (vL l1), none, some (vI l3), some (vI l4), none] [] := by
  intro n
  induction n with
  | zero =>
    intro l1 l3 l4 s h
    cases h
  | succ n hk10 =>
    intro l1 l3 l4 s h
    unfold f_M_write_b10 at h
    refine x_iload (pc := 10) d_M_write_10 rfl ?_
    refine x_bipush (v := (8 : Int32)) (pc := 12) d_M_write_12 (by decide) ?_
    refine x_icmp_ge (tgt := 71) (pc := 14) d_M_write_14 (by decide) (fun c1 => ?_) (fun c1 => ?_)
    · rw [if_pos c1] at h
      refine x_aload_n (pc := 71) d_M_write_71 rfl ?_
      refine x_getf (c := 1) (k := 24) (v := vI (mI 24 s)) (pc := 72) d_M_write_72 l_M_270 (xm_at s R) rfl ?_
      refine x_iload_n (pc := 75) d_M_write_75 rfl ?_
      refine x_iadd (pc := 76) d_M_write_76 ?_
      refine x_bipush (v := (120 : Int32)) (pc := 77) d_M_write_77 (by decide) ?_
      refine x_icmp_le (tgt := 84) (pc := 79) d_M_write_79 (by decide) (fun c2 => ?_) (fun c2 => ?_)
      · rw [if_pos c2] at h
        refine x_bipush (v := (7 : Int32)) (pc := 84) d_M_write_84 (by decide) ?_
        refine x_istore (pc := 86) d_M_write_86 (by decide) ?_
        show xW sc m_M_write (d + 0) Q (mH s R) 88 [some (vA 373), some (vL l1), none, some (vI l3), some (vI (7 : Int32)), none] []
        exact x_wk (L' := [some (vA 373), some (vL l1), none, none, some (vI (7 : Int32)), none]) ⟨Or.inr rfl, Or.inr rfl, Or.inl rfl, Or.inl rfl, Or.inr rfl, Or.inl rfl, trivial⟩ (w_M_write_b88 hQ mF l1 (7 : Int32) s h)
      · rw [if_neg c2] at h
        refine x_iconst (v := (0 : Int32)) (pc := 82) d_M_write_82 (by decide) ?_
        cases h
        exact x_iret (ty := .boolean) (pc := 83) d_M_write_83 rfl (rfl) hQ
    · rw [if_neg c1] at h
      refine x_lload_n (pc := 17) d_M_write_17 rfl ?_
      refine x_bipush (v := (8 : Int32)) (pc := 18) d_M_write_18 (by decide) ?_
      refine x_iload (pc := 20) d_M_write_20 rfl ?_
      refine x_imul (pc := 22) d_M_write_22 ?_
      refine x_lshr (pc := 23) d_M_write_23 ?_
      refine x_ldc2 (v := (255 : Int64)) (pc := 24) d_M_write_24 c_M_564 ?_
      refine x_land (pc := 27) d_M_write_27 ?_
      refine x_l2i (pc := 28) d_M_write_28 ?_
      refine x_istore (pc := 29) d_M_write_29 (by decide) ?_
      show xW sc m_M_write (d + 0) Q (mH s R) 31 [some (vA 373), some (vL l1), none, some (vI l3), some (vI l4), some (vI (((l1 >>> (((8 : Int32) * l4).toInt64 &&& 63)) &&& (255 : Int64)).toInt32))] []
      refine x_iload (pc := 31) d_M_write_31 rfl ?_
      refine x_if_eq (tgt := 52) (pc := 33) d_M_write_33 (by decide) (fun c3 => ?_) (fun c3 => ?_)
      · rw [if_pos c3] at h
        exact w_M_write_b52 (f_M_write_b10 n) hk10 hQ l1 l3 l4 (((l1 >>> (((8 : Int32) * l4).toInt64 &&& 63)) &&& (255 : Int64)).toInt32) s h
      · rw [if_neg c3] at h
        refine x_iload (pc := 36) d_M_write_36 rfl ?_
        refine x_bipush (v := (32 : Int32)) (pc := 38) d_M_write_38 (by decide) ?_
        refine x_icmp_lt (tgt := 50) (pc := 40) d_M_write_40 (by decide) (fun c4 => ?_) (fun c4 => ?_)
        · rw [if_pos c4] at h
          exact x_wk (L' := [none, none, none, none, none, none]) ⟨Or.inl rfl, Or.inl rfl, Or.inl rfl, Or.inl rfl, Or.inl rfl, Or.inl rfl, trivial⟩ (w_M_write_b50 hQ s h)
        · rw [if_neg c4] at h
          refine x_iload (pc := 43) d_M_write_43 rfl ?_
          refine x_bipush (v := (126 : Int32)) (pc := 45) d_M_write_45 (by decide) ?_
          refine x_icmp_le (tgt := 52) (pc := 47) d_M_write_47 (by decide) (fun c5 => ?_) (fun c5 => ?_)
          · rw [if_pos c5] at h
            exact w_M_write_b52 (f_M_write_b10 n) hk10 hQ l1 l3 l4 (((l1 >>> (((8 : Int32) * l4).toInt64 &&& 63)) &&& (255 : Int64)).toInt32) s h
          · rw [if_neg c5] at h
            exact x_wk (L' := [none, none, none, none, none, none]) ⟨Or.inl rfl, Or.inl rfl, Or.inl rfl, Or.inl rfl, Or.inl rfl, Or.inl rfl, trivial⟩ (w_M_write_b50 hQ s h)
def f_M_write (s : MT) (a1 : Int64) : Option (Int32 × MT) := f_M_write_b10 mF a1 (0 : Int32) (0 : Int32) (sI 0 (0 : Int32) s)
theorem w_M_write {sc : xSc} {d : Nat} {Q : xR → xH → Prop} {R : xH} {sZ : MT} {rZ : Int32} (hQ : Q (.inl (some (vI rZ))) (mH sZ R)) (s : MT) (a1 : Int64) (h : f_M_write s a1 = some (rZ, sZ)) : xW sc m_M_write (d + 0) Q (mH s R) 0 (xent [vA 373, vL a1] m_M_write.2.2.1) [] := by
  show xW sc m_M_write (d + 0) Q (mH s R) 0 [some (vA 373), some (vL a1), none, none, none, none] []
  unfold f_M_write at h
  refine x_aload_n (pc := 0) d_M_write_0 rfl ?_
  refine x_iconst (v := (0 : Int32)) (pc := 1) d_M_write_1 (by decide) ?_
  refine xm_p0 (pc := 2) d_M_write_2 l_M_242 ?_
  refine x_iconst (v := (0 : Int32)) (pc := 5) d_M_write_5 (by decide) ?_
  refine x_istore_n (pc := 6) d_M_write_6 (by decide) ?_
  show xW sc m_M_write (d + 0) Q (mH (sI 0 (0 : Int32) s) R) 7 [some (vA 373), some (vL a1), none, some (vI (0 : Int32)), none, none] []
  refine x_iconst (v := (0 : Int32)) (pc := 7) d_M_write_7 (by decide) ?_
  refine x_istore (pc := 8) d_M_write_8 (by decide) ?_
  show xW sc m_M_write (d + 0) Q (mH (sI 0 (0 : Int32) s) R) 10 [some (vA 373), some (vL a1), none, some (vI (0 : Int32)), some (vI (0 : Int32)), none] []
  exact w_M_write_b10 hQ mF a1 (0 : Int32) (0 : Int32) (sI 0 (0 : Int32) s) h
def f_M_again (s : MT) : Option (Int32 × MT) := (if xin (40 : Int32) 1300 = true then (if (mA 1 s (40 : Int32).toNatClampNeg) = (11 : Int32) then (if (mI 16 s) = (8 : Int32) then some ((12 : Int32), s) else (f_M_frame s (2 : Int32) (0 : Int64)).bind fun s5 => some ((-1 : Int32), s5)) else some ((-1 : Int32), s)) else none)
theorem w_M_again {sc : xSc} {d : Nat} {Q : xR → xH → Prop} {R : xH} {sZ : MT} {rZ : Int32} (hQ : Q (.inl (some (vI rZ))) (mH sZ R)) (s : MT) (h : f_M_again s = some (rZ, sZ)) : xW sc m_M_again (d + 1) Q (mH s R) 0 (xent [vA 373] m_M_again.2.2.1) [] := by
  show xW sc m_M_again (d + 1) Q (mH s R) 0 [some (vA 373)] []
  unfold f_M_again at h
  refine x_aload_n (pc := 0) d_M_again_0 rfl ?_
  refine x_getf (c := 1) (k := 1) (v := vA 374) (pc := 1) d_M_again_1 l_M_7 (xm_at s R) rfl ?_
  refine x_bipush (v := (40 : Int32)) (pc := 4) d_M_again_4 (by decide) ?_
  obtain ⟨c1, h⟩ := ite_some h
  refine x_iald (pc := 6) d_M_again_6 (xm_a1 s R) (xin_vp c1) ?_
  refine x_bipush (v := (11 : Int32)) (pc := 7) d_M_again_7 (by decide) ?_
  refine x_icmp_eq (tgt := 14) (pc := 9) d_M_again_9 (by decide) (fun c2 => ?_) (fun c2 => ?_)
  · rw [if_pos c2] at h
    refine x_aload_n (pc := 14) d_M_again_14 rfl ?_
    refine x_getf (c := 1) (k := 16) (v := vI (mI 16 s)) (pc := 15) d_M_again_15 l_M_349 (xm_at s R) rfl ?_
    refine x_bipush (v := (8 : Int32)) (pc := 18) d_M_again_18 (by decide) ?_
    refine x_icmp_ne (tgt := 26) (pc := 20) d_M_again_20 (by decide) (fun c3 => ?_) (fun c3 => ?_)
    · rw [if_neg c3] at h
      refine x_aload_n (pc := 26) d_M_again_26 rfl ?_
      refine x_iconst (v := (2 : Int32)) (pc := 27) d_M_again_27 (by decide) ?_
      refine x_lconst (v := (0 : Int64)) (pc := 28) d_M_again_28 (by decide) ?_
      obtain ⟨s5, e4, h⟩ := Option.bind_eq_some_iff.mp h
      refine x_invv (c := 1) (av := [vI (2 : Int32), vL (0 : Int64)]) (st := []) (pc := 29) d_M_again_29 cv_M_352 y_M_frame (xm_at s R) rfl (Nat.le_of_ble_eq_true rfl) (Nat.le_of_ble_eq_true rfl) (w_M_frame (d := d + 0) (Q := fun r h' => r = .inl none ∧ h' = mH s5 R) (R := R) ⟨rfl, rfl⟩ s (2 : Int32) (0 : Int64) e4) (fun v h' z => ?_) (fun a h' z => nomatch z.1)
      obtain ⟨z1, z2⟩ := z
      subst z2
      cases z1
      show xW sc m_M_again (d + 1) Q (mH s5 R) 32 [some (vA 373)] []
      refine x_iconst (v := (-1 : Int32)) (pc := 32) d_M_again_32 (by decide) ?_
      cases h
      exact x_iret (ty := .int) (pc := 33) d_M_again_33 rfl (rfl) hQ
    · rw [if_pos c3] at h
      refine x_bipush (v := (12 : Int32)) (pc := 23) d_M_again_23 (by decide) ?_
      cases h
      exact x_iret (ty := .int) (pc := 25) d_M_again_25 rfl (rfl) hQ
  · rw [if_neg c2] at h
    refine x_iconst (v := (-1 : Int32)) (pc := 12) d_M_again_12 (by decide) ?_
    cases h
    exact x_iret (ty := .int) (pc := 13) d_M_again_13 rfl (rfl) hQ
def f_M_alike_b136  (t0 : Int32) (s : MT) : Option (Int32 × MT) := (if xbo t0 = true then some (t0, s) else none)
theorem w_M_alike_b136 {sc : xSc} {d : Nat} {Q : xR → xH → Prop} {R : xH} {sZ : MT} {rZ : Int32}  (hQ : Q (.inl (some (vI rZ))) (mH sZ R)) (t0 : Int32) (s : MT) (h : f_M_alike_b136  t0 s = some (rZ, sZ)) : xW sc m_M_alike (d + 1) Q (mH s R) 136 [none, none, none] [vI t0] := by
  unfold f_M_alike_b136 at h
  obtain ⟨c1, h⟩ := ite_some h
  cases h
  exact x_iret (ty := .boolean) (pc := 136) d_M_alike_136 rfl (xbo_n c1) hQ
def f_M_alike_b114  (t0 : Int32) (s : MT) : Option (Int32 × MT) := (if xbo t0 = true then some (t0, s) else none)
theorem w_M_alike_b114 {sc : xSc} {d : Nat} {Q : xR → xH → Prop} {R : xH} {sZ : MT} {rZ : Int32}  (hQ : Q (.inl (some (vI rZ))) (mH sZ R)) (t0 : Int32) (s : MT) (h : f_M_alike_b114  t0 s = some (rZ, sZ)) : xW sc m_M_alike (d + 1) Q (mH s R) 114 [none, none, none] [vI t0] := by
  unfold f_M_alike_b114 at h
  obtain ⟨c1, h⟩ := ite_some h
  cases h
  exact x_iret (ty := .boolean) (pc := 114) d_M_alike_114 rfl (xbo_n c1) hQ
def f_M_alike_b113  (s : MT) : Option (Int32 × MT) := f_M_alike_b114 (0 : Int32) s
theorem w_M_alike_b113 {sc : xSc} {d : Nat} {Q : xR → xH → Prop} {R : xH} {sZ : MT} {rZ : Int32}  (hQ : Q (.inl (some (vI rZ))) (mH sZ R)) (s : MT) (h : f_M_alike_b113  s = some (rZ, sZ)) : xW sc m_M_alike (d + 1) Q (mH s R) 113 [none, none, none] [] := by
  unfold f_M_alike_b113 at h
  refine x_iconst (v := (0 : Int32)) (pc := 113) d_M_alike_113 (by decide) ?_
  exact w_M_alike_b114 hQ (0 : Int32) s h
def f_M_alike_b109  (s : MT) : Option (Int32 × MT) := f_M_alike_b114 (1 : Int32) s
theorem w_M_alike_b109 {sc : xSc} {d : Nat} {Q : xR → xH → Prop} {R : xH} {sZ : MT} {rZ : Int32}  (hQ : Q (.inl (some (vI rZ))) (mH sZ R)) (s : MT) (h : f_M_alike_b109  s = some (rZ, sZ)) : xW sc m_M_alike (d + 1) Q (mH s R) 109 [none, none, none] [] := by
  unfold f_M_alike_b109 at h
  refine x_iconst (v := (1 : Int32)) (pc := 109) d_M_alike_109 (by decide) ?_
  refine x_goto (tgt := 114) (pc := 110) d_M_alike_110 (by decide) ?_
  exact w_M_alike_b114 hQ (1 : Int32) s h
def f_M_alike_b36  (l1 : Int32) (l2 : Int32) (s : MT) : Option (Int32 × MT) := (f_M_kindOf s l1).bind fun (v3, s2) => (f_M_kindOf s2 l2).bind fun (v7, s6) => (if v3 = v7 then (f_M_kindOf s6 l1).bind fun (v12, s11) => (if v12 = (5 : Int32) then (if xin l1 1300 = true then (f_M_count (mL 2 s11 l1.toNatClampNeg)).bind fun v19 => (if xin l2 1300 = true then (f_M_count (mL 2 s11 l2.toNatClampNeg)).bind fun v22 => (if v19 = v22 then (if xin l1 1300 = true then (f_M_count (mL 2 s11 l1.toNatClampNeg)).bind fun v26 => (if v26 = 0 then f_M_alike_b109 s11 else (if xin l1 1300 = true then (if xin l2 1300 = true then (if (lg_cmp (mL 2 s11 l1.toNatClampNeg) (mL 2 s11 l2.toNatClampNeg)) = 0 then f_M_alike_b109 s11 else f_M_alike_b113 s11) else none) else none)) else none) else f_M_alike_b113 s11) else none) else none) else (if xin l1 1300 = true then (if xin l2 1300 = true then (if (lg_cmp (mL 2 s11 l1.toNatClampNeg) (mL 2 s11 l2.toNatClampNeg)) = 0 then f_M_alike_b136 (1 : Int32) s11 else f_M_alike_b136 (0 : Int32) s11) else none) else none)) else some ((0 : Int32), s6))
theorem w_M_alike_b36 {sc : xSc} {d : Nat} {Q : xR → xH → Prop} {R : xH} {sZ : MT} {rZ : Int32}  (hQ : Q (.inl (some (vI rZ))) (mH sZ R)) (l1 : Int32) (l2 : Int32) (s : MT) (h : f_M_alike_b36  l1 l2 s = some (rZ, sZ)) : xW sc m_M_alike (d + 1) Q (mH s R) 36 [some (vA 373), some (vI l1), some (vI l2)] [] := by
  unfold f_M_alike_b36 at h
  refine x_aload_n (pc := 36) d_M_alike_36 rfl ?_
  refine x_iload_n (pc := 37) d_M_alike_37 rfl ?_
  obtain ⟨⟨v3, s2⟩, e1, h⟩ := Option.bind_eq_some_iff.mp h
  dsimp only at h
  refine x_invv (c := 1) (av := [vI l1]) (st := []) (pc := 38) d_M_alike_38 cv_M_421 y_M_kindOf (xm_at s R) rfl (Nat.le_of_ble_eq_true rfl) (Nat.le_of_ble_eq_true rfl) (w_M_kindOf (d := d + 0) (Q := fun r h' => r = .inl (some (vI v3)) ∧ h' = mH s2 R) (R := R) ⟨rfl, rfl⟩ s l1 e1) (fun v h' z => ?_) (fun a h' z => nomatch z.1)
  obtain ⟨z1, z2⟩ := z
  subst z2
  cases z1
  show xW sc m_M_alike (d + 1) Q (mH s2 R) 41 [some (vA 373), some (vI l1), some (vI l2)] [vI v3]
  refine x_aload_n (pc := 41) d_M_alike_41 rfl ?_
  refine x_iload_n (pc := 42) d_M_alike_42 rfl ?_
  obtain ⟨⟨v7, s6⟩, e5, h⟩ := Option.bind_eq_some_iff.mp h
  dsimp only at h
  refine x_invv (c := 1) (av := [vI l2]) (st := [vI v3]) (pc := 43) d_M_alike_43 cv_M_421 y_M_kindOf (xm_at s2 R) rfl (Nat.le_of_ble_eq_true rfl) (Nat.le_of_ble_eq_true rfl) (w_M_kindOf (d := d + 0) (Q := fun r h' => r = .inl (some (vI v7)) ∧ h' = mH s6 R) (R := R) ⟨rfl, rfl⟩ s2 l2 e5) (fun v h' z => ?_) (fun a h' z => nomatch z.1)
  obtain ⟨z1, z2⟩ := z
  subst z2
  cases z1
  show xW sc m_M_alike (d + 1) Q (mH s6 R) 46 [some (vA 373), some (vI l1), some (vI l2)] [vI v7, vI v3]
  refine x_icmp_eq (tgt := 51) (pc := 46) d_M_alike_46 (by decide) (fun c9 => ?_) (fun c9 => ?_)
  · rw [if_pos c9] at h
    refine x_aload_n (pc := 51) d_M_alike_51 rfl ?_
    refine x_iload_n (pc := 52) d_M_alike_52 rfl ?_
    obtain ⟨⟨v12, s11⟩, e10, h⟩ := Option.bind_eq_some_iff.mp h
    dsimp only at h
    refine x_invv (c := 1) (av := [vI l1]) (st := []) (pc := 53) d_M_alike_53 cv_M_421 y_M_kindOf (xm_at s6 R) rfl (Nat.le_of_ble_eq_true rfl) (Nat.le_of_ble_eq_true rfl) (w_M_kindOf (d := d + 0) (Q := fun r h' => r = .inl (some (vI v12)) ∧ h' = mH s11 R) (R := R) ⟨rfl, rfl⟩ s6 l1 e10) (fun v h' z => ?_) (fun a h' z => nomatch z.1)
    obtain ⟨z1, z2⟩ := z
    subst z2
    cases z1
    show xW sc m_M_alike (d + 1) Q (mH s11 R) 56 [some (vA 373), some (vI l1), some (vI l2)] [vI v12]
    refine x_iconst (v := (5 : Int32)) (pc := 56) d_M_alike_56 (by decide) ?_
    refine x_icmp_ne (tgt := 115) (pc := 57) d_M_alike_57 (by decide) (fun c14 => ?_) (fun c14 => ?_)
    · rw [if_neg c14] at h
      refine x_aload_n (pc := 115) d_M_alike_115 rfl ?_
      refine x_getf (c := 1) (k := 2) (v := vA 375) (pc := 116) d_M_alike_116 l_M_13 (xm_at s11 R) rfl ?_
      refine x_iload_n (pc := 119) d_M_alike_119 rfl ?_
      obtain ⟨c15, h⟩ := ite_some h
      refine x_lald (pc := 120) d_M_alike_120 (xm_a2 s11 R) (xin_vp c15) ?_
      refine x_aload_n (pc := 121) d_M_alike_121 rfl ?_
      refine x_getf (c := 1) (k := 2) (v := vA 375) (pc := 122) d_M_alike_122 l_M_13 (xm_at s11 R) rfl ?_
      refine x_iload_n (pc := 125) d_M_alike_125 rfl ?_
      obtain ⟨c16, h⟩ := ite_some h
      refine x_lald (pc := 126) d_M_alike_126 (xm_a2 s11 R) (xin_vp c16) ?_
      refine x_lcmp (pc := 127) d_M_alike_127 ?_
      refine x_if_ne (tgt := 135) (pc := 128) d_M_alike_128 (by decide) (fun c17 => ?_) (fun c17 => ?_)
      · rw [if_neg c17] at h
        refine x_iconst (v := (0 : Int32)) (pc := 135) d_M_alike_135 (by decide) ?_
        exact x_wk (L' := [none, none, none]) ⟨Or.inl rfl, Or.inl rfl, Or.inl rfl, trivial⟩ (w_M_alike_b136 hQ (0 : Int32) s11 h)
      · rw [if_pos c17] at h
        refine x_iconst (v := (1 : Int32)) (pc := 131) d_M_alike_131 (by decide) ?_
        refine x_goto (tgt := 136) (pc := 132) d_M_alike_132 (by decide) ?_
        exact x_wk (L' := [none, none, none]) ⟨Or.inl rfl, Or.inl rfl, Or.inl rfl, trivial⟩ (w_M_alike_b136 hQ (1 : Int32) s11 h)
    · rw [if_pos c14] at h
      refine x_aload_n (pc := 60) d_M_alike_60 rfl ?_
      refine x_getf (c := 1) (k := 2) (v := vA 375) (pc := 61) d_M_alike_61 l_M_13 (xm_at s11 R) rfl ?_
      refine x_iload_n (pc := 64) d_M_alike_64 rfl ?_
      obtain ⟨c18, h⟩ := ite_some h
      refine x_lald (pc := 65) d_M_alike_65 (xm_a2 s11 R) (xin_vp c18) ?_
      obtain ⟨v19, e20, h⟩ := Option.bind_eq_some_iff.mp h
      refine x_invs (av := [vL (mL 2 s11 l1.toNatClampNeg)]) (st := []) (pc := 66) d_M_alike_66 cs_M_391 y_M_count rfl (Nat.le_of_ble_eq_true rfl) (Nat.le_of_ble_eq_true rfl) (w_M_count (d := d + 0) (Q := fun r h' => r = .inl (some (vI v19)) ∧ h' = mH s11 R) (hh := mH s11 R) ⟨rfl, rfl⟩ (mL 2 s11 l1.toNatClampNeg) e20) (fun v h' z => ?_) (fun a h' z => nomatch z.1)
      obtain ⟨z1, z2⟩ := z
      subst z2
      cases z1
      show xW sc m_M_alike (d + 1) Q (mH s11 R) 69 [some (vA 373), some (vI l1), some (vI l2)] [vI v19]
      refine x_aload_n (pc := 69) d_M_alike_69 rfl ?_
      refine x_getf (c := 1) (k := 2) (v := vA 375) (pc := 70) d_M_alike_70 l_M_13 (xm_at s11 R) rfl ?_
      refine x_iload_n (pc := 73) d_M_alike_73 rfl ?_
      obtain ⟨c21, h⟩ := ite_some h
      refine x_lald (pc := 74) d_M_alike_74 (xm_a2 s11 R) (xin_vp c21) ?_
      obtain ⟨v22, e23, h⟩ := Option.bind_eq_some_iff.mp h
      refine x_invs (av := [vL (mL 2 s11 l2.toNatClampNeg)]) (st := [vI v19]) (pc := 75) d_M_alike_75 cs_M_391 y_M_count rfl (Nat.le_of_ble_eq_true rfl) (Nat.le_of_ble_eq_true rfl) (w_M_count (d := d + 0) (Q := fun r h' => r = .inl (some (vI v22)) ∧ h' = mH s11 R) (hh := mH s11 R) ⟨rfl, rfl⟩ (mL 2 s11 l2.toNatClampNeg) e23) (fun v h' z => ?_) (fun a h' z => nomatch z.1)
      obtain ⟨z1, z2⟩ := z
      subst z2
      cases z1
      show xW sc m_M_alike (d + 1) Q (mH s11 R) 78 [some (vA 373), some (vI l1), some (vI l2)] [vI v22, vI v19]
      refine x_icmp_ne (tgt := 113) (pc := 78) d_M_alike_78 (by decide) (fun c24 => ?_) (fun c24 => ?_)
      · rw [if_neg c24] at h
        exact x_wk (L' := [none, none, none]) ⟨Or.inl rfl, Or.inl rfl, Or.inl rfl, trivial⟩ (w_M_alike_b113 hQ s11 h)
      · rw [if_pos c24] at h
        refine x_aload_n (pc := 81) d_M_alike_81 rfl ?_
        refine x_getf (c := 1) (k := 2) (v := vA 375) (pc := 82) d_M_alike_82 l_M_13 (xm_at s11 R) rfl ?_
        refine x_iload_n (pc := 85) d_M_alike_85 rfl ?_
        obtain ⟨c25, h⟩ := ite_some h
        refine x_lald (pc := 86) d_M_alike_86 (xm_a2 s11 R) (xin_vp c25) ?_
        obtain ⟨v26, e27, h⟩ := Option.bind_eq_some_iff.mp h
        refine x_invs (av := [vL (mL 2 s11 l1.toNatClampNeg)]) (st := []) (pc := 87) d_M_alike_87 cs_M_391 y_M_count rfl (Nat.le_of_ble_eq_true rfl) (Nat.le_of_ble_eq_true rfl) (w_M_count (d := d + 0) (Q := fun r h' => r = .inl (some (vI v26)) ∧ h' = mH s11 R) (hh := mH s11 R) ⟨rfl, rfl⟩ (mL 2 s11 l1.toNatClampNeg) e27) (fun v h' z => ?_) (fun a h' z => nomatch z.1)
        obtain ⟨z1, z2⟩ := z
        subst z2
        cases z1
        show xW sc m_M_alike (d + 1) Q (mH s11 R) 90 [some (vA 373), some (vI l1), some (vI l2)] [vI v26]
        refine x_if_eq (tgt := 109) (pc := 90) d_M_alike_90 (by decide) (fun c28 => ?_) (fun c28 => ?_)
        · rw [if_pos c28] at h
          exact x_wk (L' := [none, none, none]) ⟨Or.inl rfl, Or.inl rfl, Or.inl rfl, trivial⟩ (w_M_alike_b109 hQ s11 h)
        · rw [if_neg c28] at h
          refine x_aload_n (pc := 93) d_M_alike_93 rfl ?_
          refine x_getf (c := 1) (k := 2) (v := vA 375) (pc := 94) d_M_alike_94 l_M_13 (xm_at s11 R) rfl ?_
          refine x_iload_n (pc := 97) d_M_alike_97 rfl ?_
          obtain ⟨c29, h⟩ := ite_some h
          refine x_lald (pc := 98) d_M_alike_98 (xm_a2 s11 R) (xin_vp c29) ?_
          refine x_aload_n (pc := 99) d_M_alike_99 rfl ?_
          refine x_getf (c := 1) (k := 2) (v := vA 375) (pc := 100) d_M_alike_100 l_M_13 (xm_at s11 R) rfl ?_
          refine x_iload_n (pc := 103) d_M_alike_103 rfl ?_
          obtain ⟨c30, h⟩ := ite_some h
          refine x_lald (pc := 104) d_M_alike_104 (xm_a2 s11 R) (xin_vp c30) ?_
          refine x_lcmp (pc := 105) d_M_alike_105 ?_
          refine x_if_ne (tgt := 113) (pc := 106) d_M_alike_106 (by decide) (fun c31 => ?_) (fun c31 => ?_)
          · rw [if_neg c31] at h
            exact x_wk (L' := [none, none, none]) ⟨Or.inl rfl, Or.inl rfl, Or.inl rfl, trivial⟩ (w_M_alike_b113 hQ s11 h)
          · rw [if_pos c31] at h
            exact x_wk (L' := [none, none, none]) ⟨Or.inl rfl, Or.inl rfl, Or.inl rfl, trivial⟩ (w_M_alike_b109 hQ s11 h)
  · rw [if_neg c9] at h
    refine x_iconst (v := (0 : Int32)) (pc := 49) d_M_alike_49 (by decide) ?_
    cases h
    exact x_iret (ty := .boolean) (pc := 50) d_M_alike_50 rfl (rfl) hQ
def f_M_alike_b35  (t0 : Int32) (s : MT) : Option (Int32 × MT) := (if xbo t0 = true then some (t0, s) else none)
theorem w_M_alike_b35 {sc : xSc} {d : Nat} {Q : xR → xH → Prop} {R : xH} {sZ : MT} {rZ : Int32}  (hQ : Q (.inl (some (vI rZ))) (mH sZ R)) (t0 : Int32) (s : MT) (h : f_M_alike_b35  t0 s = some (rZ, sZ)) : xW sc m_M_alike (d + 1) Q (mH s R) 35 [none, none, none] [vI t0] := by
  unfold f_M_alike_b35 at h
  obtain ⟨c1, h⟩ := ite_some h
  cases h
  exact x_iret (ty := .boolean) (pc := 35) d_M_alike_35 rfl (xbo_n c1) hQ
def f_M_alike (s : MT) (a1 : Int32) (a2 : Int32) : Option (Int32 × MT) := (f_M_isNumber s a1).bind fun (v3, s2) => (if v3 = 0 then f_M_alike_b36 a1 a2 s2 else (f_M_isNumber s2 a2).bind fun (v8, s7) => (if v8 = 0 then f_M_alike_b36 a1 a2 s7 else (f_M_numberAt s7 a1).bind fun (v13, s12) => (f_M_numberAt s12 a2).bind fun (v17, s16) => (if (Op.cmpValue (FP.dcmp v13 v17) .l) = 0 then f_M_alike_b35 (1 : Int32) s16 else f_M_alike_b35 (0 : Int32) s16)))
theorem w_M_alike {sc : xSc} {d : Nat} {Q : xR → xH → Prop} {R : xH} {sZ : MT} {rZ : Int32} (hQ : Q (.inl (some (vI rZ))) (mH sZ R)) (s : MT) (a1 : Int32) (a2 : Int32) (h : f_M_alike s a1 a2 = some (rZ, sZ)) : xW sc m_M_alike (d + 1) Q (mH s R) 0 (xent [vA 373, vI a1, vI a2] m_M_alike.2.2.1) [] := by
  show xW sc m_M_alike (d + 1) Q (mH s R) 0 [some (vA 373), some (vI a1), some (vI a2)] []
  unfold f_M_alike at h
  refine x_aload_n (pc := 0) d_M_alike_0 rfl ?_
  refine x_iload_n (pc := 1) d_M_alike_1 rfl ?_
  obtain ⟨⟨v3, s2⟩, e1, h⟩ := Option.bind_eq_some_iff.mp h
  dsimp only at h
  refine x_invv (c := 1) (av := [vI a1]) (st := []) (pc := 2) d_M_alike_2 cv_M_418 y_M_isNumber (xm_at s R) rfl (Nat.le_of_ble_eq_true rfl) (Nat.le_of_ble_eq_true rfl) (w_M_isNumber (d := d + 0) (Q := fun r h' => r = .inl (some (vI v3)) ∧ h' = mH s2 R) (R := R) ⟨rfl, rfl⟩ s a1 e1) (fun v h' z => ?_) (fun a h' z => nomatch z.1)
  obtain ⟨z1, z2⟩ := z
  subst z2
  cases z1
  show xW sc m_M_alike (d + 1) Q (mH s2 R) 5 [some (vA 373), some (vI a1), some (vI a2)] [vI v3]
  refine x_if_eq (tgt := 36) (pc := 5) d_M_alike_5 (by decide) (fun c5 => ?_) (fun c5 => ?_)
  · rw [if_pos c5] at h
    exact w_M_alike_b36 hQ a1 a2 s2 h
  · rw [if_neg c5] at h
    refine x_aload_n (pc := 8) d_M_alike_8 rfl ?_
    refine x_iload_n (pc := 9) d_M_alike_9 rfl ?_
    obtain ⟨⟨v8, s7⟩, e6, h⟩ := Option.bind_eq_some_iff.mp h
    dsimp only at h
    refine x_invv (c := 1) (av := [vI a2]) (st := []) (pc := 10) d_M_alike_10 cv_M_418 y_M_isNumber (xm_at s2 R) rfl (Nat.le_of_ble_eq_true rfl) (Nat.le_of_ble_eq_true rfl) (w_M_isNumber (d := d + 0) (Q := fun r h' => r = .inl (some (vI v8)) ∧ h' = mH s7 R) (R := R) ⟨rfl, rfl⟩ s2 a2 e6) (fun v h' z => ?_) (fun a h' z => nomatch z.1)
    obtain ⟨z1, z2⟩ := z
    subst z2
    cases z1
    show xW sc m_M_alike (d + 1) Q (mH s7 R) 13 [some (vA 373), some (vI a1), some (vI a2)] [vI v8]
    refine x_if_eq (tgt := 36) (pc := 13) d_M_alike_13 (by decide) (fun c10 => ?_) (fun c10 => ?_)
    · rw [if_pos c10] at h
      exact w_M_alike_b36 hQ a1 a2 s7 h
    · rw [if_neg c10] at h
      refine x_aload_n (pc := 16) d_M_alike_16 rfl ?_
      refine x_iload_n (pc := 17) d_M_alike_17 rfl ?_
      obtain ⟨⟨v13, s12⟩, e11, h⟩ := Option.bind_eq_some_iff.mp h
      dsimp only at h
      refine x_invv (c := 1) (av := [vI a1]) (st := []) (pc := 18) d_M_alike_18 cv_M_473 y_M_numberAt (xm_at s7 R) rfl (Nat.le_of_ble_eq_true rfl) (Nat.le_of_ble_eq_true rfl) (w_M_numberAt (d := d + 0) (Q := fun r h' => r = .inl (some (vD v13)) ∧ h' = mH s12 R) (R := R) ⟨rfl, rfl⟩ s7 a1 e11) (fun v h' z => ?_) (fun a h' z => nomatch z.1)
      obtain ⟨z1, z2⟩ := z
      subst z2
      cases z1
      show xW sc m_M_alike (d + 1) Q (mH s12 R) 21 [some (vA 373), some (vI a1), some (vI a2)] [vD v13]
      refine x_aload_n (pc := 21) d_M_alike_21 rfl ?_
      refine x_iload_n (pc := 22) d_M_alike_22 rfl ?_
      obtain ⟨⟨v17, s16⟩, e15, h⟩ := Option.bind_eq_some_iff.mp h
      dsimp only at h
      refine x_invv (c := 1) (av := [vI a2]) (st := [vD v13]) (pc := 23) d_M_alike_23 cv_M_473 y_M_numberAt (xm_at s12 R) rfl (Nat.le_of_ble_eq_true rfl) (Nat.le_of_ble_eq_true rfl) (w_M_numberAt (d := d + 0) (Q := fun r h' => r = .inl (some (vD v17)) ∧ h' = mH s16 R) (R := R) ⟨rfl, rfl⟩ s12 a2 e15) (fun v h' z => ?_) (fun a h' z => nomatch z.1)
      obtain ⟨z1, z2⟩ := z
      subst z2
      cases z1
      show xW sc m_M_alike (d + 1) Q (mH s16 R) 26 [some (vA 373), some (vI a1), some (vI a2)] [vD v17, vD v13]
      refine x_dcmp (pc := 26) d_M_alike_26 ?_
      refine x_if_ne (tgt := 34) (pc := 27) d_M_alike_27 (by decide) (fun c19 => ?_) (fun c19 => ?_)
      · rw [if_neg c19] at h
        refine x_iconst (v := (0 : Int32)) (pc := 34) d_M_alike_34 (by decide) ?_
        exact x_wk (L' := [none, none, none]) ⟨Or.inl rfl, Or.inl rfl, Or.inl rfl, trivial⟩ (w_M_alike_b35 hQ (0 : Int32) s16 h)
      · rw [if_pos c19] at h
        refine x_iconst (v := (1 : Int32)) (pc := 30) d_M_alike_30 (by decide) ?_
        refine x_goto (tgt := 35) (pc := 31) d_M_alike_31 (by decide) ?_
        exact x_wk (L' := [none, none, none]) ⟨Or.inl rfl, Or.inl rfl, Or.inl rfl, trivial⟩ (w_M_alike_b35 hQ (1 : Int32) s16 h)
def f_M_copyAll_b101  : Nat → Int32 → Int32 → Int32 → MT → Option MT
  | 0, _, _, _, _ => none
  | n + 1, l1, l2, l3, s => (if (7 : Int32) ≤ l3 then some s else (if xin (((7 : Int32) * l2) + l3) 28 = true then (if xin (((7 : Int32) * l1) + l3) 28 = true then (if xin (((7 : Int32) * l2) + l3) 28 = true then (if xin (((7 : Int32) * l1) + l3) 28 = true then (f_M_copyAll_b101 n) l1 l2 (l3 + Int32.ofInt 1) (sA 8 (va_up (mA 8 (sA 7 (va_up (mA 7 s) (((7 : Int32) * l1) + l3).toNatClampNeg (mA 7 s (((7 : Int32) * l2) + l3).toNatClampNeg)) s)) (((7 : Int32) * l1) + l3).toNatClampNeg (mA 8 (sA 7 (va_up (mA 7 s) (((7 : Int32) * l1) + l3).toNatClampNeg (mA 7 s (((7 : Int32) * l2) + l3).toNatClampNeg)) s) (((7 : Int32) * l2) + l3).toNatClampNeg)) (sA 7 (va_up (mA 7 s) (((7 : Int32) * l1) + l3).toNatClampNeg (mA 7 s (((7 : Int32) * l2) + l3).toNatClampNeg)) s)) else none) else none) else none) else none))
theorem w_M_copyAll_b101 {sc : xSc} {d : Nat} {Q : xR → xH → Prop} {R : xH} {sZ : MT}  (hQ : Q (.inl none) (mH sZ R)) : ∀ (n : Nat) (l1 : Int32) (l2 : Int32) (l3 : Int32) (s : MT), f_M_copyAll_b101  n l1 l2 l3 s = some sZ → xW sc m_M_copyAll (d + 1) Q (mH s R) 101 [some (vA 373), some (vI l1), some (vI l2), some (vI l3)] [] := by
  intro n
  induction n with
  | zero =>
    intro l1 l2 l3 s h
    cases h
  | succ n hk101 =>
    intro l1 l2 l3 s h
    unfold f_M_copyAll_b101 at h
    refine x_iload_n (pc := 101) d_M_copyAll_101 rfl ?_
    refine x_bipush (v := (7 : Int32)) (pc := 102) d_M_copyAll_102 (by decide) ?_
    refine x_icmp_ge (tgt := 157) (pc := 104) d_M_copyAll_104 (by decide) (fun c1 => ?_) (fun c1 => ?_)
    · rw [if_pos c1] at h
      cases h
      exact x_vret (pc := 157) d_M_copyAll_157 rfl hQ
    · rw [if_neg c1] at h
      refine x_aload_n (pc := 107) d_M_copyAll_107 rfl ?_
      refine x_getf (c := 1) (k := 7) (v := vA 378) (pc := 108) d_M_copyAll_108 l_M_24 (xm_at s R) rfl ?_
      refine x_bipush (v := (7 : Int32)) (pc := 111) d_M_copyAll_111 (by decide) ?_
      refine x_iload_n (pc := 113) d_M_copyAll_113 rfl ?_
      refine x_imul (pc := 114) d_M_copyAll_114 ?_
      refine x_iload_n (pc := 115) d_M_copyAll_115 rfl ?_
      refine x_iadd (pc := 116) d_M_copyAll_116 ?_
      refine x_aload_n (pc := 117) d_M_copyAll_117 rfl ?_
      refine x_getf (c := 1) (k := 7) (v := vA 378) (pc := 118) d_M_copyAll_118 l_M_24 (xm_at s R) rfl ?_
      refine x_bipush (v := (7 : Int32)) (pc := 121) d_M_copyAll_121 (by decide) ?_
      refine x_iload_n (pc := 123) d_M_copyAll_123 rfl ?_
      refine x_imul (pc := 124) d_M_copyAll_124 ?_
      refine x_iload_n (pc := 125) d_M_copyAll_125 rfl ?_
      refine x_iadd (pc := 126) d_M_copyAll_126 ?_
      obtain ⟨c2, h⟩ := ite_some h
      refine x_iald (pc := 127) d_M_copyAll_127 (xm_a7 s R) (xin_vp c2) ?_
      obtain ⟨c3, h⟩ := ite_some h
      refine xm_s7 (pc := 128) d_M_copyAll_128 c3 ?_
      refine x_aload_n (pc := 129) d_M_copyAll_129 rfl ?_
      refine x_getf (c := 1) (k := 8) (v := vA 379) (pc := 130) d_M_copyAll_130 l_M_27 (xm_at (sA 7 (va_up (mA 7 s) (((7 : Int32) * l1) + l3).toNatClampNeg (mA 7 s (((7 : Int32) * l2) + l3).toNatClampNeg)) s) R) rfl ?_
      refine x_bipush (v := (7 : Int32)) (pc := 133) d_M_copyAll_133 (by decide) ?_
      refine x_iload_n (pc := 135) d_M_copyAll_135 rfl ?_
      refine x_imul (pc := 136) d_M_copyAll_136 ?_
      refine x_iload_n (pc := 137) d_M_copyAll_137 rfl ?_
      refine x_iadd (pc := 138) d_M_copyAll_138 ?_
      refine x_aload_n (pc := 139) d_M_copyAll_139 rfl ?_
      refine x_getf (c := 1) (k := 8) (v := vA 379) (pc := 140) d_M_copyAll_140 l_M_27 (xm_at (sA 7 (va_up (mA 7 s) (((7 : Int32) * l1) + l3).toNatClampNeg (mA 7 s (((7 : Int32) * l2) + l3).toNatClampNeg)) s) R) rfl ?_
      refine x_bipush (v := (7 : Int32)) (pc := 143) d_M_copyAll_143 (by decide) ?_
      refine x_iload_n (pc := 145) d_M_copyAll_145 rfl ?_
      refine x_imul (pc := 146) d_M_copyAll_146 ?_
      refine x_iload_n (pc := 147) d_M_copyAll_147 rfl ?_
      refine x_iadd (pc := 148) d_M_copyAll_148 ?_
      obtain ⟨c4, h⟩ := ite_some h
      refine x_iald (pc := 149) d_M_copyAll_149 (xm_a8 (sA 7 (va_up (mA 7 s) (((7 : Int32) * l1) + l3).toNatClampNeg (mA 7 s (((7 : Int32) * l2) + l3).toNatClampNeg)) s) R) (xin_vp c4) ?_
      obtain ⟨c5, h⟩ := ite_some h
      refine xm_s8 (pc := 150) d_M_copyAll_150 c5 ?_
      refine x_iinc (pc := 151) d_M_copyAll_151 rfl (by decide) ?_
      show xW sc m_M_copyAll (d + 1) Q (mH (sA 8 (va_up (mA 8 (sA 7 (va_up (mA 7 s) (((7 : Int32) * l1) + l3).toNatClampNeg (mA 7 s (((7 : Int32) * l2) + l3).toNatClampNeg)) s)) (((7 : Int32) * l1) + l3).toNatClampNeg (mA 8 (sA 7 (va_up (mA 7 s) (((7 : Int32) * l1) + l3).toNatClampNeg (mA 7 s (((7 : Int32) * l2) + l3).toNatClampNeg)) s) (((7 : Int32) * l2) + l3).toNatClampNeg)) (sA 7 (va_up (mA 7 s) (((7 : Int32) * l1) + l3).toNatClampNeg (mA 7 s (((7 : Int32) * l2) + l3).toNatClampNeg)) s)) R) 154 [some (vA 373), some (vI l1), some (vI l2), some (vI (l3 + Int32.ofInt 1))] []
      refine x_goto (tgt := 101) (pc := 154) d_M_copyAll_154 (by decide) ?_
      exact hk101 l1 l2 (l3 + Int32.ofInt 1) (sA 8 (va_up (mA 8 (sA 7 (va_up (mA 7 s) (((7 : Int32) * l1) + l3).toNatClampNeg (mA 7 s (((7 : Int32) * l2) + l3).toNatClampNeg)) s)) (((7 : Int32) * l1) + l3).toNatClampNeg (mA 8 (sA 7 (va_up (mA 7 s) (((7 : Int32) * l1) + l3).toNatClampNeg (mA 7 s (((7 : Int32) * l2) + l3).toNatClampNeg)) s) (((7 : Int32) * l2) + l3).toNatClampNeg)) (sA 7 (va_up (mA 7 s) (((7 : Int32) * l1) + l3).toNatClampNeg (mA 7 s (((7 : Int32) * l2) + l3).toNatClampNeg)) s)) h
def f_M_copyAll_b65  : Nat → Int32 → Int32 → Int32 → MT → Option MT
  | 0, _, _, _, _ => none
  | n + 1, l1, l2, l3, s => (if (80 : Int32) ≤ l3 then f_M_copyAll_b101 mF l1 l2 (0 : Int32) s else (if xin (((80 : Int32) * l2) + l3) 320 = true then (if xin (((80 : Int32) * l1) + l3) 320 = true then (f_M_copyAll_b65 n) l1 l2 (l3 + Int32.ofInt 1) (sL 6 (va_up (mL 6 s) (((80 : Int32) * l1) + l3).toNatClampNeg (mL 6 s (((80 : Int32) * l2) + l3).toNatClampNeg)) s) else none) else none))
theorem w_M_copyAll_b65 {sc : xSc} {d : Nat} {Q : xR → xH → Prop} {R : xH} {sZ : MT}  (hQ : Q (.inl none) (mH sZ R)) : ∀ (n : Nat) (l1 : Int32) (l2 : Int32) (l3 : Int32) (s : MT), f_M_copyAll_b65  n l1 l2 l3 s = some sZ → xW sc m_M_copyAll (d + 1) Q (mH s R) 65 [some (vA 373), some (vI l1), some (vI l2), some (vI l3)] [] := by
  intro n
  induction n with
  | zero =>
    intro l1 l2 l3 s h
    cases h
  | succ n hk65 =>
    intro l1 l2 l3 s h
    unfold f_M_copyAll_b65 at h
    refine x_iload_n (pc := 65) d_M_copyAll_65 rfl ?_
    refine x_bipush (v := (80 : Int32)) (pc := 66) d_M_copyAll_66 (by decide) ?_
    refine x_icmp_ge (tgt := 99) (pc := 68) d_M_copyAll_68 (by decide) (fun c1 => ?_) (fun c1 => ?_)
    · rw [if_pos c1] at h
      refine x_iconst (v := (0 : Int32)) (pc := 99) d_M_copyAll_99 (by decide) ?_
      refine x_istore_n (pc := 100) d_M_copyAll_100 (by decide) ?_
      show xW sc m_M_copyAll (d + 1) Q (mH s R) 101 [some (vA 373), some (vI l1), some (vI l2), some (vI (0 : Int32))] []
      exact w_M_copyAll_b101 hQ mF l1 l2 (0 : Int32) s h
    · rw [if_neg c1] at h
      refine x_aload_n (pc := 71) d_M_copyAll_71 rfl ?_
      refine x_getf (c := 1) (k := 6) (v := vA 377) (pc := 72) d_M_copyAll_72 l_M_21 (xm_at s R) rfl ?_
      refine x_bipush (v := (80 : Int32)) (pc := 75) d_M_copyAll_75 (by decide) ?_
      refine x_iload_n (pc := 77) d_M_copyAll_77 rfl ?_
      refine x_imul (pc := 78) d_M_copyAll_78 ?_
      refine x_iload_n (pc := 79) d_M_copyAll_79 rfl ?_
      refine x_iadd (pc := 80) d_M_copyAll_80 ?_
      refine x_aload_n (pc := 81) d_M_copyAll_81 rfl ?_
      refine x_getf (c := 1) (k := 6) (v := vA 377) (pc := 82) d_M_copyAll_82 l_M_21 (xm_at s R) rfl ?_
      refine x_bipush (v := (80 : Int32)) (pc := 85) d_M_copyAll_85 (by decide) ?_
      refine x_iload_n (pc := 87) d_M_copyAll_87 rfl ?_
      refine x_imul (pc := 88) d_M_copyAll_88 ?_
      refine x_iload_n (pc := 89) d_M_copyAll_89 rfl ?_
      refine x_iadd (pc := 90) d_M_copyAll_90 ?_
      obtain ⟨c2, h⟩ := ite_some h
      refine x_lald (pc := 91) d_M_copyAll_91 (xm_a6 s R) (xin_vp c2) ?_
      obtain ⟨c3, h⟩ := ite_some h
      refine xm_s6 (pc := 92) d_M_copyAll_92 c3 ?_
      refine x_iinc (pc := 93) d_M_copyAll_93 rfl (by decide) ?_
      show xW sc m_M_copyAll (d + 1) Q (mH (sL 6 (va_up (mL 6 s) (((80 : Int32) * l1) + l3).toNatClampNeg (mL 6 s (((80 : Int32) * l2) + l3).toNatClampNeg)) s) R) 96 [some (vA 373), some (vI l1), some (vI l2), some (vI (l3 + Int32.ofInt 1))] []
      refine x_goto (tgt := 65) (pc := 96) d_M_copyAll_96 (by decide) ?_
      exact hk65 l1 l2 (l3 + Int32.ofInt 1) (sL 6 (va_up (mL 6 s) (((80 : Int32) * l1) + l3).toNatClampNeg (mL 6 s (((80 : Int32) * l2) + l3).toNatClampNeg)) s) h
def f_M_copyAll_b52 (k2 : Int32 → Int32 → Int32 → MT → Option MT) (l1 : Int32) (l2 : Int32) (l3 : Int32) (t0 : Int32) (t1 : Int32) (s : MT) : Option MT := (f_M_move s t1 (t0 + l3)).bind fun s2 => k2 l1 l2 (l3 + Int32.ofInt 1) s2
theorem w_M_copyAll_b52 {sc : xSc} {d : Nat} {Q : xR → xH → Prop} {R : xH} {sZ : MT} (k2 : Int32 → Int32 → Int32 → MT → Option MT) (hk2 : ∀ (l1 : Int32) (l2 : Int32) (l3 : Int32) (s : MT), k2 l1 l2 l3 s = some sZ → xW sc m_M_copyAll (d + 1) Q (mH s R) 2 [some (vA 373), some (vI l1), some (vI l2), some (vI l3)] []) (hQ : Q (.inl none) (mH sZ R)) (l1 : Int32) (l2 : Int32) (l3 : Int32) (t0 : Int32) (t1 : Int32) (s : MT) (h : f_M_copyAll_b52 k2 l1 l2 l3 t0 t1 s = some sZ) : xW sc m_M_copyAll (d + 1) Q (mH s R) 52 [some (vA 373), some (vI l1), some (vI l2), some (vI l3)] [vI t0, vI t1, vA 373] := by
  unfold f_M_copyAll_b52 at h
  refine x_iload_n (pc := 52) d_M_copyAll_52 rfl ?_
  refine x_iadd (pc := 53) d_M_copyAll_53 ?_
  obtain ⟨s2, e1, h⟩ := Option.bind_eq_some_iff.mp h
  refine x_invv (c := 1) (av := [vI t1, vI (t0 + l3)]) (st := []) (pc := 54) d_M_copyAll_54 cv_M_254 y_M_move (xm_at s R) rfl (Nat.le_of_ble_eq_true rfl) (Nat.le_of_ble_eq_true rfl) (w_M_move (d := d + 0) (Q := fun r h' => r = .inl none ∧ h' = mH s2 R) (R := R) ⟨rfl, rfl⟩ s t1 (t0 + l3) e1) (fun v h' z => ?_) (fun a h' z => nomatch z.1)
  obtain ⟨z1, z2⟩ := z
  subst z2
  cases z1
  show xW sc m_M_copyAll (d + 1) Q (mH s2 R) 57 [some (vA 373), some (vI l1), some (vI l2), some (vI l3)] []
  refine x_iinc (pc := 57) d_M_copyAll_57 rfl (by decide) ?_
  show xW sc m_M_copyAll (d + 1) Q (mH s2 R) 60 [some (vA 373), some (vI l1), some (vI l2), some (vI (l3 + Int32.ofInt 1))] []
  refine x_goto (tgt := 2) (pc := 60) d_M_copyAll_60 (by decide) ?_
  exact hk2 l1 l2 (l3 + Int32.ofInt 1) s2 h
def f_M_copyAll_b30 (k2 : Int32 → Int32 → Int32 → MT → Option MT) (l1 : Int32) (l2 : Int32) (l3 : Int32) (t0 : Int32) (s : MT) : Option MT := (if l2 = 0 then f_M_copyAll_b52 k2 l1 l2 l3 (50 : Int32) (t0 + l3) s else f_M_copyAll_b52 k2 l1 l2 l3 ((330 : Int32) + ((280 : Int32) * (l2 - (1 : Int32)))) (t0 + l3) s)
theorem w_M_copyAll_b30 {sc : xSc} {d : Nat} {Q : xR → xH → Prop} {R : xH} {sZ : MT} (k2 : Int32 → Int32 → Int32 → MT → Option MT) (hk2 : ∀ (l1 : Int32) (l2 : Int32) (l3 : Int32) (s : MT), k2 l1 l2 l3 s = some sZ → xW sc m_M_copyAll (d + 1) Q (mH s R) 2 [some (vA 373), some (vI l1), some (vI l2), some (vI l3)] []) (hQ : Q (.inl none) (mH sZ R)) (l1 : Int32) (l2 : Int32) (l3 : Int32) (t0 : Int32) (s : MT) (h : f_M_copyAll_b30 k2 l1 l2 l3 t0 s = some sZ) : xW sc m_M_copyAll (d + 1) Q (mH s R) 30 [some (vA 373), some (vI l1), some (vI l2), some (vI l3)] [vI t0, vA 373] := by
  unfold f_M_copyAll_b30 at h
  refine x_iload_n (pc := 30) d_M_copyAll_30 rfl ?_
  refine x_iadd (pc := 31) d_M_copyAll_31 ?_
  refine x_iload_n (pc := 32) d_M_copyAll_32 rfl ?_
  refine x_if_ne (tgt := 41) (pc := 33) d_M_copyAll_33 (by decide) (fun c1 => ?_) (fun c1 => ?_)
  · rw [if_neg c1] at h
    refine x_sipush (v := (330 : Int32)) (pc := 41) d_M_copyAll_41 (by decide) ?_
    refine x_sipush (v := (280 : Int32)) (pc := 44) d_M_copyAll_44 (by decide) ?_
    refine x_iload_n (pc := 47) d_M_copyAll_47 rfl ?_
    refine x_iconst (v := (1 : Int32)) (pc := 48) d_M_copyAll_48 (by decide) ?_
    refine x_isub (pc := 49) d_M_copyAll_49 ?_
    refine x_imul (pc := 50) d_M_copyAll_50 ?_
    refine x_iadd (pc := 51) d_M_copyAll_51 ?_
    exact w_M_copyAll_b52 k2 hk2 hQ l1 l2 l3 ((330 : Int32) + ((280 : Int32) * (l2 - (1 : Int32)))) (t0 + l3) s h
  · rw [if_pos c1] at h
    refine x_bipush (v := (50 : Int32)) (pc := 36) d_M_copyAll_36 (by decide) ?_
    refine x_goto (tgt := 52) (pc := 38) d_M_copyAll_38 (by decide) ?_
    exact w_M_copyAll_b52 k2 hk2 hQ l1 l2 l3 (50 : Int32) (t0 + l3) s h
def f_M_copyAll_b2  : Nat → Int32 → Int32 → Int32 → MT → Option MT
  | 0, _, _, _, _ => none
  | n + 1, l1, l2, l3, s => (if (280 : Int32) ≤ l3 then f_M_copyAll_b65 mF l1 l2 (0 : Int32) s else (if l1 = 0 then f_M_copyAll_b30 (f_M_copyAll_b2 n) l1 l2 l3 (50 : Int32) s else f_M_copyAll_b30 (f_M_copyAll_b2 n) l1 l2 l3 ((330 : Int32) + ((280 : Int32) * (l1 - (1 : Int32)))) s))
theorem w_M_copyAll_b2 {sc : xSc} {d : Nat} {Q : xR → xH → Prop} {R : xH} {sZ : MT}  (hQ : Q (.inl none) (mH sZ R)) : ∀ (n : Nat) (l1 : Int32) (l2 : Int32) (l3 : Int32) (s : MT), f_M_copyAll_b2  n l1 l2 l3 s = some sZ → xW sc m_M_copyAll (d + 1) Q (mH s R) 2 [some (vA 373), some (vI l1), some (vI l2), some (vI l3)] [] := by
  intro n
  induction n with
  | zero =>
    intro l1 l2 l3 s h
    cases h
  | succ n hk2 =>
    intro l1 l2 l3 s h
    unfold f_M_copyAll_b2 at h
    refine x_iload_n (pc := 2) d_M_copyAll_2 rfl ?_
    refine x_sipush (v := (280 : Int32)) (pc := 3) d_M_copyAll_3 (by decide) ?_
    refine x_icmp_ge (tgt := 63) (pc := 6) d_M_copyAll_6 (by decide) (fun c1 => ?_) (fun c1 => ?_)
    · rw [if_pos c1] at h
      refine x_iconst (v := (0 : Int32)) (pc := 63) d_M_copyAll_63 (by decide) ?_
      refine x_istore_n (pc := 64) d_M_copyAll_64 (by decide) ?_
      show xW sc m_M_copyAll (d + 1) Q (mH s R) 65 [some (vA 373), some (vI l1), some (vI l2), some (vI (0 : Int32))] []
      exact w_M_copyAll_b65 hQ mF l1 l2 (0 : Int32) s h
    · rw [if_neg c1] at h
      refine x_aload_n (pc := 9) d_M_copyAll_9 rfl ?_
      refine x_iload_n (pc := 10) d_M_copyAll_10 rfl ?_
      refine x_if_ne (tgt := 19) (pc := 11) d_M_copyAll_11 (by decide) (fun c2 => ?_) (fun c2 => ?_)
      · rw [if_neg c2] at h
        refine x_sipush (v := (330 : Int32)) (pc := 19) d_M_copyAll_19 (by decide) ?_
        refine x_sipush (v := (280 : Int32)) (pc := 22) d_M_copyAll_22 (by decide) ?_
        refine x_iload_n (pc := 25) d_M_copyAll_25 rfl ?_
        refine x_iconst (v := (1 : Int32)) (pc := 26) d_M_copyAll_26 (by decide) ?_
        refine x_isub (pc := 27) d_M_copyAll_27 ?_
        refine x_imul (pc := 28) d_M_copyAll_28 ?_
        refine x_iadd (pc := 29) d_M_copyAll_29 ?_
        exact w_M_copyAll_b30 (f_M_copyAll_b2 n) hk2 hQ l1 l2 l3 ((330 : Int32) + ((280 : Int32) * (l1 - (1 : Int32)))) s h
      · rw [if_pos c2] at h
        refine x_bipush (v := (50 : Int32)) (pc := 14) d_M_copyAll_14 (by decide) ?_
        refine x_goto (tgt := 30) (pc := 16) d_M_copyAll_16 (by decide) ?_
        exact w_M_copyAll_b30 (f_M_copyAll_b2 n) hk2 hQ l1 l2 l3 (50 : Int32) s h
def f_M_copyAll (s : MT) (a1 : Int32) (a2 : Int32) : Option MT := f_M_copyAll_b2 mF a1 a2 (0 : Int32) s
theorem w_M_copyAll {sc : xSc} {d : Nat} {Q : xR → xH → Prop} {R : xH} {sZ : MT} (hQ : Q (.inl none) (mH sZ R)) (s : MT) (a1 : Int32) (a2 : Int32) (h : f_M_copyAll s a1 a2 = some sZ) : xW sc m_M_copyAll (d + 1) Q (mH s R) 0 (xent [vA 373, vI a1, vI a2] m_M_copyAll.2.2.1) [] := by
  show xW sc m_M_copyAll (d + 1) Q (mH s R) 0 [some (vA 373), some (vI a1), some (vI a2), none] []
  unfold f_M_copyAll at h
  refine x_iconst (v := (0 : Int32)) (pc := 0) d_M_copyAll_0 (by decide) ?_
  refine x_istore_n (pc := 1) d_M_copyAll_1 (by decide) ?_
  show xW sc m_M_copyAll (d + 1) Q (mH s R) 2 [some (vA 373), some (vI a1), some (vI a2), some (vI (0 : Int32))] []
  exact w_M_copyAll_b2 hQ mF a1 a2 (0 : Int32) s h
def f_M_digits_b32  (l2 : Int32) (s : MT) : Option (Int32 × MT) := some (l2, s)
theorem w_M_digits_b32 {sc : xSc} {d : Nat} {Q : xR → xH → Prop} {R : xH} {sZ : MT} {rZ : Int32}  (hQ : Q (.inl (some (vI rZ))) (mH sZ R)) (l2 : Int32) (s : MT) (h : f_M_digits_b32  l2 s = some (rZ, sZ)) : xW sc m_M_digits (d + 1) Q (mH s R) 32 [none, none, some (vI l2)] [] := by
  unfold f_M_digits_b32 at h
  refine x_iload_n (pc := 32) d_M_digits_32 rfl ?_
  cases h
  exact x_iret (ty := .int) (pc := 33) d_M_digits_33 rfl (rfl) hQ
def f_M_digits_b2  : Nat → Int32 → Int32 → MT → Option (Int32 × MT)
  | 0, _, _, _ => none
  | n + 1, l1, l2, s => (if (mI 24 s) ≤ (l1 + l2) then f_M_digits_b32 l2 s else (if xin (l1 + l2) 120 = true then (f_M_isDigit (mA 23 s (l1 + l2).toNatClampNeg)).bind fun v3 => (if v3 = 0 then f_M_digits_b32 l2 s else (f_M_digits_b2 n) l1 (l2 + Int32.ofInt 1) s) else none))
theorem w_M_digits_b2 {sc : xSc} {d : Nat} {Q : xR → xH → Prop} {R : xH} {sZ : MT} {rZ : Int32}  (hQ : Q (.inl (some (vI rZ))) (mH sZ R)) : ∀ (n : Nat) (l1 : Int32) (l2 : Int32) (s : MT), f_M_digits_b2  n l1 l2 s = some (rZ, sZ) → xW sc m_M_digits (d + 1) Q (mH s R) 2 [some (vA 373), some (vI l1), some (vI l2)] [] := by
  intro n
  induction n with
  | zero =>
    intro l1 l2 s h
    cases h
  | succ n hk2 =>
    intro l1 l2 s h
    unfold f_M_digits_b2 at h
    refine x_iload_n (pc := 2) d_M_digits_2 rfl ?_
    refine x_iload_n (pc := 3) d_M_digits_3 rfl ?_
    refine x_iadd (pc := 4) d_M_digits_4 ?_
    refine x_aload_n (pc := 5) d_M_digits_5 rfl ?_
    refine x_getf (c := 1) (k := 24) (v := vI (mI 24 s)) (pc := 6) d_M_digits_6 l_M_270 (xm_at s R) rfl ?_
    refine x_icmp_ge (tgt := 32) (pc := 9) d_M_digits_9 (by decide) (fun c1 => ?_) (fun c1 => ?_)
    · rw [if_pos c1] at h
      exact x_wk (L' := [none, none, some (vI l2)]) ⟨Or.inl rfl, Or.inl rfl, Or.inr rfl, trivial⟩ (w_M_digits_b32 hQ l2 s h)
    · rw [if_neg c1] at h
      refine x_aload_n (pc := 12) d_M_digits_12 rfl ?_
      refine x_getf (c := 1) (k := 23) (v := vA 389) (pc := 13) d_M_digits_13 l_M_61 (xm_at s R) rfl ?_
      refine x_iload_n (pc := 16) d_M_digits_16 rfl ?_
      refine x_iload_n (pc := 17) d_M_digits_17 rfl ?_
      refine x_iadd (pc := 18) d_M_digits_18 ?_
      obtain ⟨c2, h⟩ := ite_some h
      refine x_cald (pc := 19) d_M_digits_19 (xm_a23 s R) (xin_vp c2) ?_
      obtain ⟨v3, e4, h⟩ := Option.bind_eq_some_iff.mp h
      refine x_invs (av := [vI (mA 23 s (l1 + l2).toNatClampNeg)]) (st := []) (pc := 20) d_M_digits_20 cs_M_273 y_M_isDigit rfl (Nat.le_of_ble_eq_true rfl) (Nat.le_of_ble_eq_true rfl) (w_M_isDigit (d := d + 0) (Q := fun r h' => r = .inl (some (vI v3)) ∧ h' = mH s R) (hh := mH s R) ⟨rfl, rfl⟩ (mA 23 s (l1 + l2).toNatClampNeg) e4) (fun v h' z => ?_) (fun a h' z => nomatch z.1)
      obtain ⟨z1, z2⟩ := z
      subst z2
      cases z1
      show xW sc m_M_digits (d + 1) Q (mH s R) 23 [some (vA 373), some (vI l1), some (vI l2)] [vI v3]
      refine x_if_eq (tgt := 32) (pc := 23) d_M_digits_23 (by decide) (fun c5 => ?_) (fun c5 => ?_)
      · rw [if_pos c5] at h
        exact x_wk (L' := [none, none, some (vI l2)]) ⟨Or.inl rfl, Or.inl rfl, Or.inr rfl, trivial⟩ (w_M_digits_b32 hQ l2 s h)
      · rw [if_neg c5] at h
        refine x_iinc (pc := 26) d_M_digits_26 rfl (by decide) ?_
        show xW sc m_M_digits (d + 1) Q (mH s R) 29 [some (vA 373), some (vI l1), some (vI (l2 + Int32.ofInt 1))] []
        refine x_goto (tgt := 2) (pc := 29) d_M_digits_29 (by decide) ?_
        exact hk2 l1 (l2 + Int32.ofInt 1) s h
def f_M_digits (s : MT) (a1 : Int32) : Option (Int32 × MT) := f_M_digits_b2 mF a1 (0 : Int32) s
theorem w_M_digits {sc : xSc} {d : Nat} {Q : xR → xH → Prop} {R : xH} {sZ : MT} {rZ : Int32} (hQ : Q (.inl (some (vI rZ))) (mH sZ R)) (s : MT) (a1 : Int32) (h : f_M_digits s a1 = some (rZ, sZ)) : xW sc m_M_digits (d + 1) Q (mH s R) 0 (xent [vA 373, vI a1] m_M_digits.2.2.1) [] := by
  show xW sc m_M_digits (d + 1) Q (mH s R) 0 [some (vA 373), some (vI a1), none] []
  unfold f_M_digits at h
  refine x_iconst (v := (0 : Int32)) (pc := 0) d_M_digits_0 (by decide) ?_
  refine x_istore_n (pc := 1) d_M_digits_1 (by decide) ?_
  show xW sc m_M_digits (d + 1) Q (mH s R) 2 [some (vA 373), some (vI a1), some (vI (0 : Int32))] []
  exact w_M_digits_b2 hQ mF a1 (0 : Int32) s h
def f_M_entry_b6  : Nat → Int32 → Int64 → Int32 → MT → Option (Int32 × MT)
  | 0, _, _, _, _ => none
  | n + 1, l1, l2, l4, s => (f_M_base l1).bind fun v1 => (if xin l1 28 = true then (if (v1 + (mA 7 s l1.toNatClampNeg)) ≤ l4 then some ((-1 : Int32), s) else (if xin l4 320 = true then (if (lg_cmp (mL 6 s l4.toNatClampNeg) l2) = 0 then some ((250 : Int32) + l4, s) else (f_M_entry_b6 n) l1 l2 (l4 + Int32.ofInt 1) s) else none)) else none)
theorem w_M_entry_b6 {sc : xSc} {d : Nat} {Q : xR → xH → Prop} {R : xH} {sZ : MT} {rZ : Int32}  (hQ : Q (.inl (some (vI rZ))) (mH sZ R)) : ∀ (n : Nat) (l1 : Int32) (l2 : Int64) (l4 : Int32) (s : MT), f_M_entry_b6  n l1 l2 l4 s = some (rZ, sZ) → xW sc m_M_entry (d + 1) Q (mH s R) 6 [some (vA 373), some (vI l1), some (vL l2), none, some (vI l4)] [] := by
  intro n
  induction n with
  | zero =>
    intro l1 l2 l4 s h
    cases h
  | succ n hk6 =>
    intro l1 l2 l4 s h
    unfold f_M_entry_b6 at h
    refine x_iload (pc := 6) d_M_entry_6 rfl ?_
    refine x_iload_n (pc := 8) d_M_entry_8 rfl ?_
    obtain ⟨v1, e2, h⟩ := Option.bind_eq_some_iff.mp h
    refine x_invs (av := [vI l1]) (st := [vI l4]) (pc := 9) d_M_entry_9 cs_M_516 y_M_base rfl (Nat.le_of_ble_eq_true rfl) (Nat.le_of_ble_eq_true rfl) (w_M_base (d := d + 0) (Q := fun r h' => r = .inl (some (vI v1)) ∧ h' = mH s R) (hh := mH s R) ⟨rfl, rfl⟩ l1 e2) (fun v h' z => ?_) (fun a h' z => nomatch z.1)
    obtain ⟨z1, z2⟩ := z
    subst z2
    cases z1
    show xW sc m_M_entry (d + 1) Q (mH s R) 12 [some (vA 373), some (vI l1), some (vL l2), none, some (vI l4)] [vI v1, vI l4]
    refine x_aload_n (pc := 12) d_M_entry_12 rfl ?_
    refine x_getf (c := 1) (k := 7) (v := vA 378) (pc := 13) d_M_entry_13 l_M_24 (xm_at s R) rfl ?_
    refine x_iload_n (pc := 16) d_M_entry_16 rfl ?_
    obtain ⟨c3, h⟩ := ite_some h
    refine x_iald (pc := 17) d_M_entry_17 (xm_a7 s R) (xin_vp c3) ?_
    refine x_iadd (pc := 18) d_M_entry_18 ?_
    refine x_icmp_ge (tgt := 47) (pc := 19) d_M_entry_19 (by decide) (fun c4 => ?_) (fun c4 => ?_)
    · rw [if_pos c4] at h
      refine x_iconst (v := (-1 : Int32)) (pc := 47) d_M_entry_47 (by decide) ?_
      cases h
      exact x_iret (ty := .int) (pc := 48) d_M_entry_48 rfl (rfl) hQ
    · rw [if_neg c4] at h
      refine x_aload_n (pc := 22) d_M_entry_22 rfl ?_
      refine x_getf (c := 1) (k := 6) (v := vA 377) (pc := 23) d_M_entry_23 l_M_21 (xm_at s R) rfl ?_
      refine x_iload (pc := 26) d_M_entry_26 rfl ?_
      obtain ⟨c5, h⟩ := ite_some h
      refine x_lald (pc := 28) d_M_entry_28 (xm_a6 s R) (xin_vp c5) ?_
      refine x_lload_n (pc := 29) d_M_entry_29 rfl ?_
      refine x_lcmp (pc := 30) d_M_entry_30 ?_
      refine x_if_ne (tgt := 41) (pc := 31) d_M_entry_31 (by decide) (fun c6 => ?_) (fun c6 => ?_)
      · rw [if_neg c6] at h
        refine x_iinc (pc := 41) d_M_entry_41 rfl (by decide) ?_
        show xW sc m_M_entry (d + 1) Q (mH s R) 44 [some (vA 373), some (vI l1), some (vL l2), none, some (vI (l4 + Int32.ofInt 1))] []
        refine x_goto (tgt := 6) (pc := 44) d_M_entry_44 (by decide) ?_
        exact hk6 l1 l2 (l4 + Int32.ofInt 1) s h
      · rw [if_pos c6] at h
        refine x_sipush (v := (250 : Int32)) (pc := 34) d_M_entry_34 (by decide) ?_
        refine x_iload (pc := 37) d_M_entry_37 rfl ?_
        refine x_iadd (pc := 39) d_M_entry_39 ?_
        cases h
        exact x_iret (ty := .int) (pc := 40) d_M_entry_40 rfl (rfl) hQ
def f_M_entry (s : MT) (a1 : Int32) (a2 : Int64) : Option (Int32 × MT) := (f_M_base a1).bind fun v1 => f_M_entry_b6 mF a1 a2 v1 s
theorem w_M_entry {sc : xSc} {d : Nat} {Q : xR → xH → Prop} {R : xH} {sZ : MT} {rZ : Int32} (hQ : Q (.inl (some (vI rZ))) (mH sZ R)) (s : MT) (a1 : Int32) (a2 : Int64) (h : f_M_entry s a1 a2 = some (rZ, sZ)) : xW sc m_M_entry (d + 1) Q (mH s R) 0 (xent [vA 373, vI a1, vL a2] m_M_entry.2.2.1) [] := by
  show xW sc m_M_entry (d + 1) Q (mH s R) 0 [some (vA 373), some (vI a1), some (vL a2), none, none] []
  unfold f_M_entry at h
  refine x_iload_n (pc := 0) d_M_entry_0 rfl ?_
  obtain ⟨v1, e2, h⟩ := Option.bind_eq_some_iff.mp h
  refine x_invs (av := [vI a1]) (st := []) (pc := 1) d_M_entry_1 cs_M_516 y_M_base rfl (Nat.le_of_ble_eq_true rfl) (Nat.le_of_ble_eq_true rfl) (w_M_base (d := d + 0) (Q := fun r h' => r = .inl (some (vI v1)) ∧ h' = mH s R) (hh := mH s R) ⟨rfl, rfl⟩ a1 e2) (fun v h' z => ?_) (fun a h' z => nomatch z.1)
  obtain ⟨z1, z2⟩ := z
  subst z2
  cases z1
  show xW sc m_M_entry (d + 1) Q (mH s R) 4 [some (vA 373), some (vI a1), some (vL a2), none, none] [vI v1]
  refine x_istore (pc := 4) d_M_entry_4 (by decide) ?_
  show xW sc m_M_entry (d + 1) Q (mH s R) 6 [some (vA 373), some (vI a1), some (vL a2), none, some (vI v1)] []
  exact w_M_entry_b6 hQ mF a1 a2 v1 s h
def f_M_exit_b45  : Nat → Int32 → MT → Option (Int32 × MT)
  | 0, _, _ => none
  | n + 1, l1, s => (if (mI 15 s) ≤ l1 then some ((0 : Int32), s) else (f_M_leave s).bind fun s3 => (f_M_exit_b45 n) l1 s3)
theorem w_M_exit_b45 {sc : xSc} {d : Nat} {Q : xR → xH → Prop} {R : xH} {sZ : MT} {rZ : Int32}  (hQ : Q (.inl (some (vI rZ))) (mH sZ R)) : ∀ (n : Nat) (l1 : Int32) (s : MT), f_M_exit_b45  n l1 s = some (rZ, sZ) → xW sc m_M_exit (d + 1) Q (mH s R) 45 [some (vA 373), some (vI l1)] [] := by
  intro n
  induction n with
  | zero =>
    intro l1 s h
    cases h
  | succ n hk45 =>
    intro l1 s h
    unfold f_M_exit_b45 at h
    refine x_aload_n (pc := 45) d_M_exit_45 rfl ?_
    refine x_getf (c := 1) (k := 15) (v := vI (mI 15 s)) (pc := 46) d_M_exit_46 l_M_346 (xm_at s R) rfl ?_
    refine x_iload_n (pc := 49) d_M_exit_49 rfl ?_
    refine x_icmp_le (tgt := 60) (pc := 50) d_M_exit_50 (by decide) (fun c1 => ?_) (fun c1 => ?_)
    · rw [if_pos c1] at h
      refine x_iconst (v := (0 : Int32)) (pc := 60) d_M_exit_60 (by decide) ?_
      cases h
      exact x_iret (ty := .int) (pc := 61) d_M_exit_61 rfl (rfl) hQ
    · rw [if_neg c1] at h
      refine x_aload_n (pc := 53) d_M_exit_53 rfl ?_
      obtain ⟨s3, e2, h⟩ := Option.bind_eq_some_iff.mp h
      refine x_invv (c := 1) (av := []) (st := []) (pc := 54) d_M_exit_54 cv_M_385 y_M_leave (xm_at s R) rfl (Nat.le_of_ble_eq_true rfl) (Nat.le_of_ble_eq_true rfl) (w_M_leave (d := d + 0) (Q := fun r h' => r = .inl none ∧ h' = mH s3 R) (R := R) ⟨rfl, rfl⟩ s  e2) (fun v h' z => ?_) (fun a h' z => nomatch z.1)
      obtain ⟨z1, z2⟩ := z
      subst z2
      cases z1
      show xW sc m_M_exit (d + 1) Q (mH s3 R) 57 [some (vA 373), some (vI l1)] []
      refine x_goto (tgt := 45) (pc := 57) d_M_exit_57 (by decide) ?_
      exact hk45 l1 s3 h
def f_M_exit_b42  (s : MT) : Option (Int32 × MT) := some ((11 : Int32), s)
theorem w_M_exit_b42 {sc : xSc} {d : Nat} {Q : xR → xH → Prop} {R : xH} {sZ : MT} {rZ : Int32}  (hQ : Q (.inl (some (vI rZ))) (mH sZ R)) (s : MT) (h : f_M_exit_b42  s = some (rZ, sZ)) : xW sc m_M_exit (d + 1) Q (mH s R) 42 [none, none] [] := by
  unfold f_M_exit_b42 at h
  refine x_bipush (v := (11 : Int32)) (pc := 42) d_M_exit_42 (by decide) ?_
  cases h
  exact x_iret (ty := .int) (pc := 44) d_M_exit_44 rfl (rfl) hQ
def f_M_exit_b27  (l1 : Int32) (s : MT) : Option (Int32 × MT) := (if l1 < 0 then f_M_exit_b42 s else (if xin l1 560 = true then (if (mA 17 s l1.toNatClampNeg) = (7 : Int32) then f_M_exit_b42 s else f_M_exit_b45 mF l1 s) else none))
theorem w_M_exit_b27 {sc : xSc} {d : Nat} {Q : xR → xH → Prop} {R : xH} {sZ : MT} {rZ : Int32}  (hQ : Q (.inl (some (vI rZ))) (mH sZ R)) (l1 : Int32) (s : MT) (h : f_M_exit_b27  l1 s = some (rZ, sZ)) : xW sc m_M_exit (d + 1) Q (mH s R) 27 [some (vA 373), some (vI l1)] [] := by
  unfold f_M_exit_b27 at h
  refine x_iload_n (pc := 27) d_M_exit_27 rfl ?_
  refine x_if_lt (tgt := 42) (pc := 28) d_M_exit_28 (by decide) (fun c1 => ?_) (fun c1 => ?_)
  · rw [if_pos c1] at h
    exact x_wk (L' := [none, none]) ⟨Or.inl rfl, Or.inl rfl, trivial⟩ (w_M_exit_b42 hQ s h)
  · rw [if_neg c1] at h
    refine x_aload_n (pc := 31) d_M_exit_31 rfl ?_
    refine x_getf (c := 1) (k := 17) (v := vA 383) (pc := 32) d_M_exit_32 l_M_43 (xm_at s R) rfl ?_
    refine x_iload_n (pc := 35) d_M_exit_35 rfl ?_
    obtain ⟨c2, h⟩ := ite_some h
    refine x_iald (pc := 36) d_M_exit_36 (xm_a17 s R) (xin_vp c2) ?_
    refine x_bipush (v := (7 : Int32)) (pc := 37) d_M_exit_37 (by decide) ?_
    refine x_icmp_ne (tgt := 45) (pc := 39) d_M_exit_39 (by decide) (fun c3 => ?_) (fun c3 => ?_)
    · rw [if_neg c3] at h
      exact w_M_exit_b45 hQ mF l1 s h
    · rw [if_pos c3] at h
      exact x_wk (L' := [none, none]) ⟨Or.inl rfl, Or.inl rfl, trivial⟩ (w_M_exit_b42 hQ s h)
def f_M_exit_b7  : Nat → Int32 → MT → Option (Int32 × MT)
  | 0, _, _ => none
  | n + 1, l1, s => (if l1 < 0 then f_M_exit_b27 l1 s else (if xin l1 560 = true then (if (3 : Int32) ≤ (mA 17 s l1.toNatClampNeg) then f_M_exit_b27 l1 s else (f_M_exit_b7 n) (l1 + Int32.ofInt (-1)) s) else none))
theorem w_M_exit_b7 {sc : xSc} {d : Nat} {Q : xR → xH → Prop} {R : xH} {sZ : MT} {rZ : Int32}  (hQ : Q (.inl (some (vI rZ))) (mH sZ R)) : ∀ (n : Nat) (l1 : Int32) (s : MT), f_M_exit_b7  n l1 s = some (rZ, sZ) → xW sc m_M_exit (d + 1) Q (mH s R) 7 [some (vA 373), some (vI l1)] [] := by
  intro n
  induction n with
  | zero =>
    intro l1 s h
    cases h
  | succ n hk7 =>
    intro l1 s h
    unfold f_M_exit_b7 at h
    refine x_iload_n (pc := 7) d_M_exit_7 rfl ?_
    refine x_if_lt (tgt := 27) (pc := 8) d_M_exit_8 (by decide) (fun c1 => ?_) (fun c1 => ?_)
    · rw [if_pos c1] at h
      exact w_M_exit_b27 hQ l1 s h
    · rw [if_neg c1] at h
      refine x_aload_n (pc := 11) d_M_exit_11 rfl ?_
      refine x_getf (c := 1) (k := 17) (v := vA 383) (pc := 12) d_M_exit_12 l_M_43 (xm_at s R) rfl ?_
      refine x_iload_n (pc := 15) d_M_exit_15 rfl ?_
      obtain ⟨c2, h⟩ := ite_some h
      refine x_iald (pc := 16) d_M_exit_16 (xm_a17 s R) (xin_vp c2) ?_
      refine x_iconst (v := (3 : Int32)) (pc := 17) d_M_exit_17 (by decide) ?_
      refine x_icmp_ge (tgt := 27) (pc := 18) d_M_exit_18 (by decide) (fun c3 => ?_) (fun c3 => ?_)
      · rw [if_pos c3] at h
        exact w_M_exit_b27 hQ l1 s h
      · rw [if_neg c3] at h
        refine x_iinc (pc := 21) d_M_exit_21 rfl (by decide) ?_
        show xW sc m_M_exit (d + 1) Q (mH s R) 24 [some (vA 373), some (vI (l1 + Int32.ofInt (-1)))] []
        refine x_goto (tgt := 7) (pc := 24) d_M_exit_24 (by decide) ?_
        exact hk7 (l1 + Int32.ofInt (-1)) s h
def f_M_exit (s : MT) : Option (Int32 × MT) := f_M_exit_b7 mF ((mI 15 s) - (1 : Int32)) s
theorem w_M_exit {sc : xSc} {d : Nat} {Q : xR → xH → Prop} {R : xH} {sZ : MT} {rZ : Int32} (hQ : Q (.inl (some (vI rZ))) (mH sZ R)) (s : MT) (h : f_M_exit s = some (rZ, sZ)) : xW sc m_M_exit (d + 1) Q (mH s R) 0 (xent [vA 373] m_M_exit.2.2.1) [] := by
  show xW sc m_M_exit (d + 1) Q (mH s R) 0 [some (vA 373), none] []
  unfold f_M_exit at h
  refine x_aload_n (pc := 0) d_M_exit_0 rfl ?_
  refine x_getf (c := 1) (k := 15) (v := vI (mI 15 s)) (pc := 1) d_M_exit_1 l_M_346 (xm_at s R) rfl ?_
  refine x_iconst (v := (1 : Int32)) (pc := 4) d_M_exit_4 (by decide) ?_
  refine x_isub (pc := 5) d_M_exit_5 ?_
  refine x_istore_n (pc := 6) d_M_exit_6 (by decide) ?_
  show xW sc m_M_exit (d + 1) Q (mH s R) 7 [some (vA 373), some (vI ((mI 15 s) - (1 : Int32)))] []
  exact w_M_exit_b7 hQ mF ((mI 15 s) - (1 : Int32)) s h
def f_M_feed_b30  (s : MT) : Option (Int32 × MT) := some ((0 : Int32), s)
theorem w_M_feed_b30 {sc : xSc} {d : Nat} {Q : xR → xH → Prop} {R : xH} {sZ : MT} {rZ : Int32}  (hQ : Q (.inl (some (vI rZ))) (mH sZ R)) (s : MT) (h : f_M_feed_b30  s = some (rZ, sZ)) : xW sc m_M_feed (d + 1) Q (mH s R) 30 [none, none, none] [] := by
  unfold f_M_feed_b30 at h
  refine x_iconst (v := (0 : Int32)) (pc := 30) d_M_feed_30 (by decide) ?_
  cases h
  exact x_iret (ty := .boolean) (pc := 31) d_M_feed_31 rfl (rfl) hQ
def f_M_feed (s : MT) (a1 : UInt64) : Option (Int32 × MT) := (if (mI 4 (sI 0 (0 : Int32) s)) = (40 : Int32) then f_M_feed_b30 (sI 0 (0 : Int32) s) else (if (Op.cmpValue (FP.dcmp a1 (14009883241494872064 : UInt64)) .l) < 0 then f_M_feed_b30 (sI 0 (0 : Int32) s) else (if (Op.cmpValue (FP.dcmp a1 (4786511204640096256 : UInt64)) .g) ≤ 0 then (f_M_set (sI 0 (0 : Int32) s) (mI 4 (sI 0 (0 : Int32) s)) (1 : Int32) (0 : Int64)).bind fun s5 => (if xin (mI 4 s5) 1300 = true then some ((1 : Int32), sI 4 ((mI 4 (sD 3 (va_up (mD 3 s5) (mI 4 s5).toNatClampNeg a1) s5)) + (1 : Int32)) (sD 3 (va_up (mD 3 s5) (mI 4 s5).toNatClampNeg a1) s5)) else none) else f_M_feed_b30 (sI 0 (0 : Int32) s))))
theorem w_M_feed {sc : xSc} {d : Nat} {Q : xR → xH → Prop} {R : xH} {sZ : MT} {rZ : Int32} (hQ : Q (.inl (some (vI rZ))) (mH sZ R)) (s : MT) (a1 : UInt64) (h : f_M_feed s a1 = some (rZ, sZ)) : xW sc m_M_feed (d + 1) Q (mH s R) 0 (xent [vA 373, vD a1] m_M_feed.2.2.1) [] := by
  show xW sc m_M_feed (d + 1) Q (mH s R) 0 [some (vA 373), some (vD a1), none] []
  unfold f_M_feed at h
  refine x_aload_n (pc := 0) d_M_feed_0 rfl ?_
  refine x_iconst (v := (0 : Int32)) (pc := 1) d_M_feed_1 (by decide) ?_
  refine xm_p0 (pc := 2) d_M_feed_2 l_M_242 ?_
  refine x_aload_n (pc := 5) d_M_feed_5 rfl ?_
  refine x_getf (c := 1) (k := 4) (v := vI (mI 4 (sI 0 (0 : Int32) s))) (pc := 6) d_M_feed_6 l_M_247 (xm_at (sI 0 (0 : Int32) s) R) rfl ?_
  refine x_bipush (v := (40 : Int32)) (pc := 9) d_M_feed_9 (by decide) ?_
  refine x_icmp_eq (tgt := 30) (pc := 11) d_M_feed_11 (by decide) (fun c1 => ?_) (fun c1 => ?_)
  · rw [if_pos c1] at h
    exact x_wk (L' := [none, none, none]) ⟨Or.inl rfl, Or.inl rfl, Or.inl rfl, trivial⟩ (w_M_feed_b30 hQ (sI 0 (0 : Int32) s) h)
  · rw [if_neg c1] at h
    refine x_dload_n (pc := 14) d_M_feed_14 rfl ?_
    refine x_ldc2d (v := (14009883241494872064 : UInt64)) (pc := 15) d_M_feed_15 c_M_260 ?_
    refine x_dcmp (pc := 18) d_M_feed_18 ?_
    refine x_if_lt (tgt := 30) (pc := 19) d_M_feed_19 (by decide) (fun c2 => ?_) (fun c2 => ?_)
    · rw [if_pos c2] at h
      exact x_wk (L' := [none, none, none]) ⟨Or.inl rfl, Or.inl rfl, Or.inl rfl, trivial⟩ (w_M_feed_b30 hQ (sI 0 (0 : Int32) s) h)
    · rw [if_neg c2] at h
      refine x_dload_n (pc := 22) d_M_feed_22 rfl ?_
      refine x_ldc2d (v := (4786511204640096256 : UInt64)) (pc := 23) d_M_feed_23 c_M_258 ?_
      refine x_dcmp (pc := 26) d_M_feed_26 ?_
      refine x_if_le (tgt := 32) (pc := 27) d_M_feed_27 (by decide) (fun c3 => ?_) (fun c3 => ?_)
      · rw [if_pos c3] at h
        refine x_aload_n (pc := 32) d_M_feed_32 rfl ?_
        refine x_aload_n (pc := 33) d_M_feed_33 rfl ?_
        refine x_getf (c := 1) (k := 4) (v := vI (mI 4 (sI 0 (0 : Int32) s))) (pc := 34) d_M_feed_34 l_M_247 (xm_at (sI 0 (0 : Int32) s) R) rfl ?_
        refine x_iconst (v := (1 : Int32)) (pc := 37) d_M_feed_37 (by decide) ?_
        refine x_lconst (v := (0 : Int64)) (pc := 38) d_M_feed_38 (by decide) ?_
        obtain ⟨s5, e4, h⟩ := Option.bind_eq_some_iff.mp h
        refine x_invv (c := 1) (av := [vI (mI 4 (sI 0 (0 : Int32) s)), vI (1 : Int32), vL (0 : Int64)]) (st := []) (pc := 39) d_M_feed_39 cv_M_250 y_M_set (xm_at (sI 0 (0 : Int32) s) R) rfl (Nat.le_of_ble_eq_true rfl) (Nat.le_of_ble_eq_true rfl) (w_M_set (d := d + 0) (Q := fun r h' => r = .inl none ∧ h' = mH s5 R) (R := R) ⟨rfl, rfl⟩ (sI 0 (0 : Int32) s) (mI 4 (sI 0 (0 : Int32) s)) (1 : Int32) (0 : Int64) e4) (fun v h' z => ?_) (fun a h' z => nomatch z.1)
        obtain ⟨z1, z2⟩ := z
        subst z2
        cases z1
        show xW sc m_M_feed (d + 1) Q (mH s5 R) 42 [some (vA 373), some (vD a1), none] []
        refine x_aload_n (pc := 42) d_M_feed_42 rfl ?_
        refine x_getf (c := 1) (k := 3) (v := vA 376) (pc := 43) d_M_feed_43 l_M_17 (xm_at s5 R) rfl ?_
        refine x_aload_n (pc := 46) d_M_feed_46 rfl ?_
        refine x_getf (c := 1) (k := 4) (v := vI (mI 4 s5)) (pc := 47) d_M_feed_47 l_M_247 (xm_at s5 R) rfl ?_
        refine x_dload_n (pc := 50) d_M_feed_50 rfl ?_
        obtain ⟨c6, h⟩ := ite_some h
        refine xm_s3 (pc := 51) d_M_feed_51 c6 ?_
        refine x_aload_n (pc := 52) d_M_feed_52 rfl ?_
        refine x_dup (pc := 53) d_M_feed_53 rfl ?_
        refine x_getf (c := 1) (k := 4) (v := vI (mI 4 (sD 3 (va_up (mD 3 s5) (mI 4 s5).toNatClampNeg a1) s5))) (pc := 54) d_M_feed_54 l_M_247 (xm_at (sD 3 (va_up (mD 3 s5) (mI 4 s5).toNatClampNeg a1) s5) R) rfl ?_
        refine x_iconst (v := (1 : Int32)) (pc := 57) d_M_feed_57 (by decide) ?_
        refine x_iadd (pc := 58) d_M_feed_58 ?_
        refine xm_p4 (pc := 59) d_M_feed_59 l_M_247 ?_
        refine x_iconst (v := (1 : Int32)) (pc := 62) d_M_feed_62 (by decide) ?_
        cases h
        exact x_iret (ty := .boolean) (pc := 63) d_M_feed_63 rfl (rfl) hQ
      · rw [if_neg c3] at h
        exact x_wk (L' := [none, none, none]) ⟨Or.inl rfl, Or.inl rfl, Or.inl rfl, trivial⟩ (w_M_feed_b30 hQ (sI 0 (0 : Int32) s) h)
def f_M_give (s : MT) (a1 : Int32) (a2 : Int32) (a3 : Int64) : Option (Int32 × MT) := (f_M_set (sI 4 ((mI 4 s) - a1) s) (mI 4 (sI 4 ((mI 4 s) - a1) s)) a2 a3).bind fun s2 => some ((0 : Int32), sI 4 ((mI 4 s2) + (1 : Int32)) s2)
theorem w_M_give {sc : xSc} {d : Nat} {Q : xR → xH → Prop} {R : xH} {sZ : MT} {rZ : Int32} (hQ : Q (.inl (some (vI rZ))) (mH sZ R)) (s : MT) (a1 : Int32) (a2 : Int32) (a3 : Int64) (h : f_M_give s a1 a2 a3 = some (rZ, sZ)) : xW sc m_M_give (d + 1) Q (mH s R) 0 (xent [vA 373, vI a1, vI a2, vL a3] m_M_give.2.2.1) [] := by
  show xW sc m_M_give (d + 1) Q (mH s R) 0 [some (vA 373), some (vI a1), some (vI a2), some (vL a3), none] []
  unfold f_M_give at h
  refine x_aload_n (pc := 0) d_M_give_0 rfl ?_
  refine x_dup (pc := 1) d_M_give_1 rfl ?_
  refine x_getf (c := 1) (k := 4) (v := vI (mI 4 s)) (pc := 2) d_M_give_2 l_M_247 (xm_at s R) rfl ?_
  refine x_iload_n (pc := 5) d_M_give_5 rfl ?_
  refine x_isub (pc := 6) d_M_give_6 ?_
  refine xm_p4 (pc := 7) d_M_give_7 l_M_247 ?_
  refine x_aload_n (pc := 10) d_M_give_10 rfl ?_
  refine x_aload_n (pc := 11) d_M_give_11 rfl ?_
  refine x_getf (c := 1) (k := 4) (v := vI (mI 4 (sI 4 ((mI 4 s) - a1) s))) (pc := 12) d_M_give_12 l_M_247 (xm_at (sI 4 ((mI 4 s) - a1) s) R) rfl ?_
  refine x_iload_n (pc := 15) d_M_give_15 rfl ?_
  refine x_lload_n (pc := 16) d_M_give_16 rfl ?_
  obtain ⟨s2, e1, h⟩ := Option.bind_eq_some_iff.mp h
  refine x_invv (c := 1) (av := [vI (mI 4 (sI 4 ((mI 4 s) - a1) s)), vI a2, vL a3]) (st := []) (pc := 17) d_M_give_17 cv_M_250 y_M_set (xm_at (sI 4 ((mI 4 s) - a1) s) R) rfl (Nat.le_of_ble_eq_true rfl) (Nat.le_of_ble_eq_true rfl) (w_M_set (d := d + 0) (Q := fun r h' => r = .inl none ∧ h' = mH s2 R) (R := R) ⟨rfl, rfl⟩ (sI 4 ((mI 4 s) - a1) s) (mI 4 (sI 4 ((mI 4 s) - a1) s)) a2 a3 e1) (fun v h' z => ?_) (fun a h' z => nomatch z.1)
  obtain ⟨z1, z2⟩ := z
  subst z2
  cases z1
  show xW sc m_M_give (d + 1) Q (mH s2 R) 20 [some (vA 373), some (vI a1), some (vI a2), some (vL a3), none] []
  refine x_aload_n (pc := 20) d_M_give_20 rfl ?_
  refine x_dup (pc := 21) d_M_give_21 rfl ?_
  refine x_getf (c := 1) (k := 4) (v := vI (mI 4 s2)) (pc := 22) d_M_give_22 l_M_247 (xm_at s2 R) rfl ?_
  refine x_iconst (v := (1 : Int32)) (pc := 25) d_M_give_25 (by decide) ?_
  refine x_iadd (pc := 26) d_M_give_26 ?_
  refine xm_p4 (pc := 27) d_M_give_27 l_M_247 ?_
  refine x_iconst (v := (0 : Int32)) (pc := 30) d_M_give_30 (by decide) ?_
  cases h
  exact x_iret (ty := .int) (pc := 31) d_M_give_31 rfl (rfl) hQ
def f_M_giveReal_b16  (s : MT) : Option (Int32 × MT) := some ((4 : Int32), s)
theorem w_M_giveReal_b16 {sc : xSc} {d : Nat} {Q : xR → xH → Prop} {R : xH} {sZ : MT} {rZ : Int32}  (hQ : Q (.inl (some (vI rZ))) (mH sZ R)) (s : MT) (h : f_M_giveReal_b16  s = some (rZ, sZ)) : xW sc m_M_giveReal (d + 1) Q (mH s R) 16 [none, none, none, none] [] := by
  unfold f_M_giveReal_b16 at h
  refine x_iconst (v := (4 : Int32)) (pc := 16) d_M_giveReal_16 (by decide) ?_
  cases h
  exact x_iret (ty := .int) (pc := 17) d_M_giveReal_17 rfl (rfl) hQ
def f_M_giveReal (s : MT) (a1 : Int32) (a2 : UInt64) : Option (Int32 × MT) := (if 0 < (Op.cmpValue (FP.dcmp a2 (4786511204640096256 : UInt64)) .l) then f_M_giveReal_b16 s else (if 0 ≤ (Op.cmpValue (FP.dcmp a2 (14009883241494872064 : UInt64)) .g) then (f_M_set (sI 4 ((mI 4 s) - a1) s) (mI 4 (sI 4 ((mI 4 s) - a1) s)) (1 : Int32) (0 : Int64)).bind fun s4 => (if xin (mI 4 s4) 1300 = true then some ((0 : Int32), sI 4 ((mI 4 (sD 3 (va_up (mD 3 s4) (mI 4 s4).toNatClampNeg a2) s4)) + (1 : Int32)) (sD 3 (va_up (mD 3 s4) (mI 4 s4).toNatClampNeg a2) s4)) else none) else f_M_giveReal_b16 s))
theorem w_M_giveReal {sc : xSc} {d : Nat} {Q : xR → xH → Prop} {R : xH} {sZ : MT} {rZ : Int32} (hQ : Q (.inl (some (vI rZ))) (mH sZ R)) (s : MT) (a1 : Int32) (a2 : UInt64) (h : f_M_giveReal s a1 a2 = some (rZ, sZ)) : xW sc m_M_giveReal (d + 1) Q (mH s R) 0 (xent [vA 373, vI a1, vD a2] m_M_giveReal.2.2.1) [] := by
  show xW sc m_M_giveReal (d + 1) Q (mH s R) 0 [some (vA 373), some (vI a1), some (vD a2), none] []
  unfold f_M_giveReal at h
  refine x_dload_n (pc := 0) d_M_giveReal_0 rfl ?_
  refine x_ldc2d (v := (4786511204640096256 : UInt64)) (pc := 1) d_M_giveReal_1 c_M_258 ?_
  refine x_dcmp (pc := 4) d_M_giveReal_4 ?_
  refine x_if_gt (tgt := 16) (pc := 5) d_M_giveReal_5 (by decide) (fun c1 => ?_) (fun c1 => ?_)
  · rw [if_pos c1] at h
    exact x_wk (L' := [none, none, none, none]) ⟨Or.inl rfl, Or.inl rfl, Or.inl rfl, Or.inl rfl, trivial⟩ (w_M_giveReal_b16 hQ s h)
  · rw [if_neg c1] at h
    refine x_dload_n (pc := 8) d_M_giveReal_8 rfl ?_
    refine x_ldc2d (v := (14009883241494872064 : UInt64)) (pc := 9) d_M_giveReal_9 c_M_260 ?_
    refine x_dcmp (pc := 12) d_M_giveReal_12 ?_
    refine x_if_ge (tgt := 18) (pc := 13) d_M_giveReal_13 (by decide) (fun c2 => ?_) (fun c2 => ?_)
    · rw [if_pos c2] at h
      refine x_aload_n (pc := 18) d_M_giveReal_18 rfl ?_
      refine x_dup (pc := 19) d_M_giveReal_19 rfl ?_
      refine x_getf (c := 1) (k := 4) (v := vI (mI 4 s)) (pc := 20) d_M_giveReal_20 l_M_247 (xm_at s R) rfl ?_
      refine x_iload_n (pc := 23) d_M_giveReal_23 rfl ?_
      refine x_isub (pc := 24) d_M_giveReal_24 ?_
      refine xm_p4 (pc := 25) d_M_giveReal_25 l_M_247 ?_
      refine x_aload_n (pc := 28) d_M_giveReal_28 rfl ?_
      refine x_aload_n (pc := 29) d_M_giveReal_29 rfl ?_
      refine x_getf (c := 1) (k := 4) (v := vI (mI 4 (sI 4 ((mI 4 s) - a1) s))) (pc := 30) d_M_giveReal_30 l_M_247 (xm_at (sI 4 ((mI 4 s) - a1) s) R) rfl ?_
      refine x_iconst (v := (1 : Int32)) (pc := 33) d_M_giveReal_33 (by decide) ?_
      refine x_lconst (v := (0 : Int64)) (pc := 34) d_M_giveReal_34 (by decide) ?_
      obtain ⟨s4, e3, h⟩ := Option.bind_eq_some_iff.mp h
      refine x_invv (c := 1) (av := [vI (mI 4 (sI 4 ((mI 4 s) - a1) s)), vI (1 : Int32), vL (0 : Int64)]) (st := []) (pc := 35) d_M_giveReal_35 cv_M_250 y_M_set (xm_at (sI 4 ((mI 4 s) - a1) s) R) rfl (Nat.le_of_ble_eq_true rfl) (Nat.le_of_ble_eq_true rfl) (w_M_set (d := d + 0) (Q := fun r h' => r = .inl none ∧ h' = mH s4 R) (R := R) ⟨rfl, rfl⟩ (sI 4 ((mI 4 s) - a1) s) (mI 4 (sI 4 ((mI 4 s) - a1) s)) (1 : Int32) (0 : Int64) e3) (fun v h' z => ?_) (fun a h' z => nomatch z.1)
      obtain ⟨z1, z2⟩ := z
      subst z2
      cases z1
      show xW sc m_M_giveReal (d + 1) Q (mH s4 R) 38 [some (vA 373), some (vI a1), some (vD a2), none] []
      refine x_aload_n (pc := 38) d_M_giveReal_38 rfl ?_
      refine x_getf (c := 1) (k := 3) (v := vA 376) (pc := 39) d_M_giveReal_39 l_M_17 (xm_at s4 R) rfl ?_
      refine x_aload_n (pc := 42) d_M_giveReal_42 rfl ?_
      refine x_getf (c := 1) (k := 4) (v := vI (mI 4 s4)) (pc := 43) d_M_giveReal_43 l_M_247 (xm_at s4 R) rfl ?_
      refine x_dload_n (pc := 46) d_M_giveReal_46 rfl ?_
      obtain ⟨c5, h⟩ := ite_some h
      refine xm_s3 (pc := 47) d_M_giveReal_47 c5 ?_
      refine x_aload_n (pc := 48) d_M_giveReal_48 rfl ?_
      refine x_dup (pc := 49) d_M_giveReal_49 rfl ?_
      refine x_getf (c := 1) (k := 4) (v := vI (mI 4 (sD 3 (va_up (mD 3 s4) (mI 4 s4).toNatClampNeg a2) s4))) (pc := 50) d_M_giveReal_50 l_M_247 (xm_at (sD 3 (va_up (mD 3 s4) (mI 4 s4).toNatClampNeg a2) s4) R) rfl ?_
      refine x_iconst (v := (1 : Int32)) (pc := 53) d_M_giveReal_53 (by decide) ?_
      refine x_iadd (pc := 54) d_M_giveReal_54 ?_
      refine xm_p4 (pc := 55) d_M_giveReal_55 l_M_247 ?_
      refine x_iconst (v := (0 : Int32)) (pc := 58) d_M_giveReal_58 (by decide) ?_
      cases h
      exact x_iret (ty := .int) (pc := 59) d_M_giveReal_59 rfl (rfl) hQ
    · rw [if_neg c2] at h
      exact x_wk (L' := [none, none, none, none]) ⟨Or.inl rfl, Or.inl rfl, Or.inl rfl, Or.inl rfl, trivial⟩ (w_M_giveReal_b16 hQ s h)
def f_M_isNewer_b85  (t0 : Int32) (s : MT) : Option (Int32 × MT) := (if xbo t0 = true then some (t0, s) else none)
theorem w_M_isNewer_b85 {sc : xSc} {d : Nat} {Q : xR → xH → Prop} {R : xH} {sZ : MT} {rZ : Int32}  (hQ : Q (.inl (some (vI rZ))) (mH sZ R)) (t0 : Int32) (s : MT) (h : f_M_isNewer_b85  t0 s = some (rZ, sZ)) : xW sc m_M_isNewer (d + 1) Q (mH s R) 85 [none, none, none, none, none] [vI t0] := by
  unfold f_M_isNewer_b85 at h
  obtain ⟨c1, h⟩ := ite_some h
  cases h
  exact x_iret (ty := .boolean) (pc := 85) d_M_isNewer_85 rfl (xbo_n c1) hQ
def f_M_isNewer_b84  (s : MT) : Option (Int32 × MT) := f_M_isNewer_b85 (0 : Int32) s
theorem w_M_isNewer_b84 {sc : xSc} {d : Nat} {Q : xR → xH → Prop} {R : xH} {sZ : MT} {rZ : Int32}  (hQ : Q (.inl (some (vI rZ))) (mH sZ R)) (s : MT) (h : f_M_isNewer_b84  s = some (rZ, sZ)) : xW sc m_M_isNewer (d + 1) Q (mH s R) 84 [none, none, none, none, none] [] := by
  unfold f_M_isNewer_b84 at h
  refine x_iconst (v := (0 : Int32)) (pc := 84) d_M_isNewer_84 (by decide) ?_
  exact w_M_isNewer_b85 hQ (0 : Int32) s h
def f_M_isNewer_b80  (s : MT) : Option (Int32 × MT) := f_M_isNewer_b85 (1 : Int32) s
theorem w_M_isNewer_b80 {sc : xSc} {d : Nat} {Q : xR → xH → Prop} {R : xH} {sZ : MT} {rZ : Int32}  (hQ : Q (.inl (some (vI rZ))) (mH sZ R)) (s : MT) (h : f_M_isNewer_b80  s = some (rZ, sZ)) : xW sc m_M_isNewer (d + 1) Q (mH s R) 80 [none, none, none, none, none] [] := by
  unfold f_M_isNewer_b80 at h
  refine x_iconst (v := (1 : Int32)) (pc := 80) d_M_isNewer_80 (by decide) ?_
  refine x_goto (tgt := 85) (pc := 81) d_M_isNewer_81 (by decide) ?_
  exact w_M_isNewer_b85 hQ (1 : Int32) s h
def f_M_isNewer_b61  (l1 : Int32) (l2 : Int64) (l4 : Int32) (s : MT) : Option (Int32 × MT) := (if l1 = (7 : Int32) then (if xin l4 3 = true then (if (lg_cmp l2 ((mA 13 s l4.toNatClampNeg).toInt64)) ≤ 0 then f_M_isNewer_b84 s else f_M_isNewer_b80 s) else none) else f_M_isNewer_b84 s)
theorem w_M_isNewer_b61 {sc : xSc} {d : Nat} {Q : xR → xH → Prop} {R : xH} {sZ : MT} {rZ : Int32}  (hQ : Q (.inl (some (vI rZ))) (mH sZ R)) (l1 : Int32) (l2 : Int64) (l4 : Int32) (s : MT) (h : f_M_isNewer_b61  l1 l2 l4 s = some (rZ, sZ)) : xW sc m_M_isNewer (d + 1) Q (mH s R) 61 [some (vA 373), some (vI l1), some (vL l2), none, some (vI l4)] [] := by
  unfold f_M_isNewer_b61 at h
  refine x_iload_n (pc := 61) d_M_isNewer_61 rfl ?_
  refine x_bipush (v := (7 : Int32)) (pc := 62) d_M_isNewer_62 (by decide) ?_
  refine x_icmp_ne (tgt := 84) (pc := 64) d_M_isNewer_64 (by decide) (fun c1 => ?_) (fun c1 => ?_)
  · rw [if_neg c1] at h
    exact x_wk (L' := [none, none, none, none, none]) ⟨Or.inl rfl, Or.inl rfl, Or.inl rfl, Or.inl rfl, Or.inl rfl, trivial⟩ (w_M_isNewer_b84 hQ s h)
  · rw [if_pos c1] at h
    refine x_lload_n (pc := 67) d_M_isNewer_67 rfl ?_
    refine x_aload_n (pc := 68) d_M_isNewer_68 rfl ?_
    refine x_getf (c := 1) (k := 13) (v := vA 381) (pc := 69) d_M_isNewer_69 l_M_37 (xm_at s R) rfl ?_
    refine x_iload (pc := 72) d_M_isNewer_72 rfl ?_
    obtain ⟨c2, h⟩ := ite_some h
    refine x_iald (pc := 74) d_M_isNewer_74 (xm_a13 s R) (xin_vp c2) ?_
    refine x_i2l (pc := 75) d_M_isNewer_75 ?_
    refine x_lcmp (pc := 76) d_M_isNewer_76 ?_
    refine x_if_le (tgt := 84) (pc := 77) d_M_isNewer_77 (by decide) (fun c3 => ?_) (fun c3 => ?_)
    · rw [if_pos c3] at h
      exact x_wk (L' := [none, none, none, none, none]) ⟨Or.inl rfl, Or.inl rfl, Or.inl rfl, Or.inl rfl, Or.inl rfl, trivial⟩ (w_M_isNewer_b84 hQ s h)
    · rw [if_neg c3] at h
      exact x_wk (L' := [none, none, none, none, none]) ⟨Or.inl rfl, Or.inl rfl, Or.inl rfl, Or.inl rfl, Or.inl rfl, trivial⟩ (w_M_isNewer_b80 hQ s h)
def f_M_isNewer_b36  (t0 : Int32) (s : MT) : Option (Int32 × MT) := (if xbo t0 = true then some (t0, s) else none)
theorem w_M_isNewer_b36 {sc : xSc} {d : Nat} {Q : xR → xH → Prop} {R : xH} {sZ : MT} {rZ : Int32}  (hQ : Q (.inl (some (vI rZ))) (mH sZ R)) (t0 : Int32) (s : MT) (h : f_M_isNewer_b36  t0 s = some (rZ, sZ)) : xW sc m_M_isNewer (d + 1) Q (mH s R) 36 [none, none, none, none, none] [vI t0] := by
  unfold f_M_isNewer_b36 at h
  obtain ⟨c1, h⟩ := ite_some h
  cases h
  exact x_iret (ty := .boolean) (pc := 36) d_M_isNewer_36 rfl (xbo_n c1) hQ
def f_M_isNewer_b35  (s : MT) : Option (Int32 × MT) := f_M_isNewer_b36 (0 : Int32) s
theorem w_M_isNewer_b35 {sc : xSc} {d : Nat} {Q : xR → xH → Prop} {R : xH} {sZ : MT} {rZ : Int32}  (hQ : Q (.inl (some (vI rZ))) (mH sZ R)) (s : MT) (h : f_M_isNewer_b35  s = some (rZ, sZ)) : xW sc m_M_isNewer (d + 1) Q (mH s R) 35 [none, none, none, none, none] [] := by
  unfold f_M_isNewer_b35 at h
  refine x_iconst (v := (0 : Int32)) (pc := 35) d_M_isNewer_35 (by decide) ?_
  exact w_M_isNewer_b36 hQ (0 : Int32) s h
def f_M_isNewer (s : MT) (a1 : Int32) (a2 : Int64) (a3 : Int32) : Option (Int32 × MT) := (if a1 = (5 : Int32) then (f_M_count a2).bind fun v5 => (if v5 ≤ 0 then f_M_isNewer_b35 s else (f_M_first a2).bind fun v8 => (f_M_count a2).bind fun v10 => (if xin a3 3 = true then (if (v8 + v10) ≤ (mA 14 s a3.toNatClampNeg) then f_M_isNewer_b35 s else f_M_isNewer_b36 (1 : Int32) s) else none)) else (if a1 = (6 : Int32) then (if xin (((7 : Int32) * (a3 + (1 : Int32))) + a2.toInt32) 28 = true then (if (mA 8 s (((7 : Int32) * (a3 + (1 : Int32))) + a2.toInt32).toNatClampNeg) = 0 then f_M_isNewer_b80 s else f_M_isNewer_b61 a1 a2 a3 s) else none) else f_M_isNewer_b61 a1 a2 a3 s))
theorem w_M_isNewer {sc : xSc} {d : Nat} {Q : xR → xH → Prop} {R : xH} {sZ : MT} {rZ : Int32} (hQ : Q (.inl (some (vI rZ))) (mH sZ R)) (s : MT) (a1 : Int32) (a2 : Int64) (a3 : Int32) (h : f_M_isNewer s a1 a2 a3 = some (rZ, sZ)) : xW sc m_M_isNewer (d + 1) Q (mH s R) 0 (xent [vA 373, vI a1, vL a2, vI a3] m_M_isNewer.2.2.1) [] := by
  show xW sc m_M_isNewer (d + 1) Q (mH s R) 0 [some (vA 373), some (vI a1), some (vL a2), none, some (vI a3)] []
  unfold f_M_isNewer at h
  refine x_iload_n (pc := 0) d_M_isNewer_0 rfl ?_
  refine x_iconst (v := (5 : Int32)) (pc := 1) d_M_isNewer_1 (by decide) ?_
  refine x_icmp_ne (tgt := 37) (pc := 2) d_M_isNewer_2 (by decide) (fun c1 => ?_) (fun c1 => ?_)
  · rw [if_neg c1] at h
    refine x_iload_n (pc := 37) d_M_isNewer_37 rfl ?_
    refine x_bipush (v := (6 : Int32)) (pc := 38) d_M_isNewer_38 (by decide) ?_
    refine x_icmp_ne (tgt := 61) (pc := 40) d_M_isNewer_40 (by decide) (fun c2 => ?_) (fun c2 => ?_)
    · rw [if_neg c2] at h
      exact w_M_isNewer_b61 hQ a1 a2 a3 s h
    · rw [if_pos c2] at h
      refine x_aload_n (pc := 43) d_M_isNewer_43 rfl ?_
      refine x_getf (c := 1) (k := 8) (v := vA 379) (pc := 44) d_M_isNewer_44 l_M_27 (xm_at s R) rfl ?_
      refine x_bipush (v := (7 : Int32)) (pc := 47) d_M_isNewer_47 (by decide) ?_
      refine x_iload (pc := 49) d_M_isNewer_49 rfl ?_
      refine x_iconst (v := (1 : Int32)) (pc := 51) d_M_isNewer_51 (by decide) ?_
      refine x_iadd (pc := 52) d_M_isNewer_52 ?_
      refine x_imul (pc := 53) d_M_isNewer_53 ?_
      refine x_lload_n (pc := 54) d_M_isNewer_54 rfl ?_
      refine x_l2i (pc := 55) d_M_isNewer_55 ?_
      refine x_iadd (pc := 56) d_M_isNewer_56 ?_
      obtain ⟨c3, h⟩ := ite_some h
      refine x_iald (pc := 57) d_M_isNewer_57 (xm_a8 s R) (xin_vp c3) ?_
      refine x_if_eq (tgt := 80) (pc := 58) d_M_isNewer_58 (by decide) (fun c4 => ?_) (fun c4 => ?_)
      · rw [if_pos c4] at h
        exact x_wk (L' := [none, none, none, none, none]) ⟨Or.inl rfl, Or.inl rfl, Or.inl rfl, Or.inl rfl, Or.inl rfl, trivial⟩ (w_M_isNewer_b80 hQ s h)
      · rw [if_neg c4] at h
        exact w_M_isNewer_b61 hQ a1 a2 a3 s h
  · rw [if_pos c1] at h
    refine x_lload_n (pc := 5) d_M_isNewer_5 rfl ?_
    obtain ⟨v5, e6, h⟩ := Option.bind_eq_some_iff.mp h
    refine x_invs (av := [vL a2]) (st := []) (pc := 6) d_M_isNewer_6 cs_M_391 y_M_count rfl (Nat.le_of_ble_eq_true rfl) (Nat.le_of_ble_eq_true rfl) (w_M_count (d := d + 0) (Q := fun r h' => r = .inl (some (vI v5)) ∧ h' = mH s R) (hh := mH s R) ⟨rfl, rfl⟩ a2 e6) (fun v h' z => ?_) (fun a h' z => nomatch z.1)
    obtain ⟨z1, z2⟩ := z
    subst z2
    cases z1
    show xW sc m_M_isNewer (d + 1) Q (mH s R) 9 [some (vA 373), some (vI a1), some (vL a2), none, some (vI a3)] [vI v5]
    refine x_if_le (tgt := 35) (pc := 9) d_M_isNewer_9 (by decide) (fun c7 => ?_) (fun c7 => ?_)
    · rw [if_pos c7] at h
      exact x_wk (L' := [none, none, none, none, none]) ⟨Or.inl rfl, Or.inl rfl, Or.inl rfl, Or.inl rfl, Or.inl rfl, trivial⟩ (w_M_isNewer_b35 hQ s h)
    · rw [if_neg c7] at h
      refine x_lload_n (pc := 12) d_M_isNewer_12 rfl ?_
      obtain ⟨v8, e9, h⟩ := Option.bind_eq_some_iff.mp h
      refine x_invs (av := [vL a2]) (st := []) (pc := 13) d_M_isNewer_13 cs_M_394 y_M_first rfl (Nat.le_of_ble_eq_true rfl) (Nat.le_of_ble_eq_true rfl) (w_M_first (d := d + 0) (Q := fun r h' => r = .inl (some (vI v8)) ∧ h' = mH s R) (hh := mH s R) ⟨rfl, rfl⟩ a2 e9) (fun v h' z => ?_) (fun a h' z => nomatch z.1)
      obtain ⟨z1, z2⟩ := z
      subst z2
      cases z1
      show xW sc m_M_isNewer (d + 1) Q (mH s R) 16 [some (vA 373), some (vI a1), some (vL a2), none, some (vI a3)] [vI v8]
      refine x_lload_n (pc := 16) d_M_isNewer_16 rfl ?_
      obtain ⟨v10, e11, h⟩ := Option.bind_eq_some_iff.mp h
      refine x_invs (av := [vL a2]) (st := [vI v8]) (pc := 17) d_M_isNewer_17 cs_M_391 y_M_count rfl (Nat.le_of_ble_eq_true rfl) (Nat.le_of_ble_eq_true rfl) (w_M_count (d := d + 0) (Q := fun r h' => r = .inl (some (vI v10)) ∧ h' = mH s R) (hh := mH s R) ⟨rfl, rfl⟩ a2 e11) (fun v h' z => ?_) (fun a h' z => nomatch z.1)
      obtain ⟨z1, z2⟩ := z
      subst z2
      cases z1
      show xW sc m_M_isNewer (d + 1) Q (mH s R) 20 [some (vA 373), some (vI a1), some (vL a2), none, some (vI a3)] [vI v10, vI v8]
      refine x_iadd (pc := 20) d_M_isNewer_20 ?_
      refine x_aload_n (pc := 21) d_M_isNewer_21 rfl ?_
      refine x_getf (c := 1) (k := 14) (v := vA 382) (pc := 22) d_M_isNewer_22 l_M_40 (xm_at s R) rfl ?_
      refine x_iload (pc := 25) d_M_isNewer_25 rfl ?_
      obtain ⟨c12, h⟩ := ite_some h
      refine x_iald (pc := 27) d_M_isNewer_27 (xm_a14 s R) (xin_vp c12) ?_
      refine x_icmp_le (tgt := 35) (pc := 28) d_M_isNewer_28 (by decide) (fun c13 => ?_) (fun c13 => ?_)
      · rw [if_pos c13] at h
        exact x_wk (L' := [none, none, none, none, none]) ⟨Or.inl rfl, Or.inl rfl, Or.inl rfl, Or.inl rfl, Or.inl rfl, trivial⟩ (w_M_isNewer_b35 hQ s h)
      · rw [if_neg c13] at h
        refine x_iconst (v := (1 : Int32)) (pc := 31) d_M_isNewer_31 (by decide) ?_
        refine x_goto (tgt := 36) (pc := 32) d_M_isNewer_32 (by decide) ?_
        exact x_wk (L' := [none, none, none, none, none]) ⟨Or.inl rfl, Or.inl rfl, Or.inl rfl, Or.inl rfl, Or.inl rfl, trivial⟩ (w_M_isNewer_b36 hQ (1 : Int32) s h)
def f_M_letter_b104  (t0 : Int32) (s : MT) : Option (Int32 × MT) := some (t0, s)
theorem w_M_letter_b104 {sc : xSc} {d : Nat} {Q : xR → xH → Prop} {R : xH} {sZ : MT} {rZ : Int32}  (hQ : Q (.inl (some (vI rZ))) (mH sZ R)) (t0 : Int32) (s : MT) (h : f_M_letter_b104  t0 s = some (rZ, sZ)) : xW sc m_M_letter (d + 1) Q (mH s R) 104 [none, none, none, none, none, none] [vI t0] := by
  unfold f_M_letter_b104 at h
  cases h
  exact x_iret (ty := .int) (pc := 104) d_M_letter_104 rfl (rfl) hQ
def f_M_letter_b37  (s : MT) : Option (Int32 × MT) := some ((-1 : Int32), s)
theorem w_M_letter_b37 {sc : xSc} {d : Nat} {Q : xR → xH → Prop} {R : xH} {sZ : MT} {rZ : Int32}  (hQ : Q (.inl (some (vI rZ))) (mH sZ R)) (s : MT) (h : f_M_letter_b37  s = some (rZ, sZ)) : xW sc m_M_letter (d + 1) Q (mH s R) 37 [none, none, none, none, none, none] [] := by
  unfold f_M_letter_b37 at h
  refine x_iconst (v := (-1 : Int32)) (pc := 37) d_M_letter_37 (by decide) ?_
  cases h
  exact x_iret (ty := .int) (pc := 38) d_M_letter_38 rfl (rfl) hQ
def f_M_letter (s : MT) (a1 : Int32) (a2 : Int32) : Option (Int32 × MT) := (if a1 < 0 then f_M_letter_b37 (sI 0 (0 : Int32) s) else (if (mI 4 (sI 0 (0 : Int32) s)) ≤ a1 then f_M_letter_b37 (sI 0 (0 : Int32) s) else (f_M_kindOf (sI 0 (0 : Int32) s) (((mI 4 (sI 0 (0 : Int32) s)) - (1 : Int32)) - a1)).bind fun (v5, s4) => (if v5 = (3 : Int32) then (if 0 ≤ a2 then (if xin (((mI 4 s4) - (1 : Int32)) - a1) 1300 = true then (f_M_letters (mL 2 s4 (((mI 4 s4) - (1 : Int32)) - a1).toNatClampNeg)).bind fun v10 => (if a2 < v10 then (if ((((mL 2 s4 (((mI 4 s4) - (1 : Int32)) - a1).toNatClampNeg) >>> (((5 : Int32) * a2).toInt64 &&& 63)) &&& (31 : Int64)).toInt32) = (27 : Int32) then f_M_letter_b104 (91 : Int32) s4 else (if ((((mL 2 s4 (((mI 4 s4) - (1 : Int32)) - a1).toNatClampNeg) >>> (((5 : Int32) * a2).toInt64 &&& 63)) &&& (31 : Int64)).toInt32) = (28 : Int32) then f_M_letter_b104 (93 : Int32) s4 else f_M_letter_b104 ((96 : Int32) + ((((mL 2 s4 (((mI 4 s4) - (1 : Int32)) - a1).toNatClampNeg) >>> (((5 : Int32) * a2).toInt64 &&& 63)) &&& (31 : Int64)).toInt32)) s4)) else some ((-1 : Int32), s4)) else none) else f_M_letter_b37 s4) else f_M_letter_b37 s4)))
theorem w_M_letter {sc : xSc} {d : Nat} {Q : xR → xH → Prop} {R : xH} {sZ : MT} {rZ : Int32} (hQ : Q (.inl (some (vI rZ))) (mH sZ R)) (s : MT) (a1 : Int32) (a2 : Int32) (h : f_M_letter s a1 a2 = some (rZ, sZ)) : xW sc m_M_letter (d + 1) Q (mH s R) 0 (xent [vA 373, vI a1, vI a2] m_M_letter.2.2.1) [] := by
  show xW sc m_M_letter (d + 1) Q (mH s R) 0 [some (vA 373), some (vI a1), some (vI a2), none, none, none] []
  unfold f_M_letter at h
  refine x_aload_n (pc := 0) d_M_letter_0 rfl ?_
  refine x_iconst (v := (0 : Int32)) (pc := 1) d_M_letter_1 (by decide) ?_
  refine xm_p0 (pc := 2) d_M_letter_2 l_M_242 ?_
  refine x_iload_n (pc := 5) d_M_letter_5 rfl ?_
  refine x_if_lt (tgt := 37) (pc := 6) d_M_letter_6 (by decide) (fun c1 => ?_) (fun c1 => ?_)
  · rw [if_pos c1] at h
    exact x_wk (L' := [none, none, none, none, none, none]) ⟨Or.inl rfl, Or.inl rfl, Or.inl rfl, Or.inl rfl, Or.inl rfl, Or.inl rfl, trivial⟩ (w_M_letter_b37 hQ (sI 0 (0 : Int32) s) h)
  · rw [if_neg c1] at h
    refine x_iload_n (pc := 9) d_M_letter_9 rfl ?_
    refine x_aload_n (pc := 10) d_M_letter_10 rfl ?_
    refine x_getf (c := 1) (k := 4) (v := vI (mI 4 (sI 0 (0 : Int32) s))) (pc := 11) d_M_letter_11 l_M_247 (xm_at (sI 0 (0 : Int32) s) R) rfl ?_
    refine x_icmp_ge (tgt := 37) (pc := 14) d_M_letter_14 (by decide) (fun c2 => ?_) (fun c2 => ?_)
    · rw [if_pos c2] at h
      exact x_wk (L' := [none, none, none, none, none, none]) ⟨Or.inl rfl, Or.inl rfl, Or.inl rfl, Or.inl rfl, Or.inl rfl, Or.inl rfl, trivial⟩ (w_M_letter_b37 hQ (sI 0 (0 : Int32) s) h)
    · rw [if_neg c2] at h
      refine x_aload_n (pc := 17) d_M_letter_17 rfl ?_
      refine x_aload_n (pc := 18) d_M_letter_18 rfl ?_
      refine x_getf (c := 1) (k := 4) (v := vI (mI 4 (sI 0 (0 : Int32) s))) (pc := 19) d_M_letter_19 l_M_247 (xm_at (sI 0 (0 : Int32) s) R) rfl ?_
      refine x_iconst (v := (1 : Int32)) (pc := 22) d_M_letter_22 (by decide) ?_
      refine x_isub (pc := 23) d_M_letter_23 ?_
      refine x_iload_n (pc := 24) d_M_letter_24 rfl ?_
      refine x_isub (pc := 25) d_M_letter_25 ?_
      obtain ⟨⟨v5, s4⟩, e3, h⟩ := Option.bind_eq_some_iff.mp h
      dsimp only at h
      refine x_invv (c := 1) (av := [vI (((mI 4 (sI 0 (0 : Int32) s)) - (1 : Int32)) - a1)]) (st := []) (pc := 26) d_M_letter_26 cv_M_421 y_M_kindOf (xm_at (sI 0 (0 : Int32) s) R) rfl (Nat.le_of_ble_eq_true rfl) (Nat.le_of_ble_eq_true rfl) (w_M_kindOf (d := d + 0) (Q := fun r h' => r = .inl (some (vI v5)) ∧ h' = mH s4 R) (R := R) ⟨rfl, rfl⟩ (sI 0 (0 : Int32) s) (((mI 4 (sI 0 (0 : Int32) s)) - (1 : Int32)) - a1) e3) (fun v h' z => ?_) (fun a h' z => nomatch z.1)
      obtain ⟨z1, z2⟩ := z
      subst z2
      cases z1
      show xW sc m_M_letter (d + 1) Q (mH s4 R) 29 [some (vA 373), some (vI a1), some (vI a2), none, none, none] [vI v5]
      refine x_iconst (v := (3 : Int32)) (pc := 29) d_M_letter_29 (by decide) ?_
      refine x_icmp_ne (tgt := 37) (pc := 30) d_M_letter_30 (by decide) (fun c7 => ?_) (fun c7 => ?_)
      · rw [if_neg c7] at h
        exact x_wk (L' := [none, none, none, none, none, none]) ⟨Or.inl rfl, Or.inl rfl, Or.inl rfl, Or.inl rfl, Or.inl rfl, Or.inl rfl, trivial⟩ (w_M_letter_b37 hQ s4 h)
      · rw [if_pos c7] at h
        refine x_iload_n (pc := 33) d_M_letter_33 rfl ?_
        refine x_if_ge (tgt := 39) (pc := 34) d_M_letter_34 (by decide) (fun c8 => ?_) (fun c8 => ?_)
        · rw [if_pos c8] at h
          refine x_aload_n (pc := 39) d_M_letter_39 rfl ?_
          refine x_getf (c := 1) (k := 2) (v := vA 375) (pc := 40) d_M_letter_40 l_M_13 (xm_at s4 R) rfl ?_
          refine x_aload_n (pc := 43) d_M_letter_43 rfl ?_
          refine x_getf (c := 1) (k := 4) (v := vI (mI 4 s4)) (pc := 44) d_M_letter_44 l_M_247 (xm_at s4 R) rfl ?_
          refine x_iconst (v := (1 : Int32)) (pc := 47) d_M_letter_47 (by decide) ?_
          refine x_isub (pc := 48) d_M_letter_48 ?_
          refine x_iload_n (pc := 49) d_M_letter_49 rfl ?_
          refine x_isub (pc := 50) d_M_letter_50 ?_
          obtain ⟨c9, h⟩ := ite_some h
          refine x_lald (pc := 51) d_M_letter_51 (xm_a2 s4 R) (xin_vp c9) ?_
          refine x_lstore_n (pc := 52) d_M_letter_52 (by decide) ?_
          show xW sc m_M_letter (d + 1) Q (mH s4 R) 53 [some (vA 373), some (vI a1), some (vI a2), some (vL (mL 2 s4 (((mI 4 s4) - (1 : Int32)) - a1).toNatClampNeg)), none, none] []
          refine x_iload_n (pc := 53) d_M_letter_53 rfl ?_
          refine x_lload_n (pc := 54) d_M_letter_54 rfl ?_
          obtain ⟨v10, e11, h⟩ := Option.bind_eq_some_iff.mp h
          refine x_invs (av := [vL (mL 2 s4 (((mI 4 s4) - (1 : Int32)) - a1).toNatClampNeg)]) (st := [vI a2]) (pc := 55) d_M_letter_55 cs_M_566 y_M_letters rfl (Nat.le_of_ble_eq_true rfl) (Nat.le_of_ble_eq_true rfl) (w_M_letters (d := d + 0) (Q := fun r h' => r = .inl (some (vI v10)) ∧ h' = mH s4 R) (hh := mH s4 R) ⟨rfl, rfl⟩ (mL 2 s4 (((mI 4 s4) - (1 : Int32)) - a1).toNatClampNeg) e11) (fun v h' z => ?_) (fun a h' z => nomatch z.1)
          obtain ⟨z1, z2⟩ := z
          subst z2
          cases z1
          show xW sc m_M_letter (d + 1) Q (mH s4 R) 58 [some (vA 373), some (vI a1), some (vI a2), some (vL (mL 2 s4 (((mI 4 s4) - (1 : Int32)) - a1).toNatClampNeg)), none, none] [vI v10, vI a2]
          refine x_icmp_lt (tgt := 63) (pc := 58) d_M_letter_58 (by decide) (fun c12 => ?_) (fun c12 => ?_)
          · rw [if_pos c12] at h
            refine x_lload_n (pc := 63) d_M_letter_63 rfl ?_
            refine x_iconst (v := (5 : Int32)) (pc := 64) d_M_letter_64 (by decide) ?_
            refine x_iload_n (pc := 65) d_M_letter_65 rfl ?_
            refine x_imul (pc := 66) d_M_letter_66 ?_
            refine x_lshr (pc := 67) d_M_letter_67 ?_
            refine x_ldc2 (v := (31 : Int64)) (pc := 68) d_M_letter_68 c_M_493 ?_
            refine x_land (pc := 71) d_M_letter_71 ?_
            refine x_l2i (pc := 72) d_M_letter_72 ?_
            refine x_istore (pc := 73) d_M_letter_73 (by decide) ?_
            show xW sc m_M_letter (d + 1) Q (mH s4 R) 75 [some (vA 373), some (vI a1), some (vI a2), some (vL (mL 2 s4 (((mI 4 s4) - (1 : Int32)) - a1).toNatClampNeg)), none, some (vI ((((mL 2 s4 (((mI 4 s4) - (1 : Int32)) - a1).toNatClampNeg) >>> (((5 : Int32) * a2).toInt64 &&& 63)) &&& (31 : Int64)).toInt32))] []
            refine x_iload (pc := 75) d_M_letter_75 rfl ?_
            refine x_bipush (v := (27 : Int32)) (pc := 77) d_M_letter_77 (by decide) ?_
            refine x_icmp_ne (tgt := 87) (pc := 79) d_M_letter_79 (by decide) (fun c13 => ?_) (fun c13 => ?_)
            · rw [if_neg c13] at h
              refine x_iload (pc := 87) d_M_letter_87 rfl ?_
              refine x_bipush (v := (28 : Int32)) (pc := 89) d_M_letter_89 (by decide) ?_
              refine x_icmp_ne (tgt := 99) (pc := 91) d_M_letter_91 (by decide) (fun c14 => ?_) (fun c14 => ?_)
              · rw [if_neg c14] at h
                refine x_bipush (v := (96 : Int32)) (pc := 99) d_M_letter_99 (by decide) ?_
                refine x_iload (pc := 101) d_M_letter_101 rfl ?_
                refine x_iadd (pc := 103) d_M_letter_103 ?_
                exact x_wk (L' := [none, none, none, none, none, none]) ⟨Or.inl rfl, Or.inl rfl, Or.inl rfl, Or.inl rfl, Or.inl rfl, Or.inl rfl, trivial⟩ (w_M_letter_b104 hQ ((96 : Int32) + ((((mL 2 s4 (((mI 4 s4) - (1 : Int32)) - a1).toNatClampNeg) >>> (((5 : Int32) * a2).toInt64 &&& 63)) &&& (31 : Int64)).toInt32)) s4 h)
              · rw [if_pos c14] at h
                refine x_bipush (v := (93 : Int32)) (pc := 94) d_M_letter_94 (by decide) ?_
                refine x_goto (tgt := 104) (pc := 96) d_M_letter_96 (by decide) ?_
                exact x_wk (L' := [none, none, none, none, none, none]) ⟨Or.inl rfl, Or.inl rfl, Or.inl rfl, Or.inl rfl, Or.inl rfl, Or.inl rfl, trivial⟩ (w_M_letter_b104 hQ (93 : Int32) s4 h)
            · rw [if_pos c13] at h
              refine x_bipush (v := (91 : Int32)) (pc := 82) d_M_letter_82 (by decide) ?_
              refine x_goto (tgt := 104) (pc := 84) d_M_letter_84 (by decide) ?_
              exact x_wk (L' := [none, none, none, none, none, none]) ⟨Or.inl rfl, Or.inl rfl, Or.inl rfl, Or.inl rfl, Or.inl rfl, Or.inl rfl, trivial⟩ (w_M_letter_b104 hQ (91 : Int32) s4 h)
          · rw [if_neg c12] at h
            refine x_iconst (v := (-1 : Int32)) (pc := 61) d_M_letter_61 (by decide) ?_
            cases h
            exact x_iret (ty := .int) (pc := 62) d_M_letter_62 rfl (rfl) hQ
        · rw [if_neg c8] at h
          exact x_wk (L' := [none, none, none, none, none, none]) ⟨Or.inl rfl, Or.inl rfl, Or.inl rfl, Or.inl rfl, Or.inl rfl, Or.inl rfl, trivial⟩ (w_M_letter_b37 hQ s4 h)
