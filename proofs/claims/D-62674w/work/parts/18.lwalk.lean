def f_M_init_b920 (sc : xSc)  (l0 : Option Nat) (t0 : Int32) (t1 : Option Nat) (u : xH) : Option xH := (pV u 1 35 t1 (vI t0)).bind fun u1 => (gR sc u1 1 8 l0).bind fun v3 => (bI .int u1 v3 (0 : Int32) (20 : Int32)).bind fun u5 => some u5
theorem w_M_init_b920 {sc : xSc} {d : Nat} {Q : xR → xH → Prop} {hZ : xH}  (hQ : Q (.inl none) hZ) (l0 : Option Nat) (t0 : Int32) (t1 : Option Nat) (u : xH) (h : f_M_init_b920 sc  l0 t0 t1 u = some hZ) : xW sc m_M_init (d + 1) Q (u) 920 [some (vR l0), none, none] [vI t0, vR t1] := by
  unfold f_M_init_b920 at h
  obtain ⟨u1, e2, h⟩ := Option.bind_eq_some_iff.mp h
  refine c_putF (pc := 920) d_M_init_920 l_M_239 fp_1_35 rfl fo_M_239 (xfit_int) e2 ?_
  refine x_aload_n (pc := 923) d_M_init_923 rfl ?_
  obtain ⟨v3, e4, h⟩ := Option.bind_eq_some_iff.mp h
  refine c_getR (pc := 924) d_M_init_924 l_M_27 e4 ?_
  refine x_iconst (v := (0 : Int32)) (pc := 927) d_M_init_927 (by decide) ?_
  refine x_bipush (v := (20 : Int32)) (pc := 928) d_M_init_928 (by decide) ?_
  obtain ⟨u5, e6, h⟩ := Option.bind_eq_some_iff.mp h
  refine c_iast (pc := 930) d_M_init_930 e6 ?_
  cases h
  exact x_vret (pc := 931) d_M_init_931 rfl hQ
def f_M_init_b914 (sc : xSc)  (l0 : Option Nat) (t0 : Option Nat) (u : xH) : Option xH := f_M_init_b920 sc l0 (12 : Int32) t0 u
theorem w_M_init_b914 {sc : xSc} {d : Nat} {Q : xR → xH → Prop} {hZ : xH}  (hQ : Q (.inl none) hZ) (l0 : Option Nat) (t0 : Option Nat) (u : xH) (h : f_M_init_b914 sc  l0 t0 u = some hZ) : xW sc m_M_init (d + 1) Q (u) 914 [some (vR l0), none, none] [vR t0] := by
  unfold f_M_init_b914 at h
  refine x_bipush (v := (12 : Int32)) (pc := 914) d_M_init_914 (by decide) ?_
  refine x_goto (tgt := 920) (pc := 916) d_M_init_916 (by decide) ?_
  exact w_M_init_b920 hQ l0 (12 : Int32) t0 u h
def f_M_init_b899 (sc : xSc)  (l0 : Option Nat) (l2 : Int32) (t0 : Int32) (t1 : Option Nat) (u : xH) : Option xH := (pV u 1 34 t1 (vI t0)).bind fun u1 => (if l2 < (1 : Int32) then f_M_init_b914 sc l0 l0 u1 else (if l2 ≤ (16 : Int32) then f_M_init_b920 sc l0 l2 l0 u1 else f_M_init_b914 sc l0 l0 u1))
theorem w_M_init_b899 {sc : xSc} {d : Nat} {Q : xR → xH → Prop} {hZ : xH}  (hQ : Q (.inl none) hZ) (l0 : Option Nat) (l2 : Int32) (t0 : Int32) (t1 : Option Nat) (u : xH) (h : f_M_init_b899 sc  l0 l2 t0 t1 u = some hZ) : xW sc m_M_init (d + 1) Q (u) 899 [some (vR l0), none, some (vI l2)] [vI t0, vR t1] := by
  unfold f_M_init_b899 at h
  obtain ⟨u1, e2, h⟩ := Option.bind_eq_some_iff.mp h
  refine c_putF (pc := 899) d_M_init_899 l_M_236 fp_1_34 rfl fo_M_236 (xfit_int) e2 ?_
  refine x_aload_n (pc := 902) d_M_init_902 rfl ?_
  refine x_iload_n (pc := 903) d_M_init_903 rfl ?_
  refine x_iconst (v := (1 : Int32)) (pc := 904) d_M_init_904 (by decide) ?_
  refine x_icmp_lt (tgt := 914) (pc := 905) d_M_init_905 (by decide) (fun c3 => ?_) (fun c3 => ?_)
  · rw [if_pos c3] at h
    exact x_wk (L' := [some (vR l0), none, none]) ⟨Or.inr rfl, Or.inl rfl, Or.inl rfl, trivial⟩ (w_M_init_b914 hQ l0 l0 u1 h)
  · rw [if_neg c3] at h
    refine x_iload_n (pc := 908) d_M_init_908 rfl ?_
    refine x_bipush (v := (16 : Int32)) (pc := 909) d_M_init_909 (by decide) ?_
    refine x_icmp_le (tgt := 919) (pc := 911) d_M_init_911 (by decide) (fun c4 => ?_) (fun c4 => ?_)
    · rw [if_pos c4] at h
      refine x_iload_n (pc := 919) d_M_init_919 rfl ?_
      exact x_wk (L' := [some (vR l0), none, none]) ⟨Or.inr rfl, Or.inl rfl, Or.inl rfl, trivial⟩ (w_M_init_b920 hQ l0 l2 l0 u1 h)
    · rw [if_neg c4] at h
      exact x_wk (L' := [some (vR l0), none, none]) ⟨Or.inr rfl, Or.inl rfl, Or.inl rfl, trivial⟩ (w_M_init_b914 hQ l0 l0 u1 h)
def f_M_init_b893 (sc : xSc)  (l0 : Option Nat) (l2 : Int32) (t0 : Option Nat) (u : xH) : Option xH := f_M_init_b899 sc l0 l2 (16 : Int32) t0 u
theorem w_M_init_b893 {sc : xSc} {d : Nat} {Q : xR → xH → Prop} {hZ : xH}  (hQ : Q (.inl none) hZ) (l0 : Option Nat) (l2 : Int32) (t0 : Option Nat) (u : xH) (h : f_M_init_b893 sc  l0 l2 t0 u = some hZ) : xW sc m_M_init (d + 1) Q (u) 893 [some (vR l0), none, some (vI l2)] [vR t0] := by
  unfold f_M_init_b893 at h
  refine x_bipush (v := (16 : Int32)) (pc := 893) d_M_init_893 (by decide) ?_
  refine x_goto (tgt := 899) (pc := 895) d_M_init_895 (by decide) ?_
  exact w_M_init_b899 hQ l0 l2 (16 : Int32) t0 u h
def f_M_init (sc : xSc) (u : xH) (a0 : Option Nat) (a1 : Int32) (a2 : Int32) : Option xH := (if a0.isSome = true then (nA eInt u (1300 : Int32)).bind fun u2 => (pV u2 1 1 a0 (vR (some u.2.1))).bind fun u4 => (nA eLong u4 (1300 : Int32)).bind fun u6 => (pV u6 1 2 a0 (vR (some u4.2.1))).bind fun u8 => (nA eDouble u8 (1300 : Int32)).bind fun u10 => (pV u10 1 3 a0 (vR (some u8.2.1))).bind fun u12 => (nA eLong u12 (320 : Int32)).bind fun u14 => (pV u14 1 6 a0 (vR (some u12.2.1))).bind fun u16 => (nA eInt u16 (28 : Int32)).bind fun u18 => (pV u18 1 7 a0 (vR (some u16.2.1))).bind fun u20 => (nA eInt u20 (28 : Int32)).bind fun u22 => (pV u22 1 8 a0 (vR (some u20.2.1))).bind fun u24 => (nA eInt u24 (6 : Int32)).bind fun u26 => (pV u26 1 9 a0 (vR (some u24.2.1))).bind fun u28 => (pV u28 1 10 a0 (vI (1 : Int32))).bind fun u30 => (nA eInt u30 (3 : Int32)).bind fun u32 => (pV u32 1 13 a0 (vR (some u30.2.1))).bind fun u34 => (nA eInt u34 (3 : Int32)).bind fun u36 => (pV u36 1 14 a0 (vR (some u34.2.1))).bind fun u38 => (nA eInt u38 (560 : Int32)).bind fun u40 => (pV u40 1 17 a0 (vR (some u38.2.1))).bind fun u42 => (nA eLong u42 (560 : Int32)).bind fun u44 => (pV u44 1 18 a0 (vR (some u42.2.1))).bind fun u46 => (nA eInt u46 (560 : Int32)).bind fun u48 => (pV u48 1 19 a0 (vR (some u46.2.1))).bind fun u50 => (nA eLong u50 (560 : Int32)).bind fun u52 => (pV u52 1 20 a0 (vR (some u50.2.1))).bind fun u54 => (nA eLong u54 (560 : Int32)).bind fun u56 => (pV u56 1 21 a0 (vR (some u54.2.1))).bind fun u58 => (nA eLong u58 (560 : Int32)).bind fun u60 => (pV u60 1 22 a0 (vR (some u58.2.1))).bind fun u62 => (nA eChar u62 (120 : Int32)).bind fun u64 => (pV u64 1 23 a0 (vR (some u62.2.1))).bind fun u66 => (nA eInt u66 (4 : Int32)).bind fun u68 => (pV u68 1 28 a0 (vR (some u66.2.1))).bind fun u70 => (nA eLong u70 (40 : Int32)).bind fun u72 => (pV u72 1 29 a0 (vR (some u70.2.1))).bind fun u74 => (nA eInt u74 (384 : Int32)).bind fun u76 => (pV u76 1 36 a0 (vR (some u74.2.1))).bind fun u78 => (pV u78 1 37 a0 (vF FP.fconst1)).bind fun u80 => (nA eDouble u80 (30 : Int32)).bind fun u82 => (pV u82 1 38 a0 (vR (some u80.2.1))).bind fun u84 => (nA eDouble u84 (30 : Int32)).bind fun u86 => (pV u86 1 39 a0 (vR (some u84.2.1))).bind fun u88 => (nA eInt u88 (30 : Int32)).bind fun u90 => (pV u90 1 40 a0 (vR (some u88.2.1))).bind fun u92 => (nA eInt u92 (33 : Int32)).bind fun u94 => (bI .int u94 (some u92.2.1) (0 : Int32) (1 : Int32)).bind fun u96 => (bI .int u96 (some u92.2.1) (1 : Int32) (9 : Int32)).bind fun u98 => (bI .int u98 (some u92.2.1) (2 : Int32) (99 : Int32)).bind fun u100 => (bI .int u100 (some u92.2.1) (3 : Int32) (999 : Int32)).bind fun u102 => (bI .int u102 (some u92.2.1) (4 : Int32) (611 : Int32)).bind fun u104 => (bI .int u104 (some u92.2.1) (5 : Int32) (6 : Int32)).bind fun u106 => (bI .int u106 (some u92.2.1) (6 : Int32) (1 : Int32)).bind fun u108 => (bI .int u108 (some u92.2.1) (7 : Int32) (7 : Int32)).bind fun u110 => (bI .int u110 (some u92.2.1) (8 : Int32) (0 : Int32)).bind fun u112 => (bI .int u112 (some u92.2.1) (9 : Int32) (49 : Int32)).bind fun u114 => (bI .int u114 (some u92.2.1) (10 : Int32) (4 : Int32)).bind fun u116 => (bI .int u116 (some u92.2.1) (11 : Int32) (74 : Int32)).bind fun u118 => (bI .int u118 (some u92.2.1) (12 : Int32) (0 : Int32)).bind fun u120 => (bI .int u120 (some u92.2.1) (13 : Int32) (9 : Int32)).bind fun u122 => (bI .int u122 (some u92.2.1) (14 : Int32) (35 : Int32)).bind fun u124 => (bI .int u124 (some u92.2.1) (15 : Int32) (355 : Int32)).bind fun u126 => (bI .int u126 (some u92.2.1) (16 : Int32) (1115 : Int32)).bind fun u128 => (bI .int u128 (some u92.2.1) (17 : Int32) (15 : Int32)).bind fun u130 => (bI .int u130 (some u92.2.1) (18 : Int32) (5 : Int32)).bind fun u132 => (bI .int u132 (some u92.2.1) (19 : Int32) (65 : Int32)).bind fun u134 => (bI .int u134 (some u92.2.1) (20 : Int32) (0 : Int32)).bind fun u136 => (bI .int u136 (some u92.2.1) (21 : Int32) (0 : Int32)).bind fun u138 => (bI .int u138 (some u92.2.1) (22 : Int32) (9 : Int32)).bind fun u140 => (bI .int u140 (some u92.2.1) (23 : Int32) (0 : Int32)).bind fun u142 => (bI .int u142 (some u92.2.1) (24 : Int32) (0 : Int32)).bind fun u144 => (bI .int u144 (some u92.2.1) (25 : Int32) (8 : Int32)).bind fun u146 => (bI .int u146 (some u92.2.1) (26 : Int32) (2 : Int32)).bind fun u148 => (bI .int u148 (some u92.2.1) (27 : Int32) (0 : Int32)).bind fun u150 => (bI .int u150 (some u92.2.1) (28 : Int32) (22 : Int32)).bind fun u152 => (bI .int u152 (some u92.2.1) (29 : Int32) (22 : Int32)).bind fun u154 => (bI .int u154 (some u92.2.1) (30 : Int32) (0 : Int32)).bind fun u156 => (bI .int u156 (some u92.2.1) (31 : Int32) (0 : Int32)).bind fun u158 => (bI .int u158 (some u92.2.1) (32 : Int32) (0 : Int32)).bind fun u160 => (pV u160 1 42 a0 (vR (some u92.2.1))).bind fun u162 => (nA eLong u162 (35 : Int32)).bind fun u164 => (bL u164 (some u162.2.1) (0 : Int32) (16880 : Int64)).bind fun u166 => (bL u166 (some u162.2.1) (1 : Int32) (265989 : Int64)).bind fun u168 => (bL u168 (some u162.2.1) (2 : Int32) (17060 : Int64)).bind fun u170 => (bL u170 (some u162.2.1) (3 : Int32) (836067 : Int64)).bind fun u172 => (bL u172 (some u162.2.1) (4 : Int32) (25334217 : Int64)).bind fun u174 => (bL u174 (some u162.2.1) (5 : Int32) (406002 : Int64)).bind fun u176 => (bL u176 (some u162.2.1) (6 : Int32) (18912643 : Int64)).bind fun u178 => (bL u178 (some u162.2.1) (7 : Int32) (21452259 : Int64)).bind fun u180 => (bL u180 (some u162.2.1) (8 : Int32) (378925 : Int64)).bind fun u182 => (bL u182 (some u162.2.1) (9 : Int32) (13019780657223043 : Int64)).bind fun u184 => (bL u184 (some u162.2.1) (10 : Int32) (4225 : Int64)).bind fun u186 => (bL u186 (some u162.2.1) (11 : Int32) (2739 : Int64)).bind fun u188 => (bL u188 (some u162.2.1) (12 : Int32) (12973 : Int64)).bind fun u190 => (bL u190 (some u162.2.1) (13 : Int32) (22820 : Int64)).bind fun u192 => (bL u192 (some u162.2.1) (14 : Int32) (730249 : Int64)).bind fun u194 => (bL u194 (some u162.2.1) (15 : Int32) (4589 : Int64)).bind fun u196 => (bL u196 (some u162.2.1) (16 : Int32) (7342 : Int64)).bind fun u198 => (bL u198 (some u162.2.1) (17 : Int32) (19381638 : Int64)).bind fun u200 => (bL u200 (some u162.2.1) (18 : Int32) (4675058 : Int64)).bind fun u202 => (bL u202 (some u162.2.1) (19 : Int32) (9923 : Int64)).bind fun u204 => (bL u204 (some u162.2.1) (20 : Int32) (19139 : Int64)).bind fun u206 => (bL u206 (some u162.2.1) (21 : Int32) (185940 : Int64)).bind fun u208 => (bL u208 (some u162.2.1) (22 : Int32) (5877798 : Int64)).bind fun u210 => (bL u210 (some u162.2.1) (23 : Int32) (549 : Int64)).bind fun u212 => (bL u212 (some u162.2.1) (24 : Int32) (174 : Int64)).bind fun u214 => (bL u214 (some u162.2.1) (25 : Int32) (647 : Int64)).bind fun u216 => (bL u216 (some u162.2.1) (26 : Int32) (167 : Int64)).bind fun u218 => (bL u218 (some u162.2.1) (27 : Int32) (652 : Int64)).bind fun u220 => (bL u220 (some u162.2.1) (28 : Int32) (172 : Int64)).bind fun u222 => (bL u222 (some u162.2.1) (29 : Int32) (4545 : Int64)).bind fun u224 => (bL u224 (some u162.2.1) (30 : Int32) (591 : Int64)).bind fun u226 => (bL u226 (some u162.2.1) (31 : Int32) (20974 : Int64)).bind fun u228 => (bL u228 (some u162.2.1) (32 : Int32) (693948240162 : Int64)).bind fun u230 => (bL u230 (some u162.2.1) (33 : Int32) (25283 : Int64)).bind fun u232 => (bL u232 (some u162.2.1) (34 : Int32) (21279427 : Int64)).bind fun u234 => (pV u234 1 43 a0 (vR (some u162.2.1))).bind fun u236 => (nA eLong u236 (35 : Int32)).bind fun u238 => (bL u238 (some u236.2.1) (0 : Int32) (372416632 : Int64)).bind fun u240 => (bL u240 (some u236.2.1) (1 : Int32) (145707 : Int64)).bind fun u242 => (bL u242 (some u236.2.1) (2 : Int32) (26266177 : Int64)).bind fun u244 => (bL u244 (some u236.2.1) (3 : Int32) (289650860 : Int64)).bind fun u246 => (bL u246 (some u236.2.1) (4 : Int32) (20647 : Int64)).bind fun u248 => (bL u248 (some u236.2.1) (5 : Int32) (21168 : Int64)).bind fun u250 => (bL u250 (some u236.2.1) (6 : Int32) (13570797040095399 : Int64)).bind fun u252 => (bL u252 (some u236.2.1) (7 : Int32) (4242817 : Int64)).bind fun u254 => (bL u254 (some u236.2.1) (8 : Int32) (658724 : Int64)).bind fun u256 => (bL u256 (some u236.2.1) (9 : Int32) (14982306 : Int64)).bind fun u258 => (bL u258 (some u236.2.1) (10 : Int32) (4549 : Int64)).bind fun u260 => (bL u260 (some u236.2.1) (11 : Int32) (6308 : Int64)).bind fun u262 => (bL u262 (some u236.2.1) (12 : Int32) (132588 : Int64)).bind fun u264 => (bL u264 (some u236.2.1) (13 : Int32) (15449547 : Int64)).bind fun u266 => (bL u266 (some u236.2.1) (14 : Int32) (22633606247172771 : Int64)).bind fun u268 => (bL u268 (some u236.2.1) (15 : Int32) (104197 : Int64)).bind fun u270 => (bL u270 (some u236.2.1) (16 : Int32) (201 : Int64)).bind fun u272 => (bL u272 (some u236.2.1) (17 : Int32) (188093641 : Int64)).bind fun u274 => (bL u274 (some u236.2.1) (18 : Int32) (18918 : Int64)).bind fun u276 => (bL u276 (some u236.2.1) (19 : Int32) (672317618 : Int64)).bind fun u278 => (bL u278 (some u236.2.1) (20 : Int32) (540140 : Int64)).bind fun u280 => (bL u280 (some u236.2.1) (21 : Int32) (415287782 : Int64)).bind fun u282 => (bL u282 (some u236.2.1) (22 : Int32) (665349 : Int64)).bind fun u284 => (bL u284 (some u236.2.1) (23 : Int32) (540307 : Int64)).bind fun u286 => (bL u286 (some u236.2.1) (24 : Int32) (4480056979 : Int64)).bind fun u288 => (bL u288 (some u236.2.1) (25 : Int32) (21386278 : Int64)).bind fun u290 => (bL u290 (some u236.2.1) (26 : Int32) (186419 : Int64)).bind fun u292 => (bL u292 (some u236.2.1) (27 : Int32) (5989092530 : Int64)).bind fun u294 => (bL u294 (some u236.2.1) (28 : Int32) (26896224435 : Int64)).bind fun u296 => (bL u296 (some u236.2.1) (29 : Int32) (9262619822 : Int64)).bind fun u298 => (bL u298 (some u236.2.1) (30 : Int32) (524474861 : Int64)).bind fun u300 => (bL u300 (some u236.2.1) (31 : Int32) (524466476 : Int64)).bind fun u302 => (bL u302 (some u236.2.1) (32 : Int32) (9484904283523 : Int64)).bind fun u304 => (bL u304 (some u236.2.1) (33 : Int32) (405798 : Int64)).bind fun u306 => (bL u306 (some u236.2.1) (34 : Int32) (415537637 : Int64)).bind fun u308 => (pV u308 1 44 a0 (vR (some u236.2.1))).bind fun u310 => (if a1 < (1 : Int32) then f_M_init_b893 sc a0 a2 a0 u310 else (if a1 ≤ (24 : Int32) then f_M_init_b899 sc a0 a2 a1 a0 u310 else f_M_init_b893 sc a0 a2 a0 u310)) else none)
theorem w_M_init {sc : xSc} {d : Nat} {Q : xR → xH → Prop} {hZ : xH} (hQ : Q (.inl none) hZ) (u : xH) (a0 : Option Nat) (a1 : Int32) (a2 : Int32) (h : f_M_init sc u a0 a1 a2 = some hZ) : xW sc m_M_init (d + 1) Q (u) 0 (xent [vR a0, vI a1, vI a2] m_M_init.2.2.1) [] := by
  show xW sc m_M_init (d + 1) Q (u) 0 [some (vR a0), some (vI a1), some (vI a2)] []
  unfold f_M_init at h
  refine x_aload_n (pc := 0) d_M_init_0 rfl ?_
  obtain ⟨c1, h⟩ := ite_some h
  refine c_obj (d := d + 0) (pc := 1) d_M_init_1 (tw_7 (List.mem_of_getElem? (i := 214) rfl)) oi_1 oi_2 (Nat.le_of_ble_eq_true rfl) c1 ?_
  refine x_aload_n (pc := 4) d_M_init_4 rfl ?_
  refine x_sipush (v := (1300 : Int32)) (pc := 5) d_M_init_5 (by decide) ?_
  obtain ⟨u2, e3, h⟩ := Option.bind_eq_some_iff.mp h
  refine c_newa_int (pc := 8) d_M_init_8 ac_int e3 ?_
  obtain ⟨u4, e5, h⟩ := Option.bind_eq_some_iff.mp h
  refine c_putF (pc := 10) d_M_init_10 l_M_7 fp_1_1 rfl fo_M_7 (xfit_arr) e5 ?_
  refine x_aload_n (pc := 13) d_M_init_13 rfl ?_
  refine x_sipush (v := (1300 : Int32)) (pc := 14) d_M_init_14 (by decide) ?_
  obtain ⟨u6, e7, h⟩ := Option.bind_eq_some_iff.mp h
  refine c_newa_long (pc := 17) d_M_init_17 ac_long e7 ?_
  obtain ⟨u8, e9, h⟩ := Option.bind_eq_some_iff.mp h
  refine c_putF (pc := 19) d_M_init_19 l_M_13 fp_1_2 rfl fo_M_13 (xfit_arr) e9 ?_
  refine x_aload_n (pc := 22) d_M_init_22 rfl ?_
  refine x_sipush (v := (1300 : Int32)) (pc := 23) d_M_init_23 (by decide) ?_
  obtain ⟨u10, e11, h⟩ := Option.bind_eq_some_iff.mp h
  refine c_newa_double (pc := 26) d_M_init_26 ac_double e11 ?_
  obtain ⟨u12, e13, h⟩ := Option.bind_eq_some_iff.mp h
  refine c_putF (pc := 28) d_M_init_28 l_M_17 fp_1_3 rfl fo_M_17 (xfit_arr) e13 ?_
  refine x_aload_n (pc := 31) d_M_init_31 rfl ?_
  refine x_sipush (v := (320 : Int32)) (pc := 32) d_M_init_32 (by decide) ?_
  obtain ⟨u14, e15, h⟩ := Option.bind_eq_some_iff.mp h
  refine c_newa_long (pc := 35) d_M_init_35 ac_long e15 ?_
  obtain ⟨u16, e17, h⟩ := Option.bind_eq_some_iff.mp h
  refine c_putF (pc := 37) d_M_init_37 l_M_21 fp_1_6 rfl fo_M_21 (xfit_arr) e17 ?_
  refine x_aload_n (pc := 40) d_M_init_40 rfl ?_
  refine x_bipush (v := (28 : Int32)) (pc := 41) d_M_init_41 (by decide) ?_
  obtain ⟨u18, e19, h⟩ := Option.bind_eq_some_iff.mp h
  refine c_newa_int (pc := 43) d_M_init_43 ac_int e19 ?_
  obtain ⟨u20, e21, h⟩ := Option.bind_eq_some_iff.mp h
  refine c_putF (pc := 45) d_M_init_45 l_M_24 fp_1_7 rfl fo_M_24 (xfit_arr) e21 ?_
  refine x_aload_n (pc := 48) d_M_init_48 rfl ?_
  refine x_bipush (v := (28 : Int32)) (pc := 49) d_M_init_49 (by decide) ?_
  obtain ⟨u22, e23, h⟩ := Option.bind_eq_some_iff.mp h
  refine c_newa_int (pc := 51) d_M_init_51 ac_int e23 ?_
  obtain ⟨u24, e25, h⟩ := Option.bind_eq_some_iff.mp h
  refine c_putF (pc := 53) d_M_init_53 l_M_27 fp_1_8 rfl fo_M_27 (xfit_arr) e25 ?_
  refine x_aload_n (pc := 56) d_M_init_56 rfl ?_
  refine x_bipush (v := (6 : Int32)) (pc := 57) d_M_init_57 (by decide) ?_
  obtain ⟨u26, e27, h⟩ := Option.bind_eq_some_iff.mp h
  refine c_newa_int (pc := 59) d_M_init_59 ac_int e27 ?_
  obtain ⟨u28, e29, h⟩ := Option.bind_eq_some_iff.mp h
  refine c_putF (pc := 61) d_M_init_61 l_M_30 fp_1_9 rfl fo_M_30 (xfit_arr) e29 ?_
  refine x_aload_n (pc := 64) d_M_init_64 rfl ?_
  refine x_iconst (v := (1 : Int32)) (pc := 65) d_M_init_65 (by decide) ?_
  obtain ⟨u30, e31, h⟩ := Option.bind_eq_some_iff.mp h
  refine c_putf (pc := 66) d_M_init_66 l_M_33 fp_1_10 (xfit_int) e31 ?_
  refine x_aload_n (pc := 69) d_M_init_69 rfl ?_
  refine x_iconst (v := (3 : Int32)) (pc := 70) d_M_init_70 (by decide) ?_
  obtain ⟨u32, e33, h⟩ := Option.bind_eq_some_iff.mp h
  refine c_newa_int (pc := 71) d_M_init_71 ac_int e33 ?_
  obtain ⟨u34, e35, h⟩ := Option.bind_eq_some_iff.mp h
  refine c_putF (pc := 73) d_M_init_73 l_M_37 fp_1_13 rfl fo_M_37 (xfit_arr) e35 ?_
  refine x_aload_n (pc := 76) d_M_init_76 rfl ?_
  refine x_iconst (v := (3 : Int32)) (pc := 77) d_M_init_77 (by decide) ?_
  obtain ⟨u36, e37, h⟩ := Option.bind_eq_some_iff.mp h
  refine c_newa_int (pc := 78) d_M_init_78 ac_int e37 ?_
  obtain ⟨u38, e39, h⟩ := Option.bind_eq_some_iff.mp h
  refine c_putF (pc := 80) d_M_init_80 l_M_40 fp_1_14 rfl fo_M_40 (xfit_arr) e39 ?_
  refine x_aload_n (pc := 83) d_M_init_83 rfl ?_
  refine x_sipush (v := (560 : Int32)) (pc := 84) d_M_init_84 (by decide) ?_
  obtain ⟨u40, e41, h⟩ := Option.bind_eq_some_iff.mp h
  refine c_newa_int (pc := 87) d_M_init_87 ac_int e41 ?_
  obtain ⟨u42, e43, h⟩ := Option.bind_eq_some_iff.mp h
  refine c_putF (pc := 89) d_M_init_89 l_M_43 fp_1_17 rfl fo_M_43 (xfit_arr) e43 ?_
  refine x_aload_n (pc := 92) d_M_init_92 rfl ?_
  refine x_sipush (v := (560 : Int32)) (pc := 93) d_M_init_93 (by decide) ?_
  obtain ⟨u44, e45, h⟩ := Option.bind_eq_some_iff.mp h
  refine c_newa_long (pc := 96) d_M_init_96 ac_long e45 ?_
  obtain ⟨u46, e47, h⟩ := Option.bind_eq_some_iff.mp h
  refine c_putF (pc := 98) d_M_init_98 l_M_46 fp_1_18 rfl fo_M_46 (xfit_arr) e47 ?_
  refine x_aload_n (pc := 101) d_M_init_101 rfl ?_
  refine x_sipush (v := (560 : Int32)) (pc := 102) d_M_init_102 (by decide) ?_
  obtain ⟨u48, e49, h⟩ := Option.bind_eq_some_iff.mp h
  refine c_newa_int (pc := 105) d_M_init_105 ac_int e49 ?_
  obtain ⟨u50, e51, h⟩ := Option.bind_eq_some_iff.mp h
  refine c_putF (pc := 107) d_M_init_107 l_M_49 fp_1_19 rfl fo_M_49 (xfit_arr) e51 ?_
  refine x_aload_n (pc := 110) d_M_init_110 rfl ?_
  refine x_sipush (v := (560 : Int32)) (pc := 111) d_M_init_111 (by decide) ?_
  obtain ⟨u52, e53, h⟩ := Option.bind_eq_some_iff.mp h
  refine c_newa_long (pc := 114) d_M_init_114 ac_long e53 ?_
  obtain ⟨u54, e55, h⟩ := Option.bind_eq_some_iff.mp h
  refine c_putF (pc := 116) d_M_init_116 l_M_52 fp_1_20 rfl fo_M_52 (xfit_arr) e55 ?_
  refine x_aload_n (pc := 119) d_M_init_119 rfl ?_
  refine x_sipush (v := (560 : Int32)) (pc := 120) d_M_init_120 (by decide) ?_
  obtain ⟨u56, e57, h⟩ := Option.bind_eq_some_iff.mp h
  refine c_newa_long (pc := 123) d_M_init_123 ac_long e57 ?_
  obtain ⟨u58, e59, h⟩ := Option.bind_eq_some_iff.mp h
  refine c_putF (pc := 125) d_M_init_125 l_M_55 fp_1_21 rfl fo_M_55 (xfit_arr) e59 ?_
  refine x_aload_n (pc := 128) d_M_init_128 rfl ?_
  refine x_sipush (v := (560 : Int32)) (pc := 129) d_M_init_129 (by decide) ?_
  obtain ⟨u60, e61, h⟩ := Option.bind_eq_some_iff.mp h
  refine c_newa_long (pc := 132) d_M_init_132 ac_long e61 ?_
  obtain ⟨u62, e63, h⟩ := Option.bind_eq_some_iff.mp h
  refine c_putF (pc := 134) d_M_init_134 l_M_58 fp_1_22 rfl fo_M_58 (xfit_arr) e63 ?_
  refine x_aload_n (pc := 137) d_M_init_137 rfl ?_
  refine x_bipush (v := (120 : Int32)) (pc := 138) d_M_init_138 (by decide) ?_
  obtain ⟨u64, e65, h⟩ := Option.bind_eq_some_iff.mp h
  refine c_newa_char (pc := 140) d_M_init_140 ac_char e65 ?_
  obtain ⟨u66, e67, h⟩ := Option.bind_eq_some_iff.mp h
  refine c_putF (pc := 142) d_M_init_142 l_M_61 fp_1_23 rfl fo_M_61 (xfit_arr) e67 ?_
  refine x_aload_n (pc := 145) d_M_init_145 rfl ?_
  refine x_iconst (v := (4 : Int32)) (pc := 146) d_M_init_146 (by decide) ?_
  obtain ⟨u68, e69, h⟩ := Option.bind_eq_some_iff.mp h
  refine c_newa_int (pc := 147) d_M_init_147 ac_int e69 ?_
  obtain ⟨u70, e71, h⟩ := Option.bind_eq_some_iff.mp h
  refine c_putF (pc := 149) d_M_init_149 l_M_65 fp_1_28 rfl fo_M_65 (xfit_arr) e71 ?_
  refine x_aload_n (pc := 152) d_M_init_152 rfl ?_
  refine x_bipush (v := (40 : Int32)) (pc := 153) d_M_init_153 (by decide) ?_
  obtain ⟨u72, e73, h⟩ := Option.bind_eq_some_iff.mp h
  refine c_newa_long (pc := 155) d_M_init_155 ac_long e73 ?_
  obtain ⟨u74, e75, h⟩ := Option.bind_eq_some_iff.mp h
  refine c_putF (pc := 157) d_M_init_157 l_M_68 fp_1_29 rfl fo_M_68 (xfit_arr) e75 ?_
  refine x_aload_n (pc := 160) d_M_init_160 rfl ?_
  refine x_sipush (v := (384 : Int32)) (pc := 161) d_M_init_161 (by decide) ?_
  obtain ⟨u76, e77, h⟩ := Option.bind_eq_some_iff.mp h
  refine c_newa_int (pc := 164) d_M_init_164 ac_int e77 ?_
  obtain ⟨u78, e79, h⟩ := Option.bind_eq_some_iff.mp h
  refine c_putF (pc := 166) d_M_init_166 l_M_71 fp_1_36 rfl fo_M_71 (xfit_arr) e79 ?_
  refine x_aload_n (pc := 169) d_M_init_169 rfl ?_
  refine x_fconst1 (pc := 170) d_M_init_170 ?_
  obtain ⟨u80, e81, h⟩ := Option.bind_eq_some_iff.mp h
  refine c_putf (pc := 171) d_M_init_171 l_M_74 fp_1_37 (xfit_float) e81 ?_
  refine x_aload_n (pc := 174) d_M_init_174 rfl ?_
  refine x_bipush (v := (30 : Int32)) (pc := 175) d_M_init_175 (by decide) ?_
  obtain ⟨u82, e83, h⟩ := Option.bind_eq_some_iff.mp h
  refine c_newa_double (pc := 177) d_M_init_177 ac_double e83 ?_
  obtain ⟨u84, e85, h⟩ := Option.bind_eq_some_iff.mp h
  refine c_putF (pc := 179) d_M_init_179 l_M_78 fp_1_38 rfl fo_M_78 (xfit_arr) e85 ?_
  refine x_aload_n (pc := 182) d_M_init_182 rfl ?_
  refine x_bipush (v := (30 : Int32)) (pc := 183) d_M_init_183 (by decide) ?_
  obtain ⟨u86, e87, h⟩ := Option.bind_eq_some_iff.mp h
  refine c_newa_double (pc := 185) d_M_init_185 ac_double e87 ?_
  obtain ⟨u88, e89, h⟩ := Option.bind_eq_some_iff.mp h
  refine c_putF (pc := 187) d_M_init_187 l_M_81 fp_1_39 rfl fo_M_81 (xfit_arr) e89 ?_
  refine x_aload_n (pc := 190) d_M_init_190 rfl ?_
  refine x_bipush (v := (30 : Int32)) (pc := 191) d_M_init_191 (by decide) ?_
  obtain ⟨u90, e91, h⟩ := Option.bind_eq_some_iff.mp h
  refine c_newa_int (pc := 193) d_M_init_193 ac_int e91 ?_
  obtain ⟨u92, e93, h⟩ := Option.bind_eq_some_iff.mp h
  refine c_putF (pc := 195) d_M_init_195 l_M_84 fp_1_40 rfl fo_M_84 (xfit_arr) e93 ?_
  refine x_aload_n (pc := 198) d_M_init_198 rfl ?_
  refine x_bipush (v := (33 : Int32)) (pc := 199) d_M_init_199 (by decide) ?_
  obtain ⟨u94, e95, h⟩ := Option.bind_eq_some_iff.mp h
  refine c_newa_int (pc := 201) d_M_init_201 ac_int e95 ?_
  refine x_dup (pc := 203) d_M_init_203 rfl ?_
  refine x_iconst (v := (0 : Int32)) (pc := 204) d_M_init_204 (by decide) ?_
  refine x_iconst (v := (1 : Int32)) (pc := 205) d_M_init_205 (by decide) ?_
  obtain ⟨u96, e97, h⟩ := Option.bind_eq_some_iff.mp h
  refine c_iast (pc := 206) d_M_init_206 e97 ?_
  refine x_dup (pc := 207) d_M_init_207 rfl ?_
  refine x_iconst (v := (1 : Int32)) (pc := 208) d_M_init_208 (by decide) ?_
  refine x_bipush (v := (9 : Int32)) (pc := 209) d_M_init_209 (by decide) ?_
  obtain ⟨u98, e99, h⟩ := Option.bind_eq_some_iff.mp h
  refine c_iast (pc := 211) d_M_init_211 e99 ?_
  refine x_dup (pc := 212) d_M_init_212 rfl ?_
  refine x_iconst (v := (2 : Int32)) (pc := 213) d_M_init_213 (by decide) ?_
  refine x_bipush (v := (99 : Int32)) (pc := 214) d_M_init_214 (by decide) ?_
  obtain ⟨u100, e101, h⟩ := Option.bind_eq_some_iff.mp h
  refine c_iast (pc := 216) d_M_init_216 e101 ?_
  refine x_dup (pc := 217) d_M_init_217 rfl ?_
  refine x_iconst (v := (3 : Int32)) (pc := 218) d_M_init_218 (by decide) ?_
  refine x_sipush (v := (999 : Int32)) (pc := 219) d_M_init_219 (by decide) ?_
  obtain ⟨u102, e103, h⟩ := Option.bind_eq_some_iff.mp h
  refine c_iast (pc := 222) d_M_init_222 e103 ?_
  refine x_dup (pc := 223) d_M_init_223 rfl ?_
  refine x_iconst (v := (4 : Int32)) (pc := 224) d_M_init_224 (by decide) ?_
  refine x_sipush (v := (611 : Int32)) (pc := 225) d_M_init_225 (by decide) ?_
  obtain ⟨u104, e105, h⟩ := Option.bind_eq_some_iff.mp h
  refine c_iast (pc := 228) d_M_init_228 e105 ?_
  refine x_dup (pc := 229) d_M_init_229 rfl ?_
  refine x_iconst (v := (5 : Int32)) (pc := 230) d_M_init_230 (by decide) ?_
  refine x_bipush (v := (6 : Int32)) (pc := 231) d_M_init_231 (by decide) ?_
  obtain ⟨u106, e107, h⟩ := Option.bind_eq_some_iff.mp h
  refine c_iast (pc := 233) d_M_init_233 e107 ?_
  refine x_dup (pc := 234) d_M_init_234 rfl ?_
  refine x_bipush (v := (6 : Int32)) (pc := 235) d_M_init_235 (by decide) ?_
  refine x_iconst (v := (1 : Int32)) (pc := 237) d_M_init_237 (by decide) ?_
  obtain ⟨u108, e109, h⟩ := Option.bind_eq_some_iff.mp h
  refine c_iast (pc := 238) d_M_init_238 e109 ?_
  refine x_dup (pc := 239) d_M_init_239 rfl ?_
  refine x_bipush (v := (7 : Int32)) (pc := 240) d_M_init_240 (by decide) ?_
  refine x_bipush (v := (7 : Int32)) (pc := 242) d_M_init_242 (by decide) ?_
  obtain ⟨u110, e111, h⟩ := Option.bind_eq_some_iff.mp h
  refine c_iast (pc := 244) d_M_init_244 e111 ?_
  refine x_dup (pc := 245) d_M_init_245 rfl ?_
  refine x_bipush (v := (8 : Int32)) (pc := 246) d_M_init_246 (by decide) ?_
  refine x_iconst (v := (0 : Int32)) (pc := 248) d_M_init_248 (by decide) ?_
  obtain ⟨u112, e113, h⟩ := Option.bind_eq_some_iff.mp h
  refine c_iast (pc := 249) d_M_init_249 e113 ?_
  refine x_dup (pc := 250) d_M_init_250 rfl ?_
  refine x_bipush (v := (9 : Int32)) (pc := 251) d_M_init_251 (by decide) ?_
  refine x_bipush (v := (49 : Int32)) (pc := 253) d_M_init_253 (by decide) ?_
  obtain ⟨u114, e115, h⟩ := Option.bind_eq_some_iff.mp h
  refine c_iast (pc := 255) d_M_init_255 e115 ?_
  refine x_dup (pc := 256) d_M_init_256 rfl ?_
  refine x_bipush (v := (10 : Int32)) (pc := 257) d_M_init_257 (by decide) ?_
  refine x_iconst (v := (4 : Int32)) (pc := 259) d_M_init_259 (by decide) ?_
  obtain ⟨u116, e117, h⟩ := Option.bind_eq_some_iff.mp h
  refine c_iast (pc := 260) d_M_init_260 e117 ?_
  refine x_dup (pc := 261) d_M_init_261 rfl ?_
  refine x_bipush (v := (11 : Int32)) (pc := 262) d_M_init_262 (by decide) ?_
  refine x_bipush (v := (74 : Int32)) (pc := 264) d_M_init_264 (by decide) ?_
  obtain ⟨u118, e119, h⟩ := Option.bind_eq_some_iff.mp h
  refine c_iast (pc := 266) d_M_init_266 e119 ?_
  refine x_dup (pc := 267) d_M_init_267 rfl ?_
  refine x_bipush (v := (12 : Int32)) (pc := 268) d_M_init_268 (by decide) ?_
  refine x_iconst (v := (0 : Int32)) (pc := 270) d_M_init_270 (by decide) ?_
  obtain ⟨u120, e121, h⟩ := Option.bind_eq_some_iff.mp h
  refine c_iast (pc := 271) d_M_init_271 e121 ?_
  refine x_dup (pc := 272) d_M_init_272 rfl ?_
  refine x_bipush (v := (13 : Int32)) (pc := 273) d_M_init_273 (by decide) ?_
  refine x_bipush (v := (9 : Int32)) (pc := 275) d_M_init_275 (by decide) ?_
  obtain ⟨u122, e123, h⟩ := Option.bind_eq_some_iff.mp h
  refine c_iast (pc := 277) d_M_init_277 e123 ?_
  refine x_dup (pc := 278) d_M_init_278 rfl ?_
  refine x_bipush (v := (14 : Int32)) (pc := 279) d_M_init_279 (by decide) ?_
  refine x_bipush (v := (35 : Int32)) (pc := 281) d_M_init_281 (by decide) ?_
  obtain ⟨u124, e125, h⟩ := Option.bind_eq_some_iff.mp h
  refine c_iast (pc := 283) d_M_init_283 e125 ?_
  refine x_dup (pc := 284) d_M_init_284 rfl ?_
  refine x_bipush (v := (15 : Int32)) (pc := 285) d_M_init_285 (by decide) ?_
  refine x_sipush (v := (355 : Int32)) (pc := 287) d_M_init_287 (by decide) ?_
  obtain ⟨u126, e127, h⟩ := Option.bind_eq_some_iff.mp h
  refine c_iast (pc := 290) d_M_init_290 e127 ?_
  refine x_dup (pc := 291) d_M_init_291 rfl ?_
  refine x_bipush (v := (16 : Int32)) (pc := 292) d_M_init_292 (by decide) ?_
  refine x_sipush (v := (1115 : Int32)) (pc := 294) d_M_init_294 (by decide) ?_
  obtain ⟨u128, e129, h⟩ := Option.bind_eq_some_iff.mp h
  refine c_iast (pc := 297) d_M_init_297 e129 ?_
  refine x_dup (pc := 298) d_M_init_298 rfl ?_
  refine x_bipush (v := (17 : Int32)) (pc := 299) d_M_init_299 (by decide) ?_
  refine x_bipush (v := (15 : Int32)) (pc := 301) d_M_init_301 (by decide) ?_
  obtain ⟨u130, e131, h⟩ := Option.bind_eq_some_iff.mp h
  refine c_iast (pc := 303) d_M_init_303 e131 ?_
  refine x_dup (pc := 304) d_M_init_304 rfl ?_
  refine x_bipush (v := (18 : Int32)) (pc := 305) d_M_init_305 (by decide) ?_
  refine x_iconst (v := (5 : Int32)) (pc := 307) d_M_init_307 (by decide) ?_
  obtain ⟨u132, e133, h⟩ := Option.bind_eq_some_iff.mp h
  refine c_iast (pc := 308) d_M_init_308 e133 ?_
  refine x_dup (pc := 309) d_M_init_309 rfl ?_
  refine x_bipush (v := (19 : Int32)) (pc := 310) d_M_init_310 (by decide) ?_
  refine x_bipush (v := (65 : Int32)) (pc := 312) d_M_init_312 (by decide) ?_
  obtain ⟨u134, e135, h⟩ := Option.bind_eq_some_iff.mp h
  refine c_iast (pc := 314) d_M_init_314 e135 ?_
  refine x_dup (pc := 315) d_M_init_315 rfl ?_
  refine x_bipush (v := (20 : Int32)) (pc := 316) d_M_init_316 (by decide) ?_
  refine x_iconst (v := (0 : Int32)) (pc := 318) d_M_init_318 (by decide) ?_
  obtain ⟨u136, e137, h⟩ := Option.bind_eq_some_iff.mp h
  refine c_iast (pc := 319) d_M_init_319 e137 ?_
  refine x_dup (pc := 320) d_M_init_320 rfl ?_
  refine x_bipush (v := (21 : Int32)) (pc := 321) d_M_init_321 (by decide) ?_
  refine x_iconst (v := (0 : Int32)) (pc := 323) d_M_init_323 (by decide) ?_
  obtain ⟨u138, e139, h⟩ := Option.bind_eq_some_iff.mp h
  refine c_iast (pc := 324) d_M_init_324 e139 ?_
  refine x_dup (pc := 325) d_M_init_325 rfl ?_
  refine x_bipush (v := (22 : Int32)) (pc := 326) d_M_init_326 (by decide) ?_
  refine x_bipush (v := (9 : Int32)) (pc := 328) d_M_init_328 (by decide) ?_
  obtain ⟨u140, e141, h⟩ := Option.bind_eq_some_iff.mp h
  refine c_iast (pc := 330) d_M_init_330 e141 ?_
  refine x_dup (pc := 331) d_M_init_331 rfl ?_
  refine x_bipush (v := (23 : Int32)) (pc := 332) d_M_init_332 (by decide) ?_
  refine x_iconst (v := (0 : Int32)) (pc := 334) d_M_init_334 (by decide) ?_
  obtain ⟨u142, e143, h⟩ := Option.bind_eq_some_iff.mp h
  refine c_iast (pc := 335) d_M_init_335 e143 ?_
  refine x_dup (pc := 336) d_M_init_336 rfl ?_
  refine x_bipush (v := (24 : Int32)) (pc := 337) d_M_init_337 (by decide) ?_
  refine x_iconst (v := (0 : Int32)) (pc := 339) d_M_init_339 (by decide) ?_
  obtain ⟨u144, e145, h⟩ := Option.bind_eq_some_iff.mp h
  refine c_iast (pc := 340) d_M_init_340 e145 ?_
  refine x_dup (pc := 341) d_M_init_341 rfl ?_
  refine x_bipush (v := (25 : Int32)) (pc := 342) d_M_init_342 (by decide) ?_
  refine x_bipush (v := (8 : Int32)) (pc := 344) d_M_init_344 (by decide) ?_
  obtain ⟨u146, e147, h⟩ := Option.bind_eq_some_iff.mp h
  refine c_iast (pc := 346) d_M_init_346 e147 ?_
  refine x_dup (pc := 347) d_M_init_347 rfl ?_
  refine x_bipush (v := (26 : Int32)) (pc := 348) d_M_init_348 (by decide) ?_
  refine x_iconst (v := (2 : Int32)) (pc := 350) d_M_init_350 (by decide) ?_
  obtain ⟨u148, e149, h⟩ := Option.bind_eq_some_iff.mp h
  refine c_iast (pc := 351) d_M_init_351 e149 ?_
  refine x_dup (pc := 352) d_M_init_352 rfl ?_
  refine x_bipush (v := (27 : Int32)) (pc := 353) d_M_init_353 (by decide) ?_
  refine x_iconst (v := (0 : Int32)) (pc := 355) d_M_init_355 (by decide) ?_
  obtain ⟨u150, e151, h⟩ := Option.bind_eq_some_iff.mp h
  refine c_iast (pc := 356) d_M_init_356 e151 ?_
  refine x_dup (pc := 357) d_M_init_357 rfl ?_
  refine x_bipush (v := (28 : Int32)) (pc := 358) d_M_init_358 (by decide) ?_
  refine x_bipush (v := (22 : Int32)) (pc := 360) d_M_init_360 (by decide) ?_
  obtain ⟨u152, e153, h⟩ := Option.bind_eq_some_iff.mp h
  refine c_iast (pc := 362) d_M_init_362 e153 ?_
  refine x_dup (pc := 363) d_M_init_363 rfl ?_
  refine x_bipush (v := (29 : Int32)) (pc := 364) d_M_init_364 (by decide) ?_
  refine x_bipush (v := (22 : Int32)) (pc := 366) d_M_init_366 (by decide) ?_
  obtain ⟨u154, e155, h⟩ := Option.bind_eq_some_iff.mp h
  refine c_iast (pc := 368) d_M_init_368 e155 ?_
  refine x_dup (pc := 369) d_M_init_369 rfl ?_
  refine x_bipush (v := (30 : Int32)) (pc := 370) d_M_init_370 (by decide) ?_
  refine x_iconst (v := (0 : Int32)) (pc := 372) d_M_init_372 (by decide) ?_
  obtain ⟨u156, e157, h⟩ := Option.bind_eq_some_iff.mp h
  refine c_iast (pc := 373) d_M_init_373 e157 ?_
  refine x_dup (pc := 374) d_M_init_374 rfl ?_
  refine x_bipush (v := (31 : Int32)) (pc := 375) d_M_init_375 (by decide) ?_
  refine x_iconst (v := (0 : Int32)) (pc := 377) d_M_init_377 (by decide) ?_
  obtain ⟨u158, e159, h⟩ := Option.bind_eq_some_iff.mp h
  refine c_iast (pc := 378) d_M_init_378 e159 ?_
  refine x_dup (pc := 379) d_M_init_379 rfl ?_
  refine x_bipush (v := (32 : Int32)) (pc := 380) d_M_init_380 (by decide) ?_
  refine x_iconst (v := (0 : Int32)) (pc := 382) d_M_init_382 (by decide) ?_
  obtain ⟨u160, e161, h⟩ := Option.bind_eq_some_iff.mp h
  refine c_iast (pc := 383) d_M_init_383 e161 ?_
  obtain ⟨u162, e163, h⟩ := Option.bind_eq_some_iff.mp h
  refine c_putF (pc := 384) d_M_init_384 l_M_87 fp_1_42 rfl fo_M_87 (xfit_arr) e163 ?_
  refine x_aload_n (pc := 387) d_M_init_387 rfl ?_
  refine x_bipush (v := (35 : Int32)) (pc := 388) d_M_init_388 (by decide) ?_
  obtain ⟨u164, e165, h⟩ := Option.bind_eq_some_iff.mp h
  refine c_newa_long (pc := 390) d_M_init_390 ac_long e165 ?_
  refine x_dup (pc := 392) d_M_init_392 rfl ?_
  refine x_iconst (v := (0 : Int32)) (pc := 393) d_M_init_393 (by decide) ?_
  refine x_ldc2 (v := (16880 : Int64)) (pc := 394) d_M_init_394 c_M_90 ?_
  obtain ⟨u166, e167, h⟩ := Option.bind_eq_some_iff.mp h
  refine c_last (pc := 397) d_M_init_397 e167 ?_
  refine x_dup (pc := 398) d_M_init_398 rfl ?_
  refine x_iconst (v := (1 : Int32)) (pc := 399) d_M_init_399 (by decide) ?_
  refine x_ldc2 (v := (265989 : Int64)) (pc := 400) d_M_init_400 c_M_92 ?_
  obtain ⟨u168, e169, h⟩ := Option.bind_eq_some_iff.mp h
  refine c_last (pc := 403) d_M_init_403 e169 ?_
  refine x_dup (pc := 404) d_M_init_404 rfl ?_
  refine x_iconst (v := (2 : Int32)) (pc := 405) d_M_init_405 (by decide) ?_
  refine x_ldc2 (v := (17060 : Int64)) (pc := 406) d_M_init_406 c_M_94 ?_
  obtain ⟨u170, e171, h⟩ := Option.bind_eq_some_iff.mp h
  refine c_last (pc := 409) d_M_init_409 e171 ?_
  refine x_dup (pc := 410) d_M_init_410 rfl ?_
  refine x_iconst (v := (3 : Int32)) (pc := 411) d_M_init_411 (by decide) ?_
  refine x_ldc2 (v := (836067 : Int64)) (pc := 412) d_M_init_412 c_M_96 ?_
  obtain ⟨u172, e173, h⟩ := Option.bind_eq_some_iff.mp h
  refine c_last (pc := 415) d_M_init_415 e173 ?_
  refine x_dup (pc := 416) d_M_init_416 rfl ?_
  refine x_iconst (v := (4 : Int32)) (pc := 417) d_M_init_417 (by decide) ?_
  refine x_ldc2 (v := (25334217 : Int64)) (pc := 418) d_M_init_418 c_M_98 ?_
  obtain ⟨u174, e175, h⟩ := Option.bind_eq_some_iff.mp h
  refine c_last (pc := 421) d_M_init_421 e175 ?_
  refine x_dup (pc := 422) d_M_init_422 rfl ?_
  refine x_iconst (v := (5 : Int32)) (pc := 423) d_M_init_423 (by decide) ?_
  refine x_ldc2 (v := (406002 : Int64)) (pc := 424) d_M_init_424 c_M_100 ?_
  obtain ⟨u176, e177, h⟩ := Option.bind_eq_some_iff.mp h
  refine c_last (pc := 427) d_M_init_427 e177 ?_
  refine x_dup (pc := 428) d_M_init_428 rfl ?_
  refine x_bipush (v := (6 : Int32)) (pc := 429) d_M_init_429 (by decide) ?_
  refine x_ldc2 (v := (18912643 : Int64)) (pc := 431) d_M_init_431 c_M_102 ?_
  obtain ⟨u178, e179, h⟩ := Option.bind_eq_some_iff.mp h
  refine c_last (pc := 434) d_M_init_434 e179 ?_
  refine x_dup (pc := 435) d_M_init_435 rfl ?_
  refine x_bipush (v := (7 : Int32)) (pc := 436) d_M_init_436 (by decide) ?_
  refine x_ldc2 (v := (21452259 : Int64)) (pc := 438) d_M_init_438 c_M_104 ?_
  obtain ⟨u180, e181, h⟩ := Option.bind_eq_some_iff.mp h
  refine c_last (pc := 441) d_M_init_441 e181 ?_
  refine x_dup (pc := 442) d_M_init_442 rfl ?_
  refine x_bipush (v := (8 : Int32)) (pc := 443) d_M_init_443 (by decide) ?_
  refine x_ldc2 (v := (378925 : Int64)) (pc := 445) d_M_init_445 c_M_106 ?_
  obtain ⟨u182, e183, h⟩ := Option.bind_eq_some_iff.mp h
  refine c_last (pc := 448) d_M_init_448 e183 ?_
  refine x_dup (pc := 449) d_M_init_449 rfl ?_
  refine x_bipush (v := (9 : Int32)) (pc := 450) d_M_init_450 (by decide) ?_
  refine x_ldc2 (v := (13019780657223043 : Int64)) (pc := 452) d_M_init_452 c_M_108 ?_
  obtain ⟨u184, e185, h⟩ := Option.bind_eq_some_iff.mp h
  refine c_last (pc := 455) d_M_init_455 e185 ?_
  refine x_dup (pc := 456) d_M_init_456 rfl ?_
  refine x_bipush (v := (10 : Int32)) (pc := 457) d_M_init_457 (by decide) ?_
  refine x_ldc2 (v := (4225 : Int64)) (pc := 459) d_M_init_459 c_M_110 ?_
  obtain ⟨u186, e187, h⟩ := Option.bind_eq_some_iff.mp h
  refine c_last (pc := 462) d_M_init_462 e187 ?_
  refine x_dup (pc := 463) d_M_init_463 rfl ?_
  refine x_bipush (v := (11 : Int32)) (pc := 464) d_M_init_464 (by decide) ?_
  refine x_ldc2 (v := (2739 : Int64)) (pc := 466) d_M_init_466 c_M_112 ?_
  obtain ⟨u188, e189, h⟩ := Option.bind_eq_some_iff.mp h
  refine c_last (pc := 469) d_M_init_469 e189 ?_
  refine x_dup (pc := 470) d_M_init_470 rfl ?_
  refine x_bipush (v := (12 : Int32)) (pc := 471) d_M_init_471 (by decide) ?_
  refine x_ldc2 (v := (12973 : Int64)) (pc := 473) d_M_init_473 c_M_114 ?_
  obtain ⟨u190, e191, h⟩ := Option.bind_eq_some_iff.mp h
  refine c_last (pc := 476) d_M_init_476 e191 ?_
  refine x_dup (pc := 477) d_M_init_477 rfl ?_
  refine x_bipush (v := (13 : Int32)) (pc := 478) d_M_init_478 (by decide) ?_
  refine x_ldc2 (v := (22820 : Int64)) (pc := 480) d_M_init_480 c_M_116 ?_
  obtain ⟨u192, e193, h⟩ := Option.bind_eq_some_iff.mp h
  refine c_last (pc := 483) d_M_init_483 e193 ?_
  refine x_dup (pc := 484) d_M_init_484 rfl ?_
  refine x_bipush (v := (14 : Int32)) (pc := 485) d_M_init_485 (by decide) ?_
  refine x_ldc2 (v := (730249 : Int64)) (pc := 487) d_M_init_487 c_M_118 ?_
  obtain ⟨u194, e195, h⟩ := Option.bind_eq_some_iff.mp h
  refine c_last (pc := 490) d_M_init_490 e195 ?_
  refine x_dup (pc := 491) d_M_init_491 rfl ?_
  refine x_bipush (v := (15 : Int32)) (pc := 492) d_M_init_492 (by decide) ?_
  refine x_ldc2 (v := (4589 : Int64)) (pc := 494) d_M_init_494 c_M_120 ?_
  obtain ⟨u196, e197, h⟩ := Option.bind_eq_some_iff.mp h
  refine c_last (pc := 497) d_M_init_497 e197 ?_
  refine x_dup (pc := 498) d_M_init_498 rfl ?_
  refine x_bipush (v := (16 : Int32)) (pc := 499) d_M_init_499 (by decide) ?_
  refine x_ldc2 (v := (7342 : Int64)) (pc := 501) d_M_init_501 c_M_122 ?_
  obtain ⟨u198, e199, h⟩ := Option.bind_eq_some_iff.mp h
  refine c_last (pc := 504) d_M_init_504 e199 ?_
  refine x_dup (pc := 505) d_M_init_505 rfl ?_
  refine x_bipush (v := (17 : Int32)) (pc := 506) d_M_init_506 (by decide) ?_
  refine x_ldc2 (v := (19381638 : Int64)) (pc := 508) d_M_init_508 c_M_124 ?_
  obtain ⟨u200, e201, h⟩ := Option.bind_eq_some_iff.mp h
  refine c_last (pc := 511) d_M_init_511 e201 ?_
  refine x_dup (pc := 512) d_M_init_512 rfl ?_
  refine x_bipush (v := (18 : Int32)) (pc := 513) d_M_init_513 (by decide) ?_
  refine x_ldc2 (v := (4675058 : Int64)) (pc := 515) d_M_init_515 c_M_126 ?_
  obtain ⟨u202, e203, h⟩ := Option.bind_eq_some_iff.mp h
  refine c_last (pc := 518) d_M_init_518 e203 ?_
  refine x_dup (pc := 519) d_M_init_519 rfl ?_
  refine x_bipush (v := (19 : Int32)) (pc := 520) d_M_init_520 (by decide) ?_
  refine x_ldc2 (v := (9923 : Int64)) (pc := 522) d_M_init_522 c_M_128 ?_
  obtain ⟨u204, e205, h⟩ := Option.bind_eq_some_iff.mp h
  refine c_last (pc := 525) d_M_init_525 e205 ?_
  refine x_dup (pc := 526) d_M_init_526 rfl ?_
  refine x_bipush (v := (20 : Int32)) (pc := 527) d_M_init_527 (by decide) ?_
  refine x_ldc2 (v := (19139 : Int64)) (pc := 529) d_M_init_529 c_M_130 ?_
  obtain ⟨u206, e207, h⟩ := Option.bind_eq_some_iff.mp h
  refine c_last (pc := 532) d_M_init_532 e207 ?_
  refine x_dup (pc := 533) d_M_init_533 rfl ?_
  refine x_bipush (v := (21 : Int32)) (pc := 534) d_M_init_534 (by decide) ?_
  refine x_ldc2 (v := (185940 : Int64)) (pc := 536) d_M_init_536 c_M_132 ?_
  obtain ⟨u208, e209, h⟩ := Option.bind_eq_some_iff.mp h
  refine c_last (pc := 539) d_M_init_539 e209 ?_
  refine x_dup (pc := 540) d_M_init_540 rfl ?_
  refine x_bipush (v := (22 : Int32)) (pc := 541) d_M_init_541 (by decide) ?_
  refine x_ldc2 (v := (5877798 : Int64)) (pc := 543) d_M_init_543 c_M_134 ?_
  obtain ⟨u210, e211, h⟩ := Option.bind_eq_some_iff.mp h
  refine c_last (pc := 546) d_M_init_546 e211 ?_
  refine x_dup (pc := 547) d_M_init_547 rfl ?_
  refine x_bipush (v := (23 : Int32)) (pc := 548) d_M_init_548 (by decide) ?_
  refine x_ldc2 (v := (549 : Int64)) (pc := 550) d_M_init_550 c_M_136 ?_
  obtain ⟨u212, e213, h⟩ := Option.bind_eq_some_iff.mp h
  refine c_last (pc := 553) d_M_init_553 e213 ?_
  refine x_dup (pc := 554) d_M_init_554 rfl ?_
  refine x_bipush (v := (24 : Int32)) (pc := 555) d_M_init_555 (by decide) ?_
  refine x_ldc2 (v := (174 : Int64)) (pc := 557) d_M_init_557 c_M_138 ?_
  obtain ⟨u214, e215, h⟩ := Option.bind_eq_some_iff.mp h
  refine c_last (pc := 560) d_M_init_560 e215 ?_
  refine x_dup (pc := 561) d_M_init_561 rfl ?_
  refine x_bipush (v := (25 : Int32)) (pc := 562) d_M_init_562 (by decide) ?_
  refine x_ldc2 (v := (647 : Int64)) (pc := 564) d_M_init_564 c_M_140 ?_
  obtain ⟨u216, e217, h⟩ := Option.bind_eq_some_iff.mp h
  refine c_last (pc := 567) d_M_init_567 e217 ?_
  refine x_dup (pc := 568) d_M_init_568 rfl ?_
  refine x_bipush (v := (26 : Int32)) (pc := 569) d_M_init_569 (by decide) ?_
  refine x_ldc2 (v := (167 : Int64)) (pc := 571) d_M_init_571 c_M_142 ?_
  obtain ⟨u218, e219, h⟩ := Option.bind_eq_some_iff.mp h
  refine c_last (pc := 574) d_M_init_574 e219 ?_
  refine x_dup (pc := 575) d_M_init_575 rfl ?_
  refine x_bipush (v := (27 : Int32)) (pc := 576) d_M_init_576 (by decide) ?_
  refine x_ldc2 (v := (652 : Int64)) (pc := 578) d_M_init_578 c_M_144 ?_
  obtain ⟨u220, e221, h⟩ := Option.bind_eq_some_iff.mp h
  refine c_last (pc := 581) d_M_init_581 e221 ?_
  refine x_dup (pc := 582) d_M_init_582 rfl ?_
  refine x_bipush (v := (28 : Int32)) (pc := 583) d_M_init_583 (by decide) ?_
  refine x_ldc2 (v := (172 : Int64)) (pc := 585) d_M_init_585 c_M_146 ?_
  obtain ⟨u222, e223, h⟩ := Option.bind_eq_some_iff.mp h
  refine c_last (pc := 588) d_M_init_588 e223 ?_
  refine x_dup (pc := 589) d_M_init_589 rfl ?_
  refine x_bipush (v := (29 : Int32)) (pc := 590) d_M_init_590 (by decide) ?_
  refine x_ldc2 (v := (4545 : Int64)) (pc := 592) d_M_init_592 c_M_148 ?_
  obtain ⟨u224, e225, h⟩ := Option.bind_eq_some_iff.mp h
  refine c_last (pc := 595) d_M_init_595 e225 ?_
  refine x_dup (pc := 596) d_M_init_596 rfl ?_
  refine x_bipush (v := (30 : Int32)) (pc := 597) d_M_init_597 (by decide) ?_
  refine x_ldc2 (v := (591 : Int64)) (pc := 599) d_M_init_599 c_M_150 ?_
  obtain ⟨u226, e227, h⟩ := Option.bind_eq_some_iff.mp h
  refine c_last (pc := 602) d_M_init_602 e227 ?_
  refine x_dup (pc := 603) d_M_init_603 rfl ?_
  refine x_bipush (v := (31 : Int32)) (pc := 604) d_M_init_604 (by decide) ?_
  refine x_ldc2 (v := (20974 : Int64)) (pc := 606) d_M_init_606 c_M_152 ?_
  obtain ⟨u228, e229, h⟩ := Option.bind_eq_some_iff.mp h
  refine c_last (pc := 609) d_M_init_609 e229 ?_
  refine x_dup (pc := 610) d_M_init_610 rfl ?_
  refine x_bipush (v := (32 : Int32)) (pc := 611) d_M_init_611 (by decide) ?_
  refine x_ldc2 (v := (693948240162 : Int64)) (pc := 613) d_M_init_613 c_M_154 ?_
  obtain ⟨u230, e231, h⟩ := Option.bind_eq_some_iff.mp h
  refine c_last (pc := 616) d_M_init_616 e231 ?_
  refine x_dup (pc := 617) d_M_init_617 rfl ?_
  refine x_bipush (v := (33 : Int32)) (pc := 618) d_M_init_618 (by decide) ?_
  refine x_ldc2 (v := (25283 : Int64)) (pc := 620) d_M_init_620 c_M_156 ?_
  obtain ⟨u232, e233, h⟩ := Option.bind_eq_some_iff.mp h
  refine c_last (pc := 623) d_M_init_623 e233 ?_
  refine x_dup (pc := 624) d_M_init_624 rfl ?_
  refine x_bipush (v := (34 : Int32)) (pc := 625) d_M_init_625 (by decide) ?_
  refine x_ldc2 (v := (21279427 : Int64)) (pc := 627) d_M_init_627 c_M_158 ?_
  obtain ⟨u234, e235, h⟩ := Option.bind_eq_some_iff.mp h
  refine c_last (pc := 630) d_M_init_630 e235 ?_
  obtain ⟨u236, e237, h⟩ := Option.bind_eq_some_iff.mp h
  refine c_putF (pc := 631) d_M_init_631 l_M_160 fp_1_43 rfl fo_M_160 (xfit_arr) e237 ?_
  refine x_aload_n (pc := 634) d_M_init_634 rfl ?_
  refine x_bipush (v := (35 : Int32)) (pc := 635) d_M_init_635 (by decide) ?_
  obtain ⟨u238, e239, h⟩ := Option.bind_eq_some_iff.mp h
  refine c_newa_long (pc := 637) d_M_init_637 ac_long e239 ?_
  refine x_dup (pc := 639) d_M_init_639 rfl ?_
  refine x_iconst (v := (0 : Int32)) (pc := 640) d_M_init_640 (by decide) ?_
  refine x_ldc2 (v := (372416632 : Int64)) (pc := 641) d_M_init_641 c_M_163 ?_
  obtain ⟨u240, e241, h⟩ := Option.bind_eq_some_iff.mp h
  refine c_last (pc := 644) d_M_init_644 e241 ?_
  refine x_dup (pc := 645) d_M_init_645 rfl ?_
  refine x_iconst (v := (1 : Int32)) (pc := 646) d_M_init_646 (by decide) ?_
  refine x_ldc2 (v := (145707 : Int64)) (pc := 647) d_M_init_647 c_M_165 ?_
  obtain ⟨u242, e243, h⟩ := Option.bind_eq_some_iff.mp h
  refine c_last (pc := 650) d_M_init_650 e243 ?_
  refine x_dup (pc := 651) d_M_init_651 rfl ?_
  refine x_iconst (v := (2 : Int32)) (pc := 652) d_M_init_652 (by decide) ?_
  refine x_ldc2 (v := (26266177 : Int64)) (pc := 653) d_M_init_653 c_M_167 ?_
  obtain ⟨u244, e245, h⟩ := Option.bind_eq_some_iff.mp h
  refine c_last (pc := 656) d_M_init_656 e245 ?_
  refine x_dup (pc := 657) d_M_init_657 rfl ?_
  refine x_iconst (v := (3 : Int32)) (pc := 658) d_M_init_658 (by decide) ?_
  refine x_ldc2 (v := (289650860 : Int64)) (pc := 659) d_M_init_659 c_M_169 ?_
  obtain ⟨u246, e247, h⟩ := Option.bind_eq_some_iff.mp h
  refine c_last (pc := 662) d_M_init_662 e247 ?_
  refine x_dup (pc := 663) d_M_init_663 rfl ?_
  refine x_iconst (v := (4 : Int32)) (pc := 664) d_M_init_664 (by decide) ?_
  refine x_ldc2 (v := (20647 : Int64)) (pc := 665) d_M_init_665 c_M_171 ?_
  obtain ⟨u248, e249, h⟩ := Option.bind_eq_some_iff.mp h
  refine c_last (pc := 668) d_M_init_668 e249 ?_
  refine x_dup (pc := 669) d_M_init_669 rfl ?_
  refine x_iconst (v := (5 : Int32)) (pc := 670) d_M_init_670 (by decide) ?_
  refine x_ldc2 (v := (21168 : Int64)) (pc := 671) d_M_init_671 c_M_173 ?_
  obtain ⟨u250, e251, h⟩ := Option.bind_eq_some_iff.mp h
  refine c_last (pc := 674) d_M_init_674 e251 ?_
  refine x_dup (pc := 675) d_M_init_675 rfl ?_
  refine x_bipush (v := (6 : Int32)) (pc := 676) d_M_init_676 (by decide) ?_
  refine x_ldc2 (v := (13570797040095399 : Int64)) (pc := 678) d_M_init_678 c_M_175 ?_
  obtain ⟨u252, e253, h⟩ := Option.bind_eq_some_iff.mp h
  refine c_last (pc := 681) d_M_init_681 e253 ?_
  refine x_dup (pc := 682) d_M_init_682 rfl ?_
  refine x_bipush (v := (7 : Int32)) (pc := 683) d_M_init_683 (by decide) ?_
  refine x_ldc2 (v := (4242817 : Int64)) (pc := 685) d_M_init_685 c_M_177 ?_
  obtain ⟨u254, e255, h⟩ := Option.bind_eq_some_iff.mp h
  refine c_last (pc := 688) d_M_init_688 e255 ?_
  refine x_dup (pc := 689) d_M_init_689 rfl ?_
  refine x_bipush (v := (8 : Int32)) (pc := 690) d_M_init_690 (by decide) ?_
  refine x_ldc2 (v := (658724 : Int64)) (pc := 692) d_M_init_692 c_M_179 ?_
  obtain ⟨u256, e257, h⟩ := Option.bind_eq_some_iff.mp h
  refine c_last (pc := 695) d_M_init_695 e257 ?_
  refine x_dup (pc := 696) d_M_init_696 rfl ?_
  refine x_bipush (v := (9 : Int32)) (pc := 697) d_M_init_697 (by decide) ?_
  refine x_ldc2 (v := (14982306 : Int64)) (pc := 699) d_M_init_699 c_M_181 ?_
  obtain ⟨u258, e259, h⟩ := Option.bind_eq_some_iff.mp h
  refine c_last (pc := 702) d_M_init_702 e259 ?_
  refine x_dup (pc := 703) d_M_init_703 rfl ?_
  refine x_bipush (v := (10 : Int32)) (pc := 704) d_M_init_704 (by decide) ?_
  refine x_ldc2 (v := (4549 : Int64)) (pc := 706) d_M_init_706 c_M_183 ?_
  obtain ⟨u260, e261, h⟩ := Option.bind_eq_some_iff.mp h
  refine c_last (pc := 709) d_M_init_709 e261 ?_
  refine x_dup (pc := 710) d_M_init_710 rfl ?_
  refine x_bipush (v := (11 : Int32)) (pc := 711) d_M_init_711 (by decide) ?_
  refine x_ldc2 (v := (6308 : Int64)) (pc := 713) d_M_init_713 c_M_185 ?_
  obtain ⟨u262, e263, h⟩ := Option.bind_eq_some_iff.mp h
  refine c_last (pc := 716) d_M_init_716 e263 ?_
  refine x_dup (pc := 717) d_M_init_717 rfl ?_
  refine x_bipush (v := (12 : Int32)) (pc := 718) d_M_init_718 (by decide) ?_
  refine x_ldc2 (v := (132588 : Int64)) (pc := 720) d_M_init_720 c_M_187 ?_
  obtain ⟨u264, e265, h⟩ := Option.bind_eq_some_iff.mp h
  refine c_last (pc := 723) d_M_init_723 e265 ?_
  refine x_dup (pc := 724) d_M_init_724 rfl ?_
  refine x_bipush (v := (13 : Int32)) (pc := 725) d_M_init_725 (by decide) ?_
  refine x_ldc2 (v := (15449547 : Int64)) (pc := 727) d_M_init_727 c_M_189 ?_
  obtain ⟨u266, e267, h⟩ := Option.bind_eq_some_iff.mp h
  refine c_last (pc := 730) d_M_init_730 e267 ?_
  refine x_dup (pc := 731) d_M_init_731 rfl ?_
  refine x_bipush (v := (14 : Int32)) (pc := 732) d_M_init_732 (by decide) ?_
  refine x_ldc2 (v := (22633606247172771 : Int64)) (pc := 734) d_M_init_734 c_M_191 ?_
  obtain ⟨u268, e269, h⟩ := Option.bind_eq_some_iff.mp h
  refine c_last (pc := 737) d_M_init_737 e269 ?_
  refine x_dup (pc := 738) d_M_init_738 rfl ?_
  refine x_bipush (v := (15 : Int32)) (pc := 739) d_M_init_739 (by decide) ?_
  refine x_ldc2 (v := (104197 : Int64)) (pc := 741) d_M_init_741 c_M_193 ?_
  obtain ⟨u270, e271, h⟩ := Option.bind_eq_some_iff.mp h
  refine c_last (pc := 744) d_M_init_744 e271 ?_
  refine x_dup (pc := 745) d_M_init_745 rfl ?_
  refine x_bipush (v := (16 : Int32)) (pc := 746) d_M_init_746 (by decide) ?_
  refine x_ldc2 (v := (201 : Int64)) (pc := 748) d_M_init_748 c_M_195 ?_
  obtain ⟨u272, e273, h⟩ := Option.bind_eq_some_iff.mp h
  refine c_last (pc := 751) d_M_init_751 e273 ?_
  refine x_dup (pc := 752) d_M_init_752 rfl ?_
  refine x_bipush (v := (17 : Int32)) (pc := 753) d_M_init_753 (by decide) ?_
  refine x_ldc2 (v := (188093641 : Int64)) (pc := 755) d_M_init_755 c_M_197 ?_
  obtain ⟨u274, e275, h⟩ := Option.bind_eq_some_iff.mp h
  refine c_last (pc := 758) d_M_init_758 e275 ?_
  refine x_dup (pc := 759) d_M_init_759 rfl ?_
  refine x_bipush (v := (18 : Int32)) (pc := 760) d_M_init_760 (by decide) ?_
  refine x_ldc2 (v := (18918 : Int64)) (pc := 762) d_M_init_762 c_M_199 ?_
  obtain ⟨u276, e277, h⟩ := Option.bind_eq_some_iff.mp h
  refine c_last (pc := 765) d_M_init_765 e277 ?_
  refine x_dup (pc := 766) d_M_init_766 rfl ?_
  refine x_bipush (v := (19 : Int32)) (pc := 767) d_M_init_767 (by decide) ?_
  refine x_ldc2 (v := (672317618 : Int64)) (pc := 769) d_M_init_769 c_M_201 ?_
  obtain ⟨u278, e279, h⟩ := Option.bind_eq_some_iff.mp h
  refine c_last (pc := 772) d_M_init_772 e279 ?_
  refine x_dup (pc := 773) d_M_init_773 rfl ?_
  refine x_bipush (v := (20 : Int32)) (pc := 774) d_M_init_774 (by decide) ?_
  refine x_ldc2 (v := (540140 : Int64)) (pc := 776) d_M_init_776 c_M_203 ?_
  obtain ⟨u280, e281, h⟩ := Option.bind_eq_some_iff.mp h
  refine c_last (pc := 779) d_M_init_779 e281 ?_
  refine x_dup (pc := 780) d_M_init_780 rfl ?_
  refine x_bipush (v := (21 : Int32)) (pc := 781) d_M_init_781 (by decide) ?_
  refine x_ldc2 (v := (415287782 : Int64)) (pc := 783) d_M_init_783 c_M_205 ?_
  obtain ⟨u282, e283, h⟩ := Option.bind_eq_some_iff.mp h
  refine c_last (pc := 786) d_M_init_786 e283 ?_
  refine x_dup (pc := 787) d_M_init_787 rfl ?_
  refine x_bipush (v := (22 : Int32)) (pc := 788) d_M_init_788 (by decide) ?_
  refine x_ldc2 (v := (665349 : Int64)) (pc := 790) d_M_init_790 c_M_207 ?_
  obtain ⟨u284, e285, h⟩ := Option.bind_eq_some_iff.mp h
  refine c_last (pc := 793) d_M_init_793 e285 ?_
  refine x_dup (pc := 794) d_M_init_794 rfl ?_
  refine x_bipush (v := (23 : Int32)) (pc := 795) d_M_init_795 (by decide) ?_
  refine x_ldc2 (v := (540307 : Int64)) (pc := 797) d_M_init_797 c_M_209 ?_
  obtain ⟨u286, e287, h⟩ := Option.bind_eq_some_iff.mp h
  refine c_last (pc := 800) d_M_init_800 e287 ?_
  refine x_dup (pc := 801) d_M_init_801 rfl ?_
  refine x_bipush (v := (24 : Int32)) (pc := 802) d_M_init_802 (by decide) ?_
  refine x_ldc2 (v := (4480056979 : Int64)) (pc := 804) d_M_init_804 c_M_211 ?_
  obtain ⟨u288, e289, h⟩ := Option.bind_eq_some_iff.mp h
  refine c_last (pc := 807) d_M_init_807 e289 ?_
  refine x_dup (pc := 808) d_M_init_808 rfl ?_
  refine x_bipush (v := (25 : Int32)) (pc := 809) d_M_init_809 (by decide) ?_
  refine x_ldc2 (v := (21386278 : Int64)) (pc := 811) d_M_init_811 c_M_213 ?_
  obtain ⟨u290, e291, h⟩ := Option.bind_eq_some_iff.mp h
  refine c_last (pc := 814) d_M_init_814 e291 ?_
  refine x_dup (pc := 815) d_M_init_815 rfl ?_
  refine x_bipush (v := (26 : Int32)) (pc := 816) d_M_init_816 (by decide) ?_
  refine x_ldc2 (v := (186419 : Int64)) (pc := 818) d_M_init_818 c_M_215 ?_
  obtain ⟨u292, e293, h⟩ := Option.bind_eq_some_iff.mp h
  refine c_last (pc := 821) d_M_init_821 e293 ?_
  refine x_dup (pc := 822) d_M_init_822 rfl ?_
  refine x_bipush (v := (27 : Int32)) (pc := 823) d_M_init_823 (by decide) ?_
  refine x_ldc2 (v := (5989092530 : Int64)) (pc := 825) d_M_init_825 c_M_217 ?_
  obtain ⟨u294, e295, h⟩ := Option.bind_eq_some_iff.mp h
  refine c_last (pc := 828) d_M_init_828 e295 ?_
  refine x_dup (pc := 829) d_M_init_829 rfl ?_
  refine x_bipush (v := (28 : Int32)) (pc := 830) d_M_init_830 (by decide) ?_
  refine x_ldc2 (v := (26896224435 : Int64)) (pc := 832) d_M_init_832 c_M_219 ?_
  obtain ⟨u296, e297, h⟩ := Option.bind_eq_some_iff.mp h
  refine c_last (pc := 835) d_M_init_835 e297 ?_
  refine x_dup (pc := 836) d_M_init_836 rfl ?_
  refine x_bipush (v := (29 : Int32)) (pc := 837) d_M_init_837 (by decide) ?_
  refine x_ldc2 (v := (9262619822 : Int64)) (pc := 839) d_M_init_839 c_M_221 ?_
  obtain ⟨u298, e299, h⟩ := Option.bind_eq_some_iff.mp h
  refine c_last (pc := 842) d_M_init_842 e299 ?_
  refine x_dup (pc := 843) d_M_init_843 rfl ?_
  refine x_bipush (v := (30 : Int32)) (pc := 844) d_M_init_844 (by decide) ?_
  refine x_ldc2 (v := (524474861 : Int64)) (pc := 846) d_M_init_846 c_M_223 ?_
  obtain ⟨u300, e301, h⟩ := Option.bind_eq_some_iff.mp h
  refine c_last (pc := 849) d_M_init_849 e301 ?_
  refine x_dup (pc := 850) d_M_init_850 rfl ?_
  refine x_bipush (v := (31 : Int32)) (pc := 851) d_M_init_851 (by decide) ?_
  refine x_ldc2 (v := (524466476 : Int64)) (pc := 853) d_M_init_853 c_M_225 ?_
  obtain ⟨u302, e303, h⟩ := Option.bind_eq_some_iff.mp h
  refine c_last (pc := 856) d_M_init_856 e303 ?_
  refine x_dup (pc := 857) d_M_init_857 rfl ?_
  refine x_bipush (v := (32 : Int32)) (pc := 858) d_M_init_858 (by decide) ?_
  refine x_ldc2 (v := (9484904283523 : Int64)) (pc := 860) d_M_init_860 c_M_227 ?_
  obtain ⟨u304, e305, h⟩ := Option.bind_eq_some_iff.mp h
  refine c_last (pc := 863) d_M_init_863 e305 ?_
  refine x_dup (pc := 864) d_M_init_864 rfl ?_
  refine x_bipush (v := (33 : Int32)) (pc := 865) d_M_init_865 (by decide) ?_
  refine x_ldc2 (v := (405798 : Int64)) (pc := 867) d_M_init_867 c_M_229 ?_
  obtain ⟨u306, e307, h⟩ := Option.bind_eq_some_iff.mp h
  refine c_last (pc := 870) d_M_init_870 e307 ?_
  refine x_dup (pc := 871) d_M_init_871 rfl ?_
  refine x_bipush (v := (34 : Int32)) (pc := 872) d_M_init_872 (by decide) ?_
  refine x_ldc2 (v := (415537637 : Int64)) (pc := 874) d_M_init_874 c_M_231 ?_
  obtain ⟨u308, e309, h⟩ := Option.bind_eq_some_iff.mp h
  refine c_last (pc := 877) d_M_init_877 e309 ?_
  obtain ⟨u310, e311, h⟩ := Option.bind_eq_some_iff.mp h
  refine c_putF (pc := 878) d_M_init_878 l_M_233 fp_1_44 rfl fo_M_233 (xfit_arr) e311 ?_
  refine x_aload_n (pc := 881) d_M_init_881 rfl ?_
  refine x_iload_n (pc := 882) d_M_init_882 rfl ?_
  refine x_iconst (v := (1 : Int32)) (pc := 883) d_M_init_883 (by decide) ?_
  refine x_icmp_lt (tgt := 893) (pc := 884) d_M_init_884 (by decide) (fun c312 => ?_) (fun c312 => ?_)
  · rw [if_pos c312] at h
    exact x_wk (L' := [some (vR a0), none, some (vI a2)]) ⟨Or.inr rfl, Or.inl rfl, Or.inr rfl, trivial⟩ (w_M_init_b893 hQ a0 a2 a0 u310 h)
  · rw [if_neg c312] at h
    refine x_iload_n (pc := 887) d_M_init_887 rfl ?_
    refine x_bipush (v := (24 : Int32)) (pc := 888) d_M_init_888 (by decide) ?_
    refine x_icmp_le (tgt := 898) (pc := 890) d_M_init_890 (by decide) (fun c313 => ?_) (fun c313 => ?_)
    · rw [if_pos c313] at h
      refine x_iload_n (pc := 898) d_M_init_898 rfl ?_
      exact x_wk (L' := [some (vR a0), none, some (vI a2)]) ⟨Or.inr rfl, Or.inl rfl, Or.inr rfl, trivial⟩ (w_M_init_b899 hQ a0 a2 a1 a0 u310 h)
    · rw [if_neg c313] at h
      exact x_wk (L' := [some (vR a0), none, some (vI a2)]) ⟨Or.inr rfl, Or.inl rfl, Or.inr rfl, trivial⟩ (w_M_init_b893 hQ a0 a2 a0 u310 h)
def f_W_law_b620 (sc : xSc) (k48 : Option Nat → Option Nat → Option Nat → Option Nat → Option Nat → Int32 → xH → Option ((Int32 ⊕ Nat) × xH)) (l0 : Option Nat) (l1 : Option Nat) (l2 : Option Nat) (l3 : Option Nat) (l4 : Option Nat) (l5 : Int32) (u : xH) : Option ((Int32 ⊕ Nat) × xH) := k48 l0 l1 l2 l3 l4 (l5 + Int32.ofInt 3) u
theorem w_W_law_b620 {sc : xSc} {d : Nat} {Q : xR → xH → Prop} {oZ : Int32 ⊕ Nat} {hZ : xH} (k48 : Option Nat → Option Nat → Option Nat → Option Nat → Option Nat → Int32 → xH → Option ((Int32 ⊕ Nat) × xH)) (hk48 : ∀ (l0 : Option Nat) (l1 : Option Nat) (l2 : Option Nat) (l3 : Option Nat) (l4 : Option Nat) (l5 : Int32) (u : xH), k48 l0 l1 l2 l3 l4 l5 u = some (oZ, hZ) → xW sc m_W_law (d + 204) Q (u) 48 [some (vR l0), some (vR l1), some (vR l2), some (vR l3), some (vR l4), some (vI l5), none, none, none] []) (hQ : Q (cvI oZ) hZ) (l0 : Option Nat) (l1 : Option Nat) (l2 : Option Nat) (l3 : Option Nat) (l4 : Option Nat) (l5 : Int32) (u : xH) (h : f_W_law_b620 sc k48 l0 l1 l2 l3 l4 l5 u = some (oZ, hZ)) : xW sc m_W_law (d + 204) Q (u) 620 [some (vR l0), some (vR l1), some (vR l2), some (vR l3), some (vR l4), some (vI l5), none, none, none] [] := by
  unfold f_W_law_b620 at h
  refine x_iinc (pc := 620) d_W_law_620 rfl (by decide) ?_
  show xW sc m_W_law (d + 204) Q (u) 623 [some (vR l0), some (vR l1), some (vR l2), some (vR l3), some (vR l4), some (vI (l5 + Int32.ofInt 3)), none, none, none] []
  refine x_goto (tgt := 48) (pc := 623) d_W_law_623 (by decide) ?_
  exact hk48 l0 l1 l2 l3 l4 (l5 + Int32.ofInt 3) u h
def f_W_law_b505 (sc : xSc) (k48 : Option Nat → Option Nat → Option Nat → Option Nat → Option Nat → Int32 → xH → Option ((Int32 ⊕ Nat) × xH)) (l0 : Option Nat) (l1 : Option Nat) (l2 : Option Nat) (l3 : Option Nat) (l4 : Option Nat) (l5 : Int32) (u : xH) : Option ((Int32 ⊕ Nat) × xH) := f_W_law_b620 sc k48 l0 l1 l2 l3 l4 l5 u
theorem w_W_law_b505 {sc : xSc} {d : Nat} {Q : xR → xH → Prop} {oZ : Int32 ⊕ Nat} {hZ : xH} (k48 : Option Nat → Option Nat → Option Nat → Option Nat → Option Nat → Int32 → xH → Option ((Int32 ⊕ Nat) × xH)) (hk48 : ∀ (l0 : Option Nat) (l1 : Option Nat) (l2 : Option Nat) (l3 : Option Nat) (l4 : Option Nat) (l5 : Int32) (u : xH), k48 l0 l1 l2 l3 l4 l5 u = some (oZ, hZ) → xW sc m_W_law (d + 204) Q (u) 48 [some (vR l0), some (vR l1), some (vR l2), some (vR l3), some (vR l4), some (vI l5), none, none, none] []) (hQ : Q (cvI oZ) hZ) (l0 : Option Nat) (l1 : Option Nat) (l2 : Option Nat) (l3 : Option Nat) (l4 : Option Nat) (l5 : Int32) (u : xH) (h : f_W_law_b505 sc k48 l0 l1 l2 l3 l4 l5 u = some (oZ, hZ)) : xW sc m_W_law (d + 204) Q (u) 505 [some (vR l0), some (vR l1), some (vR l2), some (vR l3), some (vR l4), some (vI l5), none, none, none] [] := by
  unfold f_W_law_b505 at h
  refine x_goto (tgt := 620) (pc := 505) d_W_law_505 (by decide) ?_
  exact w_W_law_b620 k48 hk48 hQ l0 l1 l2 l3 l4 l5 u h
def f_W_law_b503 (sc : xSc)  (u : xH) : Option ((Int32 ⊕ Nat) × xH) := some (.inl (0 : Int32), u)
theorem w_W_law_b503 {sc : xSc} {d : Nat} {Q : xR → xH → Prop} {oZ : Int32 ⊕ Nat} {hZ : xH}  (hQ : Q (cvI oZ) hZ) (u : xH) (h : f_W_law_b503 sc  u = some (oZ, hZ)) : xW sc m_W_law (d + 204) Q (u) 503 [none, none, none, none, none, none, none, none, none] [] := by
  unfold f_W_law_b503 at h
  refine x_iconst (v := (0 : Int32)) (pc := 503) d_W_law_503 (by decide) ?_
  cases h
  exact x_iret (ty := .boolean) (pc := 504) d_W_law_504 rfl (rfl) hQ
def f_W_law_b428 (sc : xSc) (k48 : Option Nat → Option Nat → Option Nat → Option Nat → Option Nat → Int32 → xH → Option ((Int32 ⊕ Nat) × xH)) (l0 : Option Nat) (l1 : Option Nat) (l2 : Option Nat) (l3 : Option Nat) (l4 : Option Nat) (l5 : Int32) (u : xH) : Option ((Int32 ⊕ Nat) × xH) := f_W_law_b620 sc k48 l0 l1 l2 l3 l4 l5 u
theorem w_W_law_b428 {sc : xSc} {d : Nat} {Q : xR → xH → Prop} {oZ : Int32 ⊕ Nat} {hZ : xH} (k48 : Option Nat → Option Nat → Option Nat → Option Nat → Option Nat → Int32 → xH → Option ((Int32 ⊕ Nat) × xH)) (hk48 : ∀ (l0 : Option Nat) (l1 : Option Nat) (l2 : Option Nat) (l3 : Option Nat) (l4 : Option Nat) (l5 : Int32) (u : xH), k48 l0 l1 l2 l3 l4 l5 u = some (oZ, hZ) → xW sc m_W_law (d + 204) Q (u) 48 [some (vR l0), some (vR l1), some (vR l2), some (vR l3), some (vR l4), some (vI l5), none, none, none] []) (hQ : Q (cvI oZ) hZ) (l0 : Option Nat) (l1 : Option Nat) (l2 : Option Nat) (l3 : Option Nat) (l4 : Option Nat) (l5 : Int32) (u : xH) (h : f_W_law_b428 sc k48 l0 l1 l2 l3 l4 l5 u = some (oZ, hZ)) : xW sc m_W_law (d + 204) Q (u) 428 [some (vR l0), some (vR l1), some (vR l2), some (vR l3), some (vR l4), some (vI l5), none, none, none] [] := by
  unfold f_W_law_b428 at h
  refine x_goto (tgt := 620) (pc := 428) d_W_law_428 (by decide) ?_
  exact w_W_law_b620 k48 hk48 hQ l0 l1 l2 l3 l4 l5 u h
def f_W_law_b372 (sc : xSc) (k48 : Option Nat → Option Nat → Option Nat → Option Nat → Option Nat → Int32 → xH → Option ((Int32 ⊕ Nat) × xH)) (l0 : Option Nat) (l1 : Option Nat) (l2 : Option Nat) (l3 : Option Nat) (l4 : Option Nat) (l5 : Int32) (u : xH) : Option ((Int32 ⊕ Nat) × xH) := f_W_law_b620 sc k48 l0 l1 l2 l3 l4 l5 u
theorem w_W_law_b372 {sc : xSc} {d : Nat} {Q : xR → xH → Prop} {oZ : Int32 ⊕ Nat} {hZ : xH} (k48 : Option Nat → Option Nat → Option Nat → Option Nat → Option Nat → Int32 → xH → Option ((Int32 ⊕ Nat) × xH)) (hk48 : ∀ (l0 : Option Nat) (l1 : Option Nat) (l2 : Option Nat) (l3 : Option Nat) (l4 : Option Nat) (l5 : Int32) (u : xH), k48 l0 l1 l2 l3 l4 l5 u = some (oZ, hZ) → xW sc m_W_law (d + 204) Q (u) 48 [some (vR l0), some (vR l1), some (vR l2), some (vR l3), some (vR l4), some (vI l5), none, none, none] []) (hQ : Q (cvI oZ) hZ) (l0 : Option Nat) (l1 : Option Nat) (l2 : Option Nat) (l3 : Option Nat) (l4 : Option Nat) (l5 : Int32) (u : xH) (h : f_W_law_b372 sc k48 l0 l1 l2 l3 l4 l5 u = some (oZ, hZ)) : xW sc m_W_law (d + 204) Q (u) 372 [some (vR l0), some (vR l1), some (vR l2), some (vR l3), some (vR l4), some (vI l5), none, none, none] [] := by
  unfold f_W_law_b372 at h
  refine x_goto (tgt := 620) (pc := 372) d_W_law_372 (by decide) ?_
  exact w_W_law_b620 k48 hk48 hQ l0 l1 l2 l3 l4 l5 u h
def f_W_law_b242 (sc : xSc) (k48 : Option Nat → Option Nat → Option Nat → Option Nat → Option Nat → Int32 → xH → Option ((Int32 ⊕ Nat) × xH)) (l0 : Option Nat) (l1 : Option Nat) (l2 : Option Nat) (l3 : Option Nat) (l4 : Option Nat) (l5 : Int32) (u : xH) : Option ((Int32 ⊕ Nat) × xH) := f_W_law_b620 sc k48 l0 l1 l2 l3 l4 l5 u
theorem w_W_law_b242 {sc : xSc} {d : Nat} {Q : xR → xH → Prop} {oZ : Int32 ⊕ Nat} {hZ : xH} (k48 : Option Nat → Option Nat → Option Nat → Option Nat → Option Nat → Int32 → xH → Option ((Int32 ⊕ Nat) × xH)) (hk48 : ∀ (l0 : Option Nat) (l1 : Option Nat) (l2 : Option Nat) (l3 : Option Nat) (l4 : Option Nat) (l5 : Int32) (u : xH), k48 l0 l1 l2 l3 l4 l5 u = some (oZ, hZ) → xW sc m_W_law (d + 204) Q (u) 48 [some (vR l0), some (vR l1), some (vR l2), some (vR l3), some (vR l4), some (vI l5), none, none, none] []) (hQ : Q (cvI oZ) hZ) (l0 : Option Nat) (l1 : Option Nat) (l2 : Option Nat) (l3 : Option Nat) (l4 : Option Nat) (l5 : Int32) (u : xH) (h : f_W_law_b242 sc k48 l0 l1 l2 l3 l4 l5 u = some (oZ, hZ)) : xW sc m_W_law (d + 204) Q (u) 242 [some (vR l0), some (vR l1), some (vR l2), some (vR l3), some (vR l4), some (vI l5), none, none, none] [] := by
  unfold f_W_law_b242 at h
  refine x_goto (tgt := 620) (pc := 242) d_W_law_242 (by decide) ?_
  exact w_W_law_b620 k48 hk48 hQ l0 l1 l2 l3 l4 l5 u h
def f_W_law_b48 (sc : xSc)  : Nat → Option Nat → Option Nat → Option Nat → Option Nat → Option Nat → Int32 → xH → Option ((Int32 ⊕ Nat) × xH)
  | 0, _, _, _, _, _, _, _ => none
  | n + 1, l0, l1, l2, l3, l4, l5, u => (aN sc u l0).bind fun v1 => (if (v1 - (3 : Int32)) < l5 then some (.inl (1 : Int32), u) else (aI .int sc u l0 l5).bind fun v4 => (if (v4 &&& (15 : Int32)) = (0 : Int32) then (aI .int sc u l0 (l5 + (1 : Int32))).bind fun v7 => (aI .int sc u l0 (l5 + (2 : Int32))).bind fun v9 => (if xis sc u 0 l1 = true then (f_P_write sc u l1 ((v7.toInt64 <<< ((32 : Int32).toInt64 &&& 63)) ||| (v9.toInt64 &&& (4294967295 : Int64)))).bind fun (v13, u12) => (aI .int sc u12 l0 (l5 + (1 : Int32))).bind fun v15 => (aI .int sc u12 l0 (l5 + (2 : Int32))).bind fun v17 => (if decide (l2 = some 373) = true then (mcall (fun s => f_M_write s ((v15.toInt64 <<< ((32 : Int32).toInt64 &&& 63)) ||| (v17.toInt64 &&& (4294967295 : Int64)))) u12).bind fun (v20, u21) => (if v13 = v20 then f_W_law_b620 sc (f_W_law_b48 sc n) l0 l1 l2 l3 l4 l5 u21 else some (.inl (0 : Int32), u21)) else none) else none) else (if (v4 &&& (15 : Int32)) = (1 : Int32) then (aI .int sc u l0 (l5 + (1 : Int32))).bind fun v25 => (f_W_run sc u l1 v25 l3).bind fun (v28, u27) => (aI .int sc u27 l0 (l5 + (1 : Int32))).bind fun v30 => (if decide (l2 = some 373) = true then (mcall (fun s => f_M_run s v30) u27).bind fun (v33, u34) => (if decide (l2 = some 373) = true then (mcall (fun s => f_M_thrown s ) u34).bind fun (v37, u38) => (if v37 = v28 then (if v28 = 0 then (aL sc u38 l3 (0 : Int32)).bind fun v42 => (if (lg_cmp v42 v33.toInt64) = 0 then f_W_law_b242 sc (f_W_law_b48 sc n) l0 l1 l2 l3 l4 l5 u38 else some (.inl (0 : Int32), u38)) else f_W_law_b242 sc (f_W_law_b48 sc n) l0 l1 l2 l3 l4 l5 u38) else some (.inl (0 : Int32), u38)) else none) else none) else (if (v4 &&& (15 : Int32)) = (2 : Int32) then (if xis sc u 0 l1 = true then (f_P_steps sc u l1).bind fun v47 => (if decide (l2 = some 373) = true then (mcall (fun s => f_M_steps s ) u).bind fun (v50, u51) => (if v47 = v50 then f_W_law_b620 sc (f_W_law_b48 sc n) l0 l1 l2 l3 l4 l5 u51 else some (.inl (0 : Int32), u51)) else none) else none) else (if (v4 &&& (15 : Int32)) = (3 : Int32) then (if xis sc u 0 l1 = true then (f_P_fault sc u l1).bind fun v56 => (if decide (l2 = some 373) = true then (mcall (fun s => f_M_fault s ) u).bind fun (v59, u60) => (if v56 = v59 then f_W_law_b620 sc (f_W_law_b48 sc n) l0 l1 l2 l3 l4 l5 u60 else some (.inl (0 : Int32), u60)) else none) else none) else (if (v4 &&& (15 : Int32)) = (4 : Int32) then (aI .int sc u l0 (l5 + (1 : Int32))).bind fun v64 => (if xn64 (FP.dmul (FP.i2d v64) (4593671619917905920 : UInt64)) = true then (if xis sc u 0 l1 = true then tB (f_P_feed sc u l1 (FP.dmul (FP.i2d v64) (4593671619917905920 : UInt64))) (fun v69 u68 => (aI .int sc u68 l0 (l5 + (1 : Int32))).bind fun v73 => (if xn64 (FP.dmul (FP.i2d v73) (4593671619917905920 : UInt64)) = true then (if decide (l2 = some 373) = true then (mcall (fun s => f_M_feed s (FP.dmul (FP.i2d v73) (4593671619917905920 : UInt64))) u68).bind fun (v77, u78) => (if v69 = v77 then f_W_law_b620 sc (f_W_law_b48 sc n) l0 l1 l2 l3 l4 l5 u78 else some (.inl (0 : Int32), u78)) else none) else none)) (fun a71 u72 => some (.inr a71, u72)) else none) else none) else (if (v4 &&& (15 : Int32)) = (5 : Int32) then (if xis sc u 0 l1 = true then (f_P_depth sc u l1).bind fun v83 => (if decide (l2 = some 373) = true then (mcall (fun s => f_M_depth s ) u).bind fun (v86, u87) => (if v83 = v86 then f_W_law_b620 sc (f_W_law_b48 sc n) l0 l1 l2 l3 l4 l5 u87 else some (.inl (0 : Int32), u87)) else none) else none) else (if (v4 &&& (15 : Int32)) = (6 : Int32) then (aI .int sc u l0 (l5 + (1 : Int32))).bind fun v91 => (f_W_kind sc u l1 v91 l3).bind fun (v94, u93) => (aI .int sc u93 l0 (l5 + (1 : Int32))).bind fun v96 => (if decide (l2 = some 373) = true then (mcall (fun s => f_M_kind s v96) u93).bind fun (v99, u100) => (if decide (l2 = some 373) = true then (mcall (fun s => f_M_thrown s ) u100).bind fun (v103, u104) => (if v103 = v94 then (if v94 = 0 then (aL sc u104 l3 (0 : Int32)).bind fun v108 => (if (lg_cmp v108 v99.toInt64) = 0 then f_W_law_b372 sc (f_W_law_b48 sc n) l0 l1 l2 l3 l4 l5 u104 else some (.inl (0 : Int32), u104)) else f_W_law_b372 sc (f_W_law_b48 sc n) l0 l1 l2 l3 l4 l5 u104) else some (.inl (0 : Int32), u104)) else none) else none) else (if (v4 &&& (15 : Int32)) = (7 : Int32) then (aI .int sc u l0 (l5 + (1 : Int32))).bind fun v112 => (f_W_number sc u l1 v112 l3).bind fun (v115, u114) => (aI .int sc u114 l0 (l5 + (1 : Int32))).bind fun v117 => (if decide (l2 = some 373) = true then (mcall (fun s => f_M_number s v117) u114).bind fun (v120, u121) => (if decide (l2 = some 373) = true then (mcall (fun s => f_M_thrown s ) u121).bind fun (v124, u125) => (if v124 = v115 then (if v115 = 0 then (aL sc u125 l3 (0 : Int32)).bind fun v129 => (if (lg_cmp v129 v120.toInt64) = 0 then f_W_law_b428 sc (f_W_law_b48 sc n) l0 l1 l2 l3 l4 l5 u125 else some (.inl (0 : Int32), u125)) else f_W_law_b428 sc (f_W_law_b48 sc n) l0 l1 l2 l3 l4 l5 u125) else some (.inl (0 : Int32), u125)) else none) else none) else (if (v4 &&& (15 : Int32)) = (8 : Int32) then (aI .int sc u l0 (l5 + (1 : Int32))).bind fun v133 => (f_W_real sc u l1 v133 l4).bind fun (v136, u135) => (aI .int sc u135 l0 (l5 + (1 : Int32))).bind fun v138 => (if decide (l2 = some 373) = true then (mcall (fun s => f_M_real s v138) u135).bind fun (v141, u142) => (if decide (l2 = some 373) = true then (mcall (fun s => f_M_thrown s ) u142).bind fun (v145, u146) => (if v145 = v136 then (if v136 = 0 then (aD sc u146 l4 (0 : Int32)).bind fun v150 => (if (Op.cmpValue (FP.dcmp v150 v141) .l) = 0 then f_W_law_b505 sc (f_W_law_b48 sc n) l0 l1 l2 l3 l4 l5 u146 else (aD sc u146 l4 (0 : Int32)).bind fun v153 => (aD sc u146 l4 (0 : Int32)).bind fun v155 => (if (Op.cmpValue (FP.dcmp v153 v155) .l) = 0 then f_W_law_b503 sc u146 else (if (Op.cmpValue (FP.dcmp v141 v141) .l) = 0 then f_W_law_b503 sc u146 else f_W_law_b505 sc (f_W_law_b48 sc n) l0 l1 l2 l3 l4 l5 u146))) else f_W_law_b505 sc (f_W_law_b48 sc n) l0 l1 l2 l3 l4 l5 u146) else some (.inl (0 : Int32), u146)) else none) else none) else (if (v4 &&& (15 : Int32)) = (9 : Int32) then (aI .int sc u l0 (l5 + (1 : Int32))).bind fun v160 => (aI .int sc u l0 (l5 + (2 : Int32))).bind fun v162 => (if xis sc u 0 l1 = true then (f_P_letter sc u l1 v160 v162).bind fun v165 => (aI .int sc u l0 (l5 + (1 : Int32))).bind fun v167 => (aI .int sc u l0 (l5 + (2 : Int32))).bind fun v169 => (if decide (l2 = some 373) = true then (mcall (fun s => f_M_letter s v167 v169) u).bind fun (v172, u173) => (if v165 = v172 then f_W_law_b620 sc (f_W_law_b48 sc n) l0 l1 l2 l3 l4 l5 u173 else some (.inl (0 : Int32), u173)) else none) else none) else (if (v4 &&& (15 : Int32)) = (10 : Int32) then (aI .int sc u l0 (l5 + (1 : Int32))).bind fun v177 => (if xis sc u 0 l1 = true then (f_P_used sc u l1 v177).bind fun v180 => (aI .int sc u l0 (l5 + (1 : Int32))).bind fun v182 => (if decide (l2 = some 373) = true then (mcall (fun s => f_M_used s v182) u).bind fun (v185, u186) => (if v180 = v185 then f_W_law_b620 sc (f_W_law_b48 sc n) l0 l1 l2 l3 l4 l5 u186 else some (.inl (0 : Int32), u186)) else none) else none) else (if (v4 &&& (15 : Int32)) = (11 : Int32) then (aI .int sc u l0 (l5 + (1 : Int32))).bind fun v190 => (aI .int sc u l0 (l5 + (2 : Int32))).bind fun v192 => (if xis sc u 0 l1 = true then (f_P_pixel sc u l1 v190 v192).bind fun v195 => (aI .int sc u l0 (l5 + (1 : Int32))).bind fun v197 => (aI .int sc u l0 (l5 + (2 : Int32))).bind fun v199 => (if decide (l2 = some 373) = true then (mcall (fun s => f_M_pixel s v197 v199) u).bind fun (v202, u203) => (if v195 = v202 then f_W_law_b620 sc (f_W_law_b48 sc n) l0 l1 l2 l3 l4 l5 u203 else some (.inl (0 : Int32), u203)) else none) else none) else (if (v4 &&& (15 : Int32)) = (12 : Int32) then (if xis sc u 0 l1 = true then (f_P_page sc u l1).bind fun (v209, u208) => (if decide (l2 = some 373) = true then (mcall (fun s => f_M_page s ) u208).bind fun (v212, u213) => (if v209 = v212 then f_W_law_b620 sc (f_W_law_b48 sc n) l0 l1 l2 l3 l4 l5 u213 else some (.inl (0 : Int32), u213)) else none) else none) else f_W_law_b620 sc (f_W_law_b48 sc n) l0 l1 l2 l3 l4 l5 u))))))))))))))
theorem w_W_law_b48 {sc : xSc} {d : Nat} {Q : xR → xH → Prop} {oZ : Int32 ⊕ Nat} {hZ : xH}  (hQ : Q (cvI oZ) hZ) : ∀ (n : Nat) (l0 : Option Nat) (l1 : Option Nat) (l2 : Option Nat) (l3 : Option Nat) (l4 : Option Nat) (l5 : Int32) (u : xH), f_W_law_b48 sc  n l0 l1 l2 l3 l4 l5 u = some (oZ, hZ) → xW sc m_W_law (d + 204) Q (u) 48 [some (vR l0), some (vR l1), some (vR l2), some (vR l3), some (vR l4), some (vI l5), none, none, none] [] := by
  intro n
  induction n with
  | zero =>
    intro l0 l1 l2 l3 l4 l5 u h
    cases h
  | succ n hk48 =>
    intro l0 l1 l2 l3 l4 l5 u h
    unfold f_W_law_b48 at h
    refine x_iload (pc := 48) d_W_law_48 rfl ?_
    refine x_aload_n (pc := 50) d_W_law_50 rfl ?_
    obtain ⟨v1, e2, h⟩ := Option.bind_eq_some_iff.mp h
    refine c_alen (pc := 51) d_W_law_51 e2 ?_
    refine x_iconst (v := (3 : Int32)) (pc := 52) d_W_law_52 (by decide) ?_
    refine x_isub (pc := 53) d_W_law_53 ?_
    refine x_icmp_gt (tgt := 626) (pc := 54) d_W_law_54 (by decide) (fun c3 => ?_) (fun c3 => ?_)
    · rw [if_pos c3] at h
      refine x_iconst (v := (1 : Int32)) (pc := 626) d_W_law_626 (by decide) ?_
      cases h
      exact x_iret (ty := .boolean) (pc := 627) d_W_law_627 rfl (rfl) hQ
    · rw [if_neg c3] at h
      refine x_aload_n (pc := 57) d_W_law_57 rfl ?_
      refine x_iload (pc := 58) d_W_law_58 rfl ?_
      obtain ⟨v4, e5, h⟩ := Option.bind_eq_some_iff.mp h
      refine c_iald (pc := 60) d_W_law_60 e5 ?_
      refine x_bipush (v := (15 : Int32)) (pc := 61) d_W_law_61 (by decide) ?_
      refine x_iand (pc := 63) d_W_law_63 ?_
      by_cases c6 : (v4 &&& (15 : Int32)) = (0 : Int32)
      · rw [if_pos c6] at h
        refine x_tableIn (off := 68) (tgt := 132) (pc := 64) d_W_law_64 (by rw [c6]; decide) (by rw [c6]; decide) (by rw [c6]; decide) (by decide) ?_
        refine x_aload_n (pc := 132) d_W_law_132 rfl ?_
        refine x_aload_n (pc := 133) d_W_law_133 rfl ?_
        refine x_iload (pc := 134) d_W_law_134 rfl ?_
        refine x_iconst (v := (1 : Int32)) (pc := 136) d_W_law_136 (by decide) ?_
        refine x_iadd (pc := 137) d_W_law_137 ?_
        obtain ⟨v7, e8, h⟩ := Option.bind_eq_some_iff.mp h
        refine c_iald (pc := 138) d_W_law_138 e8 ?_
        refine x_i2l (pc := 139) d_W_law_139 ?_
        refine x_bipush (v := (32 : Int32)) (pc := 140) d_W_law_140 (by decide) ?_
        refine x_lshl (pc := 142) d_W_law_142 ?_
        refine x_aload_n (pc := 143) d_W_law_143 rfl ?_
        refine x_iload (pc := 144) d_W_law_144 rfl ?_
        refine x_iconst (v := (2 : Int32)) (pc := 146) d_W_law_146 (by decide) ?_
        refine x_iadd (pc := 147) d_W_law_147 ?_
        obtain ⟨v9, e10, h⟩ := Option.bind_eq_some_iff.mp h
        refine c_iald (pc := 148) d_W_law_148 e10 ?_
        refine x_i2l (pc := 149) d_W_law_149 ?_
        refine x_ldc2 (v := (4294967295 : Int64)) (pc := 150) d_W_law_150 c_W_41 ?_
        refine x_land (pc := 153) d_W_law_153 ?_
        refine x_lor (pc := 154) d_W_law_154 ?_
        obtain ⟨c11, h⟩ := ite_some h
        obtain ⟨⟨v13, u12⟩, e14, h⟩ := Option.bind_eq_some_iff.mp h
        dsimp only at h
        refine c_invv (c := 0) (d := d + 203) (av := [vL ((v7.toInt64 <<< ((32 : Int32).toInt64 &&& 63)) ||| (v9.toInt64 &&& (4294967295 : Int64)))]) (st := []) (Q' := fun r h' => r = .inl (some (vI v13)) ∧ h' = u12) (pc := 155) d_W_law_155 cv_W_43 y_P_write c11 rfl (Nat.le_of_ble_eq_true rfl) (Nat.le_of_ble_eq_true rfl) (w_P_write (d := d + 197) (Q := fun r h' => r = .inl (some (vI v13)) ∧ h' = u12) ⟨rfl, rfl⟩ u l1 ((v7.toInt64 <<< ((32 : Int32).toInt64 &&& 63)) ||| (v9.toInt64 &&& (4294967295 : Int64))) e14) (fun v h' z => ?_) (fun a h' z => nomatch z.1)
        obtain ⟨z1, z2⟩ := z
        subst h'
        cases z1
        show xW sc m_W_law (d + 204) Q (u12) 158 [some (vR l0), some (vR l1), some (vR l2), some (vR l3), some (vR l4), some (vI l5), none, none, none] [vI v13]
        refine x_aload_n (pc := 158) d_W_law_158 rfl ?_
        refine x_aload_n (pc := 159) d_W_law_159 rfl ?_
        refine x_iload (pc := 160) d_W_law_160 rfl ?_
        refine x_iconst (v := (1 : Int32)) (pc := 162) d_W_law_162 (by decide) ?_
        refine x_iadd (pc := 163) d_W_law_163 ?_
        obtain ⟨v15, e16, h⟩ := Option.bind_eq_some_iff.mp h
        refine c_iald (pc := 164) d_W_law_164 e16 ?_
        refine x_i2l (pc := 165) d_W_law_165 ?_
        refine x_bipush (v := (32 : Int32)) (pc := 166) d_W_law_166 (by decide) ?_
        refine x_lshl (pc := 168) d_W_law_168 ?_
        refine x_aload_n (pc := 169) d_W_law_169 rfl ?_
        refine x_iload (pc := 170) d_W_law_170 rfl ?_
        refine x_iconst (v := (2 : Int32)) (pc := 172) d_W_law_172 (by decide) ?_
        refine x_iadd (pc := 173) d_W_law_173 ?_
        obtain ⟨v17, e18, h⟩ := Option.bind_eq_some_iff.mp h
        refine c_iald (pc := 174) d_W_law_174 e18 ?_
        refine x_i2l (pc := 175) d_W_law_175 ?_
        refine x_ldc2 (v := (4294967295 : Int64)) (pc := 176) d_W_law_176 c_W_41 ?_
        refine x_land (pc := 179) d_W_law_179 ?_
        refine x_lor (pc := 180) d_W_law_180 ?_
        obtain ⟨c19, h⟩ := ite_some h
        obtain ⟨⟨v20, u21⟩, e22, h⟩ := Option.bind_eq_some_iff.mp h
        dsimp only at h
        refine c_minvI (d := d + 203) (av := [vL ((v15.toInt64 <<< ((32 : Int32).toInt64 &&& 63)) ||| (v17.toInt64 &&& (4294967295 : Int64)))]) (st := [vI v13]) (pc := 181) d_W_law_181 cv_W_47 y_M_write (of_decide_eq_true c19) rfl (Nat.le_of_ble_eq_true rfl) (Nat.le_of_ble_eq_true rfl) e22 (fun s s2 R e => w_M_write (d := d + 203) (R := R) ⟨rfl, rfl⟩ s ((v15.toInt64 <<< ((32 : Int32).toInt64 &&& 63)) ||| (v17.toInt64 &&& (4294967295 : Int64))) e) ?_
        refine x_icmp_eq (tgt := 620) (pc := 184) d_W_law_184 (by decide) (fun c23 => ?_) (fun c23 => ?_)
        · rw [if_pos c23] at h
          exact w_W_law_b620 (f_W_law_b48 sc n) hk48 hQ l0 l1 l2 l3 l4 l5 u21 h
        · rw [if_neg c23] at h
          refine x_iconst (v := (0 : Int32)) (pc := 187) d_W_law_187 (by decide) ?_
          cases h
          exact x_iret (ty := .boolean) (pc := 188) d_W_law_188 rfl (rfl) hQ
      rw [if_neg c6] at h
      by_cases c24 : (v4 &&& (15 : Int32)) = (1 : Int32)
      · rw [if_pos c24] at h
        refine x_tableIn (off := 125) (tgt := 189) (pc := 64) d_W_law_64 (by rw [c24]; decide) (by rw [c24]; decide) (by rw [c24]; decide) (by decide) ?_
        refine x_aload_n (pc := 189) d_W_law_189 rfl ?_
        refine x_aload_n (pc := 190) d_W_law_190 rfl ?_
        refine x_iload (pc := 191) d_W_law_191 rfl ?_
        refine x_iconst (v := (1 : Int32)) (pc := 193) d_W_law_193 (by decide) ?_
        refine x_iadd (pc := 194) d_W_law_194 ?_
        obtain ⟨v25, e26, h⟩ := Option.bind_eq_some_iff.mp h
        refine c_iald (pc := 195) d_W_law_195 e26 ?_
        refine x_aload_n (pc := 196) d_W_law_196 rfl ?_
        obtain ⟨⟨v28, u27⟩, e29, h⟩ := Option.bind_eq_some_iff.mp h
        dsimp only at h
        refine x_invs (d := d + 203) (av := [vR l1, vI v25, vR l3]) (st := []) (Q' := fun r h' => r = .inl (some (vI v28)) ∧ h' = u27) (pc := 197) d_W_law_197 cs_W_48 y_W_run rfl (Nat.le_of_ble_eq_true rfl) (Nat.le_of_ble_eq_true rfl) (w_W_run (d := d + 0) (Q := fun r h' => r = .inl (some (vI v28)) ∧ h' = u27) ⟨rfl, rfl⟩ u l1 v25 l3 e29) (fun v h' z => ?_) (fun a h' z => nomatch z.1)
        obtain ⟨z1, z2⟩ := z
        subst h'
        cases z1
        show xW sc m_W_law (d + 204) Q (u27) 200 [some (vR l0), some (vR l1), some (vR l2), some (vR l3), some (vR l4), some (vI l5), none, none, none] [vI v28]
        refine x_istore (pc := 200) d_W_law_200 (by decide) ?_
        show xW sc m_W_law (d + 204) Q (u27) 202 [some (vR l0), some (vR l1), some (vR l2), some (vR l3), some (vR l4), some (vI l5), some (vI v28), none, none] []
        refine x_aload_n (pc := 202) d_W_law_202 rfl ?_
        refine x_aload_n (pc := 203) d_W_law_203 rfl ?_
        refine x_iload (pc := 204) d_W_law_204 rfl ?_
        refine x_iconst (v := (1 : Int32)) (pc := 206) d_W_law_206 (by decide) ?_
        refine x_iadd (pc := 207) d_W_law_207 ?_
        obtain ⟨v30, e31, h⟩ := Option.bind_eq_some_iff.mp h
        refine c_iald (pc := 208) d_W_law_208 e31 ?_
        obtain ⟨c32, h⟩ := ite_some h
        obtain ⟨⟨v33, u34⟩, e35, h⟩ := Option.bind_eq_some_iff.mp h
        dsimp only at h
        refine c_minvI (d := d + 203) (av := [vI v30]) (st := []) (pc := 209) d_W_law_209 cv_W_51 y_M_run (of_decide_eq_true c32) rfl (Nat.le_of_ble_eq_true rfl) (Nat.le_of_ble_eq_true rfl) e35 (fun s s2 R e => w_M_run (d := d + 195) (R := R) ⟨rfl, rfl⟩ s v30 e) ?_
        refine x_istore (pc := 212) d_W_law_212 (by decide) ?_
        show xW sc m_W_law (d + 204) Q (u34) 214 [some (vR l0), some (vR l1), some (vR l2), some (vR l3), some (vR l4), some (vI l5), some (vI v28), some (vI v33), none] []
        refine x_aload_n (pc := 214) d_W_law_214 rfl ?_
        obtain ⟨c36, h⟩ := ite_some h
        obtain ⟨⟨v37, u38⟩, e39, h⟩ := Option.bind_eq_some_iff.mp h
        dsimp only at h
        refine c_minvI (d := d + 203) (av := []) (st := []) (pc := 215) d_W_law_215 cv_W_52 y_M_thrown (of_decide_eq_true c36) rfl (Nat.le_of_ble_eq_true rfl) (Nat.le_of_ble_eq_true rfl) e39 (fun s s2 R e => w_M_thrown (d := d + 203) (R := R) ⟨rfl, rfl⟩ s  e) ?_
        refine x_iload (pc := 218) d_W_law_218 rfl ?_
        refine x_icmp_eq (tgt := 225) (pc := 220) d_W_law_220 (by decide) (fun c40 => ?_) (fun c40 => ?_)
        · rw [if_pos c40] at h
          refine x_iload (pc := 225) d_W_law_225 rfl ?_
          refine x_if_ne (tgt := 242) (pc := 227) d_W_law_227 (by decide) (fun c41 => ?_) (fun c41 => ?_)
          · rw [if_neg c41] at h
            exact x_wk (L' := [some (vR l0), some (vR l1), some (vR l2), some (vR l3), some (vR l4), some (vI l5), none, none, none]) ⟨Or.inr rfl, Or.inr rfl, Or.inr rfl, Or.inr rfl, Or.inr rfl, Or.inr rfl, Or.inl rfl, Or.inl rfl, Or.inl rfl, trivial⟩ (w_W_law_b242 (f_W_law_b48 sc n) hk48 hQ l0 l1 l2 l3 l4 l5 u38 h)
          · rw [if_pos c41] at h
            refine x_aload_n (pc := 230) d_W_law_230 rfl ?_
            refine x_iconst (v := (0 : Int32)) (pc := 231) d_W_law_231 (by decide) ?_
            obtain ⟨v42, e43, h⟩ := Option.bind_eq_some_iff.mp h
            refine c_lald (pc := 232) d_W_law_232 e43 ?_
            refine x_iload (pc := 233) d_W_law_233 rfl ?_
            refine x_i2l (pc := 235) d_W_law_235 ?_
            refine x_lcmp (pc := 236) d_W_law_236 ?_
            refine x_if_eq (tgt := 242) (pc := 237) d_W_law_237 (by decide) (fun c44 => ?_) (fun c44 => ?_)
            · rw [if_pos c44] at h
              exact x_wk (L' := [some (vR l0), some (vR l1), some (vR l2), some (vR l3), some (vR l4), some (vI l5), none, none, none]) ⟨Or.inr rfl, Or.inr rfl, Or.inr rfl, Or.inr rfl, Or.inr rfl, Or.inr rfl, Or.inl rfl, Or.inl rfl, Or.inl rfl, trivial⟩ (w_W_law_b242 (f_W_law_b48 sc n) hk48 hQ l0 l1 l2 l3 l4 l5 u38 h)
            · rw [if_neg c44] at h
              refine x_iconst (v := (0 : Int32)) (pc := 240) d_W_law_240 (by decide) ?_
              cases h
              exact x_iret (ty := .boolean) (pc := 241) d_W_law_241 rfl (rfl) hQ
        · rw [if_neg c40] at h
          refine x_iconst (v := (0 : Int32)) (pc := 223) d_W_law_223 (by decide) ?_
          cases h
          exact x_iret (ty := .boolean) (pc := 224) d_W_law_224 rfl (rfl) hQ
      rw [if_neg c24] at h
      by_cases c45 : (v4 &&& (15 : Int32)) = (2 : Int32)
      · rw [if_pos c45] at h
        refine x_tableIn (off := 181) (tgt := 245) (pc := 64) d_W_law_64 (by rw [c45]; decide) (by rw [c45]; decide) (by rw [c45]; decide) (by decide) ?_
        refine x_aload_n (pc := 245) d_W_law_245 rfl ?_
        obtain ⟨c46, h⟩ := ite_some h
        obtain ⟨v47, e48, h⟩ := Option.bind_eq_some_iff.mp h
        refine c_invv (c := 0) (d := d + 203) (av := []) (st := []) (Q' := fun r h' => r = .inl (some (vI v47)) ∧ h' = u) (pc := 246) d_W_law_246 cv_W_56 y_P_steps c46 rfl (Nat.le_of_ble_eq_true rfl) (Nat.le_of_ble_eq_true rfl) (w_P_steps (d := d + 203) (Q := fun r h' => r = .inl (some (vI v47)) ∧ h' = u) ⟨rfl, rfl⟩ l1 e48) (fun v h' z => ?_) (fun a h' z => nomatch z.1)
        obtain ⟨z1, z2⟩ := z
        subst h'
        cases z1
        show xW sc m_W_law (d + 204) Q (u) 249 [some (vR l0), some (vR l1), some (vR l2), some (vR l3), some (vR l4), some (vI l5), none, none, none] [vI v47]
        refine x_aload_n (pc := 249) d_W_law_249 rfl ?_
        obtain ⟨c49, h⟩ := ite_some h
        obtain ⟨⟨v50, u51⟩, e52, h⟩ := Option.bind_eq_some_iff.mp h
        dsimp only at h
        refine c_minvI (d := d + 203) (av := []) (st := [vI v47]) (pc := 250) d_W_law_250 cv_W_59 y_M_steps (of_decide_eq_true c49) rfl (Nat.le_of_ble_eq_true rfl) (Nat.le_of_ble_eq_true rfl) e52 (fun s s2 R e => w_M_steps (d := d + 203) (R := R) ⟨rfl, rfl⟩ s  e) ?_
        refine x_icmp_eq (tgt := 620) (pc := 253) d_W_law_253 (by decide) (fun c53 => ?_) (fun c53 => ?_)
        · rw [if_pos c53] at h
          exact w_W_law_b620 (f_W_law_b48 sc n) hk48 hQ l0 l1 l2 l3 l4 l5 u51 h
        · rw [if_neg c53] at h
          refine x_iconst (v := (0 : Int32)) (pc := 256) d_W_law_256 (by decide) ?_
          cases h
          exact x_iret (ty := .boolean) (pc := 257) d_W_law_257 rfl (rfl) hQ
      rw [if_neg c45] at h
      by_cases c54 : (v4 &&& (15 : Int32)) = (3 : Int32)
      · rw [if_pos c54] at h
        refine x_tableIn (off := 194) (tgt := 258) (pc := 64) d_W_law_64 (by rw [c54]; decide) (by rw [c54]; decide) (by rw [c54]; decide) (by decide) ?_
        refine x_aload_n (pc := 258) d_W_law_258 rfl ?_
        obtain ⟨c55, h⟩ := ite_some h
        obtain ⟨v56, e57, h⟩ := Option.bind_eq_some_iff.mp h
        refine c_invv (c := 0) (d := d + 203) (av := []) (st := []) (Q' := fun r h' => r = .inl (some (vI v56)) ∧ h' = u) (pc := 259) d_W_law_259 cv_W_60 y_P_fault c55 rfl (Nat.le_of_ble_eq_true rfl) (Nat.le_of_ble_eq_true rfl) (w_P_fault (d := d + 203) (Q := fun r h' => r = .inl (some (vI v56)) ∧ h' = u) ⟨rfl, rfl⟩ l1 e57) (fun v h' z => ?_) (fun a h' z => nomatch z.1)
        obtain ⟨z1, z2⟩ := z
        subst h'
        cases z1
        show xW sc m_W_law (d + 204) Q (u) 262 [some (vR l0), some (vR l1), some (vR l2), some (vR l3), some (vR l4), some (vI l5), none, none, none] [vI v56]
        refine x_aload_n (pc := 262) d_W_law_262 rfl ?_
        obtain ⟨c58, h⟩ := ite_some h
        obtain ⟨⟨v59, u60⟩, e61, h⟩ := Option.bind_eq_some_iff.mp h
        dsimp only at h
        refine c_minvI (d := d + 203) (av := []) (st := [vI v56]) (pc := 263) d_W_law_263 cv_W_63 y_M_fault (of_decide_eq_true c58) rfl (Nat.le_of_ble_eq_true rfl) (Nat.le_of_ble_eq_true rfl) e61 (fun s s2 R e => w_M_fault (d := d + 203) (R := R) ⟨rfl, rfl⟩ s  e) ?_
        refine x_icmp_eq (tgt := 620) (pc := 266) d_W_law_266 (by decide) (fun c62 => ?_) (fun c62 => ?_)
        · rw [if_pos c62] at h
          exact w_W_law_b620 (f_W_law_b48 sc n) hk48 hQ l0 l1 l2 l3 l4 l5 u60 h
        · rw [if_neg c62] at h
          refine x_iconst (v := (0 : Int32)) (pc := 269) d_W_law_269 (by decide) ?_
          cases h
          exact x_iret (ty := .boolean) (pc := 270) d_W_law_270 rfl (rfl) hQ
      rw [if_neg c54] at h
      by_cases c63 : (v4 &&& (15 : Int32)) = (4 : Int32)
      · rw [if_pos c63] at h
        refine x_tableIn (off := 207) (tgt := 271) (pc := 64) d_W_law_64 (by rw [c63]; decide) (by rw [c63]; decide) (by rw [c63]; decide) (by decide) ?_
        refine x_aload_n (pc := 271) d_W_law_271 rfl ?_
        refine x_aload_n (pc := 272) d_W_law_272 rfl ?_
        refine x_iload (pc := 273) d_W_law_273 rfl ?_
        refine x_iconst (v := (1 : Int32)) (pc := 275) d_W_law_275 (by decide) ?_
        refine x_iadd (pc := 276) d_W_law_276 ?_
        obtain ⟨v64, e65, h⟩ := Option.bind_eq_some_iff.mp h
        refine c_iald (pc := 277) d_W_law_277 e65 ?_
        refine x_i2d (pc := 278) d_W_law_278 ?_
        refine x_ldc2d (v := (4593671619917905920 : UInt64)) (pc := 279) d_W_law_279 c_W_64 ?_
        obtain ⟨c66, h⟩ := ite_some h
        refine x_dmul (pc := 282) d_W_law_282 (xn64_v c66) ?_
        obtain ⟨c67, h⟩ := ite_some h
        rcases tB_s h with ⟨a71, u72, e70, h⟩ | ⟨v69, u68, e70, h⟩
        · refine c_invv (c := 0) (d := d + 203) (av := [vD (FP.dmul (FP.i2d v64) (4593671619917905920 : UInt64))]) (st := []) (Q' := fun r h' => r = .inr a71 ∧ h' = u72) (pc := 283) d_W_law_283 cv_W_66 y_P_feed c67 rfl (Nat.le_of_ble_eq_true rfl) (Nat.le_of_ble_eq_true rfl) (w_P_feed (d := d + 195) (Q := fun r h' => r = .inr a71 ∧ h' = u72) ⟨rfl, rfl⟩ u l1 (FP.dmul (FP.i2d v64) (4593671619917905920 : UInt64)) e70) (fun v h' z => nomatch z.1) (fun a h' z => ?_)
          obtain ⟨z1, z2⟩ := z
          subst h'
          cases z1
          cases h
          exact x_thOut (xno rfl) hQ
        refine c_invv (c := 0) (d := d + 203) (av := [vD (FP.dmul (FP.i2d v64) (4593671619917905920 : UInt64))]) (st := []) (Q' := fun r h' => r = .inl (some (vI v69)) ∧ h' = u68) (pc := 283) d_W_law_283 cv_W_66 y_P_feed c67 rfl (Nat.le_of_ble_eq_true rfl) (Nat.le_of_ble_eq_true rfl) (w_P_feed (d := d + 195) (Q := fun r h' => r = .inl (some (vI v69)) ∧ h' = u68) ⟨rfl, rfl⟩ u l1 (FP.dmul (FP.i2d v64) (4593671619917905920 : UInt64)) e70) (fun v h' z => ?_) (fun a h' z => nomatch z.1)
        obtain ⟨z1, z2⟩ := z
        subst h'
        cases z1
        show xW sc m_W_law (d + 204) Q (u68) 286 [some (vR l0), some (vR l1), some (vR l2), some (vR l3), some (vR l4), some (vI l5), none, none, none] [vI v69]
        refine x_aload_n (pc := 286) d_W_law_286 rfl ?_
        refine x_aload_n (pc := 287) d_W_law_287 rfl ?_
        refine x_iload (pc := 288) d_W_law_288 rfl ?_
        refine x_iconst (v := (1 : Int32)) (pc := 290) d_W_law_290 (by decide) ?_
        refine x_iadd (pc := 291) d_W_law_291 ?_
        obtain ⟨v73, e74, h⟩ := Option.bind_eq_some_iff.mp h
        refine c_iald (pc := 292) d_W_law_292 e74 ?_
        refine x_i2d (pc := 293) d_W_law_293 ?_
        refine x_ldc2d (v := (4593671619917905920 : UInt64)) (pc := 294) d_W_law_294 c_W_64 ?_
        obtain ⟨c75, h⟩ := ite_some h
        refine x_dmul (pc := 297) d_W_law_297 (xn64_v c75) ?_
        obtain ⟨c76, h⟩ := ite_some h
        obtain ⟨⟨v77, u78⟩, e79, h⟩ := Option.bind_eq_some_iff.mp h
        dsimp only at h
        refine c_minvI (d := d + 203) (av := [vD (FP.dmul (FP.i2d v73) (4593671619917905920 : UInt64))]) (st := [vI v69]) (pc := 298) d_W_law_298 cv_W_70 y_M_feed (of_decide_eq_true c76) rfl (Nat.le_of_ble_eq_true rfl) (Nat.le_of_ble_eq_true rfl) e79 (fun s s2 R e => w_M_feed (d := d + 202) (R := R) ⟨rfl, rfl⟩ s (FP.dmul (FP.i2d v73) (4593671619917905920 : UInt64)) e) ?_
        refine x_icmp_eq (tgt := 620) (pc := 301) d_W_law_301 (by decide) (fun c80 => ?_) (fun c80 => ?_)
        · rw [if_pos c80] at h
          exact w_W_law_b620 (f_W_law_b48 sc n) hk48 hQ l0 l1 l2 l3 l4 l5 u78 h
        · rw [if_neg c80] at h
          refine x_iconst (v := (0 : Int32)) (pc := 304) d_W_law_304 (by decide) ?_
          cases h
          exact x_iret (ty := .boolean) (pc := 305) d_W_law_305 rfl (rfl) hQ
      rw [if_neg c63] at h
      by_cases c81 : (v4 &&& (15 : Int32)) = (5 : Int32)
      · rw [if_pos c81] at h
        refine x_tableIn (off := 242) (tgt := 306) (pc := 64) d_W_law_64 (by rw [c81]; decide) (by rw [c81]; decide) (by rw [c81]; decide) (by decide) ?_
        refine x_aload_n (pc := 306) d_W_law_306 rfl ?_
        obtain ⟨c82, h⟩ := ite_some h
        obtain ⟨v83, e84, h⟩ := Option.bind_eq_some_iff.mp h
        refine c_invv (c := 0) (d := d + 203) (av := []) (st := []) (Q' := fun r h' => r = .inl (some (vI v83)) ∧ h' = u) (pc := 307) d_W_law_307 cv_W_71 y_P_depth c82 rfl (Nat.le_of_ble_eq_true rfl) (Nat.le_of_ble_eq_true rfl) (w_P_depth (d := d + 203) (Q := fun r h' => r = .inl (some (vI v83)) ∧ h' = u) ⟨rfl, rfl⟩ l1 e84) (fun v h' z => ?_) (fun a h' z => nomatch z.1)
        obtain ⟨z1, z2⟩ := z
        subst h'
        cases z1
        show xW sc m_W_law (d + 204) Q (u) 310 [some (vR l0), some (vR l1), some (vR l2), some (vR l3), some (vR l4), some (vI l5), none, none, none] [vI v83]
        refine x_aload_n (pc := 310) d_W_law_310 rfl ?_
        obtain ⟨c85, h⟩ := ite_some h
        obtain ⟨⟨v86, u87⟩, e88, h⟩ := Option.bind_eq_some_iff.mp h
        dsimp only at h
        refine c_minvI (d := d + 203) (av := []) (st := [vI v83]) (pc := 311) d_W_law_311 cv_W_74 y_M_depth (of_decide_eq_true c85) rfl (Nat.le_of_ble_eq_true rfl) (Nat.le_of_ble_eq_true rfl) e88 (fun s s2 R e => w_M_depth (d := d + 203) (R := R) ⟨rfl, rfl⟩ s  e) ?_
        refine x_icmp_eq (tgt := 620) (pc := 314) d_W_law_314 (by decide) (fun c89 => ?_) (fun c89 => ?_)
        · rw [if_pos c89] at h
          exact w_W_law_b620 (f_W_law_b48 sc n) hk48 hQ l0 l1 l2 l3 l4 l5 u87 h
        · rw [if_neg c89] at h
          refine x_iconst (v := (0 : Int32)) (pc := 317) d_W_law_317 (by decide) ?_
          cases h
          exact x_iret (ty := .boolean) (pc := 318) d_W_law_318 rfl (rfl) hQ
      rw [if_neg c81] at h
      by_cases c90 : (v4 &&& (15 : Int32)) = (6 : Int32)
      · rw [if_pos c90] at h
        refine x_tableIn (off := 255) (tgt := 319) (pc := 64) d_W_law_64 (by rw [c90]; decide) (by rw [c90]; decide) (by rw [c90]; decide) (by decide) ?_
        refine x_aload_n (pc := 319) d_W_law_319 rfl ?_
        refine x_aload_n (pc := 320) d_W_law_320 rfl ?_
        refine x_iload (pc := 321) d_W_law_321 rfl ?_
        refine x_iconst (v := (1 : Int32)) (pc := 323) d_W_law_323 (by decide) ?_
        refine x_iadd (pc := 324) d_W_law_324 ?_
        obtain ⟨v91, e92, h⟩ := Option.bind_eq_some_iff.mp h
        refine c_iald (pc := 325) d_W_law_325 e92 ?_
        refine x_aload_n (pc := 326) d_W_law_326 rfl ?_
        obtain ⟨⟨v94, u93⟩, e95, h⟩ := Option.bind_eq_some_iff.mp h
        dsimp only at h
        refine x_invs (d := d + 203) (av := [vR l1, vI v91, vR l3]) (st := []) (Q' := fun r h' => r = .inl (some (vI v94)) ∧ h' = u93) (pc := 327) d_W_law_327 cs_W_75 y_W_kind rfl (Nat.le_of_ble_eq_true rfl) (Nat.le_of_ble_eq_true rfl) (w_W_kind (d := d + 195) (Q := fun r h' => r = .inl (some (vI v94)) ∧ h' = u93) ⟨rfl, rfl⟩ u l1 v91 l3 e95) (fun v h' z => ?_) (fun a h' z => nomatch z.1)
        obtain ⟨z1, z2⟩ := z
        subst h'
        cases z1
        show xW sc m_W_law (d + 204) Q (u93) 330 [some (vR l0), some (vR l1), some (vR l2), some (vR l3), some (vR l4), some (vI l5), none, none, none] [vI v94]
        refine x_istore (pc := 330) d_W_law_330 (by decide) ?_
        show xW sc m_W_law (d + 204) Q (u93) 332 [some (vR l0), some (vR l1), some (vR l2), some (vR l3), some (vR l4), some (vI l5), some (vI v94), none, none] []
        refine x_aload_n (pc := 332) d_W_law_332 rfl ?_
        refine x_aload_n (pc := 333) d_W_law_333 rfl ?_
        refine x_iload (pc := 334) d_W_law_334 rfl ?_
        refine x_iconst (v := (1 : Int32)) (pc := 336) d_W_law_336 (by decide) ?_
        refine x_iadd (pc := 337) d_W_law_337 ?_
        obtain ⟨v96, e97, h⟩ := Option.bind_eq_some_iff.mp h
        refine c_iald (pc := 338) d_W_law_338 e97 ?_
        obtain ⟨c98, h⟩ := ite_some h
        obtain ⟨⟨v99, u100⟩, e101, h⟩ := Option.bind_eq_some_iff.mp h
        dsimp only at h
        refine c_minvI (d := d + 203) (av := [vI v96]) (st := []) (pc := 339) d_W_law_339 cv_W_77 y_M_kind (of_decide_eq_true c98) rfl (Nat.le_of_ble_eq_true rfl) (Nat.le_of_ble_eq_true rfl) e101 (fun s s2 R e => w_M_kind (d := d + 203) (R := R) ⟨rfl, rfl⟩ s v96 e) ?_
        refine x_istore (pc := 342) d_W_law_342 (by decide) ?_
        show xW sc m_W_law (d + 204) Q (u100) 344 [some (vR l0), some (vR l1), some (vR l2), some (vR l3), some (vR l4), some (vI l5), some (vI v94), some (vI v99), none] []
        refine x_aload_n (pc := 344) d_W_law_344 rfl ?_
        obtain ⟨c102, h⟩ := ite_some h
        obtain ⟨⟨v103, u104⟩, e105, h⟩ := Option.bind_eq_some_iff.mp h
        dsimp only at h
        refine c_minvI (d := d + 203) (av := []) (st := []) (pc := 345) d_W_law_345 cv_W_52 y_M_thrown (of_decide_eq_true c102) rfl (Nat.le_of_ble_eq_true rfl) (Nat.le_of_ble_eq_true rfl) e105 (fun s s2 R e => w_M_thrown (d := d + 203) (R := R) ⟨rfl, rfl⟩ s  e) ?_
        refine x_iload (pc := 348) d_W_law_348 rfl ?_
        refine x_icmp_eq (tgt := 355) (pc := 350) d_W_law_350 (by decide) (fun c106 => ?_) (fun c106 => ?_)
        · rw [if_pos c106] at h
          refine x_iload (pc := 355) d_W_law_355 rfl ?_
          refine x_if_ne (tgt := 372) (pc := 357) d_W_law_357 (by decide) (fun c107 => ?_) (fun c107 => ?_)
          · rw [if_neg c107] at h
            exact x_wk (L' := [some (vR l0), some (vR l1), some (vR l2), some (vR l3), some (vR l4), some (vI l5), none, none, none]) ⟨Or.inr rfl, Or.inr rfl, Or.inr rfl, Or.inr rfl, Or.inr rfl, Or.inr rfl, Or.inl rfl, Or.inl rfl, Or.inl rfl, trivial⟩ (w_W_law_b372 (f_W_law_b48 sc n) hk48 hQ l0 l1 l2 l3 l4 l5 u104 h)
          · rw [if_pos c107] at h
            refine x_aload_n (pc := 360) d_W_law_360 rfl ?_
            refine x_iconst (v := (0 : Int32)) (pc := 361) d_W_law_361 (by decide) ?_
            obtain ⟨v108, e109, h⟩ := Option.bind_eq_some_iff.mp h
            refine c_lald (pc := 362) d_W_law_362 e109 ?_
            refine x_iload (pc := 363) d_W_law_363 rfl ?_
            refine x_i2l (pc := 365) d_W_law_365 ?_
            refine x_lcmp (pc := 366) d_W_law_366 ?_
            refine x_if_eq (tgt := 372) (pc := 367) d_W_law_367 (by decide) (fun c110 => ?_) (fun c110 => ?_)
            · rw [if_pos c110] at h
              exact x_wk (L' := [some (vR l0), some (vR l1), some (vR l2), some (vR l3), some (vR l4), some (vI l5), none, none, none]) ⟨Or.inr rfl, Or.inr rfl, Or.inr rfl, Or.inr rfl, Or.inr rfl, Or.inr rfl, Or.inl rfl, Or.inl rfl, Or.inl rfl, trivial⟩ (w_W_law_b372 (f_W_law_b48 sc n) hk48 hQ l0 l1 l2 l3 l4 l5 u104 h)
            · rw [if_neg c110] at h
              refine x_iconst (v := (0 : Int32)) (pc := 370) d_W_law_370 (by decide) ?_
              cases h
              exact x_iret (ty := .boolean) (pc := 371) d_W_law_371 rfl (rfl) hQ
        · rw [if_neg c106] at h
          refine x_iconst (v := (0 : Int32)) (pc := 353) d_W_law_353 (by decide) ?_
          cases h
          exact x_iret (ty := .boolean) (pc := 354) d_W_law_354 rfl (rfl) hQ
      rw [if_neg c90] at h
      by_cases c111 : (v4 &&& (15 : Int32)) = (7 : Int32)
      · rw [if_pos c111] at h
        refine x_tableIn (off := 311) (tgt := 375) (pc := 64) d_W_law_64 (by rw [c111]; decide) (by rw [c111]; decide) (by rw [c111]; decide) (by decide) ?_
        refine x_aload_n (pc := 375) d_W_law_375 rfl ?_
        refine x_aload_n (pc := 376) d_W_law_376 rfl ?_
        refine x_iload (pc := 377) d_W_law_377 rfl ?_
        refine x_iconst (v := (1 : Int32)) (pc := 379) d_W_law_379 (by decide) ?_
        refine x_iadd (pc := 380) d_W_law_380 ?_
        obtain ⟨v112, e113, h⟩ := Option.bind_eq_some_iff.mp h
        refine c_iald (pc := 381) d_W_law_381 e113 ?_
        refine x_aload_n (pc := 382) d_W_law_382 rfl ?_
        obtain ⟨⟨v115, u114⟩, e116, h⟩ := Option.bind_eq_some_iff.mp h
        dsimp only at h
        refine x_invs (d := d + 203) (av := [vR l1, vI v112, vR l3]) (st := []) (Q' := fun r h' => r = .inl (some (vI v115)) ∧ h' = u114) (pc := 383) d_W_law_383 cs_W_78 y_W_number rfl (Nat.le_of_ble_eq_true rfl) (Nat.le_of_ble_eq_true rfl) (w_W_number (d := d + 195) (Q := fun r h' => r = .inl (some (vI v115)) ∧ h' = u114) ⟨rfl, rfl⟩ u l1 v112 l3 e116) (fun v h' z => ?_) (fun a h' z => nomatch z.1)
        obtain ⟨z1, z2⟩ := z
        subst h'
        cases z1
        show xW sc m_W_law (d + 204) Q (u114) 386 [some (vR l0), some (vR l1), some (vR l2), some (vR l3), some (vR l4), some (vI l5), none, none, none] [vI v115]
        refine x_istore (pc := 386) d_W_law_386 (by decide) ?_
        show xW sc m_W_law (d + 204) Q (u114) 388 [some (vR l0), some (vR l1), some (vR l2), some (vR l3), some (vR l4), some (vI l5), some (vI v115), none, none] []
        refine x_aload_n (pc := 388) d_W_law_388 rfl ?_
        refine x_aload_n (pc := 389) d_W_law_389 rfl ?_
        refine x_iload (pc := 390) d_W_law_390 rfl ?_
        refine x_iconst (v := (1 : Int32)) (pc := 392) d_W_law_392 (by decide) ?_
        refine x_iadd (pc := 393) d_W_law_393 ?_
        obtain ⟨v117, e118, h⟩ := Option.bind_eq_some_iff.mp h
        refine c_iald (pc := 394) d_W_law_394 e118 ?_
        obtain ⟨c119, h⟩ := ite_some h
        obtain ⟨⟨v120, u121⟩, e122, h⟩ := Option.bind_eq_some_iff.mp h
        dsimp only at h
        refine c_minvI (d := d + 203) (av := [vI v117]) (st := []) (pc := 395) d_W_law_395 cv_W_80 y_M_number (of_decide_eq_true c119) rfl (Nat.le_of_ble_eq_true rfl) (Nat.le_of_ble_eq_true rfl) e122 (fun s s2 R e => w_M_number (d := d + 202) (R := R) ⟨rfl, rfl⟩ s v117 e) ?_
        refine x_istore (pc := 398) d_W_law_398 (by decide) ?_
        show xW sc m_W_law (d + 204) Q (u121) 400 [some (vR l0), some (vR l1), some (vR l2), some (vR l3), some (vR l4), some (vI l5), some (vI v115), some (vI v120), none] []
        refine x_aload_n (pc := 400) d_W_law_400 rfl ?_
        obtain ⟨c123, h⟩ := ite_some h
        obtain ⟨⟨v124, u125⟩, e126, h⟩ := Option.bind_eq_some_iff.mp h
        dsimp only at h
        refine c_minvI (d := d + 203) (av := []) (st := []) (pc := 401) d_W_law_401 cv_W_52 y_M_thrown (of_decide_eq_true c123) rfl (Nat.le_of_ble_eq_true rfl) (Nat.le_of_ble_eq_true rfl) e126 (fun s s2 R e => w_M_thrown (d := d + 203) (R := R) ⟨rfl, rfl⟩ s  e) ?_
        refine x_iload (pc := 404) d_W_law_404 rfl ?_
        refine x_icmp_eq (tgt := 411) (pc := 406) d_W_law_406 (by decide) (fun c127 => ?_) (fun c127 => ?_)
        · rw [if_pos c127] at h
          refine x_iload (pc := 411) d_W_law_411 rfl ?_
          refine x_if_ne (tgt := 428) (pc := 413) d_W_law_413 (by decide) (fun c128 => ?_) (fun c128 => ?_)
          · rw [if_neg c128] at h
            exact x_wk (L' := [some (vR l0), some (vR l1), some (vR l2), some (vR l3), some (vR l4), some (vI l5), none, none, none]) ⟨Or.inr rfl, Or.inr rfl, Or.inr rfl, Or.inr rfl, Or.inr rfl, Or.inr rfl, Or.inl rfl, Or.inl rfl, Or.inl rfl, trivial⟩ (w_W_law_b428 (f_W_law_b48 sc n) hk48 hQ l0 l1 l2 l3 l4 l5 u125 h)
          · rw [if_pos c128] at h
            refine x_aload_n (pc := 416) d_W_law_416 rfl ?_
            refine x_iconst (v := (0 : Int32)) (pc := 417) d_W_law_417 (by decide) ?_
            obtain ⟨v129, e130, h⟩ := Option.bind_eq_some_iff.mp h
            refine c_lald (pc := 418) d_W_law_418 e130 ?_
            refine x_iload (pc := 419) d_W_law_419 rfl ?_
            refine x_i2l (pc := 421) d_W_law_421 ?_
            refine x_lcmp (pc := 422) d_W_law_422 ?_
            refine x_if_eq (tgt := 428) (pc := 423) d_W_law_423 (by decide) (fun c131 => ?_) (fun c131 => ?_)
            · rw [if_pos c131] at h
              exact x_wk (L' := [some (vR l0), some (vR l1), some (vR l2), some (vR l3), some (vR l4), some (vI l5), none, none, none]) ⟨Or.inr rfl, Or.inr rfl, Or.inr rfl, Or.inr rfl, Or.inr rfl, Or.inr rfl, Or.inl rfl, Or.inl rfl, Or.inl rfl, trivial⟩ (w_W_law_b428 (f_W_law_b48 sc n) hk48 hQ l0 l1 l2 l3 l4 l5 u125 h)
            · rw [if_neg c131] at h
              refine x_iconst (v := (0 : Int32)) (pc := 426) d_W_law_426 (by decide) ?_
              cases h
              exact x_iret (ty := .boolean) (pc := 427) d_W_law_427 rfl (rfl) hQ
        · rw [if_neg c127] at h
          refine x_iconst (v := (0 : Int32)) (pc := 409) d_W_law_409 (by decide) ?_
          cases h
          exact x_iret (ty := .boolean) (pc := 410) d_W_law_410 rfl (rfl) hQ
      rw [if_neg c111] at h
      by_cases c132 : (v4 &&& (15 : Int32)) = (8 : Int32)
      · rw [if_pos c132] at h
        refine x_tableIn (off := 367) (tgt := 431) (pc := 64) d_W_law_64 (by rw [c132]; decide) (by rw [c132]; decide) (by rw [c132]; decide) (by decide) ?_
        refine x_aload_n (pc := 431) d_W_law_431 rfl ?_
        refine x_aload_n (pc := 432) d_W_law_432 rfl ?_
        refine x_iload (pc := 433) d_W_law_433 rfl ?_
        refine x_iconst (v := (1 : Int32)) (pc := 435) d_W_law_435 (by decide) ?_
        refine x_iadd (pc := 436) d_W_law_436 ?_
        obtain ⟨v133, e134, h⟩ := Option.bind_eq_some_iff.mp h
        refine c_iald (pc := 437) d_W_law_437 e134 ?_
        refine x_aload (pc := 438) d_W_law_438 rfl ?_
        obtain ⟨⟨v136, u135⟩, e137, h⟩ := Option.bind_eq_some_iff.mp h
        dsimp only at h
        refine x_invs (d := d + 203) (av := [vR l1, vI v133, vR l4]) (st := []) (Q' := fun r h' => r = .inl (some (vI v136)) ∧ h' = u135) (pc := 440) d_W_law_440 cs_W_81 y_W_real rfl (Nat.le_of_ble_eq_true rfl) (Nat.le_of_ble_eq_true rfl) (w_W_real (d := d + 195) (Q := fun r h' => r = .inl (some (vI v136)) ∧ h' = u135) ⟨rfl, rfl⟩ u l1 v133 l4 e137) (fun v h' z => ?_) (fun a h' z => nomatch z.1)
        obtain ⟨z1, z2⟩ := z
        subst h'
        cases z1
        show xW sc m_W_law (d + 204) Q (u135) 443 [some (vR l0), some (vR l1), some (vR l2), some (vR l3), some (vR l4), some (vI l5), none, none, none] [vI v136]
        refine x_istore (pc := 443) d_W_law_443 (by decide) ?_
        show xW sc m_W_law (d + 204) Q (u135) 445 [some (vR l0), some (vR l1), some (vR l2), some (vR l3), some (vR l4), some (vI l5), some (vI v136), none, none] []
        refine x_aload_n (pc := 445) d_W_law_445 rfl ?_
        refine x_aload_n (pc := 446) d_W_law_446 rfl ?_
        refine x_iload (pc := 447) d_W_law_447 rfl ?_
        refine x_iconst (v := (1 : Int32)) (pc := 449) d_W_law_449 (by decide) ?_
        refine x_iadd (pc := 450) d_W_law_450 ?_
        obtain ⟨v138, e139, h⟩ := Option.bind_eq_some_iff.mp h
        refine c_iald (pc := 451) d_W_law_451 e139 ?_
        obtain ⟨c140, h⟩ := ite_some h
        obtain ⟨⟨v141, u142⟩, e143, h⟩ := Option.bind_eq_some_iff.mp h
        dsimp only at h
        refine c_minvD (d := d + 203) (av := [vI v138]) (st := []) (pc := 452) d_W_law_452 cv_W_84 y_M_real (of_decide_eq_true c140) rfl (Nat.le_of_ble_eq_true rfl) (Nat.le_of_ble_eq_true rfl) e143 (fun s s2 R e => w_M_real (d := d + 202) (R := R) ⟨rfl, rfl⟩ s v138 e) ?_
        refine x_dstore (pc := 455) d_W_law_455 (by decide) ?_
        show xW sc m_W_law (d + 204) Q (u142) 457 [some (vR l0), some (vR l1), some (vR l2), some (vR l3), some (vR l4), some (vI l5), some (vI v136), some (vD v141), none] []
        refine x_aload_n (pc := 457) d_W_law_457 rfl ?_
        obtain ⟨c144, h⟩ := ite_some h
        obtain ⟨⟨v145, u146⟩, e147, h⟩ := Option.bind_eq_some_iff.mp h
        dsimp only at h
        refine c_minvI (d := d + 203) (av := []) (st := []) (pc := 458) d_W_law_458 cv_W_52 y_M_thrown (of_decide_eq_true c144) rfl (Nat.le_of_ble_eq_true rfl) (Nat.le_of_ble_eq_true rfl) e147 (fun s s2 R e => w_M_thrown (d := d + 203) (R := R) ⟨rfl, rfl⟩ s  e) ?_
        refine x_iload (pc := 461) d_W_law_461 rfl ?_
        refine x_icmp_eq (tgt := 468) (pc := 463) d_W_law_463 (by decide) (fun c148 => ?_) (fun c148 => ?_)
        · rw [if_pos c148] at h
          refine x_iload (pc := 468) d_W_law_468 rfl ?_
          refine x_if_ne (tgt := 505) (pc := 470) d_W_law_470 (by decide) (fun c149 => ?_) (fun c149 => ?_)
          · rw [if_neg c149] at h
            exact x_wk (L' := [some (vR l0), some (vR l1), some (vR l2), some (vR l3), some (vR l4), some (vI l5), none, none, none]) ⟨Or.inr rfl, Or.inr rfl, Or.inr rfl, Or.inr rfl, Or.inr rfl, Or.inr rfl, Or.inl rfl, Or.inl rfl, Or.inl rfl, trivial⟩ (w_W_law_b505 (f_W_law_b48 sc n) hk48 hQ l0 l1 l2 l3 l4 l5 u146 h)
          · rw [if_pos c149] at h
            refine x_aload (pc := 473) d_W_law_473 rfl ?_
            refine x_iconst (v := (0 : Int32)) (pc := 475) d_W_law_475 (by decide) ?_
            obtain ⟨v150, e151, h⟩ := Option.bind_eq_some_iff.mp h
            refine c_dald (pc := 476) d_W_law_476 e151 ?_
            refine x_dload (pc := 477) d_W_law_477 rfl ?_
            refine x_dcmp (pc := 479) d_W_law_479 ?_
            refine x_if_eq (tgt := 505) (pc := 480) d_W_law_480 (by decide) (fun c152 => ?_) (fun c152 => ?_)
            · rw [if_pos c152] at h
              exact x_wk (L' := [some (vR l0), some (vR l1), some (vR l2), some (vR l3), some (vR l4), some (vI l5), none, none, none]) ⟨Or.inr rfl, Or.inr rfl, Or.inr rfl, Or.inr rfl, Or.inr rfl, Or.inr rfl, Or.inl rfl, Or.inl rfl, Or.inl rfl, trivial⟩ (w_W_law_b505 (f_W_law_b48 sc n) hk48 hQ l0 l1 l2 l3 l4 l5 u146 h)
            · rw [if_neg c152] at h
              refine x_aload (pc := 483) d_W_law_483 rfl ?_
              refine x_iconst (v := (0 : Int32)) (pc := 485) d_W_law_485 (by decide) ?_
              obtain ⟨v153, e154, h⟩ := Option.bind_eq_some_iff.mp h
              refine c_dald (pc := 486) d_W_law_486 e154 ?_
              refine x_aload (pc := 487) d_W_law_487 rfl ?_
              refine x_iconst (v := (0 : Int32)) (pc := 489) d_W_law_489 (by decide) ?_
              obtain ⟨v155, e156, h⟩ := Option.bind_eq_some_iff.mp h
              refine c_dald (pc := 490) d_W_law_490 e156 ?_
              refine x_dcmp (pc := 491) d_W_law_491 ?_
              refine x_if_eq (tgt := 503) (pc := 492) d_W_law_492 (by decide) (fun c157 => ?_) (fun c157 => ?_)
              · rw [if_pos c157] at h
                exact x_wk (L' := [none, none, none, none, none, none, none, none, none]) ⟨Or.inl rfl, Or.inl rfl, Or.inl rfl, Or.inl rfl, Or.inl rfl, Or.inl rfl, Or.inl rfl, Or.inl rfl, Or.inl rfl, trivial⟩ (w_W_law_b503 hQ u146 h)
              · rw [if_neg c157] at h
                refine x_dload (pc := 495) d_W_law_495 rfl ?_
                refine x_dload (pc := 497) d_W_law_497 rfl ?_
                refine x_dcmp (pc := 499) d_W_law_499 ?_
                refine x_if_ne (tgt := 505) (pc := 500) d_W_law_500 (by decide) (fun c158 => ?_) (fun c158 => ?_)
                · rw [if_neg c158] at h
                  exact x_wk (L' := [some (vR l0), some (vR l1), some (vR l2), some (vR l3), some (vR l4), some (vI l5), none, none, none]) ⟨Or.inr rfl, Or.inr rfl, Or.inr rfl, Or.inr rfl, Or.inr rfl, Or.inr rfl, Or.inl rfl, Or.inl rfl, Or.inl rfl, trivial⟩ (w_W_law_b505 (f_W_law_b48 sc n) hk48 hQ l0 l1 l2 l3 l4 l5 u146 h)
                · rw [if_pos c158] at h
                  exact x_wk (L' := [none, none, none, none, none, none, none, none, none]) ⟨Or.inl rfl, Or.inl rfl, Or.inl rfl, Or.inl rfl, Or.inl rfl, Or.inl rfl, Or.inl rfl, Or.inl rfl, Or.inl rfl, trivial⟩ (w_W_law_b503 hQ u146 h)
        · rw [if_neg c148] at h
          refine x_iconst (v := (0 : Int32)) (pc := 466) d_W_law_466 (by decide) ?_
          cases h
          exact x_iret (ty := .boolean) (pc := 467) d_W_law_467 rfl (rfl) hQ
      rw [if_neg c132] at h
      by_cases c159 : (v4 &&& (15 : Int32)) = (9 : Int32)
      · rw [if_pos c159] at h
        refine x_tableIn (off := 444) (tgt := 508) (pc := 64) d_W_law_64 (by rw [c159]; decide) (by rw [c159]; decide) (by rw [c159]; decide) (by decide) ?_
        refine x_aload_n (pc := 508) d_W_law_508 rfl ?_
        refine x_aload_n (pc := 509) d_W_law_509 rfl ?_
        refine x_iload (pc := 510) d_W_law_510 rfl ?_
        refine x_iconst (v := (1 : Int32)) (pc := 512) d_W_law_512 (by decide) ?_
        refine x_iadd (pc := 513) d_W_law_513 ?_
        obtain ⟨v160, e161, h⟩ := Option.bind_eq_some_iff.mp h
        refine c_iald (pc := 514) d_W_law_514 e161 ?_
        refine x_aload_n (pc := 515) d_W_law_515 rfl ?_
        refine x_iload (pc := 516) d_W_law_516 rfl ?_
        refine x_iconst (v := (2 : Int32)) (pc := 518) d_W_law_518 (by decide) ?_
        refine x_iadd (pc := 519) d_W_law_519 ?_
        obtain ⟨v162, e163, h⟩ := Option.bind_eq_some_iff.mp h
        refine c_iald (pc := 520) d_W_law_520 e163 ?_
        obtain ⟨c164, h⟩ := ite_some h
        obtain ⟨v165, e166, h⟩ := Option.bind_eq_some_iff.mp h
        refine c_invv (c := 0) (d := d + 203) (av := [vI v160, vI v162]) (st := []) (Q' := fun r h' => r = .inl (some (vI v165)) ∧ h' = u) (pc := 521) d_W_law_521 cv_W_85 y_P_letter c164 rfl (Nat.le_of_ble_eq_true rfl) (Nat.le_of_ble_eq_true rfl) (w_P_letter (d := d + 199) (Q := fun r h' => r = .inl (some (vI v165)) ∧ h' = u) ⟨rfl, rfl⟩ l1 v160 v162 e166) (fun v h' z => ?_) (fun a h' z => nomatch z.1)
        obtain ⟨z1, z2⟩ := z
        subst h'
        cases z1
        show xW sc m_W_law (d + 204) Q (u) 524 [some (vR l0), some (vR l1), some (vR l2), some (vR l3), some (vR l4), some (vI l5), none, none, none] [vI v165]
        refine x_aload_n (pc := 524) d_W_law_524 rfl ?_
        refine x_aload_n (pc := 525) d_W_law_525 rfl ?_
        refine x_iload (pc := 526) d_W_law_526 rfl ?_
        refine x_iconst (v := (1 : Int32)) (pc := 528) d_W_law_528 (by decide) ?_
        refine x_iadd (pc := 529) d_W_law_529 ?_
        obtain ⟨v167, e168, h⟩ := Option.bind_eq_some_iff.mp h
        refine c_iald (pc := 530) d_W_law_530 e168 ?_
        refine x_aload_n (pc := 531) d_W_law_531 rfl ?_
        refine x_iload (pc := 532) d_W_law_532 rfl ?_
        refine x_iconst (v := (2 : Int32)) (pc := 534) d_W_law_534 (by decide) ?_
        refine x_iadd (pc := 535) d_W_law_535 ?_
        obtain ⟨v169, e170, h⟩ := Option.bind_eq_some_iff.mp h
        refine c_iald (pc := 536) d_W_law_536 e170 ?_
        obtain ⟨c171, h⟩ := ite_some h
        obtain ⟨⟨v172, u173⟩, e174, h⟩ := Option.bind_eq_some_iff.mp h
        dsimp only at h
        refine c_minvI (d := d + 203) (av := [vI v167, vI v169]) (st := [vI v165]) (pc := 537) d_W_law_537 cv_W_89 y_M_letter (of_decide_eq_true c171) rfl (Nat.le_of_ble_eq_true rfl) (Nat.le_of_ble_eq_true rfl) e174 (fun s s2 R e => w_M_letter (d := d + 202) (R := R) ⟨rfl, rfl⟩ s v167 v169 e) ?_
        refine x_icmp_eq (tgt := 620) (pc := 540) d_W_law_540 (by decide) (fun c175 => ?_) (fun c175 => ?_)
        · rw [if_pos c175] at h
          exact w_W_law_b620 (f_W_law_b48 sc n) hk48 hQ l0 l1 l2 l3 l4 l5 u173 h
        · rw [if_neg c175] at h
          refine x_iconst (v := (0 : Int32)) (pc := 543) d_W_law_543 (by decide) ?_
          cases h
          exact x_iret (ty := .boolean) (pc := 544) d_W_law_544 rfl (rfl) hQ
      rw [if_neg c159] at h
      by_cases c176 : (v4 &&& (15 : Int32)) = (10 : Int32)
      · rw [if_pos c176] at h
        refine x_tableIn (off := 481) (tgt := 545) (pc := 64) d_W_law_64 (by rw [c176]; decide) (by rw [c176]; decide) (by rw [c176]; decide) (by decide) ?_
        refine x_aload_n (pc := 545) d_W_law_545 rfl ?_
        refine x_aload_n (pc := 546) d_W_law_546 rfl ?_
        refine x_iload (pc := 547) d_W_law_547 rfl ?_
        refine x_iconst (v := (1 : Int32)) (pc := 549) d_W_law_549 (by decide) ?_
        refine x_iadd (pc := 550) d_W_law_550 ?_
        obtain ⟨v177, e178, h⟩ := Option.bind_eq_some_iff.mp h
        refine c_iald (pc := 551) d_W_law_551 e178 ?_
        obtain ⟨c179, h⟩ := ite_some h
        obtain ⟨v180, e181, h⟩ := Option.bind_eq_some_iff.mp h
        refine c_invv (c := 0) (d := d + 203) (av := [vI v177]) (st := []) (Q' := fun r h' => r = .inl (some (vI v180)) ∧ h' = u) (pc := 552) d_W_law_552 cv_W_90 y_P_used c179 rfl (Nat.le_of_ble_eq_true rfl) (Nat.le_of_ble_eq_true rfl) (w_P_used (d := d + 201) (Q := fun r h' => r = .inl (some (vI v180)) ∧ h' = u) ⟨rfl, rfl⟩ l1 v177 e181) (fun v h' z => ?_) (fun a h' z => nomatch z.1)
        obtain ⟨z1, z2⟩ := z
        subst h'
        cases z1
        show xW sc m_W_law (d + 204) Q (u) 555 [some (vR l0), some (vR l1), some (vR l2), some (vR l3), some (vR l4), some (vI l5), none, none, none] [vI v180]
        refine x_aload_n (pc := 555) d_W_law_555 rfl ?_
        refine x_aload_n (pc := 556) d_W_law_556 rfl ?_
        refine x_iload (pc := 557) d_W_law_557 rfl ?_
        refine x_iconst (v := (1 : Int32)) (pc := 559) d_W_law_559 (by decide) ?_
        refine x_iadd (pc := 560) d_W_law_560 ?_
        obtain ⟨v182, e183, h⟩ := Option.bind_eq_some_iff.mp h
        refine c_iald (pc := 561) d_W_law_561 e183 ?_
        obtain ⟨c184, h⟩ := ite_some h
        obtain ⟨⟨v185, u186⟩, e187, h⟩ := Option.bind_eq_some_iff.mp h
        dsimp only at h
        refine c_minvI (d := d + 203) (av := [vI v182]) (st := [vI v180]) (pc := 562) d_W_law_562 cv_W_93 y_M_used (of_decide_eq_true c184) rfl (Nat.le_of_ble_eq_true rfl) (Nat.le_of_ble_eq_true rfl) e187 (fun s s2 R e => w_M_used (d := d + 203) (R := R) ⟨rfl, rfl⟩ s v182 e) ?_
        refine x_icmp_eq (tgt := 620) (pc := 565) d_W_law_565 (by decide) (fun c188 => ?_) (fun c188 => ?_)
        · rw [if_pos c188] at h
          exact w_W_law_b620 (f_W_law_b48 sc n) hk48 hQ l0 l1 l2 l3 l4 l5 u186 h
        · rw [if_neg c188] at h
          refine x_iconst (v := (0 : Int32)) (pc := 568) d_W_law_568 (by decide) ?_
          cases h
          exact x_iret (ty := .boolean) (pc := 569) d_W_law_569 rfl (rfl) hQ
      rw [if_neg c176] at h
      by_cases c189 : (v4 &&& (15 : Int32)) = (11 : Int32)
      · rw [if_pos c189] at h
        refine x_tableIn (off := 506) (tgt := 570) (pc := 64) d_W_law_64 (by rw [c189]; decide) (by rw [c189]; decide) (by rw [c189]; decide) (by decide) ?_
        refine x_aload_n (pc := 570) d_W_law_570 rfl ?_
        refine x_aload_n (pc := 571) d_W_law_571 rfl ?_
        refine x_iload (pc := 572) d_W_law_572 rfl ?_
        refine x_iconst (v := (1 : Int32)) (pc := 574) d_W_law_574 (by decide) ?_
        refine x_iadd (pc := 575) d_W_law_575 ?_
        obtain ⟨v190, e191, h⟩ := Option.bind_eq_some_iff.mp h
        refine c_iald (pc := 576) d_W_law_576 e191 ?_
        refine x_aload_n (pc := 577) d_W_law_577 rfl ?_
        refine x_iload (pc := 578) d_W_law_578 rfl ?_
        refine x_iconst (v := (2 : Int32)) (pc := 580) d_W_law_580 (by decide) ?_
        refine x_iadd (pc := 581) d_W_law_581 ?_
        obtain ⟨v192, e193, h⟩ := Option.bind_eq_some_iff.mp h
        refine c_iald (pc := 582) d_W_law_582 e193 ?_
        obtain ⟨c194, h⟩ := ite_some h
        obtain ⟨v195, e196, h⟩ := Option.bind_eq_some_iff.mp h
        refine c_invv (c := 0) (d := d + 203) (av := [vI v190, vI v192]) (st := []) (Q' := fun r h' => r = .inl (some (vI v195)) ∧ h' = u) (pc := 583) d_W_law_583 cv_W_94 y_P_pixel c194 rfl (Nat.le_of_ble_eq_true rfl) (Nat.le_of_ble_eq_true rfl) (w_P_pixel (d := d + 203) (Q := fun r h' => r = .inl (some (vI v195)) ∧ h' = u) ⟨rfl, rfl⟩ l1 v190 v192 e196) (fun v h' z => ?_) (fun a h' z => nomatch z.1)
        obtain ⟨z1, z2⟩ := z
        subst h'
        cases z1
        show xW sc m_W_law (d + 204) Q (u) 586 [some (vR l0), some (vR l1), some (vR l2), some (vR l3), some (vR l4), some (vI l5), none, none, none] [vI v195]
        refine x_aload_n (pc := 586) d_W_law_586 rfl ?_
        refine x_aload_n (pc := 587) d_W_law_587 rfl ?_
        refine x_iload (pc := 588) d_W_law_588 rfl ?_
        refine x_iconst (v := (1 : Int32)) (pc := 590) d_W_law_590 (by decide) ?_
        refine x_iadd (pc := 591) d_W_law_591 ?_
        obtain ⟨v197, e198, h⟩ := Option.bind_eq_some_iff.mp h
        refine c_iald (pc := 592) d_W_law_592 e198 ?_
        refine x_aload_n (pc := 593) d_W_law_593 rfl ?_
        refine x_iload (pc := 594) d_W_law_594 rfl ?_
        refine x_iconst (v := (2 : Int32)) (pc := 596) d_W_law_596 (by decide) ?_
        refine x_iadd (pc := 597) d_W_law_597 ?_
        obtain ⟨v199, e200, h⟩ := Option.bind_eq_some_iff.mp h
        refine c_iald (pc := 598) d_W_law_598 e200 ?_
        obtain ⟨c201, h⟩ := ite_some h
        obtain ⟨⟨v202, u203⟩, e204, h⟩ := Option.bind_eq_some_iff.mp h
        dsimp only at h
        refine c_minvI (d := d + 203) (av := [vI v197, vI v199]) (st := [vI v195]) (pc := 599) d_W_law_599 cv_W_97 y_M_pixel (of_decide_eq_true c201) rfl (Nat.le_of_ble_eq_true rfl) (Nat.le_of_ble_eq_true rfl) e204 (fun s s2 R e => w_M_pixel (d := d + 203) (R := R) ⟨rfl, rfl⟩ s v197 v199 e) ?_
        refine x_icmp_eq (tgt := 620) (pc := 602) d_W_law_602 (by decide) (fun c205 => ?_) (fun c205 => ?_)
        · rw [if_pos c205] at h
          exact w_W_law_b620 (f_W_law_b48 sc n) hk48 hQ l0 l1 l2 l3 l4 l5 u203 h
        · rw [if_neg c205] at h
          refine x_iconst (v := (0 : Int32)) (pc := 605) d_W_law_605 (by decide) ?_
          cases h
          exact x_iret (ty := .boolean) (pc := 606) d_W_law_606 rfl (rfl) hQ
      rw [if_neg c189] at h
      by_cases c206 : (v4 &&& (15 : Int32)) = (12 : Int32)
      · rw [if_pos c206] at h
        refine x_tableIn (off := 543) (tgt := 607) (pc := 64) d_W_law_64 (by rw [c206]; decide) (by rw [c206]; decide) (by rw [c206]; decide) (by decide) ?_
        refine x_aload_n (pc := 607) d_W_law_607 rfl ?_
        obtain ⟨c207, h⟩ := ite_some h
        obtain ⟨⟨v209, u208⟩, e210, h⟩ := Option.bind_eq_some_iff.mp h
        dsimp only at h
        refine c_invv (c := 0) (d := d + 203) (av := []) (st := []) (Q' := fun r h' => r = .inl (some (vI v209)) ∧ h' = u208) (pc := 608) d_W_law_608 cv_W_98 y_P_page c207 rfl (Nat.le_of_ble_eq_true rfl) (Nat.le_of_ble_eq_true rfl) (w_P_page (d := d + 203) (Q := fun r h' => r = .inl (some (vI v209)) ∧ h' = u208) ⟨rfl, rfl⟩ u l1 e210) (fun v h' z => ?_) (fun a h' z => nomatch z.1)
        obtain ⟨z1, z2⟩ := z
        subst h'
        cases z1
        show xW sc m_W_law (d + 204) Q (u208) 611 [some (vR l0), some (vR l1), some (vR l2), some (vR l3), some (vR l4), some (vI l5), none, none, none] [vI v209]
        refine x_aload_n (pc := 611) d_W_law_611 rfl ?_
        obtain ⟨c211, h⟩ := ite_some h
        obtain ⟨⟨v212, u213⟩, e214, h⟩ := Option.bind_eq_some_iff.mp h
        dsimp only at h
        refine c_minvI (d := d + 203) (av := []) (st := [vI v209]) (pc := 612) d_W_law_612 cv_W_101 y_M_page (of_decide_eq_true c211) rfl (Nat.le_of_ble_eq_true rfl) (Nat.le_of_ble_eq_true rfl) e214 (fun s s2 R e => w_M_page (d := d + 203) (R := R) ⟨rfl, rfl⟩ s  e) ?_
        refine x_icmp_eq (tgt := 620) (pc := 615) d_W_law_615 (by decide) (fun c215 => ?_) (fun c215 => ?_)
        · rw [if_pos c215] at h
          exact w_W_law_b620 (f_W_law_b48 sc n) hk48 hQ l0 l1 l2 l3 l4 l5 u213 h
        · rw [if_neg c215] at h
          refine x_iconst (v := (0 : Int32)) (pc := 618) d_W_law_618 (by decide) ?_
          cases h
          exact x_iret (ty := .boolean) (pc := 619) d_W_law_619 rfl (rfl) hQ
      rw [if_neg c206] at h
      refine x_tableOut (tgt := 620) (pc := 64) d_W_law_64 (by have q0 := lv_neT c6 (a := 0) (by decide); have q1 := lv_neT c24 (a := 1) (by decide); have q2 := lv_neT c45 (a := 2) (by decide); have q3 := lv_neT c54 (a := 3) (by decide); have q4 := lv_neT c63 (a := 4) (by decide); have q5 := lv_neT c81 (a := 5) (by decide); have q6 := lv_neT c90 (a := 6) (by decide); have q7 := lv_neT c111 (a := 7) (by decide); have q8 := lv_neT c132 (a := 8) (by decide); have q9 := lv_neT c159 (a := 9) (by decide); have q10 := lv_neT c176 (a := 10) (by decide); have q11 := lv_neT c189 (a := 11) (by decide); have q12 := lv_neT c206 (a := 12) (by decide); omega) (by decide) ?_
      exact w_W_law_b620 (f_W_law_b48 sc n) hk48 hQ l0 l1 l2 l3 l4 l5 u h
def f_W_law (sc : xSc) (u : xH) (a1 : Option Nat) : Option ((Int32 ⊕ Nat) × xH) := (nO 0 40 40 u).bind fun u1 => (f_W_cell sc u1 a1 (0 : Int32)).bind fun v3 => (f_W_cell sc u1 a1 (1 : Int32)).bind fun v5 => (if (some u.2.1).isSome = true then (f_P_init sc u1 (some u.2.1) v3 v5).bind fun u8 => (nO 1 45 45 u8).bind fun u10 => (f_W_cell sc u10 a1 (0 : Int32)).bind fun v12 => (f_W_cell sc u10 a1 (1 : Int32)).bind fun v14 => (if (some u8.2.1).isSome = true then (f_M_init sc u10 (some u8.2.1) v12 v14).bind fun u17 => (nA eLong u17 (1 : Int32)).bind fun u19 => (nA eDouble u19 (1 : Int32)).bind fun u21 => f_W_law_b48 sc mF a1 (some u.2.1) (some u8.2.1) (some u17.2.1) (some u19.2.1) (2 : Int32) u21 else none) else none)
theorem w_W_law {sc : xSc} {d : Nat} {Q : xR → xH → Prop} {oZ : Int32 ⊕ Nat} {hZ : xH} (hQ : Q (cvI oZ) hZ) (u : xH) (a1 : Option Nat) (h : f_W_law sc u a1 = some (oZ, hZ)) : xW sc m_W_law (d + 204) Q (u) 0 (xent [vR a1] m_W_law.2.2.1) [] := by
  show xW sc m_W_law (d + 204) Q (u) 0 [some (vR a1), none, none, none, none, none, none, none, none] []
  unfold f_W_law at h
  obtain ⟨u1, e2, h⟩ := Option.bind_eq_some_iff.mp h
  refine c_new (pc := 0) d_W_law_0 nw_W_8 ly_0 ⟨_, rfl, rfl⟩ e2 ?_
  refine x_dup (pc := 3) d_W_law_3 rfl ?_
  refine x_aload_n (pc := 4) d_W_law_4 rfl ?_
  refine x_iconst (v := (0 : Int32)) (pc := 5) d_W_law_5 (by decide) ?_
  obtain ⟨v3, e4, h⟩ := Option.bind_eq_some_iff.mp h
  refine x_invs (d := d + 203) (av := [vR a1, vI (0 : Int32)]) (st := [vR (some u.2.1), vR (some u.2.1)]) (Q' := fun r h' => r = .inl (some (vI v3)) ∧ h' = u1) (pc := 6) d_W_law_6 cs_W_29 y_W_cell rfl (Nat.le_of_ble_eq_true rfl) (Nat.le_of_ble_eq_true rfl) (w_W_cell (d := d + 203) (Q := fun r h' => r = .inl (some (vI v3)) ∧ h' = u1) ⟨rfl, rfl⟩ a1 (0 : Int32) e4) (fun v h' z => ?_) (fun a h' z => nomatch z.1)
  obtain ⟨z1, z2⟩ := z
  subst h'
  cases z1
  show xW sc m_W_law (d + 204) Q (u1) 9 [some (vR a1), none, none, none, none, none, none, none, none] [vI v3, vR (some u.2.1), vR (some u.2.1)]
  refine x_aload_n (pc := 9) d_W_law_9 rfl ?_
  refine x_iconst (v := (1 : Int32)) (pc := 10) d_W_law_10 (by decide) ?_
  obtain ⟨v5, e6, h⟩ := Option.bind_eq_some_iff.mp h
  refine x_invs (d := d + 203) (av := [vR a1, vI (1 : Int32)]) (st := [vI v3, vR (some u.2.1), vR (some u.2.1)]) (Q' := fun r h' => r = .inl (some (vI v5)) ∧ h' = u1) (pc := 11) d_W_law_11 cs_W_29 y_W_cell rfl (Nat.le_of_ble_eq_true rfl) (Nat.le_of_ble_eq_true rfl) (w_W_cell (d := d + 203) (Q := fun r h' => r = .inl (some (vI v5)) ∧ h' = u1) ⟨rfl, rfl⟩ a1 (1 : Int32) e6) (fun v h' z => ?_) (fun a h' z => nomatch z.1)
  obtain ⟨z1, z2⟩ := z
  subst h'
  cases z1
  show xW sc m_W_law (d + 204) Q (u1) 14 [some (vR a1), none, none, none, none, none, none, none, none] [vI v5, vI v3, vR (some u.2.1), vR (some u.2.1)]
  obtain ⟨c7, h⟩ := ite_some h
  obtain ⟨u8, e9, h⟩ := Option.bind_eq_some_iff.mp h
  refine c_invi (d := d + 203) (av := [vI v3, vI v5]) (st := [vR (some u.2.1)]) (Q' := fun r h' => r = .inl none ∧ h' = u8) (pc := 14) d_W_law_14 ci_W_35 y_P_init (tw_1 (List.mem_of_getElem? (i := 50) rfl)) c7 rfl (Nat.le_of_ble_eq_true rfl) (Nat.le_of_ble_eq_true rfl) (w_P_init (d := d + 199) (Q := fun r h' => r = .inl none ∧ h' = u8) ⟨rfl, rfl⟩ u1 (some u.2.1) v3 v5 e9) (fun v h' z => ?_) (fun a h' z => nomatch z.1)
  obtain ⟨z1, z2⟩ := z
  subst h'
  cases z1
  show xW sc m_W_law (d + 204) Q (u8) 17 [some (vR a1), none, none, none, none, none, none, none, none] [vR (some u.2.1)]
  refine x_astore_n (pc := 17) d_W_law_17 (by decide) ?_
  show xW sc m_W_law (d + 204) Q (u8) 18 [some (vR a1), some (vR (some u.2.1)), none, none, none, none, none, none, none] []
  obtain ⟨u10, e11, h⟩ := Option.bind_eq_some_iff.mp h
  refine c_new (pc := 18) d_W_law_18 nw_W_38 ly_1 ⟨_, rfl, rfl⟩ e11 ?_
  refine x_dup (pc := 21) d_W_law_21 rfl ?_
  refine x_aload_n (pc := 22) d_W_law_22 rfl ?_
  refine x_iconst (v := (0 : Int32)) (pc := 23) d_W_law_23 (by decide) ?_
  obtain ⟨v12, e13, h⟩ := Option.bind_eq_some_iff.mp h
  refine x_invs (d := d + 203) (av := [vR a1, vI (0 : Int32)]) (st := [vR (some u8.2.1), vR (some u8.2.1)]) (Q' := fun r h' => r = .inl (some (vI v12)) ∧ h' = u10) (pc := 24) d_W_law_24 cs_W_29 y_W_cell rfl (Nat.le_of_ble_eq_true rfl) (Nat.le_of_ble_eq_true rfl) (w_W_cell (d := d + 203) (Q := fun r h' => r = .inl (some (vI v12)) ∧ h' = u10) ⟨rfl, rfl⟩ a1 (0 : Int32) e13) (fun v h' z => ?_) (fun a h' z => nomatch z.1)
  obtain ⟨z1, z2⟩ := z
  subst h'
  cases z1
  show xW sc m_W_law (d + 204) Q (u10) 27 [some (vR a1), some (vR (some u.2.1)), none, none, none, none, none, none, none] [vI v12, vR (some u8.2.1), vR (some u8.2.1)]
  refine x_aload_n (pc := 27) d_W_law_27 rfl ?_
  refine x_iconst (v := (1 : Int32)) (pc := 28) d_W_law_28 (by decide) ?_
  obtain ⟨v14, e15, h⟩ := Option.bind_eq_some_iff.mp h
  refine x_invs (d := d + 203) (av := [vR a1, vI (1 : Int32)]) (st := [vI v12, vR (some u8.2.1), vR (some u8.2.1)]) (Q' := fun r h' => r = .inl (some (vI v14)) ∧ h' = u10) (pc := 29) d_W_law_29 cs_W_29 y_W_cell rfl (Nat.le_of_ble_eq_true rfl) (Nat.le_of_ble_eq_true rfl) (w_W_cell (d := d + 203) (Q := fun r h' => r = .inl (some (vI v14)) ∧ h' = u10) ⟨rfl, rfl⟩ a1 (1 : Int32) e15) (fun v h' z => ?_) (fun a h' z => nomatch z.1)
  obtain ⟨z1, z2⟩ := z
  subst h'
  cases z1
  show xW sc m_W_law (d + 204) Q (u10) 32 [some (vR a1), some (vR (some u.2.1)), none, none, none, none, none, none, none] [vI v14, vI v12, vR (some u8.2.1), vR (some u8.2.1)]
  obtain ⟨c16, h⟩ := ite_some h
  obtain ⟨u17, e18, h⟩ := Option.bind_eq_some_iff.mp h
  refine c_invi (d := d + 203) (av := [vI v12, vI v14]) (st := [vR (some u8.2.1)]) (Q' := fun r h' => r = .inl none ∧ h' = u17) (pc := 32) d_W_law_32 ci_W_40 y_M_init (tw_7 (List.mem_of_getElem? (i := 213) rfl)) c16 rfl (Nat.le_of_ble_eq_true rfl) (Nat.le_of_ble_eq_true rfl) (w_M_init (d := d + 202) (Q := fun r h' => r = .inl none ∧ h' = u17) ⟨rfl, rfl⟩ u10 (some u8.2.1) v12 v14 e18) (fun v h' z => ?_) (fun a h' z => nomatch z.1)
  obtain ⟨z1, z2⟩ := z
  subst h'
  cases z1
  show xW sc m_W_law (d + 204) Q (u17) 35 [some (vR a1), some (vR (some u.2.1)), none, none, none, none, none, none, none] [vR (some u8.2.1)]
  refine x_astore_n (pc := 35) d_W_law_35 (by decide) ?_
  show xW sc m_W_law (d + 204) Q (u17) 36 [some (vR a1), some (vR (some u.2.1)), some (vR (some u8.2.1)), none, none, none, none, none, none] []
  refine x_iconst (v := (1 : Int32)) (pc := 36) d_W_law_36 (by decide) ?_
  obtain ⟨u19, e20, h⟩ := Option.bind_eq_some_iff.mp h
  refine c_newa_long (pc := 37) d_W_law_37 ac_long e20 ?_
  refine x_astore_n (pc := 39) d_W_law_39 (by decide) ?_
  show xW sc m_W_law (d + 204) Q (u19) 40 [some (vR a1), some (vR (some u.2.1)), some (vR (some u8.2.1)), some (vR (some u17.2.1)), none, none, none, none, none] []
  refine x_iconst (v := (1 : Int32)) (pc := 40) d_W_law_40 (by decide) ?_
  obtain ⟨u21, e22, h⟩ := Option.bind_eq_some_iff.mp h
  refine c_newa_double (pc := 41) d_W_law_41 ac_double e22 ?_
  refine x_astore (pc := 43) d_W_law_43 (by decide) ?_
  show xW sc m_W_law (d + 204) Q (u21) 45 [some (vR a1), some (vR (some u.2.1)), some (vR (some u8.2.1)), some (vR (some u17.2.1)), some (vR (some u19.2.1)), none, none, none, none] []
  refine x_iconst (v := (2 : Int32)) (pc := 45) d_W_law_45 (by decide) ?_
  refine x_istore (pc := 46) d_W_law_46 (by decide) ?_
  show xW sc m_W_law (d + 204) Q (u21) 48 [some (vR a1), some (vR (some u.2.1)), some (vR (some u8.2.1)), some (vR (some u17.2.1)), some (vR (some u19.2.1)), some (vI (2 : Int32)), none, none, none] []
  exact w_W_law_b48 hQ mF a1 (some u.2.1) (some u8.2.1) (some u17.2.1) (some u19.2.1) (2 : Int32) u21 h
