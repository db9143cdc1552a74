/-! what the Statement gives of the start (printed by gen/top.py) -/
def nN : List Cond := flatC (Jvm.Cond.and given_1 narrow_1)
def opNm : List String := ["POP", "EXCH", "DUP", "COPY", "INDEX", "ROLL", "CLEAR", "COUNT", "MARK", "OPENED", "CLEARTOMARK", "CLOSED", "ADD", "SUB", "MUL", "DIV", "IDIV", "MOD", "NEG", "FLOOR", "ROUND", "CVI", "CVR", "TRUE", "FALSE", "EQ", "NE", "GT", "GE", "LT", "LE", "AND", "OR", "NOT", "BITSHIFT", "CVX", "CVLIT", "XCHECK", "KIND", "ARRAY", "LENGTH", "GET", "PUT", "GETINTERVAL", "ALOAD", "DICT", "BEGIN", "END", "DEF", "LOAD", "KNOWN", "CURRENTDICT", "EXEC", "IF", "IFELSE", "FOR", "REPEAT", "LOOP", "FORALL", "EXIT", "STOP", "STOPPED", "FAULT", "SAVE", "RESTORE", "SETGRAY", "NEWPATH", "MOVETO", "LINETO", "CLOSEPATH", "FILL", "EOFILL"]
def kdNm : List String := ["INT", "REAL", "BOOLEAN", "NAME", "MARK", "ARRAY", "DICT", "SAVE"]
def opSt : List Nat := [251, 257, 260, 263, 266, 269, 272, 275, 278, 281, 284, 287, 290, 293, 296, 299, 302, 305, 308, 311, 314, 317, 320, 323, 326, 329, 332, 335, 338, 341, 344, 347, 350, 353, 356, 359, 362, 365, 368, 371, 374, 377, 380, 383, 386, 389, 392, 395, 398, 401, 404, 407, 410, 413, 416, 419, 422, 425, 428, 431, 434, 437, 440, 443, 446, 449, 452, 455, 458, 461, 464, 467]
def ixE : List Nat := [404, 410, 416, 422, 428, 434, 440, 446, 452, 457, 462, 467, 334, 339, 344, 329, 319, 324, 349, 472, 354, 477, 482, 369, 487, 374, 492, 389, 394, 399, 497, 379, 502, 507, 512, 384, 517, 522, 527, 532, 537, 542, 547, 552, 557, 562, 567, 572, 577, 582, 587, 592, 597, 602, 607, 612, 617, 622, 627, 632, 637, 642, 647, 652, 657, 662, 667, 672, 364, 677, 359, 682]
def ixS : List Nat := [1038, 1045, 1053, 1060, 1068, 1077, 1085, 1094, 1103, 1111, 1116, 1131, 937, 944, 951, 930, 915, 923, 958, 1136, 965, 1145, 1152, 992, 1159, 1000, 1168, 1020, 1026, 1032, 1174, 1006, 1180, 1186, 1193, 1013, 1205, 1214, 1224, 1232, 1241, 1251, 1258, 1265, 1280, 1289, 1297, 1306, 1313, 1320, 1328, 1337, 1352, 1360, 1366, 1376, 1383, 1393, 1401, 1411, 1419, 1427, 1438, 1447, 1455, 1466, 1477, 1488, 982, 1498, 974, 1511]
def ixK : List Nat := [303, 305, 311, 307, 317, 309, 315, 313]
def tO (i : Nat) : Term := .static "PageScribe$Op" (opNm.getD i "") "LPageScribe$Op;"
def tK (i : Nat) : Term := .static "PageScribe$Kind" (kdNm.getD i "") "LPageScribe$Kind;"
def tS (i : Nat) : Term := .string "PageScribe$Op" (opSt.getD i 0)
def tV (i : Nat) : Term := .field (tS i) "java/lang/String" "value" "[B"
def tA : Term := .static "PageScribe" "OPS" "[LPageScribe$Op;"
theorem nn_oe : ∀ i, i < 72 → nN[ixE.getD i 0]? = some (.exactly (tO i) "PageScribe$Op") := by decide +kernel
theorem nn_oo : ∀ i, i < 72 → nN[ixE.getD i 0 + 1]? = some (.eq (.field (tO i) "java/lang/Enum" "ordinal" "I") (.int (nI i))) := by decide +kernel
theorem nn_ow : ∀ i, i < 72 → nN[ixE.getD i 0 + 2]? = some (.eq (.field (tO i) "PageScribe$Op" "word" "Ljava/lang/String;") (tS i)) := by decide +kernel
theorem nn_ot : ∀ i, i < 72 → nN[ixE.getD i 0 + 3]? = some (.eq (.field (tO i) "PageScribe$Op" "takes" "I") (.int (opAt i).1)) := by decide +kernel
theorem nn_og : ∀ i, i < 72 → nN[ixE.getD i 0 + 4]? = some (.eq (.field (tO i) "PageScribe$Op" "group" "I") (.int (opAt i).2.1)) := by decide +kernel
theorem nn_ke : ∀ i, i < 8 → nN[ixK.getD i 0]? = some (.exactly (tK i) "PageScribe$Kind") := by decide +kernel
theorem nn_ko : ∀ i, i < 8 → nN[ixK.getD i 0 + 1]? = some (.eq (.field (tK i) "java/lang/Enum" "ordinal" "I") (.int (nI i))) := by decide +kernel
theorem nn_se : ∀ i, i < 72 → nN[ixS.getD i 0]? = some (.exactly (tS i) "java/lang/String") := by decide +kernel
theorem nn_sc : ∀ i, i < 72 → nN[ixS.getD i 0 + 1]? = some (.eq (.field (tS i) "java/lang/String" "coder" "B") (.int 0)) := by decide +kernel
theorem nn_sa : ∀ i, i < 72 → nN[ixS.getD i 0 + 2]? = some (.arrayOf (tV i) .byte) := by decide +kernel
theorem nn_sl : ∀ i, i < 72 → nN[ixS.getD i 0 + 3]? = some (.eq (.length (tV i)) (.int (Int32.ofNat (opAt i).2.2.length))) := by decide +kernel
theorem nn_sb : ∀ i, i < 72 → ∀ j, j < (opAt i).2.2.length → nN[ixS.getD i 0 + 4 + j]? = some (.eq (.elem (tV i) (.int (Int32.ofNat j))) (.int ((opAt i).2.2.getD j 0))) := by decide +kernel
theorem nn_sz : ∀ i, i < 72 → (opAt i).2.2.length < 100 := by decide +kernel
theorem nn_aa : nN[223]? = some (.arrayOf tA (.object "PageScribe$Op")) := by decide +kernel
theorem nn_al : nN[224]? = some (.eq (.length tA) (.int (Int32.ofNat 72))) := by decide +kernel
theorem nn_ae : ∀ i, i < 72 → nN[226 + i]? = some (.eq (.elem tA (.int (Int32.ofNat i))) (tO i)) := by decide +kernel
theorem nn_cs : nN[4]? = some (.eq (.static "java/lang/String" "COMPACT_STRINGS" "Z") (.int 1)) := by decide +kernel
theorem nn_us : nN[9]? = some (.isRef (.static "java/lang/Throwable" "UNASSIGNED_STACK" "[Ljava/lang/StackTraceElement;")) := by decide +kernel
theorem nn_ss : nN[10]? = some (.isRef (.static "java/lang/Throwable" "SUPPRESSED_SENTINEL" "Ljava/util/List;")) := by decide +kernel
theorem nn_sf : nN[11]? = some (.isRef (.static "jdk/internal/util/Preconditions" "SIOOBE_FORMATTER" "Ljava/util/function/BiFunction;")) := by decide +kernel
theorem nn_nc : nN[762]? = some (.not (.castable "java/lang/IllegalStateException" "java/lang/IndexOutOfBoundsException")) := by decide +kernel
def ixLO : List Nat := [2271, 2272, 2273, 2274, 2275, 2276, 2277, 2278, 2279, 2280, 2281, 2282, 1456, 1458, 1460, 1433, 1424, 1426, 1462, 2283, 1467, 2284, 2285, 1547, 2286, 1556, 2287, 1580, 1582, 1584, 2288, 1565, 2289, 2290, 2291, 1568, 2292, 2293, 2294, 2295, 2296, 2297, 2298, 2299, 2300, 2301, 2302, 2303, 2304, 2305, 2306, 2307, 2308, 2309, 2310, 2311, 2312, 2313, 2314, 2315, 2316, 2317, 2318, 2319, 2320, 2321, 2322, 2323, 1501, 2324, 1484, 2325]
def ixLK : List Nat := [880, 932, 1148, 950, 1402, 1035, 1213, 1178]
theorem tb_lo : ∀ i, i < 72 → tables_1[ixLO.getD i 0]? = some (.laysStatic "PageScribe$Op" (opNm.getD i "") "LPageScribe$Op;") := by decide +kernel
theorem tb_lk : ∀ i, i < 8 → tables_1[ixLK.getD i 0]? = some (.laysStatic "PageScribe$Kind" (kdNm.getD i "") "LPageScribe$Kind;") := by decide +kernel
theorem tb_la : Cond.laysStatic "PageScribe" "OPS" "[LPageScribe$Op;" ∈ lw_tbl := tw_2 (List.mem_of_getElem? (i := 220) rfl)
theorem tb_lc : Cond.laysStatic "java/lang/String" "COMPACT_STRINGS" "Z" ∈ lw_tbl := tw_1 (List.mem_of_getElem? (i := 113) rfl)
theorem tb_lu : Cond.laysStatic "java/lang/Throwable" "UNASSIGNED_STACK" "[Ljava/lang/StackTraceElement;" ∈ lw_tbl := tw_1 (List.mem_of_getElem? (i := 181) rfl)
theorem tb_ls : Cond.laysStatic "java/lang/Throwable" "SUPPRESSED_SENTINEL" "Ljava/util/List;" ∈ lw_tbl := tw_1 (List.mem_of_getElem? (i := 183) rfl)
theorem tb_lf : Cond.laysStatic "jdk/internal/util/Preconditions" "SIOOBE_FORMATTER" "Ljava/util/function/BiFunction;" ∈ lw_tbl := tw_2 (List.mem_of_getElem? (i := 27) rfl)
theorem tb_io : Cond.initialized "PageScribe$Op" ∈ lw_tbl := tw_1 (List.mem_of_getElem? (i := 44) rfl)
theorem tb_ik : Cond.initialized "PageScribe$Kind" ∈ lw_tbl := tw_1 (List.mem_of_getElem? (i := 38) rfl)
theorem tb_ip : Cond.initialized "PageScribe" ∈ lw_tbl := tw_1 (List.mem_of_getElem? (i := 1) rfl)
theorem tb_is : Cond.initialized "java/lang/String" ∈ lw_tbl := tw_1 (List.mem_of_getElem? (i := 11) rfl)
theorem tb_it : Cond.initialized "java/lang/Throwable" ∈ lw_tbl := tw_1 (List.mem_of_getElem? (i := 16) rfl)
theorem tb_if : Cond.initialized "jdk/internal/util/Preconditions" ∈ lw_tbl := tw_1 (List.mem_of_getElem? (i := 24) rfl)
def xk4 : Cond → Bool
  | .laysStatic .. => true
  | .stringRef .. => true
  | .arrayOver _ => true
  | .interfaceEntry .. => true
  | _ => false
theorem x_all4 : lw_tbl.all (fun w => xGood w || xk4 w) = true := by decide +kernel
theorem x_args0 {w : Cond} (hw : w ∈ lw_tbl) {a : Array Value} {s : State} (h : w.before a s = true) : w.before #[] s = true := by
  have := List.all_eq_true.mp x_all4 w hw
  rw [Bool.or_eq_true] at this
  rcases this with g | g
  · exact xGood_move (State.WarmedH.refl s) g h
  · unfold xk4 at g
    split at g
    · simpa only [Cond.before, Cond.holds, Cond.value] using h
    · simpa only [Cond.before, Cond.holds, Cond.value] using h
    · simpa only [Cond.before, Cond.holds, Cond.value] using h
    · simpa only [Cond.before, Cond.holds, Cond.value] using h
    · cases g
theorem x_eqtt {args : Array Value} {s : State} {t u : Term} {a : Nat} (h : (Cond.eq t u).before args s = true) (hu : u.eval args s none [] s = some (.ref a)) : t.eval args s none [] s = some (.ref a) := by
  cases hv : t.eval args s none [] s with
  | none => simp [Cond.before, Cond.holds, Cond.value, hv] at h
  | some v =>
    simp only [Cond.before, Cond.holds, Cond.value, hv, hu] at h
    cases v <;> simp_all
/-- the classes that are made: their numbers and their fields' slots -/
def xcf (s : State) (c : Nat) (z : ClassId × (Nat → Nat)) : Prop := ∀ q : vw_C, xCl[c]? = some q → xCA s q.1 z.1 (c ≠ 19 ∧ c ≠ 20) ∧ (∀ k, k < q.2.2 → ∃ cf kf fi fd, s.fieldFound? (q.2.1 k).1 (q.2.1 k).2.1 (q.2.1 k).2.2.1 = some (cf, kf, fi, fd) ∧ fd.slot = z.2 k ∧ fd.isStatic = false) ∧ ∀ i j, i < q.2.2 → j < q.2.2 → i ≠ j → z.2 i ≠ z.2 j
theorem x_clsOf {s : State} {A : Array Value} {c n idx : Nat} {own : String} {N : Nat} {T : u_T} {C : String} (hts : ∀ w ∈ lw_tbl, w.before A s = true) (hq : xCl[c]? = some (C, T, N)) (hnw : xNw own idx c n) (hly : xLy c) (hnm : ∀ i, i < N → ∀ j, j < N → i ≠ j → (T i).2.1 ≠ (T j).2.1) : ∃ z : ClassId × (Nat → Nat), xcf s c z := by
  obtain ⟨q1, h1, -, h2, -⟩ := hnw
  cases hq.symm.trans h1
  obtain ⟨q2, h3, h4⟩ := hly
  cases hq.symm.trans h3
  have hin : ∀ w ∈ u_ws C T N, w ∈ lw_tbl := fun w hw => by
    obtain ⟨k, hk, rfl⟩ := List.mem_map.mp hw
    exact (h4 k (List.mem_range.mp hk)).1
  obtain ⟨cC, iS, h5, h6⟩ := u_known (T := T) (N := N) hts hin (hts _ h2)
  refine ⟨(cC, iS), fun q hq' => ?_⟩
  cases hq.symm.trans hq'
  have hfd : ∀ k, k < N → ∃ cf kf fi fd, s.fieldFound? (T k).1 (T k).2.1 (T k).2.2.1 = some (cf, kf, fi, fd) ∧ fd.slot = iS k ∧ fd.isStatic = false ∧ fd.name = (T k).2.1 := by
    intro k hk
    obtain ⟨cf, kf, fi, fd, g1, g2⟩ := h5 k hk
    obtain ⟨g3, kC, g4, -⟩ := h6
    exact ⟨cf, kf, fi, fd, g1, g2, (u_facts g3 g4 (u_lays hts hin hk) g1).1, (State.fieldFound?_type g1 (h4 k hk).2).1⟩
  refine ⟨⟨h6.1, by obtain ⟨-, kC, g4, g5⟩ := h6; exact ⟨kC, g4, fun _ => g5⟩⟩, fun k hk => ?_, fun i j hi hj hne => ?_⟩
  · obtain ⟨cf, kf, fi, fd, g1, g2, g3, -⟩ := hfd k hk
    exact ⟨cf, kf, fi, fd, g1, g2, g3⟩
  · obtain ⟨_, _, _, fa, a1, a2, -, a4⟩ := hfd i hi
    obtain ⟨_, _, _, fb, b1, b2, -, b4⟩ := hfd j hj
    show iS i ≠ iS j
    rw [← a2, ← b2]
    exact u_apart (u_lays hts hin hi) (u_lays hts hin hj) a1 b1 (by rw [a4, b4]; exact hnm i hi j hj hne)
theorem ly_21 : xLy 21 := ⟨_, rfl, fun k h => absurd h (Nat.not_lt_zero k)⟩
theorem ly_23 : xLy 23 := ⟨_, rfl, fun k h => absurd h (Nat.not_lt_zero k)⟩
theorem ly_24 : xLy 24 := ⟨_, rfl, fun k h => absurd h (Nat.not_lt_zero k)⟩
theorem x_cls {s : State} {A : Array Value} (hts : ∀ w ∈ lw_tbl, w.before A s = true) : ∀ c, c < 25 → c ≠ 19 → c ≠ 20 → ∃ z : ClassId × (Nat → Nat), xcf s c z
  | 0, _, _, _ => x_clsOf hts rfl nw_W_8 ly_0 (by decide +kernel)
  | 1, _, _, _ => x_clsOf hts rfl nw_W_38 ly_1 (by decide +kernel)
  | 2, _, _, _ => x_clsOf hts rfl nw_Dict_34 ly_2 (by decide +kernel)
  | 3, _, _, _ => x_clsOf hts rfl nw_P_33 ly_3 (by decide +kernel)
  | 4, _, _, _ => x_clsOf hts rfl nw_Holders_61 ly_4 (by decide +kernel)
  | 5, _, _, _ => x_clsOf hts rfl nw_Dict_21 ly_5 (by decide +kernel)
  | 6, _, _, _ => x_clsOf hts rfl nw_P_87 ly_6 (by decide +kernel)
  | 7, _, _, _ => x_clsOf hts rfl nw_Flow_96 ly_7 (by decide +kernel)
  | 8, _, _, _ => x_clsOf hts rfl nw_P_240 ly_8 (by decide +kernel)
  | 9, _, _, _ => x_clsOf hts rfl nw_P_261 ly_9 (by decide +kernel)
  | 10, _, _, _ => x_clsOf hts rfl nw_P_9 ly_10 (by decide +kernel)
  | 11, _, _, _ => x_clsOf hts rfl nw_P_12 ly_11 (by decide +kernel)
  | 12, _, _, _ => x_clsOf hts rfl nw_P_15 ly_12 (by decide +kernel)
  | 13, _, _, _ => x_clsOf hts rfl nw_P_18 ly_13 (by decide +kernel)
  | 14, _, _, _ => x_clsOf hts rfl nw_P_21 ly_14 (by decide +kernel)
  | 15, _, _, _ => x_clsOf hts rfl nw_P_24 ly_15 (by decide +kernel)
  | 16, _, _, _ => x_clsOf hts rfl nw_ArrayList_20 ly_16 (by decide +kernel)
  | 17, _, _, _ => x_clsOf hts rfl nw_P_63 ly_17 (by decide +kernel)
  | 18, _, _, _ => x_clsOf hts rfl nw_StringBuilder_18 ly_18 (by decide +kernel)
  | 19, _, h, _ => absurd rfl h
  | 20, _, _, h => absurd rfl h
  | 21, _, _, _ => x_clsOf hts rfl nw_P_167 ly_21 (by decide +kernel)
  | 22, _, _, _ => x_clsOf hts rfl nw_ArrayList_18 ly_22 (by decide +kernel)
  | 23, _, _, _ => x_clsOf hts rfl nw_P_494 ly_23 (by decide +kernel)
  | 24, _, _, _ => x_clsOf hts rfl nw_P_509 ly_24 (by decide +kernel)
  | c + 25, h, _, _ => absurd h (by omega)
