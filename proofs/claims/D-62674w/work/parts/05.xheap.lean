/-! the heap: looking, writing, making -/
def xup (h : xH) (a : Nat) (e : xE) : xH := (va_up h.1 a (some e), h.2)
def xnew (h : xH) (e : xE) (n : Nat) : xH := (va_up h.1 h.2.1 (some e), h.2.1 + 1, h.2.2 + n)
theorem xcell_kept {G : xG} {H H1 : Heap} {a : Nat} {e : xE} (h : xcell G H a e) (hq : H1[xr G a]? = H[xr G a]?) : xcell G H1 a e := by
  cases e with
  | inl o =>
    obtain ⟨cell, q, h1, h2, h3⟩ := h
    exact ⟨cell, q, h1, by rw [hq]; exact h2, h3⟩
  | inr r =>
    obtain ⟨cell, h2, h3⟩ := h
    exact ⟨cell, by rw [hq]; exact h2, h3⟩
theorem xr_hi {G : xG} {a : Nat} (h : xK ≤ a) : xr G a = G.s.heap.size + (a - xK) := if_neg (by omega)
theorem x_look {G : xG} {sc : xSc} {h : xH} {H : Heap} {a : Nat} {e : xE} (g1 : xGF G sc) (g3 : xRR G h H) (ha : xat sc h a = some e) : xcell G H a e := by
  unfold xat at ha
  by_cases hk : a < xK
  · rw [if_pos hk] at ha
    obtain ⟨h1, h2⟩ := g1.2.1 a e hk ha
    refine xcell_kept h1 ?_
    have : xr G a = G.cst a := if_pos hk
    rw [this]
    exact g3.2.2.2 _ h2
  · rw [if_neg hk] at ha
    exact (g3.2.2.1 a e (by omega) ha).2
theorem xat_hi {sc : xSc} {h : xH} {a : Nat} (hk : xK ≤ a) : xat sc h a = h.1 a := if_neg (by omega)
theorem x_rr_up {G : xG} {h : xH} {H H1 : Heap} {a : Nat} {e e0 : xE} (g3 : xRR G h H) (hk : xK ≤ a) (h0 : h.1 a = some e0) (hz : H1.size = H.size) (ho : ∀ q, q ≠ xr G a → H1[q]? = H[q]?) (he : xcell G H1 a e) : xRR G (xup h a e) H1 := by
  obtain ⟨r1, r2, r3, r4⟩ := g3
  refine ⟨r1, hz.trans r2, fun b f hb hf => ?_, fun q hq => ?_⟩
  · by_cases hab : b = a
    · subst hab
      have : f = e := by
        have h9 : va_up h.1 b (some e) b = some f := hf
        rw [va_up_self] at h9
        exact (Option.some.inj h9).symm
      subst this
      exact ⟨(r3 b e0 hb h0).1, he⟩
    · have h9 : va_up h.1 a (some e) b = some f := hf
      rw [va_up_ne _ _ hab] at h9
      obtain ⟨z1, z2⟩ := r3 b f hb h9
      refine ⟨z1, xcell_kept z2 (ho _ ?_)⟩
      rw [xr_hi hb, xr_hi hk]
      omega
  · rw [ho q (by rw [xr_hi hk]; omega)]
    exact r4 q hq
theorem x_rr_new {G : xG} {h : xH} {H H1 : Heap} {e : xE} {n : Nat} (g3 : xRR G h H) (hc : h.2.1 + 1 ≤ xCM) (hs : h.2.2 + n ≤ xSM) (hz : H1.size = H.size + 1) (ho : ∀ q, q < H.size → H1[q]? = H[q]?) (he : xcell G H1 h.2.1 e) : xRR G (xnew h e n) H1 := by
  obtain ⟨⟨r0, r1, r1'⟩, r2, r3, r4⟩ := g3
  refine ⟨⟨Nat.le_succ_of_le r0, hc, hs⟩, ?_, fun b f hb hf => ?_, fun q hq => ?_⟩
  · show H1.size = G.s.heap.size + (h.2.1 + 1 - xK)
    omega
  · by_cases hab : b = h.2.1
    · subst hab
      have : f = e := by
        have h9 : va_up h.1 h.2.1 (some e) h.2.1 = some f := hf
        rw [va_up_self] at h9
        exact (Option.some.inj h9).symm
      subst this
      exact ⟨Nat.lt_succ_self _, he⟩
    · have h9 : va_up h.1 h.2.1 (some e) b = some f := hf
      rw [va_up_ne _ _ hab] at h9
      obtain ⟨z1, z2⟩ := r3 b f hb h9
      refine ⟨Nat.lt_succ_of_lt z1, xcell_kept z2 (ho _ ?_)⟩
      rw [xr_hi hb]
      omega
  · rw [ho q (by omega)]
    exact r4 q hq
/-- the pool entry idx of the class own names field k of class c -/
def xFl (own : String) (idx c k : Nat) : Prop := ∃ q : vw_C, xCl[c]? = some q ∧ k < q.2.2 ∧ ∃ ref : String, (ref = (q.2.1 k).1 ∨ Cond.sameField ref (q.2.1 k).1 (q.2.1 k).2.1 (q.2.1 k).2.2.1 ∈ lw_tbl) ∧ (Cond.fieldLink own idx ref (q.2.1 k).2.1 (q.2.1 k).2.2.1 ∈ lw_tbl ∨ ∃ host : String, Cond.fieldLinkNest own idx ref (q.2.1 k).2.1 (q.2.1 k).2.2.1 host ∈ lw_tbl)
/-- field k of class c, as the tables lay it -/
def xFp (c k : Nat) (fin : Bool) : Prop := ∃ q : vw_C, xCl[c]? = some q ∧ k < q.2.2 ∧ u_lay q.1 q.2.1 k ∈ lw_tbl ∧ parseFieldDescriptor (q.2.1 k).2.2.1 = some (xTy c k) ∧ (q.2.1 k).2.2.2 = fin
theorem xno_op : ∀ k, k < 4 → u_lay "PageScribe$Op" F_Op k ∉ lw_tbl := by decide +kernel
theorem xno_kind : ∀ k, k < 1 → u_lay "PageScribe$Kind" F_Kind k ∉ lw_tbl := by decide +kernel
theorem xFp_ord {c k : Nat} {fin : Bool} (h : xFp c k fin) : c ≠ 19 ∧ c ≠ 20 := by
  obtain ⟨q, hq, hk, hlay, -, -⟩ := h
  refine ⟨fun e => ?_, fun e => ?_⟩
  · subst e
    cases hq
    exact xno_op k hk hlay
  · subst e
    cases hq
    exact xno_kind k hk hlay
def xfit (ty : FieldType) (v : xV) : Prop := ∀ G : xG, narrow ty (xv G v) = xv G v ∧ fits ty (xv G v) = true
theorem xfit_int {x : Int32} : xfit .int (vI x) := fun G => ⟨rfl, rfl⟩
theorem xfit_double {x : UInt64} : xfit .double (vD x) := fun G => ⟨rfl, rfl⟩
theorem xfit_float {x : UInt32} : xfit .float (vF x) := fun G => ⟨rfl, rfl⟩
theorem xfit_long {x : Int64} : xfit .long (vL x) := fun G => ⟨rfl, rfl⟩
theorem xfit_obj {C : String} {r : Option Nat} : xfit (.object C) (vR r) := fun G => by cases r <;> exact ⟨rfl, rfl⟩
theorem xfit_arr {t : FieldType} {r : Option Nat} : xfit (.array t) (vR r) := fun G => by cases r <;> exact ⟨rfl, rfl⟩
theorem xfit_bool {x : Int32} (h : x = 0 ∨ x = 1) : xfit .boolean (vI x) := fun G => by
  rcases h with rfl | rfl
  · exact ⟨(by decide : narrow .boolean (.int 0) = .int 0), (by decide : fits .boolean (.int 0) = true)⟩
  · exact ⟨(by decide : narrow .boolean (.int 1) = .int 1), (by decide : fits .boolean (.int 1) = true)⟩
theorem xfit_byte {x : Int32} (h : x.toInt8.toInt32 = x) : xfit .byte (vI x) := fun G => by
  refine ⟨?_, ?_⟩
  · show narrow .byte (.int x) = .int x
    rw [narrow_byte, h]
  · have := pk_fb x
    rw [h] at this
    exact this
theorem x_ff_alike {u E : State} (hvm : u.vm.Alike E.vm) {C f d : String} {cf fi : Nat} {kf : Class} {fd : Field} (hi : u.fieldFound? C f d = some (cf, kf, fi, fd)) : ∃ kf', E.fieldFound? C f d = some (cf, kf', fi, fd) := by
  obtain ⟨kf', hi', -⟩ := State.fieldFound?_setVm (s := u) hvm hi
  exact ⟨kf', by simpa only [State.fieldFound?, State.vm_setVm] using hi'⟩
theorem xFound {G : xG} {sc : xSc} {s : State} (g1 : xGF G sc) (hF : xFS G s) {c k : Nat} {q : vw_C} (hq : xCl[c]? = some q) (hk : k < q.2.2) {ref : String} (hr : ref = (q.2.1 k).1 ∨ Cond.sameField ref (q.2.1 k).1 (q.2.1 k).2.1 (q.2.1 k).2.2.1 ∈ lw_tbl) :
    ∃ cf kf fi fd, s.fieldFound? (q.2.1 k).1 (q.2.1 k).2.1 (q.2.1 k).2.2.1 = some (cf, kf, fi, fd) ∧ s.fieldFound? ref (q.2.1 k).2.1 (q.2.1 k).2.2.1 = some (cf, kf, fi, fd) ∧ fd.slot = G.dI c k ∧ fd.isStatic = false := by
  obtain ⟨cf, kf, fi, fd, h1, h2, h3⟩ := (g1.1 c q hq).2.1 k hk
  obtain ⟨kf2, h5⟩ := x_ff_alike hF.1 h1
  refine ⟨cf, kf2, fi, fd, h5, ?_, h2, h3⟩
  rcases hr with rfl | hr
  · exact h5
  · exact u_same (hF.2.2 _ hr (by rfl) #[]) _ h5
section XF
variable {sc : xSc} {M : xM} {d : Nat} {Q : xR → xH → Prop} {h : xH} {pc : Nat} {L : List (Option xV)} {st : List xV}
theorem x_getf {idx a c k : Nat} {fs : List xV} {v : xV} (hd : decode M.2.1 pc = .ok (.getfield idx, 3)) (hl : xFl M.1 idx c k) (ha : xat sc h a = some (.inl (c, fs))) (hv : xget fs k = v) (kk : xW sc M d Q h (pc + 3) L (v :: st)) : xW sc M d Q h pc L (vA a :: st) := by
  intro G p l e R s m args below meth cd H locs cells slots ls n0 s0 g1 g2 g3 g4 g5 g6 g7 g8 g9
  obtain ⟨q, hq, hk, ref, hr, hlk⟩ := hl
  have hF : xFS G s := g2.2.2.2.2.2.2.2.2.1
  obtain ⟨cell, q2, e1, e2, e3, e4, e5, e6, e7, e8⟩ : xobj G H a c fs := x_look g1 g3 ha
  cases hq.symm.trans e1
  obtain ⟨cf, kf, fi, fd, h1, h2, h3, h4⟩ := xFound g1 hF hq hk hr
  have hs : cell.slots[fd.slot]? = some (xv G v) := by rw [h3, e8 k hk, hv]
  have K := kk G p l e R s m args below meth cd H locs cells slots ls n0 s0 g1 g2 g3 g4 g5 g6 g7 g8 g9
  rcases hlk with hlk | ⟨host, hlk⟩
  · exact W.getf g2.1 g2.2.1 g2.2.2.2.2.2.2.2.1 (hF.2.2 _ hlk (by rfl) _) h2 h4 e2 e5 hs rfl rfl hd K
  · exact va_Wgetf g2.1 g2.2.1 g2.2.2.2.2.2.2.2.1 (hF.2.2 _ hlk (by rfl) _) h2 h4 e2 e5 hs rfl rfl hd K
theorem xget_set {fs : List xV} {k : Nat} (hk : k < fs.length) (v : xV) (j : Nat) : xget (fs.set k v) j = if j = k then v else xget fs j := by
  unfold xget
  rw [List.getD_eq_getElem?_getD, List.getD_eq_getElem?_getD]
  by_cases e : j = k
  · subst e
    rw [if_pos rfl, List.getElem?_set_self hk]
    rfl
  · rw [if_neg e, List.getElem?_set_ne (fun z => e z.symm)]
/-- the object behind a store -/
theorem xobj_put {G : xG} {sc : xSc} {H1 : Heap} {a c k : Nat} {fs : List xV} {v : xV} {cell : Cell} {q : vw_C} (g1 : xGF G sc) (hq : xCl[c]? = some q) (hk : k < q.2.2) (e3 : cell.cls = G.dC c) (e4 : cell.vm = .none) (e6 : cell.vm.isStatics = false) (e7 : fs.length = q.2.2) (e8 : ∀ j, j < q.2.2 → cell.slots[G.dI c j]? = some (xv G (xget fs j))) (hc : H1[xr G a]? = some (cell.setSlot (G.dI c k) (xv G v))) : xobj G H1 a c (fs.set k v) := by
  refine ⟨_, q, hq, hc, e3, fun _ => e4, fun z => (by rw [show (cell.setSlot (G.dI c k) (xv G v)).vm = cell.vm from rfl, e4] at z; cases z), e6, by rw [List.length_set]; exact e7, fun j hj => ?_⟩
  rw [xget_set (by omega)]
  by_cases e : j = k
  · subst e
    rw [if_pos rfl]
    have hlt : G.dI c j < cell.slots.size := (Array.getElem?_eq_some_iff.mp (e8 j hj)).1
    simp [Cell.setSlot, hlt]
  · rw [if_neg e, slot_ne _ _ (fun z => (g1.1 c q hq).2.2 k j hk hj (fun w => e w.symm) z)]
    exact e8 j hj
theorem x_putf {idx a c k : Nat} {fs : List xV} {v : xV} (hd : decode M.2.1 pc = .ok (.putfield idx, 3)) (hl : xFl M.1 idx c k) (hp : xFp c k false) (hK : xK ≤ a) (ha : h.1 a = some (.inl (c, fs))) (hf : xfit (xTy c k) v) (kk : xW sc M d Q (xup h a (.inl (c, fs.set k v))) (pc + 3) L st) : xW sc M d Q h pc L (v :: vA a :: st) := by
  intro G p l e R s m args below meth cd H locs cells slots ls n0 s0 g1 g2 g3 g4 g5 g6 g7 g8 g9
  obtain ⟨q, hq, hk, ref, hr, hlk⟩ := hl
  have hord := xFp_ord hp
  obtain ⟨q9, hq9, -, hlay, hty, hfin⟩ := hp
  cases hq.symm.trans hq9
  have hF : xFS G s := g2.2.2.2.2.2.2.2.2.1
  obtain ⟨cell, q2, e1, e2, e3, e4, e5, e6, e7, e8⟩ : xobj G H a c fs := (g3.2.2.1 a _ hK ha).2
  cases hq.symm.trans e1
  obtain ⟨cf, kf, fi, fd, h1, h2, h3, h4⟩ := xFound g1 hF hq hk hr
  obtain ⟨hfc, kC, hkC, hk9⟩ := xCA_moved hF.1 (g1.1 c q hq).1
  have hkind := hk9 hord
  unfold u_lay at hlay
  rw [if_neg (by rw [hfin]; decide)] at hlay
  have hS := u_store hfc hkC hkind (hF.2.2 _ hlay (by rfl) args) h1 hty (hf G).1 (hf G).2
  have hlt : fd.slot < cell.slots.size := by rw [h3]; exact (Array.getElem?_eq_some_iff.mp (e8 k hk)).1
  have key : ∀ H' : Heap, H'[xr G a]? = some (cell.setSlot fd.slot (xv G v)) → H'.size = H.size → (∀ q, q ≠ xr G a → H'[q]? = H[q]?) → W p l e R s m args below meth cd H' (locs ++ [⟨xr G a, fd.slot⟩]) cells slots (xEnd G Q s below n0 s0) (F0 m (pc + 3) ls (st.map (xv G))) := by
    intro H' w1 w2 w3
    refine kk G p l e R s m args below meth cd H' _ cells slots ls n0 s0 g1 g2 (x_rr_up g3 hK ha w2 w3 (xobj_put g1 hq hk e3 (e4 hK) e6 e7 e8 (by rw [← h3]; exact w1))) g4 g5 g6 g7 g8 ?_
    intro z hz
    rcases List.mem_append.mp hz with hz | hz
    · exact g9 z hz
    · rw [List.mem_singleton.mp hz]
      show _ ≤ xr G a
      rw [xr_hi hK]
      omega
  rcases hlk with hlk | ⟨host, hlk⟩
  · exact W.putK g2.1 g2.2.1 ⟨g2.2.2.2.2.2.2.2.1, hF.2.2 _ hlk (by rfl) _, ⟨_, _, _, h2⟩, h4⟩ (by rw [e3]; exact hS) e2 (e4 hK) hlt rfl rfl hd key
  · exact va_WputK g2.1 g2.2.1 g2.2.2.2.2.2.2.2.1 (hF.2.2 _ hlk (by rfl) _) h2 h4 (by rw [e3]; exact hS) e2 (e4 hK) hlt rfl rfl hd key
/-- a final field, in a constructor of its own class -/
theorem x_putF {idx a c k : Nat} {fs : List xV} {v : xV} (hd : decode M.2.1 pc = .ok (.putfield idx, 3)) (hl : xFl M.1 idx c k) (hp : xFp c k true) (hi : M.2.2.2.2.2 = "<init>") (ho : ∃ q : vw_C, xCl[c]? = some q ∧ (q.2.1 k).1 = M.1 ∧ Cond.fieldLink M.1 idx M.1 (q.2.1 k).2.1 (q.2.1 k).2.2.1 ∈ lw_tbl) (hK : xK ≤ a) (ha : h.1 a = some (.inl (c, fs))) (hf : xfit (xTy c k) v) (kk : xW sc M d Q (xup h a (.inl (c, fs.set k v))) (pc + 3) L st) : xW sc M d Q h pc L (v :: vA a :: st) := by
  intro G p l e R s m args below meth cd H locs cells slots ls n0 s0 g1 g2 g3 g4 g5 g6 g7 g8 g9
  have hord := xFp_ord hp
  obtain ⟨q, hq, hk, hlay, hty, hfin⟩ := hp
  obtain ⟨q8, hq8, hown, hlk⟩ := ho
  cases hq.symm.trans hq8
  have hF : xFS G s := g2.2.2.2.2.2.2.2.2.1
  obtain ⟨cell, q2, e1, e2, e3, e4, e5, e6, e7, e8⟩ : xobj G H a c fs := (g3.2.2.1 a _ hK ha).2
  cases hq.symm.trans e1
  obtain ⟨cf, kf, fi, fd, h1, h2, h3, h4⟩ := xFound g1 hF hq hk (Or.inl rfl)
  obtain ⟨hfc, kC, hkC, hk9⟩ := xCA_moved hF.1 (g1.1 c q hq).1
  have hkind := hk9 hord
  unfold u_lay at hlay
  rw [if_pos hfin] at hlay
  have hl2 := hF.2.2 _ hlay (by rfl) args
  have hS := u_fits hfc hkC hkind (Or.inr hl2) h1 hty (hf G).1 (hf G).2
  have hcf : m.cls = cf := by
    obtain ⟨_, _, c', _, _, _, -, -, hf', -, -, -, hown2, -⟩ := Cond.laysFinal_spec hl2
    have e1 : c' = cf := by have := h1.symm.trans hf'; simp at this; exact this.1.symm
    rw [hown] at hown2
    rw [← e1]; exact Option.some.inj (g2.2.2.2.2.2.2.2.1.symm.trans hown2)
  have hlt : fd.slot < cell.slots.size := by rw [h3]; exact (Array.getElem?_eq_some_iff.mp (e8 k hk)).1
  refine W.putFinK g2.1 g2.2.1 g2.2.2.2.2.2.2.2.1 (hF.2.2 _ hlk (by rfl) _) (by rw [← hown]; exact h1) h4 hcf (g2.2.2.2.2.2.2.1.trans hi) (by rw [e3]; exact hS) e2 (e4 hK) hlt rfl rfl hd fun H' w1 w2 w3 => ?_
  refine kk G p l e R s m args below meth cd H' _ cells slots ls n0 s0 g1 g2 (x_rr_up g3 hK ha w2 w3 (xobj_put g1 hq hk e3 (e4 hK) e6 e7 e8 (by rw [← h3]; exact w1))) g4 g5 g6 g7 g8 ?_
  intro z hz
  rcases List.mem_append.mp hz with hz | hz
  · exact g9 z hz
  · rw [List.mem_singleton.mp hz]
    show _ ≤ xr G a
    rw [xr_hi hK]
    omega
end XF
