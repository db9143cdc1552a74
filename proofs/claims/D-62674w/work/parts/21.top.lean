/-! the claim out of the law's extracted function (the rows from lw_P on: SKELETON's, turned to this claim) -/
def xu0 : xH := (fun _ => none, 256, 0)
/-- what is left to show: for every script the extracted law answers 1 -/
def xLaw : Prop := ∀ (L : Nat) (xs : Nat → Int32), L ≤ 146 → ∃ u : xH, f_W_law (L, xs) xu0 (some 225) = some (.inl 1, u)
def lw_At2 (p : Program) (s : State) (m : MethodId) (meth : Method) (c : Code) (b L : Nat) (xs : Nat → Int32) : Prop :=
  p.tables.exec = Jvm.exec ∧ c.code = code ∧ meth.sig.returnType = ret ∧ c.maxLocals = 9 ∧ s.vm.findClass R_law = some m.cls ∧ (∀ w ∈ lw_tbl, w.before #[Value.ref b] s = true) ∧ va_X b L xs s s.heap ∧ b < s.heap.size ∧ meth.locks = false ∧ (Jvm.Cond.and given_1 narrow_1).before #[Value.ref b] s = true ∧ meth.name = "law" ∧ c.exceptionTable = #[]
theorem xEnd_Z {G : xG} {s : State} {below : List Frame} {a : Array Value} {t : State} (hG : G.s = s) (h : xEnd G (fun r _ => r = .inl (some (vI 1))) s below 256 0 t) : lw_Z below a s t := by
  obtain ⟨r, h', L, k, n, e1, e2, e3, e4, e5, e6, e7, e8, rfl⟩ := h
  obtain ⟨⟨b0, b1, b2⟩, -⟩ := e8
  have hk : k ≤ 600288 := by
    have : h'.2.1 ≤ 600544 := b1
    omega
  have hn : n ≤ 7292904 := by
    have : h'.2.2 ≤ 7292904 := b2
    omega
  refine ⟨_, e1, e2, rfl, ⟨_, rfl⟩, e3, ?_⟩
  obtain ⟨s1, s2, s3, s4, s5, s6⟩ := e4
  refine ⟨s1, s2, by omega, s4, by omega, fun q c hq => ?_⟩
  obtain ⟨c', g1, g2, g3, g4⟩ := s6 q c hq
  refine ⟨c', g1, g2, g3, fun i _ => g4 i fun hm => ?_⟩
  have h1 := e5 _ hm
  have h2 := (Array.getElem?_eq_some_iff.mp hq).1
  rw [hG] at h1
  have h3 : s.heap.size ≤ q := h1
  omega
theorem whole_start {p : Program} {e : Env} {s : State} {m : MethodId} {below : List Frame} {meth : Method} {c : Code} (l : Launch) (hfl : l.flags = flags0) {b L : Nat} {xs : Nat → Int32} (hlaw : ∃ u : xH, f_W_law (L, xs) xu0 (some 225) = some (.inl 1, u)) (C0 : lw_At2 p s m meth c b L xs) : W p l e room_1 s m #[Value.ref b] below meth c s.heap [] 0 0 (lw_Z below #[Value.ref b] s) (entryFrame m ([Value.ref b] : List Value).toArray 9) := by
  obtain ⟨c1, c2, c3, c4, c5, c6, c7, c8, c9, c10, c11, c12⟩ := C0
  obtain ⟨G, hGs, hGb, hGF⟩ := x_launch c6 c7 c8 c10
  obtain ⟨u, hu⟩ := hlaw
  have hctx : xCtx G m_W_law 250 p l room_1 s m meth c := by
    refine ⟨c1, c2, c4, c3, c9, by rw [c12]; rfl, c11, c5, ⟨?_, ?_, fun w hw hg a => ?_⟩, by decide, by decide, hfl⟩
    · rw [show G.s = s from hGs]
      exact Vm.Alike.refl _
    · rw [show G.s = s from hGs]
      exact Nat.le_refl _
    · exact xGood_move (State.WarmedH.refl s) hg (c6 w hw)
  have hxb : xv G (vA 225) = .ref b := by
    show Value.ref (xr G 225) = _
    rw [show xr G 225 = G.2.1 225 from if_pos (by decide), hGb]
  have hrr : xRR G xu0 s.heap := by
    refine ⟨⟨Nat.le_refl _, by decide, by decide⟩, ?_, fun a E ha hE => ?_, fun q hq => ?_⟩
    · rw [show G.s = s from hGs]
      rfl
    · cases hE
    · rw [show G.s = s from hGs]
  have K := w_W_law (d := 46) (Q := fun r _ => r = .inl (some (vI 1))) rfl xu0 (some 225) hu G p l e room_1 s m #[Value.ref b] below meth c s.heap [] 0 0 _ 256 0 hGF hctx hrr (xent_ls G [vA 225] (n := 9) (by decide)) rfl rfl (by decide) (by decide) (fun q hq => by cases hq)
  rw [lg_entry_eq]
  have e1 : ([vA 225].map (xv G)) = [Value.ref b] := by rw [List.map_cons, hxb]; rfl
  rw [e1] at K
  exact K.xmono fun t ht => xEnd_Z hGs ht
set_option maxHeartbeats 4000000 in
theorem lw_walk (hlaw : xLaw) (l : Launch) (hfl : l.flags = flags0) (b : Addr) (xs : List Int32) : MetFree l x (headSpec (Jvm.Cond.code x code maxLocals ret :: tables_1) room_1) (lw_P b xs) (fun _ _ _ _ _ => True) lw_Q := by
  refine MetFree.of_bodyS (code := code) (maxLocals := maxLocals) (ret := ret) (by decide) ?_ ?_
  · intro args s m h hn
    obtain ⟨meth, c, h1, h2, h3, h4, h5, h6, -, -⟩ := Cond.code_spec hn (atoms_spec (ws := Jvm.Cond.code x code maxLocals ret :: tables_1) h _ List.mem_cons_self)
    exact ⟨meth, c, h1, h2, h3, h4, h5, h6⟩
  · intro p e s m args below meth c s₁ B hml0 hP _
    obtain ⟨rfl, hx, hbd, hgv⟩ := hP
    obtain ⟨scr, harrAt, hlist, hof, hsmall⟩ := hx
    obtain ⟨hcb, hkn, -, -⟩ := State.arrayAt?_spec harrAt
    have hown : s.vm.findClass R_law = some m.cls := findClass_of_methodNamed B.named
    have hts0 : ∀ c ∈ (Jvm.Cond.code x code maxLocals ret :: tables_1), c.before #[Value.ref b] s = true := atoms_spec (ws := Jvm.Cond.code x code maxLocals ret :: tables_1) B.pre
    have hts : ∀ w ∈ lw_tbl, w.before #[Value.ref b] s = true := k2_hts_sels lw_privs (fun w hw => hts0 w (List.mem_cons_of_mem _ hw)) lw_privs_ok
    have hml : c.maxLocals = 9 := B.maxLocals_eq (hts0 _ List.mem_cons_self)
    have X₀ : Stand p l e room_1 s m #[Value.ref b] below meth c s₁ [] 0 0 := Stand.of_body B
    have hh0 : s₁.heap = s.heap := by rw [B.state]; rfl
    have hsz : scr.slots.size = xs.length := by rw [← Array.length_toList, hlist, List.length_map]
    have hval : ∀ j : Nat, j < xs.length → scr.slots[j]? = some (.int (xs.getD j 0)) := fun j hj => by
      rw [← Array.getElem?_toList, hlist]
      simp [hj]
    have hbl : b < s.heap.size := (Array.getElem?_eq_some_iff.mp hcb).1
    have hX : va_X b xs.length (fun j => xs.getD j 0) s s.heap := ⟨scr, hcb, hof, hkn, hsz, hval⟩
    have hnm : meth.name = "law" := (name_of_methodNamed B.named B.method).1
    have hex : c.exceptionTable = #[] := by
      obtain ⟨meth', c', h1, h2, h3, h4, h5, h6, h7, h8⟩ := Cond.code_spec B.named (hts0 _ List.mem_cons_self)
      cases B.method.symm.trans h1
      have hc : s₁.code? m = some c := B.here.code
      rw [B.state, State.code?_eq] at hc
      have hc2 : meth.code = some c := by simpa [State.setFrames, B.method] using hc
      cases hc2.symm.trans h2
      simpa using h7
    have K : W p l e room_1 s m #[Value.ref b] below meth c s₁.heap [] 0 0 (lw_Z below #[Value.ref b] s) (entryFrame m ([Value.ref b] : List Value).toArray 9) := by
      rw [hh0]
      exact whole_start l hfl (hlaw _ _ hbd) ⟨B.exec, B.bytes, B.returns, hml, hown, hts, hX, hbl, B.notSynchronized, hgv, hnm, hex⟩
    obtain ⟨t, a1, o, b1, b2, b3⟩ := K s₁ rfl X₀
    exact ⟨t, o, a1, b1, b2, b3⟩
theorem lw_pre_spec {args : Array Value} {s : State} (h : (Jvm.Cond.and given_1 narrow_1).before args s = true) (hr : rest_1_c.before args s = true) : ∃ (b : Addr) (xs : List Int32), lw_P b xs args s := by
  have hs := flat_of_before _ h
  have hq := flat_of_before _ hr
  have hc : (Cond.count 1).before args s = true := hs _ (by decide +kernel)
  have harr : (Cond.arrayOf (.arg 0) .int).before args s = true := hs _ (by decide +kernel)
  have hle : (Cond.le (.length (.arg 0)) (.int 146)).before args s = true := hs _ (by decide +kernel)
  have hlen : (Cond.isInt (.length (.arg 0))).before args s = true := hq _ (by decide +kernel)
  have hall : (Cond.all (.arg 0) (.isInt (.elem (.arg 0) (.index 0)))).before args s = true := hq _ (by decide +kernel)
  obtain ⟨b, xs, hb, hx⟩ := State.ints_of_pre rfl harr hlen hall
  have hsm : xs.length < 2 ^ 31 := hx.choose_spec.2.2.2
  have hev : (Term.length (.arg 0)).eval args s none [] s = some (.int xs.length.toInt32) := hx.length_eval hb
  have hv := Cond.le_ints hev (show (Term.int 146).eval args s none [] s = some (.int 146) from rfl)
  have hd : xs.length.toInt32 ≤ 146 := by
    simpa [Cond.before, Cond.holds, hv] using hle
  have hN : xs.length ≤ 146 := (Int32.ofNat_le_ofNat hsm (by decide)).mp (show Int32.ofNat xs.length ≤ Int32.ofNat 146 from hd)
  exact ⟨b, xs, Cond.one_arg hc (show args[0]? = some (.ref b) from hb), hx, hN, h⟩
theorem lw_comes (hlaw : xLaw) (l : Launch) (hfl : l.flags = flags0) : Comes l x (Jvm.Cond.code x code maxLocals ret :: tables_1) room_1 (fun tb e args s => Calls_1 tb e args s ∧ rest_1 tb e args s ∧ Pre_1 tb e args s)
    (fun _ _ args s o t => lw_Q args s o t) := by
  intro p e ha hc hk s m args below hf hfit hheap happ hpre
  obtain ⟨b, xs, hP⟩ := lw_pre_spec hpre.2.2 hpre.2.1
  obtain ⟨k, o, h1, h2, h3, hQ⟩ := lw_walk hlaw l hfl b xs p e ha hc hk s m args below hf ((Spec.applies_iff_loose hf).mp happ).1 hP trivial
  exact ⟨k, o, h1, h2, h3, hQ⟩
theorem lw_frame {s t : State} {o : Outcome} {args : Array Value} (h : Framed s o t [] 600288 7292904) :
    Framed s o t (fieldLocs frame_1_writes args s ++ arrayLocs frame_1_arrays args s ++ staticLocs frame_1_statics s) 600288 7292904 := h
theorem lw_limb (hlaw : xLaw) (L : Cond) (hL : ∀ (args : Array Value) (s t : State), L.after args s (.returned (some (.int 1))) t = true) :
    ArmFor flags0 classFile x code maxLocals ret World_1 tables_1 room_1 Calls_1 rest_1 Pre_1
      (fun tb e a s o t => postC L tb e a s o t ∧ Framed s o t (fieldLocs frame_1_writes a s ++ arrayLocs frame_1_arrays a s ++ staticLocs frame_1_statics s) 600288 7292904) := by
  intro l hfl _ _ p e ha hc hk s m args below hf hfit hheap happ hpre
  obtain ⟨k, o, h1, h2, h3, rfl, hF⟩ := lw_comes hlaw l hfl p e ha hc hk s m args below hf hfit hheap happ hpre
  exact ⟨k, _, h1, h2, h3, hL args s _, lw_frame hF⟩
/-- THE CLAIM, if the extracted law answers 1 -/
theorem i_vc_of (hlaw : xLaw) : Claimed_1_1 ∧ Claimed_1_2 := ⟨lw_limb hlaw limb_1_1 (fun args s t => by simp [limb_1_1, Cond.after, Cond.holds, Cond.value]), lw_limb hlaw limb_1_2 (fun args s t => Cond.after_iff.mpr (by
  first | (rw [show limb_1_2 = Cond.eq .result (.int 1) from rfl, Cond.eq_ints (x := 1) (y := 1) rfl rfl]; simp; done) | (simp [limb_1_2, Cond.value, Term.eval]; done)))⟩
