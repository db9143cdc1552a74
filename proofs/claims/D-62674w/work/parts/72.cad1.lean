def yy_gad (B x b : Nat) (f : Option Nat) (g : yy_GT) : yy_GT := (va_up g.1 B (3, x), g.2.1, g.2.2.1, g.2.2.2.1, g.2.2.2.2.1, match g.2.2.2.2.2 with
  | [] => []
  | e :: E => (e.1, e.2.1, .inr (b, f) :: e.2.2.1, e.2.2.2) :: E)
/-- a new entry, where a save is open: it is noted -/
theorem yy_RR_add1 {g : yy_GT} {m : Nat} {c : yy_CT} {s : MT} {t nd o n d b r key : Nat} {f : Option Nat} {L : List (Nat × Nat × Nat)} {w : Int64} {u : yy_SV} {q : Int32 × Int64 × UInt64} (h : yy_RR g (m + 3) c s t nd o n) (ho1 : 1 ≤ o) (hd : d < nd) (hb : yy_cR 273 c d = some b) (hv : yy_dcv c b = some (nI d, nI r, nI L.length, f)) (hc : yy_CH c f L) (hr : L.length < r ∧ r ≤ (if d = 0 then 20 else 10)) (hk : (key, w) ∈ yy_gnm g) (hno : ∀ j, j < L.length → mL 6 s (yy_bs d + j) ≠ w) (hu : yy_VR g c s t nd o u q) :
    yy_RR (yy_gad (yy_cn c + 1) (yy_bs d + L.length) b f g) m (yy_adf1 b o key (nI d, nI r, nI L.length, f) u c) (yy_mad d L.length w q s) t nd o n := by
  have hL0 := h.1.2.1
  have ht := h.tk.1
  have hbc := hL0.d hv
  have n7 := h.di.1.2
  have hw0 : yy_bs d + L.length < 80 := by
    have := yy_bs_le (l := r) hd n7 hr.2 (Nat.le_refl r)
    omega
  obtain ⟨f1, f2, f9, f3, f4, f5, f6, f7, f8⟩ := yy_adl_f (o := o) (key := key) hL0 h.1.1 hv
  obtain ⟨n1, n2, n3, n4⟩ := yy_adl_n b o key (nI d, nI r, nI L.length, f) c
  obtain ⟨k1, k2, k3, k4, k5⟩ := yy_adl_k b o key (nI d, nI r, nI L.length, f) c
  obtain ⟨m1, m2, m3, m4, m5, m6, m7, m8, m9⟩ := yy_mad_f d L.length w q s
  have cnr : yy_cn (yy_adf1 b o key (nI d, nI r, nI L.length, f) u c) = yy_cn c + 1 + 1 + 1 := by
    unfold yy_adf1
    rw [yy_cn_tS, n1]
  have clr : yy_cl (yy_adf1 b o key (nI d, nI r, nI L.length, f) u c) = some (yy_cn c + 1 + 1) := by
    unfold yy_adf1
    rw [yy_cl_tS, n4]
  have hR : ∀ k, yy_cR k (yy_adf1 b o key (nI d, nI r, nI L.length, f) u c) = yy_cR k c := fun k => by
    unfold yy_adf1
    rw [yy_cR_tS, k4]
  have gow' : ∀ a, a < yy_cn c → yy_gow (yy_gad (yy_cn c + 1) (yy_bs d + L.length) b f g) a = yy_gow g a := fun a ha => va_up_ne _ _ (by omega)
  have hs : ∀ a, a < yy_cn c → yy_slv (yy_adf1 b o key (nI d, nI r, nI L.length, f) u c) a = yy_slv c a := fun a ha => by
    unfold yy_adf1
    rw [yy_slv_tS_ne (by omega)]
    exact f3 a ha
  have ho : ∀ a, yy_ov (yy_adf1 b o key (nI d, nI r, nI L.length, f) u c) a = yy_ov (yy_adl b o key (nI d, nI r, nI L.length, f) c) a := fun a => by
    unfold yy_adf1
    rw [yy_ov_tS f1]
  have hdc : ∀ a, yy_dcv (yy_adf1 b o key (nI d, nI r, nI L.length, f) u c) a = yy_dcv (yy_adl b o key (nI d, nI r, nI L.length, f) c) a := fun a => by
    unfold yy_adf1
    rw [yy_dcv_tS f1]
  have hA : yy_ov (yy_adf1 b o key (nI d, nI r, nI L.length, f) u c) (yy_cn c) = some (.inl (5, [vR (some key), vR (some (yy_cn c + 1)), vR f])) := by
    rw [ho]
    exact f2
  have hdb : yy_dcv (yy_adf1 b o key (nI d, nI r, nI L.length, f) u c) b = some (nI d, nI r, nI (L.length + 1), some (yy_cn c)) := by
    rw [hdc, f5, ← yy_nI_add1]
  have k : yy_KZ b d (yy_bs d + L.length) g c s (yy_gad (yy_cn c + 1) (yy_bs d + L.length) b f g) (yy_adf1 b o key (nI d, nI r, nI L.length, f) u c) (yy_mad d L.length w q s) := by
    refine ⟨⟨rfl, Nat.le_refl _, gow'⟩, ⟨by rw [cnr]; omega, by omega, hw0⟩, hs, fun a v ha hab e => by rw [hdc, f4 a ha hab]; exact e, fun a v ha e => by rw [ho, f6 a ha]; exact e, ⟨fun k _ => hR k, fun i _ => by rw [hR]⟩, fun p _ _ hp => m3 p hp, ⟨fun k hk => m5 k (by omega) (by omega), fun j hj => by rw [m8]; exact va_up_ne _ _ hj⟩, m6 29 (by decide) (by decide), fun j hj => by rw [m9]; exact va_up_ne _ _ hj⟩
  have hlen := h.2.2.2.2.2.1.1
  refine yy_RR_ad (A := yy_cn c) (B := yy_cn c + 1) (u := yy_svc (nI o) u) h hd hb hv hc hr hk hno (yy_VR_svc (nI o) hu) rfl k ?_ hA hdb (by rw [cnr]; omega) (va_up_self _ _ _) ?_ ?_ ?_ (fun k => by unfold yy_adf1; rw [yy_cI_tS, k1]) (by unfold yy_adf1; rw [yy_cg_tS, k5]) hR (fun k => by unfold yy_adf1; rw [yy_cA_tS, k2]) (fun k => by unfold yy_adf1; rw [yy_cD_tS, k3]) (by unfold yy_adf1; rw [yy_cb_tS, n2]) rfl rfl ?_ (fun sn hS => ?_)
  · unfold yy_adf1
    exact yy_slv_tS f1
  · obtain ⟨e1, e2, e3⟩ := f8
    unfold yy_adf1
    refine ⟨?_, ?_, ?_⟩
    · rw [yy_cn_tS]
      exact e1
    · rw [yy_cn_tS, yy_cb_tS]
      exact e2
    · rw [yy_cn_tS, yy_cl_tS]
      exact e3
  · unfold yy_adf1
    exact f7.tS f1 _
  · have hM := h.1.2.2
    have e1 := hM.1
    have e2 := hM.2
    refine ⟨?_, ?_⟩
    · rw [cnr]
      show yy_cn c + 1 + 1 + 1 + (m + (41 - yy_ghS g) + (160 - yy_ghC g) + (120 - yy_ghD g)) ≤ _
      omega
    · unfold yy_adf1
      rw [yy_cz_tS, n3]
      show yy_cz c + 3 + 8 + 2 + 16 * (m + (41 - yy_ghS g) + (160 - yy_ghC g) + (120 - yy_ghD g)) ≤ _
      omega
  · rw [← hlen.2]
    unfold yy_gsv yy_gad
    dsimp only
    cases g.2.2.2.2.2 <;> rfl
  · cases hE : yy_gsv g with
    | nil =>
      rw [hE] at hlen
      have : o = 0 := hlen.2.symm
      omega
    | cons e E =>
      have hE' : yy_gsv (yy_gad (yy_cn c + 1) (yy_bs d + L.length) b f g) = (e.1, e.2.1, .inr (b, f) :: e.2.2.1, e.2.2.2) :: E := by
        unfold yy_gsv yy_gad
        dsimp only
        rw [show g.2.2.2.2.2 = e :: E from hE]
      rw [hE] at hS hlen
      rw [hE', clr]
      have hoE : E.length + 1 = o := by
        rw [← hlen.2]
        rfl
      obtain ⟨y, q1, t1, mk, h1, h2, h3, h4, h5, h6, h7, h8, h9, h10, h11, h12, h13, h14⟩ := hS
      have rel : ∀ a, yy_REL (yy_adf1 b o key (nI d, nI r, nI L.length, f) u c) e.2.1 t1 e.2.2.2 a → yy_REL c e.2.1 t1 e.2.2.2 a := fun a ha => yy_REL_KZ hL0 k h13 h12.1 ha
      have rlt : ∀ a, yy_REL c e.2.1 t1 e.2.2.2 a → a < yy_cn c := fun a ha => by
        rcases ha with ⟨i, g1, g2⟩ | ⟨d, y, v, L, ee, g1, g2, g3, g4, g5, g6⟩
        · obtain ⟨x, v, p1, p2, p3, p4, p5, p6⟩ := h12.2 i g1
          rw [g2] at p1
          cases p1
          exact p2
        · obtain ⟨x, r, f, L2, p1, p2, p3, p4, p5, p6, p7, p8⟩ := h13.2.2 d g1
          rw [g2] at p1
          cases p1
          rw [g3] at p2
          cases p2
          have := yy_CH_inj g4 p6
          subst this
          obtain ⟨i, hi⟩ := List.getElem?_of_mem g5
          rw [← g6]
          exact (p8 i ee hi).2.1
      refine ⟨y, q1, t1, mk, by rw [hR]; exact h1, k.2.2.2.2.1 _ _ (hL0.o h2) h2, by rw [m5 13 (by decide) (by decide)]; exact h3, h4, by rw [m5 14 (by decide) (by decide)]; exact h5, h6, h7, ⟨yy_cn c + 1 + 1, yy_cl c, rfl, fun a ha => ?_, by rw [ho]; exact f9, yy_LG_KZ hL0 k h8⟩, fun a ha => ?_, fun d' b' hd' hb' => ?_, fun a v' ha hv' hq => ?_, yy_RCe_KZ k (by omega) (by omega) (by omega) h12, yy_RDi_KZ hL0 k (by omega) (by omega) h13, yy_RSv_KZ hL0 k (by omega) (by omega) h14⟩
      · have := yy_LG_mk hL0 h8 h.1.1.2.2 a ha
        omega
      · have ha' := rel a ha
        rw [hs a (rlt a ha')]
        exact h9 a ha'
      · rw [hR] at hb'
        obtain ⟨v', g1, g2, w', g3, g4, g5, g6, g7⟩ := h10 d' b' hd' hb'
        have g1' : yy_dcv c b' = some v' := g1
        by_cases z : b' = b
        · subst z
          rw [hv] at g1'
          cases g1'
          refine ⟨_, hdb, ?_, w', g3, g4, g5, ?_, ?_⟩
          · show yy_FO _ b' (some (yy_cn c)) (.inr (b', f) :: e.2.2.1)
            unfold yy_FO
            rw [if_pos rfl]
            exact ⟨⟨yy_cn c, _, _, rfl, hA⟩, yy_FO_KZ hL0 k g2⟩
          · show nI (L.length + 1) = w'.2.2.1 + nI (yy_ld b' (.inr (b', f) :: e.2.2.1)).1
            unfold yy_ld
            rw [if_pos rfl]
            have g6' : nI L.length = w'.2.2.1 + nI (yy_ld b' e.2.2.1).1 := g6
            rw [← yy_nI_add1, ← yy_nI_add1, g6', Int32.add_assoc]
          · show w'.2.2.2 = ((yy_ld b' (.inr (b', f) :: e.2.2.1)).2).getD (some (yy_cn c))
            unfold yy_ld
            rw [if_pos rfl]
            have g7' : w'.2.2.2 = ((yy_ld b' e.2.2.1).2).getD f := g7
            rw [g7']
            cases (yy_ld b' e.2.2.1).2 <;> rfl
        · have nz : ¬ b = b' := fun q => z q.symm
          refine ⟨v', by rw [hdc, f4 b' (hL0.d g1') z]; exact g1', ?_, w', g3, g4, g5, ?_, ?_⟩
          · show yy_FO _ b' v'.2.2.2 (.inr (b, f) :: e.2.2.1)
            unfold yy_FO
            rw [if_neg nz]
            exact yy_FO_KZ hL0 k g2
          · show v'.2.2.1 = w'.2.2.1 + nI (yy_ld b' (.inr (b, f) :: e.2.2.1)).1
            unfold yy_ld
            rw [if_neg nz]
            exact g6
          · show w'.2.2.2 = ((yy_ld b' (.inr (b, f) :: e.2.2.1)).2).getD v'.2.2.2
            unfold yy_ld
            rw [if_neg nz]
            exact g7
      · have ha' := rel a ha
        have hv2 : yy_slv (yy_adf1 b o key (nI d, nI r, nI L.length, f) u c) a = some v' := hv'
        rw [hs a (rlt a ha')] at hv2
        exact h11 a v' ha' hv2 hq
