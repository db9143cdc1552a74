def yy_adf0 (b key : Nat) (v : yy_DV) (u : yy_SV) (c : yy_CT) : yy_CT := yy_tS (yy_cn c + 1) (some (yy_svc (nI 0) u)) (yy_ad2 b 0 key v c)
def yy_adl (b o key : Nat) (v : yy_DV) (c : yy_CT) : yy_CT := yy_tl (some (yy_cn c + 1 + 1)) (yy_nwO (.inl (9, [vR (yy_cl c), vR (some b)])) 2 (yy_ad2 b o key v c))
def yy_adf1 (b o key : Nat) (v : yy_DV) (u : yy_SV) (c : yy_CT) : yy_CT := yy_tS (yy_cn c + 1) (some (yy_svc (nI o) u)) (yy_adl b o key v c)
theorem yy_ad2_n (b o key : Nat) (v : yy_DV) (c : yy_CT) : yy_cn (yy_ad2 b o key v c) = yy_cn c + 1 + 1 ∧ yy_cb (yy_ad2 b o key v c) = yy_cb c ∧ yy_cz (yy_ad2 b o key v c) = yy_cz c + 3 + 8 ∧ yy_cl (yy_ad2 b o key v c) = yy_cl c := by
  obtain ⟨n1, n2, n3, n4⟩ := yy_ad0_n (.inl (5, [vR (some key), vR (some (yy_cn c + 1)), vR v.2.2.2])) c
  unfold yy_ad2
  rw [yy_cn_tS, yy_cn_tT, yy_cb_tS, yy_cb_tT, yy_cz_tS, yy_cz_tT, yy_cl_tS, yy_cl_tT]
  exact ⟨n1, n2, n3, n4⟩
theorem yy_ad2_k (b o key : Nat) (v : yy_DV) (c : yy_CT) : (∀ k, yy_cI k (yy_ad2 b o key v c) = yy_cI k c) ∧ (∀ k, yy_cA k (yy_ad2 b o key v c) = yy_cA k c) ∧ (∀ k, yy_cD k (yy_ad2 b o key v c) = yy_cD k c) ∧ (∀ k, yy_cR k (yy_ad2 b o key v c) = yy_cR k c) ∧ yy_cg (yy_ad2 b o key v c) = yy_cg c := by
  obtain ⟨n1, n2, n3, n4, n5⟩ := yy_ad0_k (.inl (5, [vR (some key), vR (some (yy_cn c + 1)), vR v.2.2.2])) c
  unfold yy_ad2
  refine ⟨fun k => ?_, fun k => ?_, fun k => ?_, fun k => ?_, ?_⟩
  · rw [yy_cI_tS, yy_cI_tT, n1]
  · rw [yy_cA_tS, yy_cA_tT, n2]
  · rw [yy_cD_tS, yy_cD_tT, n3]
  · rw [yy_cR_tS, yy_cR_tT, n4]
  · rw [yy_cg_tS, yy_cg_tT, n5]
theorem yy_nwO_g (e : xE) (n : Nat) (c : yy_CT) : yy_cn (yy_nwO e n c) = yy_cn c + 1 ∧ yy_cb (yy_nwO e n c) = yy_cb c ∧ yy_cz (yy_nwO e n c) = yy_cz c + n ∧ yy_cl (yy_nwO e n c) = yy_cl c := by
  unfold yy_nwO
  simp only [yy_cI_tI, yy_cI_tA, yy_cI_tD, yy_cI_tR, yy_cI_tS, yy_cI_tT, yy_cI_tO, yy_cI_tl, yy_cI_tg, yy_cI_tb, yy_cI_tn, yy_cI_tz, yy_cA_tI, yy_cA_tA, yy_cA_tD, yy_cA_tR, yy_cA_tS, yy_cA_tT, yy_cA_tO, yy_cA_tl, yy_cA_tg, yy_cA_tb, yy_cA_tn, yy_cA_tz, yy_cD_tI, yy_cD_tA, yy_cD_tD, yy_cD_tR, yy_cD_tS, yy_cD_tT, yy_cD_tO, yy_cD_tl, yy_cD_tg, yy_cD_tb, yy_cD_tn, yy_cD_tz, yy_cR_tI, yy_cR_tA, yy_cR_tD, yy_cR_tR, yy_cR_tS, yy_cR_tT, yy_cR_tO, yy_cR_tl, yy_cR_tg, yy_cR_tb, yy_cR_tn, yy_cR_tz, yy_cS_tI, yy_cS_tA, yy_cS_tD, yy_cS_tR, yy_cS_tS, yy_cS_tT, yy_cS_tO, yy_cS_tl, yy_cS_tg, yy_cS_tb, yy_cS_tn, yy_cS_tz, yy_cT_tI, yy_cT_tA, yy_cT_tD, yy_cT_tR, yy_cT_tS, yy_cT_tT, yy_cT_tO, yy_cT_tl, yy_cT_tg, yy_cT_tb, yy_cT_tn, yy_cT_tz, yy_cO_tI, yy_cO_tA, yy_cO_tD, yy_cO_tR, yy_cO_tS, yy_cO_tT, yy_cO_tO, yy_cO_tl, yy_cO_tg, yy_cO_tb, yy_cO_tn, yy_cO_tz, yy_cl_tI, yy_cl_tA, yy_cl_tD, yy_cl_tR, yy_cl_tS, yy_cl_tT, yy_cl_tO, yy_cl_tl, yy_cl_tg, yy_cl_tb, yy_cl_tn, yy_cl_tz, yy_cg_tI, yy_cg_tA, yy_cg_tD, yy_cg_tR, yy_cg_tS, yy_cg_tT, yy_cg_tO, yy_cg_tl, yy_cg_tg, yy_cg_tb, yy_cg_tn, yy_cg_tz, yy_cb_tI, yy_cb_tA, yy_cb_tD, yy_cb_tR, yy_cb_tS, yy_cb_tT, yy_cb_tO, yy_cb_tl, yy_cb_tg, yy_cb_tb, yy_cb_tn, yy_cb_tz, yy_cn_tI, yy_cn_tA, yy_cn_tD, yy_cn_tR, yy_cn_tS, yy_cn_tT, yy_cn_tO, yy_cn_tl, yy_cn_tg, yy_cn_tb, yy_cn_tn, yy_cn_tz, yy_cz_tI, yy_cz_tA, yy_cz_tD, yy_cz_tR, yy_cz_tS, yy_cz_tT, yy_cz_tO, yy_cz_tl, yy_cz_tg, yy_cz_tb, yy_cz_tn, yy_cz_tz]
  exact ⟨trivial, trivial, trivial, trivial⟩
theorem yy_nwO_k (e : xE) (n : Nat) (c : yy_CT) : (∀ k, yy_cI k (yy_nwO e n c) = yy_cI k c) ∧ (∀ k, yy_cA k (yy_nwO e n c) = yy_cA k c) ∧ (∀ k, yy_cD k (yy_nwO e n c) = yy_cD k c) ∧ (∀ k, yy_cR k (yy_nwO e n c) = yy_cR k c) ∧ yy_cg (yy_nwO e n c) = yy_cg c := by
  unfold yy_nwO
  simp only [yy_cI_tI, yy_cI_tA, yy_cI_tD, yy_cI_tR, yy_cI_tS, yy_cI_tT, yy_cI_tO, yy_cI_tl, yy_cI_tg, yy_cI_tb, yy_cI_tn, yy_cI_tz, yy_cA_tI, yy_cA_tA, yy_cA_tD, yy_cA_tR, yy_cA_tS, yy_cA_tT, yy_cA_tO, yy_cA_tl, yy_cA_tg, yy_cA_tb, yy_cA_tn, yy_cA_tz, yy_cD_tI, yy_cD_tA, yy_cD_tD, yy_cD_tR, yy_cD_tS, yy_cD_tT, yy_cD_tO, yy_cD_tl, yy_cD_tg, yy_cD_tb, yy_cD_tn, yy_cD_tz, yy_cR_tI, yy_cR_tA, yy_cR_tD, yy_cR_tR, yy_cR_tS, yy_cR_tT, yy_cR_tO, yy_cR_tl, yy_cR_tg, yy_cR_tb, yy_cR_tn, yy_cR_tz, yy_cS_tI, yy_cS_tA, yy_cS_tD, yy_cS_tR, yy_cS_tS, yy_cS_tT, yy_cS_tO, yy_cS_tl, yy_cS_tg, yy_cS_tb, yy_cS_tn, yy_cS_tz, yy_cT_tI, yy_cT_tA, yy_cT_tD, yy_cT_tR, yy_cT_tS, yy_cT_tT, yy_cT_tO, yy_cT_tl, yy_cT_tg, yy_cT_tb, yy_cT_tn, yy_cT_tz, yy_cO_tI, yy_cO_tA, yy_cO_tD, yy_cO_tR, yy_cO_tS, yy_cO_tT, yy_cO_tO, yy_cO_tl, yy_cO_tg, yy_cO_tb, yy_cO_tn, yy_cO_tz, yy_cl_tI, yy_cl_tA, yy_cl_tD, yy_cl_tR, yy_cl_tS, yy_cl_tT, yy_cl_tO, yy_cl_tl, yy_cl_tg, yy_cl_tb, yy_cl_tn, yy_cl_tz, yy_cg_tI, yy_cg_tA, yy_cg_tD, yy_cg_tR, yy_cg_tS, yy_cg_tT, yy_cg_tO, yy_cg_tl, yy_cg_tg, yy_cg_tb, yy_cg_tn, yy_cg_tz, yy_cb_tI, yy_cb_tA, yy_cb_tD, yy_cb_tR, yy_cb_tS, yy_cb_tT, yy_cb_tO, yy_cb_tl, yy_cb_tg, yy_cb_tb, yy_cb_tn, yy_cb_tz, yy_cn_tI, yy_cn_tA, yy_cn_tD, yy_cn_tR, yy_cn_tS, yy_cn_tT, yy_cn_tO, yy_cn_tl, yy_cn_tg, yy_cn_tb, yy_cn_tn, yy_cn_tz, yy_cz_tI, yy_cz_tA, yy_cz_tD, yy_cz_tR, yy_cz_tS, yy_cz_tT, yy_cz_tO, yy_cz_tl, yy_cz_tg, yy_cz_tb, yy_cz_tn, yy_cz_tz]
  exact ⟨fun _ => trivial, fun _ => trivial, fun _ => trivial, fun _ => trivial, trivial⟩
theorem yy_adl_n (b o key : Nat) (v : yy_DV) (c : yy_CT) : yy_cn (yy_adl b o key v c) = yy_cn c + 1 + 1 + 1 ∧ yy_cb (yy_adl b o key v c) = yy_cb c ∧ yy_cz (yy_adl b o key v c) = yy_cz c + 3 + 8 + 2 ∧ yy_cl (yy_adl b o key v c) = some (yy_cn c + 1 + 1) := by
  obtain ⟨n1, n2, n3, n4⟩ := yy_ad2_n b o key v c
  obtain ⟨p1, p2, p3, p4⟩ := yy_nwO_g (.inl (9, [vR (yy_cl c), vR (some b)])) 2 (yy_ad2 b o key v c)
  unfold yy_adl
  rw [yy_cn_tl, yy_cb_tl, yy_cz_tl, yy_cl_tl, p1, p2, p3, n1, n2, n3]
  exact ⟨rfl, rfl, rfl, rfl⟩
theorem yy_adl_k (b o key : Nat) (v : yy_DV) (c : yy_CT) : (∀ k, yy_cI k (yy_adl b o key v c) = yy_cI k c) ∧ (∀ k, yy_cA k (yy_adl b o key v c) = yy_cA k c) ∧ (∀ k, yy_cD k (yy_adl b o key v c) = yy_cD k c) ∧ (∀ k, yy_cR k (yy_adl b o key v c) = yy_cR k c) ∧ yy_cg (yy_adl b o key v c) = yy_cg c := by
  obtain ⟨n1, n2, n3, n4, n5⟩ := yy_ad2_k b o key v c
  obtain ⟨p1, p2, p3, p4, p5⟩ := yy_nwO_k (.inl (9, [vR (yy_cl c), vR (some b)])) 2 (yy_ad2 b o key v c)
  unfold yy_adl
  refine ⟨fun k => ?_, fun k => ?_, fun k => ?_, fun k => ?_, ?_⟩
  · rw [yy_cI_tl, p1, n1]
  · rw [yy_cA_tl, p2, n2]
  · rw [yy_cD_tl, p3, n3]
  · rw [yy_cR_tl, p4, n4]
  · rw [yy_cg_tl, p5, n5]
theorem yy_adl_f {c : yy_CT} {b o key : Nat} {v : yy_DV} (hL : yy_LOW c) (hF : yy_FRc c) (hd : yy_dcv c b = some v) : yy_slv (yy_adl b o key v c) (yy_cn c + 1) = some (some 72, 0, 0, 0, nI o, 0, none, none) ∧ yy_ov (yy_adl b o key v c) (yy_cn c) = some (.inl (5, [vR (some key), vR (some (yy_cn c + 1)), vR v.2.2.2])) ∧ yy_ov (yy_adl b o key v c) (yy_cn c + 1 + 1) = some (.inl (9, [vR (yy_cl c), vR (some b)])) ∧ (∀ a, a < yy_cn c → yy_slv (yy_adl b o key v c) a = yy_slv c a) ∧ (∀ a, a < yy_cn c → a ≠ b → yy_dcv (yy_adl b o key v c) a = yy_dcv c a) ∧ yy_dcv (yy_adl b o key v c) b = some (v.1, v.2.1, v.2.2.1 + 1, some (yy_cn c)) ∧ (∀ a, a < yy_cn c → yy_ov (yy_adl b o key v c) a = yy_ov c a) ∧ yy_LOW (yy_adl b o key v c) ∧ yy_FRc (yy_adl b o key v c) := by
  obtain ⟨f1, f2, f3, f4, f5, f6, f7, f8⟩ := yy_ad2_f (o := o) (key := key) hL hF hd
  obtain ⟨n1, n2, n3, n4⟩ := yy_ad2_n b o key v c
  obtain ⟨N1, N2, N3, N4⟩ := yy_adl_n b o key v c
  have hb := hL.d hd
  have L1 := f7.nwO (.inl (9, [vR (yy_cl c), vR (some b)])) 2
  refine ⟨?_, ?_, ?_, fun a ha => ?_, fun a ha hab => ?_, ?_, fun a ha => ?_, fun a ha => ?_, ?_⟩
  · unfold yy_adl
    rw [yy_slv_tl, yy_slv_nwO_ne (by rw [n1]; omega)]
    exact f1
  · unfold yy_adl
    rw [yy_ov_tl, yy_ov_nwO_ne (by rw [n1]; omega)]
    exact f2
  · unfold yy_adl
    rw [yy_ov_tl, ← n1]
    exact yy_ov_nwO f8 _ _
  · unfold yy_adl
    rw [yy_slv_tl, yy_slv_nwO_ne (by rw [n1]; omega)]
    exact f3 a ha
  · unfold yy_adl
    rw [yy_dcv_tl, yy_dcv_nwO_ne (by rw [n1]; omega)]
    exact f4 a ha hab
  · unfold yy_adl
    rw [yy_dcv_tl, yy_dcv_nwO_ne (by rw [n1]; omega)]
    exact f5
  · unfold yy_adl
    rw [yy_ov_tl, yy_ov_nwO_ne (by rw [n1]; omega)]
    exact f6 a ha
  · unfold yy_adl at ha ⊢
    rw [yy_cn_tl] at ha
    rw [yy_slv_tl, yy_dcv_tl, yy_ov_tl]
    exact L1 a ha
  · have h1 := hF.1
    have h2 := hF.2.1
    refine ⟨by rw [N1]; omega, by rw [N1, N2]; omega, fun a ha => ?_⟩
    rw [N4] at ha
    have := Option.some.inj ha
    rw [N1]
    omega
/-- a new entry, where no save is open -/
theorem yy_RR_add0 {g : yy_GT} {m : Nat} {c : yy_CT} {s : MT} {t nd n d b r key : Nat} {f : Option Nat} {L : List (Nat × Nat × Nat)} {w : Int64} {u : yy_SV} {q : Int32 × Int64 × UInt64} (h : yy_RR g (m + 3) c s t nd 0 n) (hd : d < nd) (hb : yy_cR 273 c d = some b) (hv : yy_dcv c b = some (nI d, nI r, nI L.length, f)) (hc : yy_CH c f L) (hr : L.length < r ∧ r ≤ (if d = 0 then 20 else 10)) (hk : (key, w) ∈ yy_gnm g) (hno : ∀ j, j < L.length → mL 6 s (yy_bs d + j) ≠ w) (hu : yy_VR g c s t nd 0 u q) :
    ∃ g', yy_RR g' m (yy_adf0 b key (nI d, nI r, nI L.length, f) u c) (yy_mad d L.length w q s) t nd 0 n := by
  have hL0 := h.1.2.1
  have hbc := hL0.d hv
  have n7 := h.di.1.2
  have hw0 : yy_bs d + L.length < 80 := by
    have := yy_bs_le (l := r) hd n7 hr.2 (Nat.le_refl r)
    omega
  obtain ⟨f1, f2, f3, f4, f5, f6, f7, f8⟩ := yy_ad2_f (o := 0) (key := key) hL0 h.1.1 hv
  obtain ⟨n1, n2, n3, n4⟩ := yy_ad2_n b 0 key (nI d, nI r, nI L.length, f) c
  obtain ⟨k1, k2, k3, k4, k5⟩ := yy_ad2_k b 0 key (nI d, nI r, nI L.length, f) c
  obtain ⟨m1, m2, m3, m4, m5, m6, m7, m8, m9⟩ := yy_mad_f d L.length w q s
  have cnr : yy_cn (yy_adf0 b key (nI d, nI r, nI L.length, f) u c) = yy_cn c + 1 + 1 := by
    unfold yy_adf0
    rw [yy_cn_tS, n1]
  have hR : ∀ k, yy_cR k (yy_adf0 b key (nI d, nI r, nI L.length, f) u c) = yy_cR k c := fun k => by
    unfold yy_adf0
    rw [yy_cR_tS, k4]
  have gow' : ∀ a, a < yy_cn c → yy_gow (va_up g.1 (yy_cn c + 1) (3, yy_bs d + L.length), g.2) a = yy_gow g a := fun a ha => va_up_ne _ _ (by omega)
  have hs : ∀ a, a < yy_cn c → yy_slv (yy_adf0 b key (nI d, nI r, nI L.length, f) u c) a = yy_slv c a := fun a ha => by
    unfold yy_adf0
    rw [yy_slv_tS_ne (by omega)]
    exact f3 a ha
  have ho : ∀ a, yy_ov (yy_adf0 b key (nI d, nI r, nI L.length, f) u c) a = yy_ov (yy_ad2 b 0 key (nI d, nI r, nI L.length, f) c) a := fun a => by
    unfold yy_adf0
    rw [yy_ov_tS f1]
  have hdc : ∀ a, yy_dcv (yy_adf0 b key (nI d, nI r, nI L.length, f) u c) a = yy_dcv (yy_ad2 b 0 key (nI d, nI r, nI L.length, f) c) a := fun a => by
    unfold yy_adf0
    rw [yy_dcv_tS f1]
  have k : yy_KZ b d (yy_bs d + L.length) g c s (va_up g.1 (yy_cn c + 1) (3, yy_bs d + L.length), g.2) (yy_adf0 b key (nI d, nI r, nI L.length, f) u c) (yy_mad d L.length w q s) := by
    refine ⟨⟨rfl, Nat.le_refl _, gow'⟩, ⟨by rw [cnr]; omega, by omega, hw0⟩, hs, fun a v ha hab e => by rw [hdc, f4 a ha hab]; exact e, fun a v ha e => by rw [ho, f6 a ha]; exact e, ⟨fun k _ => hR k, fun i _ => by rw [hR]⟩, fun p _ _ hp => m3 p hp, ⟨fun k hk => m5 k (by omega) (by omega), fun j hj => by rw [m8]; exact va_up_ne _ _ hj⟩, m6 29 (by decide) (by decide), fun j hj => by rw [m9]; exact va_up_ne _ _ hj⟩
  have hlen := h.2.2.2.2.2.1.1
  refine ⟨(va_up g.1 (yy_cn c + 1) (3, yy_bs d + L.length), g.2), yy_RR_ad (A := yy_cn c) (B := yy_cn c + 1) (u := yy_svc (nI 0) u) h hd hb hv hc hr hk hno (yy_VR_svc (nI 0) hu) rfl k ?_ (by rw [ho]; exact f2) (by rw [hdc, f5, ← yy_nI_add1]) (by rw [cnr]; omega) (va_up_self _ _ _) ?_ ?_ ?_ (fun k => by unfold yy_adf0; rw [yy_cI_tS, k1]) (by unfold yy_adf0; rw [yy_cg_tS, k5]) hR (fun k => by unfold yy_adf0; rw [yy_cA_tS, k2]) (fun k => by unfold yy_adf0; rw [yy_cD_tS, k3]) (by unfold yy_adf0; rw [yy_cb_tS, n2]) rfl rfl hlen.2 (fun sn _ => ?_)⟩
  · unfold yy_adf0
    exact yy_slv_tS f1
  · obtain ⟨e1, e2, e3⟩ := f8
    unfold yy_adf0
    refine ⟨?_, ?_, ?_⟩
    · rw [yy_cn_tS]
      exact e1
    · rw [yy_cn_tS, yy_cb_tS]
      exact e2
    · rw [yy_cn_tS, yy_cl_tS]
      exact e3
  · unfold yy_adf0
    exact f7.tS f1 _
  · have hM := h.1.2.2
    have e1 := hM.1
    have e2 := hM.2
    refine ⟨?_, ?_⟩
    · rw [cnr]
      show yy_cn c + 1 + 1 + (m + (41 - yy_ghS g) + (160 - yy_ghC g) + (120 - yy_ghD g)) ≤ _
      omega
    · unfold yy_adf0
      rw [yy_cz_tS, n3]
      show yy_cz c + 3 + 8 + 16 * (m + (41 - yy_ghS g) + (160 - yy_ghC g) + (120 - yy_ghD g)) ≤ _
      omega
  · have : yy_gsv g = [] := List.length_eq_zero_iff.mp hlen.2
    show yy_RSv _ _ _ _ _ _ t nd (sn + 1) (yy_gsv g)
    rw [this]
    trivial
