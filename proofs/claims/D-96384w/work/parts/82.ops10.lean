/-! PURE: gust, gusted, lucky, odds -/
set_option maxRecDepth 100000
theorem Cp_wo {g : XG} {ξ : XS} {σ : MS} {r w : Nat → Int32} (hC : Cp g ξ σ) (he : eqN 6 r w) (hb : cByte 6 r) (hh : ∀ A H, A ≤ 6 → xF ξ 4 = nI A → H ≤ 6 → xF ξ 202 = nI H → (∀ h, h < H → hx (w h) A) ∧ cInj H w) : Cp g (sXC ξ 200 r) (sRw σ 5 w) := by
  obtain ⟨H, A, D, S, B, T, F, R, wk, wi, hq, hr, hn, hs, hc, hrow, hby, hbw, hobj, hrw, hrd, hah, htx, hthe, htown, htr, htp, htd, him⟩ := id hC
  have eH : xF ξ 202 = nI H := hs.1.trans hn.1
  have eH2 : gF σ 0 = nI H := hn.1
  have eA : xF ξ 4 = nI A := hs.2.1.trans hn.2.1
  have eA2 : gF σ 1 = nI A := hn.2.1
  have eD : xF ξ 203 = nI D := hs.2.2.1.trans hn.2.2.1
  have eD2 : gF σ 2 = nI D := hn.2.2.1
  have eS : xF ξ 18 = nI S := hs.2.2.2.1.trans hn.2.2.2.1
  have eS2 : gF σ 43 = nI S := hn.2.2.2.1
  have eB : xF ξ 19 = nI B := hs.2.2.2.2.trans hn.2.2.2.2
  have eB2 : gF σ 47 = nI B := hn.2.2.2.2
  have lH : H ≤ 6 := hc.1
  have lA : A ≤ 6 := hc.2.1
  have lD : D ≤ 9999 := hc.2.2.1
  have lS : S ≤ 6 := hc.2.2.2.1
  have lB : B ≤ 8 := hc.2.2.2.2.1
  obtain ⟨lT, eT2, eT, lF, eF2, eF, htxt, hlet, hmu⟩ := id htx
  obtain ⟨lR, eR2, eR, hbod⟩ := id htr
  obtain ⟨c1, c2, c3, c4, c5, c6, c7, c8, c9, c10, c11⟩ := id hc
  obtain ⟨r1, r2, r3, r4, r5, r6, r7, r8, r9, r10⟩ := id hrow
  obtain ⟨z1, z2⟩ := hh A H lA eA lH eH
  exact ⟨H, A, D, S, B, T, F, R, wk, wi, hq, hr, hn, hs, ⟨c1, c2, c3, c4, c5, fun h hh => ⟨(c6 h hh).1, (c6 h hh).2.1, z1 h hh⟩, z2, c8, c9, c10, c11⟩, ⟨r1, r2, he, r4, r5, r6, r7, r8, r9, r10⟩, hb, hbw, hobj, hrw, hrd, hah, htx, hthe, htown, htr, htp, htd, him⟩
theorem keepX_pXd {ξ : XS} {q : Nat} {e : va_E} (hq : q ∉ xL ξ) : keepX ξ (pXd ξ q e) := ⟨fun _ _ => rfl, fun _ _ => rfl, ⟨rfl, rfl⟩, rfl, ext_pXd hq, id⟩
theorem keepM_34 (σ : MS) (f : Nat → Int32) : keepM σ (sRw σ 34 f) := ⟨fun _ _ => rfl, fun k hk => by rw [gR_sRw, if_neg (kRm_n hk rfl)], fun _ _ => rfl, fun _ _ => rfl, rfl⟩
theorem y0_gust_16_eq {N : Nat} {g : XG} {ξ : XS} {H : Nat} (lH : H ≤ 6) (eH : xF ξ 202 = nI H) {x : Int32} {mc ms : Nat} {K : Int32 → XS → Prop} (wo : Nat → Int32) (he : eqN 6 (xR ξ 200) wo) : ∀ (n b k : Nat) (v : Int32), n + b = H → n < k → bnyv (y1_gusts N g 0 x ξ) mc ms (fun _ _ s => K (cntS wo n b v) s) → y0_gust_16 N g K k x v (nI b) ξ mc ms := by
  intro n
  induction n with
  | zero =>
    intro b k v hb hk h
    obtain ⟨k, rfl⟩ : ∃ k', k = k' + 1 := ⟨k - 1, by omega⟩
    show y0_gust_16b N g K (y0_gust_16 N g K k) x v (nI b) ξ mc ms
    unfold y0_gust_16b
    rw [eH, if_pos (nI_le (by omega) (by omega))]
    exact h
  | succ n ih =>
    intro b k v hb hk h
    obtain ⟨k, rfl⟩ : ∃ k', k = k' + 1 := ⟨k - 1, by omega⟩
    show y0_gust_16b N g K (y0_gust_16 N g K k) x v (nI b) ξ mc ms
    unfold y0_gust_16b
    simp only [eH, nI_ge (show b < H by omega) (show H < 2 ^ 31 by omega), if_false, in6 (show b < 6 by omega), if_true, cl6 (show b < 6 by omega), he b (by omega), nx_ok, y0_gust_43, nI_1]
    have es : cntS wo (n + 1) b v = cntS wo n (b + 1) (if wo b = -1 then v else v + 1) := rfl
    rw [es] at h
    by_cases q : wo b = -1
    · simp only [if_pos q] at h ⊢
      exact ih (b + 1) k v (by omega) (by omega) h
    · simp only [if_neg q] at h ⊢
      exact ih (b + 1) k (v + 1) (by omega) (by omega) h
theorem op_12 {N : Nat} (hN : 1000 ≤ N) (g : XG) : OP_12 N g (Cp g) := by
  intro a1 ξ σ hC
  obtain ⟨A, H, D, T, wk, hq, hr, hT, eA, eA2, hby, hin, lD, hus⟩ := Cp_all hC
  have lA : A ≤ 6 := hT.1.1
  have lH : H ≤ 6 := hT.1.2.1
  have eH2 := hT.2.1
  have eH : xF ξ 202 = nI H := hT.2.2.1
  have e3 : eqN 6 (xR ξ 200) (gR σ 5) := hT.2.2.2.1
  unfold m_gust y0_gust
  simp only [x0_in_eq, m_in_eq, bnd_ok, bndp_ok, b0]
  by_cases h1 : 0 ≤ a1 ∧ a1 ≤ 5
  · obtain ⟨x, hx5, rfl⟩ := rg_of (n := 5) (by omega) h1.1 h1.2
    obtain ⟨f, r, em, hrot⟩ := m_goGust_eq hN hx5 lH lA eH2 hT.2.2.2.2
    simp only [h1, and_self, not_true, if_false, em, bnd_ok, nx_ok]
    refine ⟨_, _, rfl, y0_gust_16_eq lH eH (gR σ 5) e3 H 0 N 0 (by omega) (by omega) ⟨9000, 110000, by omega, by omega, ?_⟩⟩
    refine y1_gusts_eq hN (τ := 0) (A := A) hx5 lH lA eH (fun h hh => by rw [show xR ξ (200 + 10 * 0) h = gR σ 5 h from e3 h (by omega)]; exact hT.2.2.2.2 h hh) hby (by omega) (by omega) (fun q r' hq' hrot' => ⟨rfl, ?_⟩)
    have hC2 : Cp g (pXd ξ q (.inl (xc g 1, 6, .inl (xR ξ (200 + 10 * 0))))) (sRw σ 34 f) := Cp_keep hC (keepX_pXd hq') (keepM_34 σ f)
    refine Cp_wo hC2 (isRot_eq lH hx5 hrot' hrot e3) (isRot_byte lH hx5 hrot' hby) (fun A2 H2 z1 z2 z3 z4 => ?_)
    obtain rfl : A2 = A := nI_inj (by omega) (by omega) (z2.symm.trans eA)
    obtain rfl : H2 = H := nI_inj (by omega) (by omega) (z4.symm.trans eH)
    exact ⟨isRot_hx lH hx5 hrot hT.2.2.2.2, isRot_inj lH hx5 hrot hin⟩
  · exact ⟨-2, σ, by simp [h1], by simp [h1, hC]⟩
theorem Sim_wo {g : XG} {ξ0 ξ : XS} {σ0 σ : MS} {A H D T wk U : Nat} {hq hr : Nat → Nat} {f r w : Nat → Int32} {q : Nat} {e : va_E} (h : Sim g ξ0 σ0 ξ σ A H D T wk hq hr U) (hq' : q ∉ xL ξ) (he : eqN 6 r w) (hb : cByte 6 r) (hw : ∀ h, h < H → hx (w h) A) (hi : cInj H w) : Sim g ξ0 σ0 (sXC (pXd ξ q e) 210 r) (sRw (sRw σ 34 f) 5 w) A H D T wk hq hr U := by
  obtain ⟨h1, ⟨k1, k2, k3, k4, k5, k6, k7⟩, ⟨⟨p1, p2, p3, p4, p5, p6, p7, p8, p9, p10, p11, p12, p13, p14, p15⟩, t2, t3, t4, t5⟩, h4, h5, h6⟩ := h
  have hx : ext (dE ξ) (dE (pXd ξ q e)) := ext_pXd hq'
  refine ⟨⟨h1.1, fun k hk => ?_, h1.2.2.1, h1.2.2.2.1, h1.2.2.2.2.1.trans hx, h1.2.2.2.2.2⟩, ⟨k1, fun k hk => ?_, k3, k4, k5, k6, k7⟩, ⟨⟨p1, p2, p3, p4, p5, p6, p7, p8, cObj_keep hx.w p9, cRow_ext hx p10, p11, p12, p13, p14, cTown_keep hx.w (fun e => hx _ e) p15⟩, t2, t3, he, hw⟩, h4, hb, hi⟩
  · rw [xR_sXC, if_neg (kRx_n hk rfl), xR_pXd]; exact h1.2.1 k hk
  · rw [gR_sRw, if_neg (kRm_n hk rfl), gR_sRw, if_neg (kRm_n hk rfl)]; exact k2 k hk
theorem gusted_sim {N : Nat} (hN : 1000 ≤ N) {g : XG} {ξ0 ξ : XS} {σ0 σ : MS} (hC : Cp g ξ0 σ0) (kx : keepX ξ0 ξ) (km : keepM σ0 σ) {x : Nat} (hx5 : x ≤ 5) {t : Int32} (ht : t = -1 ∨ 0 ≤ t) {mc ms : Nat} (h1 : 1 ≤ mc) (h2 : 6 ≤ ms) :
    ∃ σ1 c σ2 v p, m_save N σ = some σ1 ∧ m_goGust N (nI x) σ1 = some (c, σ2) ∧ m_todayOf N t σ2 = some (v, sP σ2 p) ∧ m_work N t (sP σ2 p) = some (workM σ0 t, sP σ2 p) ∧ keepS σ0 (sP σ2 p) ∧ ∀ K : Int32 → XS → Prop, (∀ ξ1, keepX ξ0 ξ1 → K v ξ1) → y0_gustedBy N g (nI x) t ξ mc ms K := by
  obtain ⟨A, H, D, T, wk, hq, hr, ξ1, σ1, lD, e1, e2, hS, -, -, lH, lA⟩ := Cp_sim hN hC kx km
  have hT := hS.2.2.1
  obtain ⟨f, r, em, hrot⟩ := m_goGust_eq hN hx5 lH lA hT.2.1 hT.2.2.2.2
  have hw := isRot_hx lH hx5 hrot hT.2.2.2.2
  have hi := isRot_inj lH hx5 hrot hS.2.2.2.2.2
  have e3 : eqN 6 (xR ξ1 210) (gR σ1 5) := hT.2.2.2.1
  have hkS : keepS σ0 (sRw (sRw σ1 34 f) 5 r) := by
    obtain ⟨k1, k2, k3, k4, k5, k6, k7⟩ := hS.2.1
    refine ⟨k1, fun k hk => ?_, k3, k4, k5, k6, k7⟩
    rw [gR_sRw, if_neg (kRm_n hk rfl), gR_sRw, if_neg (kRm_n hk rfl)]; exact k2 k hk
  -- a Tp on M's side, by the row itself
  have hTm : Tp g 1 (sXC ξ1 210 r) (sRw (sRw σ1 34 f) 5 r) A H D T wk hq hr := by
    obtain ⟨⟨p1, p2, p3, p4, p5, p6, p7, p8, p9, p10, p11, p12, p13, p14, p15⟩, t2, t3, t4, t5⟩ := hT
    exact ⟨⟨p1, p2, p3, p4, p5, p6, p7, p8, p9, p10, p11, p12, p13, p14, p15⟩, t2, t3, fun _ _ => rfl, hw⟩
  obtain ⟨p, et⟩ := m_todayOf_eq hN (by omega) _ hTm ht (gR (sRw (sRw σ1 34 f) 5 r) 32)
  rw [sP_self] at et
  have hwk : workM (sRw (sRw σ1 34 f) 5 r) t = workM σ0 t := by
    unfold workM
    rw [hkS.1 15 rfl (by omega) (by omega), hkS.2.1 20 rfl, hkS.2.1 21 rfl, hkS.2.1 22 rfl, hkS.2.1 23 rfl]
  refine ⟨σ1, _, _, _, p, e2, em, et, by rw [m_work_at hN hTm.1 t p, hwk], ?_, fun K hK => ?_⟩
  · obtain ⟨k1, k2, k3, k4, k5, k6, k7⟩ := hkS
    refine ⟨k1, fun k hk => ?_, k3, k4, k5, k6, k7⟩
    rw [gR_sP, if_neg (kRm_32 hk)]; exact k2 k hk
  · unfold y0_gustedBy
    rw [e1, bnvp_ok]
    refine ⟨1, 6, h1, h2, ?_⟩
    refine y1_gusts_eq hN (τ := 1) (A := A) hx5 lH lA hT.2.2.1 (fun h hh => by rw [show xR ξ1 (200 + 10 * 1) h = gR σ1 5 h from e3 h (by omega)]; exact hT.2.2.2.2 h hh) hS.2.2.2.2.1 (by omega) (by omega) (fun q r' hq' hrot' => ?_)
    have hS2 := Sim_wo (f := f) (r := r') (w := r) (e := .inl (xc g 1, 6, .inl (xR ξ1 (200 + 10 * 1)))) hS hq' (isRot_eq lH hx5 hrot' hrot e3) (isRot_byte lH hx5 hrot' hS.2.2.2.2.1) hw hi
    obtain ⟨ξ2, ex, hl⟩ := x0_todayOf_eq hN (by omega) _ hS2.2.2.1 t (lkeq_refl _)
    have ex' : x0_todayOf N g 1 t (sXC (pXd ξ1 q (.inl (xc g 1, 6, .inl (xR ξ1 (200 + 10 * 1))))) (200 + 10 * 1) r') = some (todayM (sRw (sRw σ1 34 f) 5 r) H t, ξ2) := ex
    simp only [ex', bndp_ok]
    exact hK ξ2 (hS2.1.trans (keepX_lk hl))
theorem m_gustedBy_eq {N : Nat} (hN : 1000 ≤ N) {g : XG} {ξ0 ξ : XS} {σ0 σ : MS} (hC : Cp g ξ0 σ0) (kx : keepX ξ0 ξ) (km : keepM σ0 σ) {x : Nat} (hx5 : x ≤ 5) {mc ms : Nat} (h1 : 1 ≤ mc) (h2 : 6 ≤ ms) : ∃ v σ1, m_gustedBy N (nI x) σ = some (v, σ1) ∧ keepM σ0 σ1 ∧ ∀ K : Int32 → XS → Prop, (∀ ξ1, keepX ξ0 ξ1 → K v ξ1) → y0_gustedBy N g (nI x) (-1) ξ mc ms K := by
  obtain ⟨σ1, c, σ2, v, p, e1, e2, e3, -, hk, hy⟩ := gusted_sim hN hC kx km hx5 (t := -1) (Or.inl rfl) h1 h2
  obtain ⟨σ3, e5, hk2⟩ := putBack_eq hN (Cp_33 hC) hk
  refine ⟨v, σ3, ?_, hk2, hy⟩
  unfold m_gustedBy
  simp only [e1, e2, e3, e5, bnd_ok, bnv_ok, bno_ok, nx_ok]
theorem op_22 {N : Nat} (hN : 1000 ≤ N) (g : XG) : OP_22 N g (Cp g) := by
  intro a1 ξ σ hC
  unfold m_gusted y0_gusted
  simp only [x0_in_eq, m_in_eq, bnd_ok, bndp_ok, b0]
  by_cases h1 : 0 ≤ a1 ∧ a1 ≤ 5
  · obtain ⟨x, hx5, rfl⟩ := rg_of (n := 5) (by omega) h1.1 h1.2
    obtain ⟨v, σ1, e, hk, hy⟩ := m_gustedBy_eq hN hC (keepX_refl ξ) (keepM_refl σ) hx5 (mc := 9000) (ms := 110000) (by omega) (by omega)
    simp only [h1, and_self, not_true, if_false, e, bnd_ok]
    exact ⟨_, _, rfl, 9000, 110000, by omega, by omega, hy _ (fun ξ1 kx => ⟨rfl, Cp_keep hC kx hk⟩)⟩
  · exact ⟨-2, σ, by simp [h1], by simp [h1, hC]⟩
theorem op_23 {N : Nat} (hN : 1000 ≤ N) (g : XG) : OP_23 N g (Cp g) := by
  intro ξ σ hC
  obtain ⟨A, H, D, T, wk, hq, hr, hT, eA, eA2, hby, hin, lD, hus⟩ := Cp_all hC
  have lH : H ≤ 6 := hT.1.2.1
  have eH2 := hT.2.1
  have eH : xF ξ 202 = nI H := hT.2.2.1
  have key : ∀ (n b k : Nat) (x y : Int32) (σ1 : MS), keepM σ σ1 → n + b = H → n < k → ∃ v σ2, m_lucky_7 N k x y (nI b) σ1 = some (v, σ2) ∧ keepM σ σ2 ∧ ∀ (K : Int32 → XS → Prop), (∀ ξ2, keepX ξ ξ2 → K v ξ2) → ∀ (ξ1 : XS) (mc ms : Nat), keepX ξ ξ1 → n ≤ mc → 6 * n ≤ ms → y0_lucky_7 N g K k x y (nI b) ξ1 mc ms := by
    intro n
    induction n with
    | zero =>
      intro b k x y σ1 km hb hk
      obtain ⟨k, rfl⟩ : ∃ k', k = k' + 1 := ⟨k - 1, by omega⟩
      refine ⟨x, σ1, ?_, km, fun K hK ξ1 mc ms kx _ _ => ?_⟩
      · show m_lucky_7b N (m_lucky_7 N k) x y (nI b) σ1 = _
        unfold m_lucky_7b
        rw [km.1 0 rfl, eH2, if_pos (nI_le (by omega) (by omega))]
      · show y0_lucky_7b N g _ _ x y (nI b) ξ1 mc ms
        unfold y0_lucky_7b
        rw [kx.1 202 rfl, eH, if_pos (nI_le (by omega) (by omega))]
        exact hK ξ1 kx
    | succ n ih =>
      intro b k x y σ1 km hb hk
      obtain ⟨k, rfl⟩ : ∃ k', k = k' + 1 := ⟨k - 1, by omega⟩
      obtain ⟨v, σ2, e, hk2, -⟩ := m_gustedBy_eq hN hC (keepX_refl ξ) km (show b ≤ 5 by omega) (mc := 1) (ms := 6) (by omega) (by omega)
      have hy : ∀ ξ1, keepX ξ ξ1 → ∀ K : Int32 → XS → Prop, (∀ ξ2, keepX ξ ξ2 → K v ξ2) → y0_gustedBy N g (nI b) (-1) ξ1 1 6 K := by
        intro ξ1 kx
        obtain ⟨v', σ2', e', -, hy⟩ := m_gustedBy_eq hN hC kx km (show b ≤ 5 by omega) (mc := 1) (ms := 6) (by omega) (by omega)
        rw [e] at e'
        cases e'
        exact hy
      by_cases q : y < v
      · obtain ⟨w, σ3, z1, z2, z3⟩ := ih (b + 1) k (nI b) v σ2 hk2 (by omega) (by omega)
        refine ⟨w, σ3, ?_, z2, fun K hK ξ1 mc ms kx hmc hms => ?_⟩
        · show m_lucky_7b N (m_lucky_7 N k) x y (nI b) σ1 = _
          unfold m_lucky_7b
          simp only [km.1 0 rfl, eH2, nI_ge (show b < H by omega) (show H < 2 ^ 31 by omega), if_false, e, bnd_ok, nx_ok, q, if_true, m_lucky_36, nI_1, z1]
        · show y0_lucky_7b N g _ _ x y (nI b) ξ1 mc ms
          unfold y0_lucky_7b
          rw [kx.1 202 rfl, eH, if_neg (nI_ge (by omega) (by omega))]
          refine ⟨1, 6, by omega, by omega, hy ξ1 kx _ (fun ξ2 kx2 => ?_)⟩
          simp only [nx_ok, q, if_true, y0_lucky_40, nI_1]
          exact z3 K hK ξ2 _ _ kx2 (by omega) (by omega)
      · obtain ⟨w, σ3, z1, z2, z3⟩ := ih (b + 1) k x y σ2 hk2 (by omega) (by omega)
        refine ⟨w, σ3, ?_, z2, fun K hK ξ1 mc ms kx hmc hms => ?_⟩
        · show m_lucky_7b N (m_lucky_7 N k) x y (nI b) σ1 = _
          unfold m_lucky_7b
          simp only [km.1 0 rfl, eH2, nI_ge (show b < H by omega) (show H < 2 ^ 31 by omega), if_false, e, bnd_ok, nx_ok, q, m_lucky_36, nI_1, z1]
        · show y0_lucky_7b N g _ _ x y (nI b) ξ1 mc ms
          unfold y0_lucky_7b
          rw [kx.1 202 rfl, eH, if_neg (nI_ge (by omega) (by omega))]
          refine ⟨1, 6, by omega, by omega, hy ξ1 kx _ (fun ξ2 kx2 => ?_)⟩
          simp only [nx_ok, q, if_false, y0_lucky_40, nI_1]
          exact z3 K hK ξ2 _ _ kx2 (by omega) (by omega)
  obtain ⟨v, σ2, z1, z2, z3⟩ := key H 0 N (-5) (-1) σ (keepM_refl σ) (by omega) (by omega)
  exact ⟨v, σ2, z1, z3 _ (fun ξ2 kx => ⟨rfl, Cp_keep hC kx z2⟩) ξ 9000 110000 (keepX_refl ξ) (by omega) (by omega)⟩
theorem op_30 {N : Nat} (hN : 1000 ≤ N) (g : XG) : OP_30 N g (Cp g) := by
  intro a1 a2 ξ σ hC
  obtain ⟨A, H, D, T, wk, hq, hr, hT, eA, eA2, hby, hin, lD, hus⟩ := Cp_all hC
  have lH : H ≤ 6 := hT.1.2.1
  have eH2 := hT.2.1
  have eH : xF ξ 202 = nI H := hT.2.2.1
  unfold m_odds y0_odds
  simp only [x0_in_eq, m_in_eq, x0_isTrade_eq, m_isTrade_eq, bnd_ok, bndp_ok, b0, eH, eH2, nI_zero (show H < 2 ^ 31 by omega)]
  by_cases h1 : 0 ≤ a1 ∧ a1 ≤ 4
  · by_cases h2 : 0 ≤ a2 ∧ a2 ≤ 1
    · by_cases h3 : H = 0
      · exact ⟨-9223372036854775808, σ, by simp [h1, h2, h3], by simp [h1, h2, h3, hC]⟩
      · simp only [h1, h2, h3, and_self, not_true, if_false, nx_ok]
        obtain ⟨t, ht, rfl⟩ := rg_of (n := 4) (by omega) h1.1 h1.2
        obtain ⟨p1, p2, p3, p4, p5, p6, p7, p8, p9, p10, p11, p12, p13, p14, p15⟩ := hT.1
        obtain ⟨w0, al, od, len, mo, many, f, fw, t1, t2, t3, t4, -⟩ := p15
        have key : ∀ (n b k s : Nat) (σ1 : MS), keepM σ σ1 → n + b = H → n < k → s ≤ b → ∃ v σ2, m_odds_34 N k (nI t) a2 (nI s) (nI b) σ1 = some (v, σ2) ∧ keepM σ σ2 ∧ ∀ (K : Int64 → XS → Prop), (∀ ξ2, keepX ξ ξ2 → K v ξ2) → ∀ (ξ1 : XS) (mc ms : Nat), keepX ξ ξ1 → n ≤ mc → 6 * n ≤ ms → y0_odds_35 N g K k (nI t) a2 (nJ s) (nI b) ξ1 mc ms := by
          intro n
          induction n with
          | zero =>
            intro b k s σ1 km hb hk hs
            obtain ⟨k, rfl⟩ : ∃ k', k = k' + 1 := ⟨k - 1, by omega⟩
            obtain ⟨v, z1, z2⟩ := lowest_both hN g ξ σ1 (a := s) (b := H) (by omega) (by omega) (by omega) a2
            refine ⟨v, σ1, ?_, km, fun K hK ξ1 mc ms kx _ _ => ?_⟩
            · show m_odds_34b N (m_odds_34 N k) (nI t) a2 (nI s) (nI b) σ1 = _
              unfold m_odds_34b
              rw [km.1 0 rfl, eH2, if_pos (nI_le (by omega) (by omega)), z2, bnd_ok]
            · show y0_odds_35b N g _ _ (nI t) a2 (nJ s) (nI b) ξ1 mc ms
              unfold y0_odds_35b
              rw [kx.1 202 rfl, eH, if_pos (nI_le (by omega) (by omega)), nI_nJ (by omega)]
              obtain ⟨v', z3, z4⟩ := lowest_both hN g ξ1 σ1 (a := s) (b := H) (by omega) (by omega) (by omega) a2
              rw [z2] at z4
              cases z4
              rw [z3, bndp_ok]
              exact hK ξ1 kx
          | succ n ih =>
            intro b k s σ1 km hb hk hs
            obtain ⟨k, rfl⟩ : ∃ k', k = k' + 1 := ⟨k - 1, by omega⟩
            obtain ⟨σ2, c, σ3, v, p, e1, e2, e3, e4, hk2, -⟩ := gusted_sim hN hC (keepX_refl ξ) km (show b ≤ 5 by omega) (t := nI t) (Or.inr (nI_pos' (by omega))) (mc := 1) (ms := 6) (by omega) (by omega)
            obtain ⟨σ4, e5, hk4⟩ := putBack_eq hN (Cp_33 hC) hk2
            have hy : ∀ ξ1, keepX ξ ξ1 → ∀ K : Int32 → XS → Prop, (∀ ξ2, keepX ξ ξ2 → K v ξ2) → y0_gustedBy N g (nI b) (nI t) ξ1 1 6 K := by
              intro ξ1 kx
              obtain ⟨σ2', c', σ3', v', p', e1', e2', e3', e4', -, hy⟩ := gusted_sim hN hC kx km (show b ≤ 5 by omega) (t := nI t) (Or.inr (nI_pos' (by omega))) (mc := 1) (ms := 6) (by omega) (by omega)
              rw [e1] at e1'
              cases e1'
              rw [e2] at e2'
              cases e2'
              rw [e3] at e3'
              obtain rfl : v = v' := (Prod.mk.inj (Option.some.inj e3')).1
              exact hy
            have hX : ∀ ξ2, keepX ξ ξ2 → ∀ Q : Prop, ∀ Q2 : Prop, (if v < workM σ (nI t) then Q else Q2) → bnop (xo ξ2 11) (fun w_7 => bnop (dR ξ2 w_7 3 3 1) fun b_8 => bndp (dA ξ2 b_8 (xc g 0)) fun n_9 f_10 => if inb (nI t) n_9 = true then (if v < (f_10 (nI t).toNatClampNeg) then Q else Q2) else False) := by
              intro ξ2 kx2 Q Q2 h
              rw [kx2.2.2.2.1, t1, bnop_ok, show dR ξ2 w0 3 3 1 = some wk by simp [dR, kx2.2.2.2.2.1 _ _ t2], bnop_ok, show dA ξ2 wk (xc g 0) = some (5, fw) by simp [dA, kx2.2.2.2.2.1 _ _ t3], bndp_ok, if_pos (inN (by omega) (by omega)), nI_clamp (by omega), t4 t (by omega)]
              exact h
            by_cases q : v < workM σ (nI t)
            · obtain ⟨w, σ5, z1, z2, z3⟩ := ih (b + 1) k s σ4 hk4 (by omega) (by omega) (by omega)
              refine ⟨w, σ5, ?_, z2, fun K hK ξ1 mc ms kx hmc hms => ?_⟩
              · show m_odds_34b N (m_odds_34 N k) (nI t) a2 (nI s) (nI b) σ1 = _
                unfold m_odds_34b
                simp only [km.1 0 rfl, eH2, nI_ge (show b < H by omega) (show H < 2 ^ 31 by omega), if_false, e1, e2, e3, e4, e5, bnd_ok, bnv_ok, bno_ok, nx_ok, q, if_true, m_odds_74, nI_1, Int32.add_zero, z1]
              · show y0_odds_35b N g _ _ (nI t) a2 (nJ s) (nI b) ξ1 mc ms
                unfold y0_odds_35b
                rw [kx.1 202 rfl, eH, if_neg (nI_ge (by omega) (by omega))]
                refine ⟨1, 6, by omega, by omega, hy ξ1 kx _ (fun ξ2 kx2 => hX ξ2 kx2 _ _ ?_)⟩
                simp only [q, if_true, y0_odds_70, nx_ok, nI_1]
                exact z3 K hK ξ2 _ _ kx2 (by omega) (by omega)
            · obtain ⟨w, σ5, z1, z2, z3⟩ := ih (b + 1) k (s + 1) σ4 hk4 (by omega) (by omega) (by omega)
              refine ⟨w, σ5, ?_, z2, fun K hK ξ1 mc ms kx hmc hms => ?_⟩
              · show m_odds_34b N (m_odds_34 N k) (nI t) a2 (nI s) (nI b) σ1 = _
                unfold m_odds_34b
                simp only [km.1 0 rfl, eH2, nI_ge (show b < H by omega) (show H < 2 ^ 31 by omega), if_false, e1, e2, e3, e4, e5, bnd_ok, bnv_ok, bno_ok, nx_ok, q, m_odds_74, nI_1, z1]
              · show y0_odds_35b N g _ _ (nI t) a2 (nJ s) (nI b) ξ1 mc ms
                unfold y0_odds_35b
                rw [kx.1 202 rfl, eH, if_neg (nI_ge (by omega) (by omega))]
                refine ⟨1, 6, by omega, by omega, hy ξ1 kx _ (fun ξ2 kx2 => hX ξ2 kx2 _ _ ?_)⟩
                simp only [q, if_false, y0_odds_70, nx_ok, nI_1, show nJ s + 1 = nJ (s + 1) from nJ_add s 1]
                exact z3 K hK ξ2 _ _ kx2 (by omega) (by omega)
        obtain ⟨v, σ2, z1, z2, z3⟩ := key H 0 N 0 σ (keepM_refl σ) (by omega) (by omega) (by omega)
        exact ⟨v, σ2, z1, z3 _ (fun ξ2 kx => ⟨rfl, Cp_keep hC kx z2⟩) ξ 9000 110000 (keepX_refl ξ) (by omega) (by omega)⟩
    · exact ⟨-9223372036854775808, σ, by simp [h1, h2], by simp [h1, h2, hC]⟩
  · exact ⟨-9223372036854775808, σ, by simp [h1], by simp [h1, hC]⟩
