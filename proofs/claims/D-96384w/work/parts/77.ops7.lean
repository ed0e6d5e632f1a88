/-! PURE: swap, day -/
set_option maxRecDepth 100000
theorem takes_Tp {N : Nat} {g : XG} {ξ0 ξ : XS} {σ0 σ : MS} {A H D T wk : Nat} {hq hr : Nat → Nat} (hT : Tp g 0 ξ0 σ0 A H D T wk hq hr) (hb : cByte 6 (xR ξ0 200)) (kx : keepX ξ0 ξ) (km : keepM σ0 σ) :
    ∃ ξ1, x1_takes N g 1 0 ξ = some ξ1 ∧ keepX ξ0 ξ1 ∧ Tp g 1 ξ1 σ A H D T wk hq hr ∧ cByte 6 (xR ξ1 210) := by
  have e20 : xR ξ 200 = xR ξ0 200 := kx.2.1 200 rfl
  have e21 : xR ξ 201 = xR ξ0 201 := kx.2.1 201 rfl
  have et := x1_takes_eq N g (a := 1) (b := 0) ξ (by show cByte 6 (xR ξ 200); rw [e20]; exact hb)
  refine ⟨_, et, ?_, ?_, ?_⟩
  · refine ⟨fun k hk => ?_, fun k hk => ?_, kx.2.2.1, kx.2.2.2.1, kx.2.2.2.2.1, kx.2.2.2.2.2⟩
    · show (if k = 213 then _ else if k = 212 then _ else xF ξ k) = _
      rw [if_neg (kFx_n hk rfl), if_neg (kFx_n hk rfl)]; exact kx.1 k hk
    · show (if k = 211 then _ else if k = 210 then _ else xR ξ k) = _
      rw [if_neg (kRx_n hk rfl), if_neg (kRx_n hk rfl)]; exact kx.2.1 k hk
  · obtain ⟨⟨p1, p2, p3, p4, p5, p6, p7, p8, p9, p10, p11, p12, p13, p14, p15⟩, t2, t3, t4, t5⟩ := hT
    have m := km.2.1
    have f := km.1
    refine ⟨⟨p1, p2, p3, p4, ?_, ?_, ?_, ?_, ?_, ?_, ?_, ?_, ?_, ?_, ?_⟩, ?_, ?_, ?_, ?_⟩
    · rw [f 2 rfl]; exact p5
    · show xF ξ 203 = nI D; rw [kx.1 203 rfl]; exact p6
    · rw [m 6 rfl, m 7 rfl, m 8 rfl, m 9 rfl, m 10 rfl, m 12 rfl]; exact p7
    · rw [m 3 rfl]; exact p8
    · rw [m 6 rfl, m 7 rfl, m 8 rfl, m 10 rfl]; show cObj g (dE ξ) (xQ ξ 3) _ _ _ _ _ _ _; rw [kx.2.2.1.1]; exact cObj_keep kx.2.2.2.2.1.w p9
    · rw [m 6 rfl, m 12 rfl]; exact cRow_ext (show ext (dE ξ0) (dE ξ) from kx.2.2.2.2.1) p10
    · rw [m 9 rfl]; show eqN 6 (xR ξ 2) _; rw [kx.2.1 2 rfl]; exact p11
    · rw [m 3 rfl]; show eqN 6 (xR ξ 0) _; rw [kx.2.1 0 rfl]; exact p12
    · intro i hi
      show va_cpy (xR ξ 201) (xR ξ 211) 0 0 6 i = _
      rw [cpy6 hi, e21, km.2.2.2.1 i hi]; exact p13 i hi
    · rw [f 15 rfl, m 20 rfl, m 21 rfl, m 22 rfl, m 23 rfl]; exact p14
    · rw [f 15 rfl, m 20 rfl, m 21 rfl, m 22 rfl, m 23 rfl, m 24 rfl, m 25 rfl, m 26 rfl]; show cTown g (dE ξ) (xo ξ 11) _ _ _ _ _ _ _ _ _; rw [kx.2.2.2.1]; exact cTown_keep kx.2.2.2.2.1.w (fun e => kx.2.2.2.2.1 _ e) p15
    · rw [f 0 rfl]; exact t2
    · show xF ξ 202 = nI H; rw [kx.1 202 rfl]; exact t3
    · intro i hi
      show va_cpy (xR ξ 200) (xR ξ 210) 0 0 6 i = _
      rw [cpy6 hi, e20, km.2.2.1 i hi]; exact t4 i hi
    · intro h hh
      rw [km.2.2.1 h (by omega)]; exact t5 h hh
  · intro i hi
    show fits .byte (.int (va_cpy (xR ξ 200) (xR ξ 210) 0 0 6 i)) = true
    rw [cpy6 hi, e20]; exact hb i hi
theorem Cp_all {g : XG} {ξ : XS} {σ : MS} (hC : Cp g ξ σ) : ∃ A H D T wk hq hr, Tp g 0 ξ σ A H D T wk hq hr ∧ xF ξ 4 = nI A ∧ gF σ 1 = nI A ∧ cByte 6 (xR ξ 200) ∧ cInj H (gR σ 5) ∧ D ≤ 9999 ∧ (∀ a, a < A → rg (gR σ 11 a) 9999) := by
  obtain ⟨H, A, D, S, B, T, F, R, wk, wi, hq, hr, hn, hs, hc, hrow, hby, hbw, hobj, hrw, hrd, hah, htx, hthe, htown, htr, htp, htd, him⟩ := id hC
  have eH : xF ξ 202 = nI H := hs.1.trans hn.1
  have eH2 : gF σ 0 = nI H := hn.1
  have eA : xF ξ 4 = nI A := hs.2.1.trans hn.2.1
  have eA2 : gF σ 1 = nI A := hn.2.1
  have eD : xF ξ 203 = nI D := hs.2.2.1.trans hn.2.2.1
  have eD2 : gF σ 2 = nI D := hn.2.2.1
  have eS : xF ξ 18 = nI S := hs.2.2.2.1.trans hn.2.2.2.1
  have eS2 : gF σ 43 = nI S := hn.2.2.2.1
  have eB : xF ξ 19 = nI B := hs.2.2.2.2.trans hn.2.2.2.2
  have eB2 : gF σ 47 = nI B := hn.2.2.2.2
  have lH : H ≤ 6 := hc.1
  have lA : A ≤ 6 := hc.2.1
  have lD : D ≤ 9999 := hc.2.2.1
  have lS : S ≤ 6 := hc.2.2.2.1
  have lB : B ≤ 8 := hc.2.2.2.2.1
  obtain ⟨lT, eT2, eT, lF, eF2, eF, htxt, hlet, hmu⟩ := id htx
  obtain ⟨lR, eR2, eR, hbod⟩ := id htr
  obtain ⟨c1, c2, c3, c4, c5, c6, c7, c8, c9, c10, c11⟩ := id hc
  obtain ⟨r1, r2, r3, r4, r5, r6, r7, r8, r9, r10⟩ := id hrow
  exact ⟨A, H, D, T, wk, hq, hr, ⟨⟨lA, lH, by omega, lT, eD2, eD, fun a ha => ⟨(c8 a ha).1, (c8 a ha).2.1, (c8 a ha).2.2.1, (c8 a ha).2.2.2.1, (c8 a ha).2.2.2.2.1, ⟨0, by omega, rfl⟩, (c8 a ha).2.2.2.2.2.2⟩, fun h hh => (c6 h hh).1, hobj, hrw, r4, r1, r5, hthe, htown⟩, eH2, eH, r3, fun h hh => (c6 h hh).2.2⟩, eA, eA2, hby, c7, c3, fun a ha => (c8 a ha).2.2.2.2.2.1⟩
theorem Tp_swap {g : XG} {ξ : XS} {σ : MS} {A H D T wk a b : Nat} {hq hr : Nat → Nat} (h : Tp g 1 ξ σ A H D T wk hq hr) (ha : a < H) (hb : b < H) : Tp g 1 (sXR (sXR ξ 210 a (xR ξ 210 b)) 210 b (xR ξ 210 a)) (sR (sR σ 5 a (gR σ 5 b)) 5 b (gR σ 5 a)) A H D T wk hq hr := by
  obtain ⟨⟨p1, p2, p3, p4, p5, p6, p7, p8, p9, p10, p11, p12, p13, p14, p15⟩, t2, t3, t4, t5⟩ := h
  refine ⟨⟨p1, p2, p3, p4, p5, p6, p7, p8, p9, p10, p11, p12, p13, p14, p15⟩, t2, t3, ?_, fun h hh => ?_⟩
  · have ea : xR ξ 210 a = gR σ 5 a := t4 a (by omega)
    have eb : xR ξ 210 b = gR σ 5 b := t4 b (by omega)
    show eqN 6 (upd (upd (xR ξ 210) a (xR ξ 210 b)) b (xR ξ 210 a)) (upd (upd (gR σ 5) a (gR σ 5 b)) b (gR σ 5 a))
    rw [ea, eb]
    exact eqN_upd (eqN_upd t4)
  · show hx (upd (upd (gR σ 5) a (gR σ 5 b)) b (gR σ 5 a) h) A
    simp only [upd_at]
    split
    · exact t5 a ha
    · split
      · exact t5 b hb
      · exact t5 h hh
theorem hx_nar {x : Int32} {n : Nat} (hn : n ≤ 100) (h : hx x n) : vp_nar .byte x = x := (hx_fit hn h).2
set_option maxHeartbeats 2000000 in
theorem op_24 {N : Nat} (hN : 1000 ≤ N) (g : XG) : OP_24 N g (Cp g) := by
  intro ξ σ hC
  obtain ⟨A, H, D, T, wk, hq, hr, hT, eA, eA2, hby, hin, lD, hus⟩ := Cp_all hC
  have lA : A ≤ 6 := hT.1.1
  have lH : H ≤ 6 := hT.1.2.1
  have eH2 := hT.2.1
  have eH : xF ξ 202 = nI H := hT.2.2.1
  have key : ∀ (n c k : Nat) (best pair : Int32) (ξ1 : XS) (σ1 : MS), keepX ξ ξ1 → keepM σ σ1 → n + c = H → n < k → ∃ v ξ2 σ2, x0_swap_15 N g k pair best (nI c) ξ1 = some (v, ξ2) ∧ m_swap_11 N k best pair (nI c) σ1 = some (v, σ2) ∧ keepX ξ ξ2 ∧ keepM σ σ2 := by
    intro n
    induction n with
    | zero =>
      intro c k best pair ξ1 σ1 kx km hc hk
      obtain ⟨k, rfl⟩ : ∃ k', k = k' + 1 := ⟨k - 1, by omega⟩
      show ∃ v ξ2 σ2, x0_swap_15b N g (x0_swap_15 N g k) pair best (nI c) ξ1 = some (v, ξ2) ∧ m_swap_11b N (m_swap_11 N k) best pair (nI c) σ1 = some (v, σ2) ∧ _
      unfold x0_swap_15b m_swap_11b
      rw [kx.1 202 rfl, km.1 0 rfl, eH, eH2, if_pos (nI_le (by omega) (by omega)), if_pos (nI_le (by omega) (by omega))]
      exact ⟨_, _, _, rfl, rfl, kx, km⟩
    | succ n ih =>
      intro c k best pair ξ1 σ1 kx km hc hk
      obtain ⟨k, rfl⟩ : ∃ k', k = k' + 1 := ⟨k - 1, by omega⟩
      show ∃ v ξ2 σ2, x0_swap_15b N g (x0_swap_15 N g k) pair best (nI c) ξ1 = some (v, ξ2) ∧ m_swap_11b N (m_swap_11 N k) best pair (nI c) σ1 = some (v, σ2) ∧ _
      unfold x0_swap_15b m_swap_11b
      have inner : ∀ (m d j : Nat) (best pair : Int32) (ξ1 : XS) (σ1 : MS), keepX ξ ξ1 → keepM σ σ1 → m + d = H → m < j → c < d → ∃ v ξ2 σ2, x0_swap_31 N g (x0_swap_15 N g k) j pair best (nI c) (nI d) ξ1 = some (v, ξ2) ∧ m_swap_24 N (m_swap_11 N k) j best pair (nI c) (nI d) σ1 = some (v, σ2) ∧ keepX ξ ξ2 ∧ keepM σ σ2 := by
        intro m
        induction m with
        | zero =>
          intro d j best pair ξ1 σ1 kx km hd hj hcd
          obtain ⟨j, rfl⟩ : ∃ j', j = j' + 1 := ⟨j - 1, by omega⟩
          show ∃ v ξ2 σ2, x0_swap_31b N g (x0_swap_15 N g k) (x0_swap_31 N g (x0_swap_15 N g k) j) pair best (nI c) (nI d) ξ1 = some (v, ξ2) ∧ m_swap_24b N (m_swap_11 N k) (m_swap_24 N (m_swap_11 N k) j) best pair (nI c) (nI d) σ1 = some (v, σ2) ∧ _
          unfold x0_swap_31b m_swap_24b
          rw [kx.1 202 rfl, km.1 0 rfl, eH, eH2, if_pos (nI_le (by omega) (by omega)), if_pos (nI_le (by omega) (by omega))]
          simp only [nx_ok, nI_1]
          exact ih (c + 1) k best pair ξ1 σ1 kx km (by omega) (by omega)
        | succ m ihm =>
          intro d j best pair ξ1 σ1 kx km hd hj hcd
          obtain ⟨j, rfl⟩ : ∃ j', j = j' + 1 := ⟨j - 1, by omega⟩
          show ∃ v ξ2 σ2, x0_swap_31b N g (x0_swap_15 N g k) (x0_swap_31 N g (x0_swap_15 N g k) j) pair best (nI c) (nI d) ξ1 = some (v, ξ2) ∧ m_swap_24b N (m_swap_11 N k) (m_swap_24 N (m_swap_11 N k) j) best pair (nI c) (nI d) σ1 = some (v, σ2) ∧ _
          unfold x0_swap_31b m_swap_24b
          have hc6 : c < 6 := by omega
          have hd6 : d < 6 := by omega
          obtain ⟨ξ2, e1, kx2, hT2, hb2⟩ := takes_Tp (N := N) hT hby kx km
          have na : vp_nar .byte (xR ξ2 (200 + 10 * 1) c) = xR ξ2 (200 + 10 * 1) c := by
            rw [hT2.2.2.2.1 c hc6]; exact hx_nar (by omega) (hT2.2.2.2.2 c (by omega))
          have nb : vp_nar .byte (xR ξ2 (200 + 10 * 1) d) = xR ξ2 (200 + 10 * 1) d := by
            rw [hT2.2.2.2.1 d hd6]; exact hx_nar (by omega) (hT2.2.2.2.2 d (by omega))
          have e2 := x1_changes_eq N g 1 ξ2 hc6 hd6 na nb
          have hT3 := Tp_swap hT2 (show c < H by omega) (show d < H by omega)
          obtain ⟨ξ3, e3, hl⟩ := x0_todayOf_eq hN (by omega) _ hT3 (-1) (lkeq_refl _)
          obtain ⟨p, e4⟩ := m_todayOf_eq hN (by omega) _ hT3 (t := -1) (Or.inl rfl) (gR (sR (sR σ1 5 c (gR σ1 5 d)) 5 d (gR σ1 5 c)) 32)
          rw [sP_self] at e4
          have e5 := m_swaps_eq N (sP (sR (sR σ1 5 c (gR σ1 5 d)) 5 d (gR σ1 5 c)) p) hc6 hd6
          simp only [kx.1 202 rfl, km.1 0 rfl, eH, eH2, nI_ge (show d < H by omega) (show H < 2 ^ 31 by omega), if_false, e1, bnv_ok, e2, m_swaps_eq N σ1 hc6 hd6]
          have e3' : x0_todayOf N g 1 (-1) (sXR (sXR ξ2 (200 + 10 * 1) c (xR ξ2 (200 + 10 * 1) d)) (200 + 10 * 1) d (xR ξ2 (200 + 10 * 1) c)) = some (todayM (sR (sR σ1 5 c (gR σ1 5 d)) 5 d (gR σ1 5 c)) H (-1), ξ3) := e3
          simp only [e3', e4, bnd_ok, nx_ok, e5, bnv_ok, x0_swap_95, m_swap_74, nI_1]
          have kx3 : keepX ξ ξ3 := by
            refine keepX.trans ?_ (keepX_lk hl)
            refine ⟨kx2.1, fun k hk => ?_, kx2.2.2⟩
            rw [xR_sXR, if_neg (kRx_n hk rfl), xR_sXR, if_neg (kRx_n hk rfl)]; exact kx2.2.1 k hk
          have km3 : keepM σ (sR (sR (sP (sR (sR σ1 5 c (gR σ1 5 d)) 5 d (gR σ1 5 c)) p) 5 c (gR (sP (sR (sR σ1 5 c (gR σ1 5 d)) 5 d (gR σ1 5 c)) p) 5 d)) 5 d (gR (sP (sR (sR σ1 5 c (gR σ1 5 d)) 5 d (gR σ1 5 c)) p) 5 c)) := by
            refine ⟨km.1, fun k hk => ?_, fun i hi => ?_, km.2.2.2.1, km.2.2.2.2⟩
            · rw [gR_sR, if_neg (kRm_n hk rfl), gR_sR, if_neg (kRm_n hk rfl), gR_sP, if_neg (kRm_32 hk), gR_sR, if_neg (kRm_n hk rfl), gR_sR, if_neg (kRm_n hk rfl)]; exact km.2.1 k hk
            · refine Eq.trans ?_ (km.2.2.1 i hi)
              have hcd' : ¬ c = d := by omega
              have hdc' : ¬ d = c := by omega
              simp only [gR_sR, gR_sP, upd_at, if_true, show ¬ (5 : Nat) = 32 by decide, if_false]
              by_cases f1 : i = d
              · subst f1; simp [hcd', hdc']
              · by_cases f2 : i = c
                · subst f2; simp [hcd', hdc']
                · simp [f1, f2]
          by_cases q : best < todayM (sR (sR σ1 5 c (gR σ1 5 d)) 5 d (gR σ1 5 c)) H (-1)
          · simp only [q, if_true]
            exact ihm (d + 1) j _ _ ξ3 _ kx3 km3 (by omega) (by omega) (by omega)
          · simp only [q, if_false]
            exact ihm (d + 1) j _ _ ξ3 _ kx3 km3 (by omega) (by omega) (by omega)
      simp only [kx.1 202 rfl, km.1 0 rfl, eH, eH2, nI_ge (show c < H by omega) (show H < 2 ^ 31 by omega), if_false, nx_ok, nI_1]
      exact inner (H - (c + 1)) (c + 1) N best pair ξ1 σ1 kx km (by omega) (by omega) (by omega)
  unfold x0_swap m_swap
  obtain ⟨p, e1⟩ := m_todayOf_eq hN (by omega) σ hT (t := -1) (Or.inl rfl) (gR σ 32)
  obtain ⟨ξ2, e2, hl⟩ := x0_todayOf_eq hN (by omega) σ hT (-1) (lkeq_refl ξ)
  rw [sP_self] at e1
  simp only [nx_ok, e1, e2, bnd_ok]
  obtain ⟨v, ξ3, σ3, z1, z2, kx, km⟩ := key H 0 N (todayM σ H (-1)) (-5) ξ2 (sP σ p) (keepX_lk hl) (keepM_sP σ p) (by omega) (by omega)
  exact ⟨v, ξ3, σ3, z1, z2, Cp_keep hC kx km⟩
