/-! PURE: trials: start, a day, an end; on, lasts, swap -/
set_option maxRecDepth 100000
theorem sim_start {N : Nat} (hN : 1000 ≤ N) {g : XG} {ξ0 ξ : XS} {σ0 σ : MS} {A H D T wk : Nat} {hq hr : Nat → Nat} (hT : Tp g 0 ξ0 σ0 A H D T wk hq hr) (hu : ∀ a, a < A → rg (gR σ0 11 a) 9999) (hb : cByte 6 (xR ξ0 200)) (hi : cInj H (gR σ0 5)) (kx : keepX ξ0 ξ) (km : keepM σ0 σ) :
    ∃ ξ1 σ1, x1_takes N g 1 0 ξ = some ξ1 ∧ m_save N σ = some σ1 ∧ Sim g ξ0 σ0 ξ1 σ1 A H D T wk hq hr 9999 := by
  obtain ⟨σ1, s1, s2, s3, s4, s5, s6, s7, s8⟩ := m_save_eq hN σ
  have e20 : xR ξ 200 = xR ξ0 200 := kx.2.1 200 rfl
  have e21 : xR ξ 201 = xR ξ0 201 := kx.2.1 201 rfl
  have et := x1_takes_eq N g (a := 1) (b := 0) ξ (by show cByte 6 (xR ξ 200); rw [e20]; exact hb)
  refine ⟨_, σ1, et, s1, ?_, keepS_save km s2 s3 s4 s5 s6 s7 s8, ?_, ?_, ?_, ?_⟩
  · refine ⟨fun k hk => ?_, fun k hk => ?_, kx.2.2.1, kx.2.2.2.1, kx.2.2.2.2.1, kx.2.2.2.2.2⟩
    · show (if k = 213 then _ else if k = 212 then _ else xF ξ k) = _
      rw [if_neg (kFx_n hk rfl), if_neg (kFx_n hk rfl)]; exact kx.1 k hk
    · show (if k = 211 then _ else if k = 210 then _ else xR ξ k) = _
      rw [if_neg (kRx_n hk rfl), if_neg (kRx_n hk rfl)]; exact kx.2.1 k hk
  · obtain ⟨⟨p1, p2, p3, p4, p5, p6, p7, p8, p9, p10, p11, p12, p13, p14, p15⟩, t2, t3, t4, t5⟩ := hT
    have m : ∀ k, kRm k = true → gR σ1 k = gR σ0 k := fun k hk => (s3 k (kRm_n hk rfl) (kRm_n hk rfl)).trans (km.2.1 k hk)
    have f : ∀ k, kFm k = true → k ≠ 33 → gF σ1 k = gF σ0 k := fun k hk h => (s2 k h (kFm_n hk rfl)).trans (km.1 k hk)
    refine ⟨⟨p1, p2, p3, p4, ?_, ?_, ?_, ?_, ?_, ?_, ?_, ?_, ?_, ?_, ?_⟩, ?_, ?_, ?_, ?_⟩
    · rw [f 2 rfl (by omega)]; exact p5
    · show xF ξ 203 = nI D; rw [kx.1 203 rfl]; exact p6
    · rw [m 6 rfl, m 7 rfl, m 8 rfl, m 9 rfl, m 10 rfl, m 12 rfl]; exact p7
    · rw [m 3 rfl]; exact p8
    · rw [m 6 rfl, m 7 rfl, m 8 rfl, m 10 rfl]; show cObj g (dE ξ) (xQ ξ 3) _ _ _ _ _ _ _; rw [kx.2.2.1.1]; exact cObj_keep kx.2.2.2.2.1.w p9
    · rw [m 6 rfl, m 12 rfl]; exact cRow_ext (show ext (dE ξ0) (dE ξ) from kx.2.2.2.2.1) p10
    · rw [m 9 rfl]; show eqN 6 (xR ξ 2) _; rw [kx.2.1 2 rfl]; exact p11
    · rw [m 3 rfl]; show eqN 6 (xR ξ 0) _; rw [kx.2.1 0 rfl]; exact p12
    · intro i hi
      show va_cpy (xR ξ 201) (xR ξ 211) 0 0 6 i = _
      rw [cpy6 hi, e21, s3 11 (by omega) (by omega), km.2.2.2.1 i hi]; exact p13 i hi
    · rw [f 15 rfl (by omega), m 20 rfl, m 21 rfl, m 22 rfl, m 23 rfl]; exact p14
    · rw [f 15 rfl (by omega), m 20 rfl, m 21 rfl, m 22 rfl, m 23 rfl, m 24 rfl, m 25 rfl, m 26 rfl]; show cTown g (dE ξ) (xo ξ 11) _ _ _ _ _ _ _ _ _; rw [kx.2.2.2.1]; exact cTown_keep kx.2.2.2.2.1.w (fun e => kx.2.2.2.2.1 _ e) p15
    · rw [f 0 rfl (by omega)]; exact t2
    · show xF ξ 202 = nI H; rw [kx.1 202 rfl]; exact t3
    · intro i hi
      show va_cpy (xR ξ 200) (xR ξ 210) 0 0 6 i = _
      rw [cpy6 hi, e20, s3 5 (by omega) (by omega), km.2.2.1 i hi]; exact t4 i hi
    · intro h hh
      rw [s3 5 (by omega) (by omega), km.2.2.1 h (by omega)]; exact t5 h hh
  · intro a ha
    have := hT.1.1
    rw [s3 11 (by omega) (by omega), km.2.2.2.1 a (by omega)]; exact hu a ha
  · intro i hi
    show fits .byte (.int (va_cpy (xR ξ 200) (xR ξ 210) 0 0 6 i)) = true
    rw [cpy6 hi, e20]; exact hb i hi
  · rw [s3 5 (by omega) (by omega)]
    exact cInj_eq hT.1.2.1 km.2.2.1 hi
theorem Sim_lk {g : XG} {ξ0 ξ ξ' : XS} {σ0 σ : MS} {A H D T wk : Nat} {hq hr : Nat → Nat} {U : Nat} (h : Sim g ξ0 σ0 ξ σ A H D T wk hq hr U) (hl : lkeq ξ ξ') (p : Nat → Int32) : Sim g ξ0 σ0 ξ' (sP σ p) A H D T wk hq hr U := by
  obtain ⟨h1, ⟨k1, k2, k3, k4, k5, k6, k7⟩, h3, h4, h5, h6⟩ := h
  refine ⟨h1.trans (keepX_lk hl), ⟨k1, fun k hk => ?_, k3, k4, k5, k6, k7⟩, Tp_lk (by omega) h3 hl p, h4, ?_, h6⟩
  · rw [gR_sP, if_neg (kRm_32 hk)]; exact k2 k hk
  · rw [hl.2.1]; exact h5
theorem sim_today {N : Nat} (hN : 1000 ≤ N) {g : XG} {ξ0 ξ : XS} {σ0 σ : MS} {A H D T wk : Nat} {hq hr : Nat → Nat} {U : Nat} (h : Sim g ξ0 σ0 ξ σ A H D T wk hq hr U) {t : Int32} (ht : t = -1 ∨ 0 ≤ t) : ∃ ξ1 p, x0_todayOf N g 1 t ξ = some (todayM σ H t, ξ1) ∧ m_todayOf N t σ = some (todayM σ H t, sP σ p) ∧ lkeq ξ ξ1 ∧ Sim g ξ0 σ0 ξ1 (sP σ p) A H D T wk hq hr U := by
  obtain ⟨p, e1⟩ := m_todayOf_eq hN (by omega) σ h.2.2.1 ht (gR σ 32)
  obtain ⟨ξ2, e2, hl⟩ := x0_todayOf_eq hN (by omega) σ h.2.2.1 t (lkeq_refl ξ)
  rw [sP_self] at e1
  exact ⟨ξ2, p, e2, e1, hl, Sim_lk h hl p⟩
theorem sim_enough {N : Nat} (hN : 1000 ≤ N) {g : XG} {ξ0 ξ : XS} {σ0 σ : MS} {A H D T wk : Nat} {hq hr : Nat → Nat} {U : Nat} (h : Sim g ξ0 σ0 ξ σ A H D T wk hq hr U) {j : Nat} (hj : j < 5) : ∃ ξ1 p, x0_isEnough N g 1 (nI j) ξ = some (if todayM σ H (nI j) < workM σ (nI j) then 0 else 1, ξ1) ∧ m_todayOf N (nI j) σ = some (todayM σ H (nI j), sP σ p) ∧ m_work N (nI j) (sP σ p) = some (workM σ (nI j), sP σ p) ∧ Sim g ξ0 σ0 ξ1 (sP σ p) A H D T wk hq hr U := by
  obtain ⟨p, e1⟩ := m_todayOf_eq hN (by omega) σ h.2.2.1 (t := nI j) (Or.inr (nI_pos' (by omega))) (gR σ 32)
  obtain ⟨ξ2, e2, hl⟩ := x0_isEnough_eq hN (by omega) σ h.2.2.1 hj (lkeq_refl ξ)
  rw [sP_self] at e1
  exact ⟨ξ2, p, e2, e1, m_work_at hN h.2.2.1.1 (nI j) p, Sim_lk h hl p⟩
theorem sim_wear {g : XG} {ξ0 ξ : XS} {σ0 σ : MS} {A H D T wk : Nat} {hq hr : Nat → Nat} {U a u : Nat} (h : Sim g ξ0 σ0 ξ σ A H D T wk hq hr U) (hu : u ≤ U + 1) : Sim g ξ0 σ0 (sXR ξ 211 a (nI u)) (sR σ 11 a (nI u)) A H D T wk hq hr (U + 1) := by
  obtain ⟨h1, ⟨k1, k2, k3, k4, k5, k6, k7⟩, ⟨⟨p1, p2, p3, p4, p5, p6, p7, p8, p9, p10, p11, p12, p13, p14, p15⟩, t2, t3, t4, t5⟩, h4, h5, h6⟩ := h
  refine ⟨⟨h1.1, fun k hk => ?_, h1.2.2⟩, ⟨k1, fun k hk => ?_, k3, k4, k5, k6, k7⟩, ⟨⟨p1, p2, p3, p4, p5, p6, p7, p8, p9, p10, p11, p12, eqN_upd (i := a) (v := nI u) p13, p14, p15⟩, t2, t3, t4, t5⟩, fun b hb => ?_, h5, h6⟩
  · rw [xR_sXR, if_neg (kRx_n hk rfl)]; exact h1.2.1 k hk
  · rw [gR_sR, if_neg (kRm_n hk rfl)]; exact k2 k hk
  · show rg (upd (gR σ 11) a (nI u) b) _
    rw [upd_at]
    split
    · exact ⟨u, hu, rfl⟩
    · obtain ⟨c, hc, e⟩ := h4 b hb
      exact ⟨c, by omega, e⟩
theorem nI_add1 {u : Nat} : nI u + 1 = nI (u + 1) := nI_1 u
theorem sim_day {N : Nat} (hN : 1000 ≤ N) {g : XG} {ξ0 ξ : XS} {σ0 σ : MS} {A H D T wk : Nat} {hq hr : Nat → Nat} {U : Nat} (hU : U ≤ 100000) (hD : D ≤ 100000) (h : Sim g ξ0 σ0 ξ σ A H D T wk hq hr U) : ∃ ξ1 σ1, x1_wears N g 1 ξ = some ξ1 ∧ m_goDay N σ = some σ1 ∧ Sim g ξ0 σ0 ξ1 σ1 A H (D + 1) T wk hq hr (U + 6) := by
  have lA : A ≤ 6 := h.2.2.1.1.1
  have lH : H ≤ 6 := h.2.2.1.1.2.1
  have key : ∀ (n b k V : Nat) (ξ : XS) (σ : MS), Sim g ξ0 σ0 ξ σ A H D T wk hq hr V → V + n ≤ U + 6 → n + b = H → n < k → ∃ ξ1 σ1, x1_wears_2 N g 1 k (nI b) ξ = some ξ1 ∧ m_goDay_2 N k (nI b) σ = some σ1 ∧ Sim g ξ0 σ0 ξ1 σ1 A H (D + 1) T wk hq hr (U + 6) := by
    intro n
    induction n with
    | zero =>
      intro b k V ξ σ hs hV hb hk
      obtain ⟨k, rfl⟩ : ∃ k', k = k' + 1 := ⟨k - 1, by omega⟩
      show ∃ ξ1 σ1, x1_wears_2b N g 1 (x1_wears_2 N g 1 k) (nI b) ξ = some ξ1 ∧ m_goDay_2b N (m_goDay_2 N k) (nI b) σ = some σ1 ∧ _
      unfold x1_wears_2b m_goDay_2b
      obtain ⟨h1, ⟨k1, k2, k3, k4, k5, k6, k7⟩, ⟨⟨p1, p2, p3, p4, p5, p6, p7, p8, p9, p10, p11, p12, p13, p14, p15⟩, t2, t3, t4, t5⟩, h4, h5, h6⟩ := hs
      rw [t3, t2, if_pos (nI_le (by omega) (by omega)), if_pos (nI_le (by omega) (by omega)), p6, p5]
      refine ⟨_, _, rfl, rfl, ⟨fun k hk => ?_, h1.2⟩, ⟨fun k hk q1 q2 => ?_, k2, k3, k4, k5, k6, k7⟩, ⟨⟨p1, p2, by omega, p4, nI_1 D, nI_1 D, p7, p8, p9, p10, p11, p12, p13, p14, p15⟩, t2, t3, t4, t5⟩, fun a ha => ?_, h5, h6⟩
      · rw [xF_sXF, if_neg (kFx_n hk rfl)]; exact h1.1 k hk
      · rw [gF_sF, if_neg q1]; exact k1 k hk q1 q2
      · obtain ⟨c, hc, e⟩ := h4 a ha
        exact ⟨c, by omega, e⟩
    | succ n ih =>
      intro b k V ξ σ hs hV hb hk
      obtain ⟨k, rfl⟩ : ∃ k', k = k' + 1 := ⟨k - 1, by omega⟩
      show ∃ ξ1 σ1, x1_wears_2b N g 1 (x1_wears_2 N g 1 k) (nI b) ξ = some ξ1 ∧ m_goDay_2b N (m_goDay_2 N k) (nI b) σ = some σ1 ∧ _
      unfold x1_wears_2b m_goDay_2b
      obtain ⟨h1, ⟨k1, k2, k3, k4, k5, k6, k7⟩, ⟨⟨p1, p2, p3, p4, p5, p6, p7, p8, p9, p10, p11, p12, p13, p14, p15⟩, t2, t3, t4, t5⟩, h4, h5, h6⟩ := id hs
      have hb6 : b < 6 := by omega
      have t4b : xR ξ (200 + 10 * 1) b = gR σ 5 b := t4 b hb6
      simp only [t3, t2, nI_ge (show b < H by omega) (show H < 2 ^ 31 by omega), if_false, in6 hb6, cl6 hb6, if_true, t4b, nx_ok, x1_wears_35, m_goDay_68, m_goDay_67, nI_1, k3]
      rcases t5 b (by omega) with hw | ⟨a, ha, hw⟩
      · simp only [hw, if_true, show (-1 : Int32) < 0 by decide]
        exact ih (b + 1) k V ξ σ hs (by omega) (by omega) (by omega)
      · have ha6 : a < 6 := by omega
        obtain ⟨u, hu, eu⟩ := h4 a ha
        have exu : xR ξ (201 + 10 * 1) a = nI u := (p13 a ha6).trans eu
        have h9 : ¬ (2000000000 : Int32) ≤ nI u := nI_ge (b := 2000000000) (by omega) (by omega)
        simp only [hw, nI_ne1 (show a < 2 ^ 31 by omega), nI_pos (show a < 2 ^ 31 by omega), if_false, in6 ha6, cl6 ha6, if_true, eu, exu, h9, nI_1]
        exact ih (b + 1) k (V + 1) _ _ (sim_wear (a := a) hs (show u + 1 ≤ V + 1 by omega)) (by omega) (by omega) (by omega)
  unfold x1_wears m_goDay
  exact key H 0 N U ξ σ h (by omega) (by omega) (by omega)
