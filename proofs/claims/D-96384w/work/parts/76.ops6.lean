/-! PURE: on, lasts, swap -/
set_option maxRecDepth 100000
theorem Cp_sim {N : Nat} (hN : 1000 ≤ N) {g : XG} {ξ0 ξ : XS} {σ0 σ : MS} (hC : Cp g ξ0 σ0) (kx : keepX ξ0 ξ) (km : keepM σ0 σ) : ∃ A H D T wk hq hr ξ1 σ1, D ≤ 9999 ∧ x1_takes N g 1 0 ξ = some ξ1 ∧ m_save N σ = some σ1 ∧ Sim g ξ0 σ0 ξ1 σ1 A H D T wk hq hr 9999 ∧ xF ξ0 202 = nI H ∧ gF σ0 0 = nI H ∧ H ≤ 6 ∧ A ≤ 6 := by
  have hC2 := hC
  obtain ⟨H, A, D, S, B, T, F, R, wk, wi, hq, hr, hn, hs, hc, hrow, hby, hbw, hobj, hrw, hrd, hah, htx, hthe, htown, htr, htp, htd, him⟩ := hC
  obtain ⟨c1, c2, c3, c4, c5, c6, c7, c8, c9, c10, c11⟩ := id hc
  obtain ⟨r1, r2, r3, r4, r5, r6, r7, r8, r9, r10⟩ := id hrow
  have hT : Tp g 0 ξ0 σ0 A H D T wk hq hr := ⟨⟨c2, c1, by omega, htx.1, hn.2.2.1, hs.2.2.1.trans hn.2.2.1, fun a ha => ⟨(c8 a ha).1, (c8 a ha).2.1, (c8 a ha).2.2.1, (c8 a ha).2.2.2.1, (c8 a ha).2.2.2.2.1, ⟨0, by omega, rfl⟩, (c8 a ha).2.2.2.2.2.2⟩, fun h hh => (c6 h hh).1, hobj, hrw, r4, r1, r5, hthe, htown⟩, hn.1, hs.1.trans hn.1, r3, fun h hh => (c6 h hh).2.2⟩
  obtain ⟨ξ1, σ1, e1, e2, h⟩ := sim_start hN hT (fun a ha => (c8 a ha).2.2.2.2.2.1) hby c7 kx km
  exact ⟨A, H, D, T, wk, hq, hr, ξ1, σ1, c3, e1, e2, h, hT.2.2.1, hT.2.1, c1, c2⟩
theorem Cp_33 {g : XG} {ξ : XS} {σ : MS} (hC : Cp g ξ σ) : gF σ 33 = 9999 := by
  obtain ⟨H, A, D, S, B, T, F, R, wk, wi, hq, hr, hn, hs, hc, hrow, hby, hbw, hobj, hrw, hrd, hah, htx, hthe, htown, htr, htp, htd, him⟩ := id hC
  have eH : xF ξ 202 = nI H := hs.1.trans hn.1
  have eH2 : gF σ 0 = nI H := hn.1
  have eA : xF ξ 4 = nI A := hs.2.1.trans hn.2.1
  have eA2 : gF σ 1 = nI A := hn.2.1
  have eD : xF ξ 203 = nI D := hs.2.2.1.trans hn.2.2.1
  have eD2 : gF σ 2 = nI D := hn.2.2.1
  have eS : xF ξ 18 = nI S := hs.2.2.2.1.trans hn.2.2.2.1
  have eS2 : gF σ 43 = nI S := hn.2.2.2.1
  have eB : xF ξ 19 = nI B := hs.2.2.2.2.trans hn.2.2.2.2
  have eB2 : gF σ 47 = nI B := hn.2.2.2.2
  have lH : H ≤ 6 := hc.1
  have lA : A ≤ 6 := hc.2.1
  have lD : D ≤ 9999 := hc.2.2.1
  have lS : S ≤ 6 := hc.2.2.2.1
  have lB : B ≤ 8 := hc.2.2.2.2.1
  obtain ⟨lT, eT2, eT, lF, eF2, eF, htxt, hlet, hmu⟩ := id htx
  obtain ⟨lR, eR2, eR, hbod⟩ := id htr
  exact hmu
theorem op_17 {N : Nat} (hN : 1000 ≤ N) (g : XG) : OP_17 N g (Cp g) := by
  intro a1 a2 ξ σ hC
  have h33 := Cp_33 hC
  unfold x0_on m_on
  simp only [x0_isTrade_eq, m_isTrade_eq, x0_in_eq, m_in_eq, bnd_ok, bnv_ok, bno_ok, nx_ok, b0]
  by_cases h1 : 0 ≤ a1 ∧ a1 ≤ 4
  · by_cases h2 : 0 ≤ a2 ∧ a2 ≤ 30
    · simp only [h1, h2, and_self, not_true, if_false]
      obtain ⟨d, hd, rfl⟩ := rg_of (n := 30) (by omega) h2.1 h2.2
      obtain ⟨A, H, D, T, wk, hq, hr, ξ1, σ1, lD, e1, e2, hS, -, -, lH, lA⟩ := Cp_sim hN hC (keepX_refl ξ) (keepM_refl σ)
      simp only [e1, e2, bnv_ok]
      have key : ∀ (n b k : Nat) (x : Int32) (D U : Nat) (ξ1 : XS) (σ1 : MS), Sim g ξ σ ξ1 σ1 A H D T wk hq hr U → D + n ≤ 20000 → U + 6 * n ≤ 20000 → n + b = d → n < k → ∃ v ξ2 σ2, x0_on_38 N g k a1 (nI d) x (nI b) ξ1 = some (v, ξ2) ∧ m_on_33 N k a1 (nI d) x (nI b) σ1 = some (v, σ2) ∧ keepX ξ ξ2 ∧ keepM σ σ2 := by
        intro n
        induction n with
        | zero =>
          intro b k x D U ξ1 σ1 hS hD hU hb hk
          obtain ⟨k, rfl⟩ : ∃ k', k = k' + 1 := ⟨k - 1, by omega⟩
          show ∃ v ξ2 σ2, x0_on_38b N g (x0_on_38 N g k) a1 (nI d) x (nI b) ξ1 = some (v, ξ2) ∧ m_on_33b N (m_on_33 N k) a1 (nI d) x (nI b) σ1 = some (v, σ2) ∧ _
          unfold x0_on_38b m_on_33b
          rw [if_pos (nI_le (by omega) (by omega)), if_pos (nI_le (by omega) (by omega))]
          obtain ⟨σ2, e, hk⟩ := putBack_eq hN h33 hS.2.1
          rw [e, bnv_ok]
          exact ⟨_, _, _, rfl, rfl, hS.1, hk⟩
        | succ n ih =>
          intro b k x D U ξ1 σ1 hS hD hU hb hk
          obtain ⟨k, rfl⟩ : ∃ k', k = k' + 1 := ⟨k - 1, by omega⟩
          show ∃ v ξ2 σ2, x0_on_38b N g (x0_on_38 N g k) a1 (nI d) x (nI b) ξ1 = some (v, ξ2) ∧ m_on_33b N (m_on_33 N k) a1 (nI d) x (nI b) σ1 = some (v, σ2) ∧ _
          unfold x0_on_38b m_on_33b
          obtain ⟨ξ2, p, e1, e2, -, hS2⟩ := sim_today hN hS (t := a1) (Or.inr h1.1)
          obtain ⟨ξ3, σ3, e3, e4, hS3⟩ := sim_day hN (by omega) (by omega) hS2
          simp only [nI_ge (show b < d by omega) (show d < 2 ^ 31 by omega), if_false, e1, e2, e3, e4, bnd_ok, bnv_ok, bno_ok, nx_ok, nI_1]
          exact ih (b + 1) k _ (D + 1) (U + 6) ξ3 σ3 hS3 (by omega) (by omega) (by omega) (by omega)
      obtain ⟨v, ξ2, σ2, z1, z2, kx, km⟩ := key d 0 N 0 D 9999 ξ1 σ1 hS (by omega) (by omega) (by omega) (by omega)
      exact ⟨v, ξ2, σ2, z1, z2, Cp_keep hC kx km⟩
    · exact ⟨-2, ξ, σ, by simp [h1, h2], by simp [h1, h2], hC⟩
  · exact ⟨-1, ξ, σ, by simp [h1], by simp [h1], hC⟩
theorem op_18 {N : Nat} (hN : 1000 ≤ N) (g : XG) : OP_18 N g (Cp g) := by
  intro a1 ξ σ hC
  have h33 := Cp_33 hC
  unfold x0_lasts m_lasts
  simp only [x0_isTrade_eq, m_isTrade_eq, bnd_ok, bnv_ok, bno_ok, nx_ok, b0]
  by_cases h1 : 0 ≤ a1 ∧ a1 ≤ 4
  · simp only [h1, and_self, not_true, if_false]
    obtain ⟨t, ht, rfl⟩ := rg_of (n := 4) (by omega) h1.1 h1.2
    obtain ⟨A, H, D, T, wk, hq, hr, ξ1, σ1, lD, e1, e2, hS, -, -, lH, lA⟩ := Cp_sim hN hC (keepX_refl ξ) (keepM_refl σ)
    simp only [e1, e2, bnv_ok]
    have key : ∀ (n b k : Nat) (D U : Nat) (ξ1 : XS) (σ1 : MS), Sim g ξ σ ξ1 σ1 A H D T wk hq hr U → D + n ≤ 20000 → U + 6 * n ≤ 20000 → n + b = 31 → n < k → ∃ v ξ2 σ2, x0_lasts_22 N g k (nI t) (nI b) ξ1 = some (v, ξ2) ∧ m_lasts_16 N k (nI t) (nI b) σ1 = some (v, σ2) ∧ keepX ξ ξ2 ∧ keepM σ σ2 := by
      intro n
      induction n with
      | zero =>
        intro b k D U ξ1 σ1 hS hD hU hb hk
        obtain ⟨k, rfl⟩ : ∃ k', k = k' + 1 := ⟨k - 1, by omega⟩
        show ∃ v ξ2 σ2, x0_lasts_22b N g (x0_lasts_22 N g k) (nI t) (nI b) ξ1 = some (v, ξ2) ∧ m_lasts_16b N (m_lasts_16 N k) (nI t) (nI b) σ1 = some (v, σ2) ∧ _
        unfold x0_lasts_22b m_lasts_16b m_lasts_45
        obtain rfl : b = 31 := by omega
        rw [if_pos (show (30 : Int32) < nI 31 by decide), if_pos (show (31 : Int32) ≤ nI 31 by decide)]
        obtain ⟨σ2, e, hk⟩ := putBack_eq hN h33 hS.2.1
        rw [e, bnv_ok, if_pos (show (31 : Int32) ≤ nI 31 by decide)]
        exact ⟨_, _, _, rfl, rfl, hS.1, hk⟩
      | succ n ih =>
        intro b k D U ξ1 σ1 hS hD hU hb hk
        obtain ⟨k, rfl⟩ : ∃ k', k = k' + 1 := ⟨k - 1, by omega⟩
        show ∃ v ξ2 σ2, x0_lasts_22b N g (x0_lasts_22 N g k) (nI t) (nI b) ξ1 = some (v, ξ2) ∧ m_lasts_16b N (m_lasts_16 N k) (nI t) (nI b) σ1 = some (v, σ2) ∧ _
        unfold x0_lasts_22b m_lasts_16b m_lasts_45
        have g1 : ¬ (30 : Int32) < nI b := Int32.not_lt.mpr (nI_le (b := 30) (by omega) (by omega))
        have g2 : ¬ (31 : Int32) ≤ nI b := nI_ge (b := 31) (by omega) (by omega)
        obtain ⟨ξ2, p, e1, e2, e3, hS2⟩ := sim_enough hN hS (show t < 5 by omega)
        obtain ⟨ξ3, σ3, e5, e4, hS3⟩ := sim_day hN (by omega) (by omega) hS2
        obtain ⟨σ4, e6, hk4⟩ := putBack_eq hN h33 hS2.2.1
        simp only [g1, g2, if_false, e1, e2, e3, e4, e5, e6, bnd_ok, bnv_ok, bno_ok, nx_ok, nI_1, b0]
        by_cases q : todayM σ1 H (nI t) < workM σ1 (nI t)
        · simp only [q, if_true]
          exact ⟨_, _, _, rfl, rfl, hS2.1, hk4⟩
        · simp only [q, if_false, show ¬ (1 : Int32) = 0 by decide]
          exact ih (b + 1) k (D + 1) (U + 6) ξ3 σ3 hS3 (by omega) (by omega) (by omega) (by omega)
    obtain ⟨v, ξ2, σ2, z1, z2, kx, km⟩ := key 31 0 N D 9999 ξ1 σ1 hS (by omega) (by omega) (by omega) (by omega)
    exact ⟨v, ξ2, σ2, z1, z2, Cp_keep hC kx km⟩
  · exact ⟨-1, ξ, σ, by simp [h1], by simp [h1], hC⟩
