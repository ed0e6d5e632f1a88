/-! PURE: of, row, how, today, enough, best, quarrel -/
set_option maxRecDepth 100000
theorem sub10' {x : Int32} {H : Nat} (lH : H ≤ 6) : (0 ≤ x - 10 ∧ x - 10 ≤ nI H - 1) ↔ (10 ≤ x ∧ x ≤ 9 + nI H) := by
  simp only [Int32.le_iff_toInt_le, Int32.toInt_sub, Int32.toInt_add, nI_toInt (show H < 2 ^ 31 by omega), show (10 : Int32).toInt = 10 by decide, show (9 : Int32).toInt = 9 by decide, show (1 : Int32).toInt = 1 by decide, show (0 : Int32).toInt = 0 by decide]
  have h1 := Int32.toInt_lt x
  have h2 := Int32.le_toInt x
  simp only [Int.bmod_def]
  omega
theorem nI_inj {a b : Nat} (ha : a < 2 ^ 31) (hb : b < 2 ^ 31) (h : nI a = nI b) : a = b := by
  have := congrArg Int32.toNatClampNeg h
  rwa [nI_clamp ha, nI_clamp hb] at this
set_option maxHeartbeats 2000000 in
theorem op_2 {N : Nat} (hN : 1000 ≤ N) (g : XG) : OP_2 N g (Cp g) := by
  intro a1 a2 ξ σ hC
  obtain ⟨H, A, D, S, B, T, F, R, wk, wi, hq, hr, hn, hs, hc, hrow, hby, hbw, hobj, hrw, hrd, hah, htx, hthe, htown, htr, htp, htd, him⟩ := id hC
  have eH : xF ξ 202 = nI H := hs.1.trans hn.1
  have eH2 : gF σ 0 = nI H := hn.1
  have eA : xF ξ 4 = nI A := hs.2.1.trans hn.2.1
  have eA2 : gF σ 1 = nI A := hn.2.1
  have eD : xF ξ 203 = nI D := hs.2.2.1.trans hn.2.2.1
  have eD2 : gF σ 2 = nI D := hn.2.2.1
  have eS : xF ξ 18 = nI S := hs.2.2.2.1.trans hn.2.2.2.1
  have eS2 : gF σ 43 = nI S := hn.2.2.2.1
  have eB : xF ξ 19 = nI B := hs.2.2.2.2.trans hn.2.2.2.2
  have eB2 : gF σ 47 = nI B := hn.2.2.2.2
  have lH : H ≤ 6 := hc.1
  have lA : A ≤ 6 := hc.2.1
  have lD : D ≤ 9999 := hc.2.2.1
  have lS : S ≤ 6 := hc.2.2.2.1
  have lB : B ≤ 8 := hc.2.2.2.2.1
  obtain ⟨lT, eT2, eT, lF, eF2, eF, htxt, hlet, hmu⟩ := id htx
  obtain ⟨lR, eR2, eR, hbod⟩ := id htr
  obtain ⟨c1, c2, c3, c4, c5, c6, c7, c8, c9, c10, c11⟩ := id hc
  obtain ⟨r1, r2, r3, r4, r5, r6, r7, r8, r9, r10⟩ := id hrow
  obtain ⟨A', H', D', T', wk', hq', hr', hT, eA', eA2'⟩ := Cp_Tp hC
  obtain rfl : A' = A := nI_inj (by have := hT.1.1; omega) (by omega) (eA'.symm.trans eA)
  obtain rfl : H' = H := nI_inj (by have := hT.1.2.1; omega) (by omega) (hT.2.1.symm.trans eH2)
  unfold x0_of m_of
  simp only [x0_isHat_eq, m_isHat_eq, x0_isHead_eq, m_in_eq, bnd_ok, bnv_ok, bno_ok, nx_ok, b0, eA, eA2, eH, eH2]
  by_cases h1 : 0 ≤ a1 ∧ a1 ≤ nI A' - 1
  · obtain ⟨k, hk, rfl⟩ := isHat_k lA h1
    obtain ⟨q1, q2⟩ := hobj k hk
    obtain ⟨k6, hk6, ek, ek6⟩ := kd6 (c8 k hk).1
    rw [ek6] at q2
    obtain ⟨t0, t1, t2, t3, t4, t5⟩ := hat_at hk6 q2
    have hkn := hat_kind (N := N) hk6 q2
    have k6' : k < 6 := by omega
    simp only [h1, and_self, not_true, if_false, in6 k6', cl6 k6', if_true, q1, hkn, t1, t2, t3, bnd_ok, bnv_ok, bno_ok, nx_ok, ← ek, r4 k k6', r5 k k6', sub10' lH]
    by_cases h2 : 10 ≤ a2 ∧ a2 ≤ 9 + nI H'
    · have g0 : ¬ a2 = 0 := fun e => absurd h2.1 (by rw [e]; decide)
      have g1 : ¬ a2 = 1 := fun e => absurd h2.1 (by rw [e]; decide)
      have g2 : ¬ a2 = 2 := fun e => absurd h2.1 (by rw [e]; decide)
      have g3 : ¬ a2 = 3 := fun e => absurd h2.1 (by rw [e]; decide)
      have g4 : ¬ a2 = 4 := fun e => absurd h2.1 (by rw [e]; decide)
      have g5 : ¬ a2 = 5 := fun e => absurd h2.1 (by rw [e]; decide)
      have g6 : ¬ a2 = 6 := fun e => absurd h2.1 (by rw [e]; decide)
      obtain ⟨h, hh, eh⟩ := isHat_k lH ((sub10' lH).mpr h2)
      obtain ⟨p, em⟩ := m_deed_eq hN σ hT.1 hk hh
      obtain ⟨ξ2, ex, hl⟩ := x0_deed_at hN (τ := 0) (by omega) σ hT.1 (lkeq_refl ξ) hk hh
      simp only [g0, g1, g2, g3, g4, g5, g6, if_false, h2, and_self, not_true, eh, em, ex, bnd_ok]
      exact ⟨_, _, _, rfl, rfl, Cp_lk hC hl p⟩
    · have h2' : ¬ (10 ≤ a2 ∧ a2 ≤ 9 + nI H') := h2
      simp only [h2', not_false_iff, if_true]
      have e6 := x1_headOf_eq hN g 0 ξ eH lH (gR σ 5) r3 (nI k)
      simp only [e6, m_headOf_eq hN σ eH2 lH, bnd_ok, x0_orNone_eq]
      by_cases g0 : a2 = 0
      · simp only [g0, if_true]; exact ⟨_, _, _, rfl, rfl, hC⟩
      by_cases g1 : a2 = 1
      · simp only [g1, if_true, show ¬ (1 : Int32) = 0 by decide, if_false]; exact ⟨_, _, _, rfl, rfl, hC⟩
      by_cases g2 : a2 = 2
      · simp only [g0, g1, if_false]; rw [if_pos g2, if_pos g2]; exact ⟨_, _, _, rfl, rfl, hC⟩
      by_cases g3 : a2 = 3
      · simp only [g0, g1, g2, if_false]; rw [if_pos g3, if_pos g3]; exact ⟨_, _, _, rfl, rfl, hC⟩
      by_cases g4 : a2 = 4
      · simp only [g0, g1, g2, g3, if_false]; rw [if_pos g4, if_pos g4]; exact ⟨_, _, _, rfl, rfl, hC⟩
      by_cases g5 : a2 = 5
      · simp only [g0, g1, g2, g3, g4, if_false]; rw [if_pos g5, if_pos g5]; exact ⟨_, _, _, rfl, rfl, hC⟩
      by_cases g6 : a2 = 6
      · simp only [g0, g1, g2, g3, g4, g5, if_false]; rw [if_pos g6, if_pos g6]
        refine ⟨_, _, _, rfl, ?_, hC⟩
        cases ho : hdOf (gR σ 5) H' (nI k) with
        | none => rfl
        | some h =>
          obtain ⟨hh, -⟩ := hdOf_some ho
          simp only [optI, nI_ne1 (show h < 2 ^ 31 by omega), if_false]
      · simp only [g0, g1, g2, g3, g4, g5, g6, if_false]; exact ⟨_, _, _, rfl, rfl, hC⟩
  · simp only [h1, not_false_iff, if_true]
    exact ⟨_, _, _, rfl, rfl, hC⟩
