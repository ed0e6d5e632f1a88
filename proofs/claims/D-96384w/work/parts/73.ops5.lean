/-! PURE: row, how, today, enough, best, quarrel -/
set_option maxRecDepth 100000
theorem cRow_upd {g : XG} {ξ : XS} {A k i : Nat} {kd rw f : Nat → Int32} {hr : Nat → Nat} {v : Int32} (h : cRow g (dE ξ) A kd rw hr) (hd : cRowD A kd hr) (hk : k < A) (h6 : kd k = 6) (hi : i < 4) (hf : dE ξ (hr k) = some (.inl (xc g 1, 4, .inl f))) (hf2 : ∀ i, i < 4 → f i = rw (4 * k + i)) :
    cRow g (dE (sXd ξ (hr k) (.inl (xc g 1, 4, .inl (upd f i v))))) A kd (upd rw (4 * k + i) v) hr := by
  intro a ha h6a
  by_cases e : a = k
  · subst e
    refine ⟨upd f i v, dE_sXd_eq hf, fun j hj => ?_⟩
    simp only [upd_at]
    by_cases e : j = i
    · simp [e]
    · rw [if_neg e, if_neg (by omega), hf2 j hj]
  · obtain ⟨f', z1, z2⟩ := h a ha h6a
    refine ⟨f', by rw [dE_sXd_ne (fun z => e (hd a k ha hk h6a h6 z))]; exact z1, fun j hj => ?_⟩
    rw [upd_at, if_neg (by omega), z2 j hj]
theorem op_4 {N : Nat} (hN : 1000 ≤ N) (g : XG) : OP_4 N g (Cp g) := by
  intro a1 a2 a3 ξ σ hC
  obtain ⟨H, A, D, S, B, T, F, R, wk, wi, hq, hr, hn, hs, hc, hrow, hby, hbw, hobj, hrw, hrd, hah, htx, hthe, htown, htr, htp, htd, him⟩ := id hC
  have eH : xF ξ 202 = nI H := hs.1.trans hn.1
  have eH2 : gF σ 0 = nI H := hn.1
  have eA : xF ξ 4 = nI A := hs.2.1.trans hn.2.1
  have eA2 : gF σ 1 = nI A := hn.2.1
  have eD : xF ξ 203 = nI D := hs.2.2.1.trans hn.2.2.1
  have eD2 : gF σ 2 = nI D := hn.2.2.1
  have eS : xF ξ 18 = nI S := hs.2.2.2.1.trans hn.2.2.2.1
  have eS2 : gF σ 43 = nI S := hn.2.2.2.1
  have eB : xF ξ 19 = nI B := hs.2.2.2.2.trans hn.2.2.2.2
  have eB2 : gF σ 47 = nI B := hn.2.2.2.2
  have lH : H ≤ 6 := hc.1
  have lA : A ≤ 6 := hc.2.1
  have lD : D ≤ 9999 := hc.2.2.1
  have lS : S ≤ 6 := hc.2.2.2.1
  have lB : B ≤ 8 := hc.2.2.2.2.1
  obtain ⟨lT, eT2, eT, lF, eF2, eF, htxt, hlet, hmu⟩ := id htx
  obtain ⟨lR, eR2, eR, hbod⟩ := id htr
  obtain ⟨c1, c2, c3, c4, c5, c6, c7, c8, c9, c10, c11⟩ := id hc
  obtain ⟨r1, r2, r3, r4, r5, r6, r7, r8, r9, r10⟩ := id hrow
  unfold x0_row m_row
  simp only [x0_isHat_eq, m_isHat_eq, x0_in_eq, m_in_eq, bnd_ok, bnv_ok, bno_ok, nx_ok, b0, eA, eA2, eH, eH2]
  by_cases h1 : 0 ≤ a1 ∧ a1 ≤ nI A - 1
  · obtain ⟨k, hk, rfl⟩ := isHat_k lA h1
    by_cases h2 : 0 ≤ a2 ∧ a2 ≤ 3
    · by_cases h3 : 0 ≤ a3 ∧ a3 ≤ 9
      · obtain ⟨i, hi, rfl⟩ := rg_of (n := 3) (by omega) h2.1 h2.2
        obtain ⟨v, hv, rfl⟩ := rg_of (n := 9) (by omega) h3.1 h3.2
        obtain ⟨q1, q2⟩ := hobj k hk
        obtain ⟨k6, hk6, ek, ek6⟩ := kd6 (c8 k hk).1
        rw [ek6] at q2
        obtain ⟨t0, t1, t2, t3, t4, t5⟩ := hat_at hk6 q2
        have hkn := hat_kind (N := N) hk6 q2
        have k6' : k < 6 := by omega
        simp only [h1, h2, h3, and_self, not_true, if_false, in6 k6', cl6 k6', if_true, q1, hkn, bnd_ok, bnv_ok, bno_ok, nx_ok, ← ek]
        by_cases e6 : gR σ 6 k = 6
        · obtain ⟨f, z1, z2⟩ := hrw k hk e6
          have ek7 : k6 = 6 := nI_inj (by omega) (by omega) (ek.symm.trans e6)
          subst ek7
          have hix : 4 * nI k + nI i = nI (4 * k + i) := by
            rw [show nI (4 * k + i) = nI (4 * k) + nI i from Int32.ofNat_add _ _, show (4 : Int32) = nI 4 from rfl, nI_mul]
          simp only [e6, if_true, hix, inN (show 24 < 2 ^ 31 by omega) (show 4 * k + i < 24 by omega), nI_clamp (show 4 * k + i < 2 ^ 31 by omega)]
          have j1 : isC ξ (hq k) 14 14 = true := by simp [isC, dCi, q2]
          have j2 : dR ξ (hq k) 14 14 6 = some (hr k) := by simp [dR, q2, hatL]
          have j3 : dA ξ (hr k) (xc g 1) = some (4, f) := by simp [dA, z1]
          simp only [j1, j2, j3, if_true, bnd_ok, bnv_ok, bno_ok, nx_ok, inN (show 4 < 2 ^ 31 by omega) (show i < 4 by omega), nI_clamp (show i < 2 ^ 31 by omega), i8N (show v < 128 by omega), narN (show v < 128 by omega), z2 i (by omega)]
          have kw : keepW (dE ξ) (dE (sXd ξ (hr k) (.inl (xc g 1, 4, .inl (upd f i (nI v)))))) := keep_sXd z1
          refine ⟨_, _, _, rfl, rfl, ⟨H, A, D, S, B, T, F, R, wk, wi, hq, hr, hn, hs, ?_, hrow, hby, hbw, cObj_keep kw hobj, cRow_upd hrw hrd hk e6 (by omega) z1 z2, hrd, cAllH_keep kw hah, htx, hthe, ?_, htr, ?_, htd, ?_⟩⟩
          · refine ⟨c1, c2, c3, c4, c5, c6, c7, fun a ha => ?_, c9, c10, c11⟩
            obtain ⟨d1, d2, d3, d4, d5, d6, d7⟩ := c8 a ha
            refine ⟨d1, d2, d3, d4, d5, d6, fun j hj => ?_⟩
            show rg (upd (gR σ 12) (4 * k + i) (nI v) (4 * a + j)) 9
            rw [upd_at]
            split
            · exact ⟨v, hv, rfl⟩
            · exact d7 j hj
          · refine cTown_keep kw (fun e he => ?_) htown
            rw [dE_sXd_ne ?_]
            · exact he
            · rintro rfl
              obtain ⟨w0, al, od, len, mo, many, f9, fw, t1, t2, t3, -⟩ := htown
              rw [z1] at t3
              exact absurd t3 (by simp)
          · intro t ht
            rcases htp t ht with h | ⟨s, n, r, e, y1, y2, y3, y4, y5, y6, y7⟩
            · exact Or.inl h
            · refine Or.inr ⟨s, n, r, e, y1, y2, y3, y4, y5, ?_, y7⟩
              rw [dE_sXd_ne ((htd t ht r y5).2.1 k hk e6)]
              exact y6
          · rcases him with h | ⟨h, H', A', D', S', B', hA', h3⟩
            · exact Or.inl h
            · refine Or.inr ⟨h, H', A', D', S', B', hA', ?_⟩
              have h3' : img g ξ (sR σ 12 (4 * k + i) (nI v)) H' A' D' S' B' T wi := h3
              refine img_keep kw (fun e he => ?_) rfl rfl rfl rfl h3'
              rw [dE_sXd_ne ?_]
              · exact he
              · rintro rfl
                obtain ⟨w0, al, od, len, mo, many, f9, fw, t1, t2, t3, -⟩ := h3.2.2.2.2.2.2.2.2.2
                rw [z1] at t3
                exact absurd t3 (by simp)
        · simp only [e6, if_false]
          exact ⟨_, _, _, rfl, rfl, hC⟩
      · exact ⟨-2, ξ, σ, by simp [h1, h2, h3], by simp [h1, h2, h3], hC⟩
    · exact ⟨-1, ξ, σ, by simp [h1, h2], by simp [h1, h2], hC⟩
  · exact ⟨-1, ξ, σ, by simp [h1], by simp [h1], hC⟩
theorem op_26 {N : Nat} (hN : 1000 ≤ N) (g : XG) : OP_26 N g (Cp g) := by
  intro a1 ξ σ hC
  obtain ⟨H, A, D, S, B, T, F, R, wk, wi, hq, hr, hn, hs, hc, hrow, hby, hbw, hobj, hrw, hrd, hah, htx, hthe, htown, htr, htp, htd, him⟩ := id hC
  have eH : xF ξ 202 = nI H := hs.1.trans hn.1
  have eH2 : gF σ 0 = nI H := hn.1
  have eA : xF ξ 4 = nI A := hs.2.1.trans hn.2.1
  have eA2 : gF σ 1 = nI A := hn.2.1
  have eD : xF ξ 203 = nI D := hs.2.2.1.trans hn.2.2.1
  have eD2 : gF σ 2 = nI D := hn.2.2.1
  have eS : xF ξ 18 = nI S := hs.2.2.2.1.trans hn.2.2.2.1
  have eS2 : gF σ 43 = nI S := hn.2.2.2.1
  have eB : xF ξ 19 = nI B := hs.2.2.2.2.trans hn.2.2.2.2
  have eB2 : gF σ 47 = nI B := hn.2.2.2.2
  have lH : H ≤ 6 := hc.1
  have lA : A ≤ 6 := hc.2.1
  have lD : D ≤ 9999 := hc.2.2.1
  have lS : S ≤ 6 := hc.2.2.2.1
  have lB : B ≤ 8 := hc.2.2.2.2.1
  obtain ⟨lT, eT2, eT, lF, eF2, eF, htxt, hlet, hmu⟩ := id htx
  obtain ⟨lR, eR2, eR, hbod⟩ := id htr
  obtain ⟨c1, c2, c3, c4, c5, c6, c7, c8, c9, c10, c11⟩ := id hc
  obtain ⟨r1, r2, r3, r4, r5, r6, r7, r8, r9, r10⟩ := id hrow
  have key : ∀ (n b k : Nat) (x2 x3 : Int32), n + b = H → n < k → ∃ v, x0_how_18 N g k a1 x2 x3 (nI b) ξ = some (v, ξ) ∧ m_how_19 N k a1 x2 x3 (nI b) σ = some (v, σ) := by
    intro n
    induction n with
    | zero =>
      intro b k x2 x3 hb hk
      obtain ⟨k, rfl⟩ : ∃ k', k = k' + 1 := ⟨k - 1, by omega⟩
      show ∃ v, x0_how_18b N g (x0_how_18 N g k) a1 x2 x3 (nI b) ξ = some (v, ξ) ∧ m_how_19b N (m_how_19 N k) a1 x2 x3 (nI b) σ = some (v, σ)
      unfold x0_how_18b m_how_19b
      simp only [eH, eH2, nI_le (show H ≤ b by omega) (show b < 2 ^ 31 by omega), if_true]
      by_cases e : a1 = 0
      · simp only [e, if_true]; exact ⟨_, rfl, rfl⟩
      · simp only [e, if_false]; exact ⟨_, rfl, rfl⟩
    | succ n ih =>
      intro b k x2 x3 hb hk
      obtain ⟨k, rfl⟩ : ∃ k', k = k' + 1 := ⟨k - 1, by omega⟩
      show ∃ v, x0_how_18b N g (x0_how_18 N g k) a1 x2 x3 (nI b) ξ = some (v, ξ) ∧ m_how_19b N (m_how_19 N k) a1 x2 x3 (nI b) σ = some (v, σ)
      unfold x0_how_18b m_how_19b
      have hb6 : b < 6 := by omega
      simp only [eH, eH2, nI_ge (show b < H by omega) (show H < 2 ^ 31 by omega), if_false, in6 hb6, cl6 hb6, if_true, r3 b hb6, r1 b hb6, x0_how_85, m_how_70, m_how_72, nx_ok, nI_1]
      rcases (c6 b (by omega)).2.2 with hw | ⟨a, ha, hw⟩
      · simp only [hw, if_true, show ¬ (0 : Int32) ≤ -1 by decide, if_false]
        exact ih (b + 1) k x2 _ (by omega) (by omega)
      · have ha6 : a < 6 := by omega
        obtain ⟨q1, q2⟩ := hobj a ha
        obtain ⟨k6, hk6, ek, ek6⟩ := kd6 (c8 a ha).1
        rw [ek6] at q2
        have t2 := (hat_at hk6 q2).2.2.1
        simp only [hw, nI_ne1 (show a < 2 ^ 31 by omega), nI_pos' (show a < 2 ^ 31 by omega), if_true, if_false, in6 ha6, cl6 ha6, q1, t2, bno_ok, m_apart_eq N σ ha6 hb6, bnd_ok, (apX (c8 a ha).2.2.1 (c6 b (by omega)).1).2, Int32.add_zero]
        by_cases e : gR σ 8 a = gR σ 3 b
        · simp only [e, if_true]
          exact ih (b + 1) k x2 x3 (by omega) (by omega)
        · simp only [e, if_false]
          exact ih (b + 1) k (x2 + 1) x3 (by omega) (by omega)
  unfold x0_how m_how
  simp only [x0_in_eq, m_in_eq, bnd_ok, bnv_ok, bno_ok, nx_ok, b0]
  by_cases h1 : 0 ≤ a1 ∧ a1 ≤ 1
  · simp only [h1, and_self, not_true, if_false]
    obtain ⟨v, e1, e2⟩ := key H 0 N 0 0 (by omega) (by omega)
    exact ⟨v, ξ, σ, e1, e2, hC⟩
  · exact ⟨-1, ξ, σ, by simp [h1], by simp [h1], hC⟩
theorem today_both {N : Nat} (hN : 1000 ≤ N) {g : XG} {ξ : XS} {σ : MS} (hC : Cp g ξ σ) {t : Int32} (ht : t = -1 ∨ 0 ≤ t) : ∃ v ξ1 σ1, x0_todayOf N g 0 t ξ = some (v, ξ1) ∧ m_todayOf N t σ = some (v, σ1) ∧ Cp g ξ1 σ1 := by
  obtain ⟨A, H, D, T, wk, hq, hr, hT, -⟩ := Cp_Tp hC
  obtain ⟨p, e1⟩ := m_todayOf_eq hN (by omega) σ hT ht (gR σ 32)
  obtain ⟨ξ2, e2, hl⟩ := x0_todayOf_eq hN (by omega) σ hT t (lkeq_refl ξ)
  rw [sP_self] at e1
  exact ⟨_, _, _, e2, e1, Cp_lk hC hl p⟩
theorem op_14 {N : Nat} (hN : 1000 ≤ N) (g : XG) : OP_14 N g (Cp g) := by
  intro a1 ξ σ hC
  unfold x0_today m_today
  simp only [x0_isTrade_eq, m_isTrade_eq, bnd_ok, bnv_ok, bno_ok, nx_ok, b0, x0_today_12, m_today_13]
  by_cases e : a1 = -1
  · obtain ⟨v, ξ1, σ1, e1, e2, h⟩ := today_both hN hC (t := a1) (Or.inl e)
    exact ⟨v, ξ1, σ1, by rw [if_pos e, e1]; rfl, by rw [if_pos e, e2]; rfl, h⟩
  · by_cases h1 : 0 ≤ a1 ∧ a1 ≤ 4
    · obtain ⟨v, ξ1, σ1, e1, e2, h⟩ := today_both hN hC (t := a1) (Or.inr h1.1)
      exact ⟨v, ξ1, σ1, by rw [if_neg e, if_neg (fun z => z h1), e1]; rfl, by rw [if_neg e, if_neg (fun z => z h1), e2]; rfl, h⟩
    · exact ⟨-1, ξ, σ, by rw [if_neg e, if_pos h1], by rw [if_neg e, if_pos h1], hC⟩
def workM (σ : MS) (t : Int32) : Int32 := workS (gR σ 21) (gR σ 22) (gR σ 23) (mCnt (gF σ 15) (gR σ 20)) (mBeg (gF σ 15)) t
theorem m_work_at {N : Nat} (hN : 1000 ≤ N) {g : XG} {τ : Nat} {ξ : XS} {σ : MS} {A H D T wk : Nat} {hq hr : Nat → Nat} (hp : Dp g τ ξ σ A H D T wk hq hr) (t : Int32) (p : Nat → Int32) : m_work N t (sP σ p) = some (workM σ t, sP σ p) := by
  obtain ⟨p1, p2, p3, p4, p5, p6, p7, p8, p9, p10, p11, p12, p13, p14, p15⟩ := hp
  exact m_work_eq hN (sP σ p) p4 (show cThe T (gF (sP σ p) 15) (gR (sP σ p) 20) (gR (sP σ p) 21) (gR (sP σ p) 22) (gR (sP σ p) 23) from p14) t
theorem x0_isEnough_eq {N : Nat} (hN : 1000 ≤ N) {g : XG} {τ : Nat} {ξ : XS} (hτ : τ ≤ 3) (σ : MS) {A H D T wk : Nat} {hq hr : Nat → Nat} (hp : Tp g τ ξ σ A H D T wk hq hr) {j : Nat} (hj : j < 5) {ξ1 : XS} (hl : lkeq ξ ξ1) : ∃ ξ2, x0_isEnough N g τ (nI j) ξ1 = some (if todayM σ H (nI j) < workM σ (nI j) then 0 else 1, ξ2) ∧ lkeq ξ ξ2 := by
  obtain ⟨ξ2, e2, hl2⟩ := x0_todayOf_eq hN hτ σ hp (nI j) hl
  refine ⟨ξ2, ?_, hl2⟩
  obtain ⟨p1, p2, p3, p4, p5, p6, p7, p8, p9, p10, p11, p12, p13, p14, p15⟩ := hp.1
  obtain ⟨w0, al, od, len, mo, many, f, fw, t1, t2, t3, t4, t5⟩ := p15
  unfold x0_isEnough
  rw [e2, bnd_ok, hl2.2.2.2.1, t1, bno_ok, show dR ξ2 w0 3 3 1 = some wk by simp [dR, hl2.2.2.2.2.1, t2], bno_ok, show dA ξ2 wk (xc g 0) = some (5, fw) by simp [dA, hl2.2.2.2.2.1, t3], bnd_ok, if_pos (inN (by omega) hj), nI_clamp (by omega), t4 j hj]
  unfold workM
  split <;> rfl
theorem op_15 {N : Nat} (hN : 1000 ≤ N) (g : XG) : OP_15 N g (Cp g) := by
  intro ξ σ hC
  obtain ⟨A, H, D, T, wk, hq, hr, hT, -⟩ := Cp_Tp hC
  have key : ∀ (n b k : Nat) (x : Int32) (ξ1 : XS) (p : Nat → Int32), lkeq ξ ξ1 → n + b = 5 → n < k → ∃ v ξ2 p2, x0_enough_4 N g k x (nI b) ξ1 = some (v, ξ2) ∧ m_enough_4 N k x (nI b) (sP σ p) = some (v, sP σ p2) ∧ lkeq ξ ξ2 := by
    intro n
    induction n with
    | zero =>
      intro b k x ξ1 p hl hb hk
      obtain ⟨k, rfl⟩ : ∃ k', k = k' + 1 := ⟨k - 1, by omega⟩
      show ∃ v ξ2 p2, x0_enough_4b N g (x0_enough_4 N g k) x (nI b) ξ1 = some (v, ξ2) ∧ m_enough_4b N (m_enough_4 N k) x (nI b) (sP σ p) = some (v, sP σ p2) ∧ lkeq ξ ξ2
      unfold x0_enough_4b m_enough_4b
      rw [if_pos (show (5 : Int32) ≤ nI b from nI_le (a := 5) (by omega) (by omega)), if_pos (show (5 : Int32) ≤ nI b from nI_le (a := 5) (by omega) (by omega))]
      exact ⟨_, _, _, rfl, rfl, hl⟩
    | succ n ih =>
      intro b k x ξ1 p hl hb hk
      obtain ⟨k, rfl⟩ : ∃ k', k = k' + 1 := ⟨k - 1, by omega⟩
      show ∃ v ξ2 p2, x0_enough_4b N g (x0_enough_4 N g k) x (nI b) ξ1 = some (v, ξ2) ∧ m_enough_4b N (m_enough_4 N k) x (nI b) (sP σ p) = some (v, sP σ p2) ∧ lkeq ξ ξ2
      unfold x0_enough_4b m_enough_4b
      have h5 : ¬ (5 : Int32) ≤ nI b := nI_ge (b := 5) (by omega) (by omega)
      obtain ⟨ξ2, e2, hl2⟩ := x0_isEnough_eq hN (by omega) σ hT (show b < 5 by omega) hl
      obtain ⟨p1, e1⟩ := m_todayOf_eq hN (by omega) σ hT (t := nI b) (Or.inr (nI_pos' (by omega))) p
      simp only [h5, if_false, e1, e2, bnd_ok, m_work_at hN hT.1, b0, nx_ok, x0_enough_27, m_enough_30, nI_1]
      by_cases q : todayM σ H (nI b) < workM σ (nI b)
      · simp only [q, if_true, Int32.or_zero]
        exact ih (b + 1) k x ξ2 p1 hl2 (by omega) (by omega)
      · simp only [q, if_false, show ¬ (1 : Int32) = 0 by decide]
        exact ih (b + 1) k _ ξ2 p1 hl2 (by omega) (by omega)
  obtain ⟨v, ξ2, p2, e1, e2, hl⟩ := key 5 0 N 0 ξ (gR σ 32) (lkeq_refl ξ) (by omega) (by omega)
  rw [sP_self] at e2
  exact ⟨v, ξ2, sP σ p2, e1, e2, Cp_lk hC hl p2⟩
theorem op_16 {N : Nat} (hN : 1000 ≤ N) (g : XG) : OP_16 N g (Cp g) := by
  intro a1 ξ σ hC
  obtain ⟨A, H, D, T, wk, hq, hr, hT, eA, eA2⟩ := Cp_Tp hC
  have lA : A ≤ 6 := hT.1.1
  have lH : H ≤ 6 := hT.1.2.1
  have eH2 := hT.2.1
  have eH : xF ξ 202 = nI H := hT.2.2.1
  unfold x0_best m_best
  simp only [x0_isHat_eq, m_isHat_eq, bnd_ok, bnv_ok, bno_ok, nx_ok, b0, eA, eA2]
  by_cases h1 : 0 ≤ a1 ∧ a1 ≤ nI A - 1
  · obtain ⟨a, ha, rfl⟩ := isHat_k lA h1
    simp only [h1, and_self, not_true, if_false]
    have key : ∀ (n b k : Nat) (x y : Int32) (ξ1 : XS) (p : Nat → Int32), lkeq ξ ξ1 → n + b = H → n < k → ∃ v ξ2 p2, x0_best_18 N g k (nI a) x y (nI b) ξ1 = some (v, ξ2) ∧ m_best_18 N k (nI a) x y (nI b) (sP σ p) = some (v, sP σ p2) ∧ lkeq ξ ξ2 := by
      intro n
      induction n with
      | zero =>
        intro b k x y ξ1 p hl hb hk
        obtain ⟨k, rfl⟩ : ∃ k', k = k' + 1 := ⟨k - 1, by omega⟩
        show ∃ v ξ2 p2, x0_best_18b N g (x0_best_18 N g k) (nI a) x y (nI b) ξ1 = some (v, ξ2) ∧ m_best_18b N (m_best_18 N k) (nI a) x y (nI b) (sP σ p) = some (v, sP σ p2) ∧ lkeq ξ ξ2
        unfold x0_best_18b m_best_18b
        rw [hl.1 202 (by omega), eH, gF_sP, eH2, if_pos (nI_le (by omega) (by omega)), if_pos (nI_le (by omega) (by omega))]
        exact ⟨_, _, _, rfl, rfl, hl⟩
      | succ n ih =>
        intro b k x y ξ1 p hl hb hk
        obtain ⟨k, rfl⟩ : ∃ k', k = k' + 1 := ⟨k - 1, by omega⟩
        show ∃ v ξ2 p2, x0_best_18b N g (x0_best_18 N g k) (nI a) x y (nI b) ξ1 = some (v, ξ2) ∧ m_best_18b N (m_best_18 N k) (nI a) x y (nI b) (sP σ p) = some (v, sP σ p2) ∧ lkeq ξ ξ2
        unfold x0_best_18b m_best_18b
        obtain ⟨ξ2, e2, hl2⟩ := x0_deed_at hN (by omega) σ hT.1 hl ha (show b < H by omega)
        obtain ⟨p1, e1⟩ := m_deed_at hN (by omega) σ hT.1 ha (show b < H by omega) p
        simp only [hl.1 202 (by omega), eH, gF_sP, eH2, nI_ge (show b < H by omega) (show H < 2 ^ 31 by omega), if_false, e1, e2, bnd_ok, nx_ok, x0_best_58, m_best_51, nI_1]
        by_cases q : y < deedM σ a b
        · simp only [q, if_true]
          exact ih (b + 1) k _ _ ξ2 p1 hl2 (by omega) (by omega)
        · simp only [q, if_false]
          exact ih (b + 1) k x y ξ2 p1 hl2 (by omega) (by omega)
    obtain ⟨v, ξ2, p2, e1, e2, hl⟩ := key H 0 N (-5) (-1) ξ (gR σ 32) (lkeq_refl ξ) (by omega) (by omega)
    rw [sP_self] at e2
    exact ⟨v, ξ2, sP σ p2, e1, e2, Cp_lk hC hl p2⟩
  · exact ⟨-1, ξ, σ, by simp [h1], by simp [h1], hC⟩
theorem op_25 {N : Nat} (hN : 1000 ≤ N) (g : XG) : OP_25 N g (Cp g) := by
  intro a1 a2 a3 ξ σ hC
  obtain ⟨A, H, D, T, wk, hq, hr, hT, eA, eA2⟩ := Cp_Tp hC
  have lA : A ≤ 6 := hT.1.1
  have lH : H ≤ 6 := hT.1.2.1
  have eH2 := hT.2.1
  have eH : xF ξ 202 = nI H := hT.2.2.1
  unfold x0_quarrel m_quarrel
  simp only [x0_isHat_eq, m_isHat_eq, x0_isHead_eq, m_isHead_eq, bnd_ok, bnv_ok, bno_ok, nx_ok, b0, eA, eA2, eH, eH2]
  by_cases h1 : 0 ≤ a1 ∧ a1 ≤ nI A - 1
  · by_cases h2 : 0 ≤ a2 ∧ a2 ≤ nI A - 1
    · by_cases h3 : 0 ≤ a3 ∧ a3 ≤ nI H - 1
      · by_cases h4 : a1 = a2
        · exact ⟨-10002, ξ, σ, by simp [h2, h3, h4], by simp [h2, h3, h4], hC⟩
        · simp only [h1, h2, h3, and_self, not_true, if_false, h4]
          obtain ⟨a, ha, rfl⟩ := isHat_k lA h1
          obtain ⟨b, hb, rfl⟩ := isHat_k lA h2
          obtain ⟨h, hh, rfl⟩ := isHat_k lH h3
          obtain ⟨ξ2, e2, hl2⟩ := x0_deed_at hN (by omega) σ hT.1 (lkeq_refl ξ) ha hh
          obtain ⟨ξ3, e3, hl3⟩ := x0_deed_at hN (by omega) σ hT.1 hl2 hb hh
          obtain ⟨p1, m1⟩ := m_deed_at hN (by omega) σ hT.1 ha hh (gR σ 32)
          obtain ⟨p2, m2⟩ := m_deed_at hN (by omega) σ hT.1 hb hh p1
          rw [sP_self] at m1
          simp only [e2, e3, m1, m2, bnd_ok]
          exact ⟨_, _, _, rfl, rfl, Cp_lk hC hl3 p2⟩
      · exact ⟨-10001, ξ, σ, by simp [h1, h2, h3], by simp [h1, h2, h3], hC⟩
    · exact ⟨-10001, ξ, σ, by simp [h1, h2], by simp [h1, h2], hC⟩
  · exact ⟨-10001, ξ, σ, by simp [h1], by simp [h1], hC⟩
