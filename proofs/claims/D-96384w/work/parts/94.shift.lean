/-! PURE: shift -/
set_option maxRecDepth 100000
theorem m_shift_141_eq {N : Nat} {σ : MS} {u x4 n : Nat} (hu : u < 6) (hx : x4 + n ≤ 60) : ∀ (m c k : Nat) (f : Nat → Int64), m + c = n → m < k → (∀ j, f j = if 60 * u + x4 ≤ j ∧ j < 60 * u + x4 + c then gJ σ 77 (j - (60 * u + x4)) else gJ σ 76 j) → ∃ f', m_shift_141 N k (nI u) (nI x4) (nI n) (nI c) (sJw σ 76 f) = some (nI n, sJw σ 76 f') ∧ (∀ j, f' j = if 60 * u + x4 ≤ j ∧ j < 60 * u + x4 + n then gJ σ 77 (j - (60 * u + x4)) else gJ σ 76 j) := by
  intro m
  induction m with
  | zero =>
    intro c k f hc hk h1
    obtain ⟨k, rfl⟩ : ∃ k', k = k' + 1 := ⟨k - 1, by omega⟩
    obtain rfl : c = n := by omega
    refine ⟨f, ?_, h1⟩
    show m_shift_141b N (m_shift_141 N k) (nI u) (nI x4) (nI c) (nI c) (sJw σ 76 f) = _
    unfold m_shift_141b
    rw [if_pos (nI_le (by omega) (by omega))]
  | succ m ih =>
    intro c k f hc hk h1
    obtain ⟨k, rfl⟩ : ∃ k', k = k' + 1 := ⟨k - 1, by omega⟩
    show ∃ f', m_shift_141b N (m_shift_141 N k) (nI u) (nI x4) (nI n) (nI c) (sJw σ 76 f) = _ ∧ _
    unfold m_shift_141b
    have hix : (60 : Int32) * nI u + nI x4 + nI c = nI (60 * u + x4 + c) := by
      rw [ix60]; exact (Int32.ofNat_add _ _).symm
    simp only [nI_ge (show c < n by omega) (show n < 2 ^ 31 by omega), if_false, inN (show 60 < 2 ^ 31 by omega) (show c < 60 by omega), if_true, hix, inN (show 360 < 2 ^ 31 by omega) (show 60 * u + x4 + c < 360 by omega), nI_clamp (show 60 * u + x4 + c < 2 ^ 31 by omega), nI_clamp (show c < 2 ^ 31 by omega), gJ_sJw, show ¬ (77 : Nat) = 76 by decide, nx_ok, nI_1, sJ_sJw]
    refine ih (c + 1) k _ (by omega) (by omega) (fun j => ?_)
    rw [updL_at, h1 j]
    by_cases e : j = 60 * u + x4 + c
    · rw [if_pos e, if_pos (by omega), show j - (60 * u + x4) = c by omega]
    · rw [if_neg e]
      by_cases q : 60 * u + x4 ≤ j ∧ j < 60 * u + x4 + c
      · rw [if_pos q, if_pos (by omega)]
      · rw [if_neg q, if_neg (by omega)]
theorem m_shift_104_eq {N : Nat} (hN : 1000 ≤ N) {σ : MS} {t u x2 x4 n : Nat} (ht : t < 6) (hu : u < 6) (hx2 : x2 + n ≤ 60) (hx4 : x4 + n ≤ 60) : ∀ (m c k : Nat) (f : Nat → Int64), m + c = n → m < k → (∀ j, j < c → f j = gJ σ 76 (60 * t + x2 + j)) → ∃ f' it', m_shift_104 N k (nI t) (nI x2) (nI u) (nI x4) (nI n) (nI c) (sJw σ 77 f) = some (nI n, sJw (sJw σ 77 f') 76 it') ∧ (∀ j, it' j = if 60 * u + x4 ≤ j ∧ j < 60 * u + x4 + n then gJ σ 76 (60 * t + x2 + (j - (60 * u + x4))) else gJ σ 76 j) := by
  intro m
  induction m with
  | zero =>
    intro c k f hc hk h1
    obtain ⟨k, rfl⟩ : ∃ k', k = k' + 1 := ⟨k - 1, by omega⟩
    obtain rfl : c = n := by omega
    obtain ⟨it', e, h2⟩ := m_shift_141_eq (N := N) (σ := sJw σ 77 f) (u := u) (x4 := x4) (n := c) hu hx4 c 0 N (gJ σ 76) (by omega) (by omega) (fun j => by rw [if_neg (by omega)]; rfl)
    rw [show sJw (sJw σ 77 f) 76 (gJ σ 76) = sJw σ 77 f from sJw_self (sJw σ 77 f) 76] at e
    refine ⟨f, it', ?_, fun j => ?_⟩
    · show m_shift_104b N (m_shift_104 N k) (nI t) (nI x2) (nI u) (nI x4) (nI c) (nI c) (sJw σ 77 f) = _
      unfold m_shift_104b
      rw [if_pos (nI_le (by omega) (by omega)), nx_ok]
      exact e
    · rw [h2 j]
      by_cases q : 60 * u + x4 ≤ j ∧ j < 60 * u + x4 + c
      · rw [if_pos q, if_pos q, gJ_sJw, if_pos rfl, h1 _ (by omega)]
      · rw [if_neg q, if_neg q]; rfl
  | succ m ih =>
    intro c k f hc hk h1
    obtain ⟨k, rfl⟩ : ∃ k', k = k' + 1 := ⟨k - 1, by omega⟩
    show ∃ f' it', m_shift_104b N (m_shift_104 N k) (nI t) (nI x2) (nI u) (nI x4) (nI n) (nI c) (sJw σ 77 f) = _ ∧ _
    unfold m_shift_104b
    have hix : (60 : Int32) * nI t + nI x2 + nI c = nI (60 * t + x2 + c) := by
      rw [ix60]; exact (Int32.ofNat_add _ _).symm
    simp only [nI_ge (show c < n by omega) (show n < 2 ^ 31 by omega), if_false, inN (show 60 < 2 ^ 31 by omega) (show c < 60 by omega), if_true, hix, inN (show 360 < 2 ^ 31 by omega) (show 60 * t + x2 + c < 360 by omega), nI_clamp (show 60 * t + x2 + c < 2 ^ 31 by omega), nI_clamp (show c < 2 ^ 31 by omega), gJ_sJw, show ¬ (76 : Nat) = 77 by decide, nx_ok, nI_1, sJ_sJw]
    refine ih (c + 1) k _ (by omega) (by omega) (fun j hj => ?_)
    rw [updL_at]
    by_cases e : j = c
    · rw [if_pos e, e]
    · rw [if_neg e]; exact h1 j (by omega)
theorem tCls_inj {s s' : Nat} (h : s ≤ 4) (h' : s' ≤ 4) (e : tCls s = tCls s') : s = s' := by
  have h9 : ∀ s s' : Fin 5, tCls s.1 = tCls s'.1 → s.1 = s'.1 := by decide
  exact h9 ⟨s, by omega⟩ ⟨s', by omega⟩ e
theorem keepM_77 (σ : MS) (f : Nat → Int64) : keepM σ (sJw σ 77 f) := ⟨fun _ _ => rfl, fun _ _ => rfl, fun _ _ => rfl, fun _ _ => rfl, rfl⟩
theorem cpk_iff {sp dp n : Int32} {n0 n1 : Nat} (h0 : n0 ≤ 60) (h1 : n1 ≤ 60) : cpk sp dp n n0 n1 = true ↔ ¬ n < 0 ∧ ¬ sp < 0 ∧ ¬ dp < 0 ∧ ¬ (nI n0 - n < sp) ∧ dp ≤ nI n1 - n := by
  unfold cpk
  simp only [Bool.and_eq_true, decide_eq_true_eq]
  by_cases hn : n < 0
  · simp [hn]
  by_cases hs : sp < 0
  · simp [hs]
  by_cases hd : dp < 0
  · simp [hd]
  have tn := Int32.le_iff_toInt_le.mp (Int32.not_lt.mp hn)
  have ts := Int32.le_iff_toInt_le.mp (Int32.not_lt.mp hs)
  have td := Int32.le_iff_toInt_le.mp (Int32.not_lt.mp hd)
  rw [show (0 : Int32).toInt = 0 by decide] at tn ts td
  have un := Int32.toInt_lt n
  have us := Int32.toInt_lt sp
  have ud := Int32.toInt_lt dp
  have q0 : (nI n0 - n).toInt = (n0 : Int) - n.toInt := by
    rw [Int32.toInt_sub, nI_toInt (by omega), Int.bmod_eq_of_le (by omega) (by omega)]
  have q1 : (nI n1 - n).toInt = (n1 : Int) - n.toInt := by
    rw [Int32.toInt_sub, nI_toInt (by omega), Int.bmod_eq_of_le (by omega) (by omega)]
  have en : (n.toNatClampNeg : Int) = n.toInt := by rw [Int32.toNatClampNeg]; omega
  have es : (sp.toNatClampNeg : Int) = sp.toInt := by rw [Int32.toNatClampNeg]; omega
  have ed : (dp.toNatClampNeg : Int) = dp.toInt := by rw [Int32.toNatClampNeg]; omega
  simp only [hn, hs, hd, not_false_iff, true_and, Int32.lt_iff_toInt_lt, Int32.le_iff_toInt_le, q0, q1]
  omega
set_option maxHeartbeats 2000000 in
theorem op_44 {N : Nat} (hN : 1000 ≤ N) (g : XG) : OP_44 N g (Cp g) := by
  intro a1 a2 a3 a4 a5 ξ σ hC
  have htp : cTape g (dE ξ) (xo ξ) (gR σ 74) (gR σ 75) (gJ σ 76) := by
    obtain ⟨H, A, D, S, B, T, F, R, wk, wi, hq, hr, hn, hs, hc, hrow, hby, hbw, hobj, hrw, hrd, hah, htx, hthe, htown, htr, htp, -⟩ := hC
    exact htp
  unfold m_shift y0_shift
  simp only [x0_isTape_eq, m_isTape_eq, bnd_ok, bndp_ok, b0]
  by_cases h1 : 0 ≤ a1 ∧ a1 ≤ 5
  · by_cases h3 : 0 ≤ a3 ∧ a3 ≤ 5
    · obtain ⟨t, ht, rfl⟩ := rg_of (n := 5) (by omega) h1.1 h1.2
      obtain ⟨u, hu, rfl⟩ := rg_of (n := 5) (by omega) h3.1 h3.2
      have ht6 : t < 6 := by omega
      have hu6 : u < 6 := by omega
      simp only [h1, h3, and_self, not_true, if_false, in6 ht6, cl6 ht6, in6 hu6, cl6 hu6, if_true]
      rcases htp t ht6 with ⟨e1, e2⟩ | ⟨s, n, r, e, y1, y2, y3, y4, y5, y6, y7⟩
      · refine ⟨-11, σ, by rw [e1]; rfl, Or.inl ⟨Or.inl e2, by omega, by omega, fun q => ⟨rfl, hC⟩⟩⟩
      · have g74 : ¬ gR σ 74 t < 0 := by rw [y3]; exact nI_pos (by omega)
        simp only [g74, if_false]
        rcases htp u hu6 with ⟨e1, e2⟩ | ⟨s', n', r', e', y1', y2', y3', y4', y5', y6', y7'⟩
        · refine ⟨-11, σ, by rw [e1]; rfl, Or.inl ⟨Or.inr e2, by omega, by omega, fun q => ⟨rfl, hC⟩⟩⟩
        · have g75' : 0 ≤ nI s' := nI_pos' (by omega)
          simp only [y3', g75', if_true, y3, y4, y4']
          obtain ⟨x, rfl⟩ := tEnt_x y7
          obtain ⟨x', rfl⟩ := tEnt_x y7'
          by_cases hss : s = s'
          · subst hss
            simp only [if_true]
            by_cases hcp : cpk a2 a4 a5 n n' = true
            · obtain ⟨w1, w2, w3, w4, w5⟩ := (cpk_iff y2 y2').mp hcp
              obtain ⟨-, -, -, w6, w7⟩ := cpk_at hcp
              obtain ⟨i, hi9, rfl⟩ := rg_of (x := a2) (n := 60) (by omega) (Int32.not_lt.mp w2) (by
                rw [Int32.le_iff_toInt_le, nI_toInt (by omega)]
                have : (a2.toNatClampNeg : Int) = a2.toInt := by
                  have := Int32.le_iff_toInt_le.mp (Int32.not_lt.mp w2)
                  rw [show (0 : Int32).toInt = 0 by decide] at this
                  rw [Int32.toNatClampNeg]; omega
                omega)
              obtain ⟨j, hj9, rfl⟩ := rg_of (x := a4) (n := 60) (by omega) (Int32.not_lt.mp w3) (by
                rw [Int32.le_iff_toInt_le, nI_toInt (by omega)]
                have : (a4.toNatClampNeg : Int) = a4.toInt := by
                  have := Int32.le_iff_toInt_le.mp (Int32.not_lt.mp w3)
                  rw [show (0 : Int32).toInt = 0 by decide] at this
                  rw [Int32.toNatClampNeg]; omega
                omega)
              obtain ⟨m, hm9, rfl⟩ := rg_of (x := a5) (n := 60) (by omega) (Int32.not_lt.mp w1) (by
                rw [Int32.le_iff_toInt_le, nI_toInt (by omega)]
                have : (a5.toNatClampNeg : Int) = a5.toInt := by
                  have := Int32.le_iff_toInt_le.mp (Int32.not_lt.mp w1)
                  rw [show (0 : Int32).toInt = 0 by decide] at this
                  rw [Int32.toNatClampNeg]; omega
                omega)
              rw [nI_clamp (by omega), nI_clamp (by omega)] at w6
              rw [nI_clamp (by omega), nI_clamp (by omega)] at w7
              obtain ⟨f', it', em, hit⟩ := m_shift_104_eq (N := N) hN (σ := σ) (t := t) (u := u) (x2 := i) (x4 := j) (n := m) ht6 hu6 (by omega) (by omega) m 0 N (gJ σ 77) (by omega) (by omega) (fun j hj => by omega)
              rw [sJw_self] at em
              have hC2 : Cp g ξ (sJw σ 77 f') := Cp_keep hC (keepX_refl ξ) (keepM_77 σ f')
              have hout : ∀ j', j' < 60 * u ∨ 60 * u + 60 ≤ j' → it' j' = gJ (sJw σ 77 f') 76 j' := fun j' hj' => by rw [hit j', if_neg (by omega)]; rfl
              refine ⟨nI m, sJw (sJw σ 77 f') 76 it', ?_, Or.inr ⟨r, r', tCls s, tCls s, n, n', x, x', y5, y5', tCls5 y1, tCls5 y1, y6, y6', y2, y2', ?_⟩⟩
              · rw [if_neg w1, if_neg w2, if_neg w3, if_neg w4, if_pos w5, nx_ok]
                exact em
              · rw [nI_clamp (show i < 2 ^ 31 by omega), nI_clamp (show j < 2 ^ 31 by omega), nI_clamp (show m < 2 ^ 31 by omega)]
                rcases y7 with ⟨p1, f0, p2, p3⟩ | ⟨p1, f0, p2, p3⟩
                · rcases y7' with ⟨-, f1, p2', p3'⟩ | ⟨p1', -⟩
                  · obtain rfl : x = .inr (.inl f0) := (Prod.mk.inj (Prod.mk.inj (Sum.inl.inj p2)).2).2
                    obtain rfl : x' = .inr (.inl f1) := (Prod.mk.inj (Prod.mk.inj (Sum.inl.inj p2')).2).2
                    refine Or.inr (Or.inr (Or.inr ⟨rfl, hcp, f0, f1, rfl, rfl, by rw [p1]; rfl, rfl, Cp_row hC2 hu6 y5' hout (fun s9 n9 _ _ q3 q4 => ?_)⟩))
                    obtain rfl : s9 = s := nI_inj (by omega) (by omega) (q3.symm.trans y3')
                    obtain rfl : n9 = n' := nI_inj (by omega) (by omega) (q4.symm.trans y4')
                    refine Or.inl ⟨p1, _, by rw [p1]; rfl, fun z hz => ?_⟩
                    show va_cpy f0 f1 i j m z = it' (60 * u + z)
                    rw [hit]
                    unfold va_cpy
                    by_cases q : j ≤ z ∧ z < j + m
                    · rw [if_pos q, if_pos (by omega), p3 _ (by omega), show 60 * u + z - (60 * u + j) = z - j by omega]
                      show gJ σ 76 (60 * t + (i + (z - j))) = _
                      rw [show 60 * t + (i + (z - j)) = 60 * t + i + (z - j) by omega]
                    · rw [if_neg q, if_neg (by omega)]
                      exact p3' z hz
                  · exact absurd p1 p1'
                · rcases y7' with ⟨p1', -⟩ | ⟨-, f1, p2', p3'⟩
                  · exact absurd p1' p1
                  · obtain rfl : x = .inl f0 := (Prod.mk.inj (Prod.mk.inj (Sum.inl.inj p2)).2).2
                    obtain rfl : x' = .inl f1 := (Prod.mk.inj (Prod.mk.inj (Sum.inl.inj p2')).2).2
                    have hj3 : tCls s ≠ 3 := by
                      have h7 : s = 0 ∨ s = 1 ∨ s = 2 ∨ s = 4 := by omega
                      rcases h7 with rfl | rfl | rfl | rfl <;> decide
                    refine Or.inr (Or.inr (Or.inl ⟨rfl, hcp, f0, f1, rfl, rfl, hj3, fun z hz => (p3 _ (by omega)).2, rfl, Cp_row hC2 hu6 y5' hout (fun s9 n9 _ _ q3 q4 => ?_)⟩))
                    obtain rfl : s9 = s := nI_inj (by omega) (by omega) (q3.symm.trans y3')
                    obtain rfl : n9 = n' := nI_inj (by omega) (by omega) (q4.symm.trans y4')
                    refine Or.inr ⟨p1, _, rfl, fun z hz => ?_⟩
                    show (va_cpy f0 f1 i j m z).toInt64 = it' (60 * u + z) ∧ _
                    rw [hit]
                    unfold va_cpy
                    by_cases q : j ≤ z ∧ z < j + m
                    · rw [if_pos q, if_pos (by omega), show 60 * u + z - (60 * u + j) = z - j by omega]
                      refine ⟨?_, (p3 _ (by omega)).2⟩
                      rw [show 60 * t + i + (z - j) = 60 * t + (i + (z - j)) by omega]
                      exact (p3 _ (by omega)).1
                    · rw [if_neg q, if_neg (by omega)]
                      exact p3' z hz
            · refine ⟨-13, σ, ?_, Or.inr ⟨r, r', tCls s, tCls s, n, n', x, x', y5, y5', tCls5 y1, tCls5 y1, y6, y6', y2, y2', Or.inr (Or.inl ⟨rfl, eq_false_of_ne_true hcp, by omega, by omega, fun q => ⟨rfl, hC⟩⟩)⟩⟩
              have hcp' := mt (cpk_iff y2 y2').mpr hcp
              by_cases w1 : a5 < 0
              · rw [if_pos w1]
              rw [if_neg w1]
              by_cases w2 : a2 < 0
              · rw [if_pos w2]
              rw [if_neg w2]
              by_cases w3 : a4 < 0
              · rw [if_pos w3]
              rw [if_neg w3]
              by_cases w4 : nI n - a5 < a2
              · rw [if_pos w4]
              rw [if_neg w4, if_neg (fun w5 => hcp' ⟨w1, w2, w3, w4, w5⟩)]
          · have hne : ¬ nI s = nI s' := fun z => hss (nI_inj (by omega) (by omega) z)
            simp only [hne, if_false]
            exact ⟨-12, σ, rfl, Or.inr ⟨r, r', tCls s, tCls s', n, n', x, x', y5, y5', tCls5 y1, tCls5 y1', y6, y6', y2, y2', Or.inl ⟨fun z => hss (tCls_inj y1 y1' z), by omega, by omega, fun q => ⟨rfl, hC⟩⟩⟩⟩
    · exact ⟨-1, σ, by simp [h1, h3], by simp [h1, h3, hC]⟩
  · exact ⟨-1, σ, by simp [h1], by simp [h1, hC]⟩
