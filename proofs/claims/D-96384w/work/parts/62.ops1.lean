/-! PURE: ops that look and lay down -/
set_option maxRecDepth 100000
theorem isHat_k {x : Int32} {A : Nat} (hA : A ≤ 6) (h : 0 ≤ x ∧ x ≤ nI A - 1) : ∃ k, k < A ∧ x = nI k := i32_nat (by omega) h.1 ((i32_le_pred (by omega)).mp h.2)
theorem isHat_i {k A : Nat} (hA : A ≤ 6) (hk : k < A) : 0 ≤ nI k ∧ nI k ≤ nI A - 1 := ⟨nI_pos' (by omega), (i32_le_pred (by omega)).mpr (nI_lt hk (by omega))⟩
theorem cl6 {k : Nat} (h : k < 6) : (nI k).toNatClampNeg = k := nI_clamp (by omega)
theorem in6 {k : Nat} (h : k < 6) : inb (nI k) 6 = true := by rw [inb_nI (by omega)]; exact decide_eq_true h
theorem inN {k n : Nat} (hn : n < 2 ^ 31) (h : k < n) : inb (nI k) n = true := by rw [inb_nI (by omega)]; exact decide_eq_true h
theorem hx_le {x : Int32} {n m : Nat} (h : hx x n) (hm : n ≤ m) : hx x m := by
  rcases h with h | ⟨k, hk, h⟩
  · exact Or.inl h
  · exact Or.inr ⟨k, by omega, h⟩
theorem hx_neg {x : Int32} {n : Nat} (hn : n ≤ 100) (h : hx x n) : (x < 0 ↔ x = -1) := by
  rcases h with rfl | ⟨k, hk, rfl⟩
  · exact ⟨fun _ => rfl, fun _ => by decide⟩
  · exact ⟨fun h => absurd h (nI_pos (by omega)), fun h => absurd (h ▸ (show (-1 : Int32) < 0 by decide) : nI k < 0) (nI_pos (by omega))⟩
theorem hx_fit {x : Int32} {n : Nat} (hn : n ≤ 100) (h : hx x n) : fits .byte (.int x) = true ∧ vp_nar .byte x = x := by
  rcases h with rfl | ⟨k, hk, rfl⟩
  · exact ⟨fitM, narM⟩
  · exact ⟨fitN (by omega), narN (by omega)⟩
theorem nI_ne1 {k : Nat} (h : k < 2 ^ 31) : nI k ≠ -1 := fun e => nI_pos h (e ▸ (show (-1 : Int32) < 0 by decide) : nI k < 0)
theorem op_0 (N : Nat) (g : XG) : OP_0 N g (Cp g) := by
  intro a1 ξ σ hC
  obtain ⟨H, A, D, S, B, T, F, R, wk, wi, hq, hr, hn, hs, hc, hrow, hby, hbw, hobj, hrw, hrd, hah, htx, hthe, htown, htr, htp, htd, him⟩ := id hC
  have eH : xF ξ 202 = nI H := hs.1.trans hn.1
  have eH2 : gF σ 0 = nI H := hn.1
  have eA : xF ξ 4 = nI A := hs.2.1.trans hn.2.1
  have eA2 : gF σ 1 = nI A := hn.2.1
  have eD : xF ξ 203 = nI D := hs.2.2.1.trans hn.2.2.1
  have eD2 : gF σ 2 = nI D := hn.2.2.1
  have eS : xF ξ 18 = nI S := hs.2.2.2.1.trans hn.2.2.2.1
  have eS2 : gF σ 43 = nI S := hn.2.2.2.1
  have eB : xF ξ 19 = nI B := hs.2.2.2.2.trans hn.2.2.2.2
  have eB2 : gF σ 47 = nI B := hn.2.2.2.2
  have lH : H ≤ 6 := hc.1
  have lA : A ≤ 6 := hc.2.1
  have lD : D ≤ 9999 := hc.2.2.1
  have lS : S ≤ 6 := hc.2.2.2.1
  have lB : B ≤ 8 := hc.2.2.2.2.1
  obtain ⟨lT, eT2, eT, lF, eF2, eF, htxt, hlet, hmu⟩ := id htx
  obtain ⟨lR, eR2, eR, hbod⟩ := id htr
  have e6 : (nI H = (6 : Int32)) ↔ H = 6 := nI_eq (a := H) (b := 6) (by omega) (by omega)
  unfold x0_head m_head
  simp only [x0_in_eq, m_in_eq, bnd_ok, bnv_ok, bno_ok, nx_ok, b0, eH, eH2]
  by_cases h1 : 0 ≤ a1 ∧ a1 ≤ 9
  · by_cases h2 : H = 6
    · exact ⟨-4, ξ, σ, by simp [h1, e6.mpr h2], by simp [h1, e6.mpr h2], hC⟩
    · have hk6 : H < 6 := by omega
      have h2 : ¬ nI H = (6 : Int32) := fun z => h2 (e6.mp z)
      refine ⟨nI H, sXF (sXR (sXR (sXR ξ 0 H a1) 1 H (-1)) 200 H (-1)) 202 (nI (H + 1)), sF (sR (sR (sR σ 3 H a1) 4 H (-1)) 5 H (-1)) 0 (nI (H + 1)), ?_, ?_, ?_⟩
      · simp [h1, h2, in6 hk6, cl6 hk6, eH, xF_sXR, narM, nI_1]
      · simp [h1, h2, in6 hk6, cl6 hk6, eH2, gF_sR, gF_sF, nI_1, nI_pred, ← nI_succ]
      · obtain ⟨c1, c2, c3, c4, c5, c6, c7, c8, c9, c10, c11⟩ := hc
        obtain ⟨r1, r2, r3, r4, r5, r6, r7, r8, r9, r10⟩ := hrow
        refine ⟨H + 1, A, D, S, B, T, F, R, wk, wi, hq, hr, ⟨rfl, hn.2⟩, ⟨rfl, hs.2⟩, ⟨by omega, c2, c3, c4, c5, fun h hh => ?_, fun h h' hh hh' he hne => ?_, c8, c9, c10, fun k hk => ?_⟩, ⟨eqN_upd r1, eqN_upd r2, eqN_upd r3, r4, r5, r6, r7, r8, r9, r10⟩, cByte_upd hby fitM, hbw, hobj, hrw, hrd, hah, htx, hthe, htown, htr, htp, htd, him⟩
        · show rg (upd (gR σ 3) H a1 h) 9 ∧ hx (upd (gR σ 4) H (-1) h) A ∧ hx (upd (gR σ 5) H (-1) h) A
          unfold upd
          by_cases e : h = H
          · simp only [e, if_true]
            exact ⟨rg_of (by omega) h1.1 h1.2, Or.inl rfl, Or.inl rfl⟩
          · simp only [e, if_false]
            exact c6 h (by omega)
        · have he : upd (gR σ 5) H (-1) h = upd (gR σ 5) H (-1) h' := he
          have hne : upd (gR σ 5) H (-1) h ≠ -1 := hne
          unfold upd at he hne
          by_cases e : h = H
          · simp [e] at hne
          · by_cases e' : h' = H
            · simp only [e, e', if_true, if_false] at he hne
              exact absurd he hne
            · simp only [e, e', if_false] at he hne
              exact c7 h h' (by omega) (by omega) he hne
        · obtain ⟨p1, h9, p2, p3⟩ := c11 k hk
          exact ⟨p1, h9, by omega, p3⟩
  · exact ⟨-2, ξ, σ, by simp [h1], by simp [h1], hC⟩
theorem op_3 (N : Nat) (g : XG) : OP_3 N g (Cp g) := by
  intro a1 a2 ξ σ hC
  obtain ⟨H, A, D, S, B, T, F, R, wk, wi, hq, hr, hn, hs, hc, hrow, hby, hbw, hobj, hrw, hrd, hah, htx, hthe, htown, htr, htp, htd, him⟩ := id hC
  have eH : xF ξ 202 = nI H := hs.1.trans hn.1
  have eH2 : gF σ 0 = nI H := hn.1
  have eA : xF ξ 4 = nI A := hs.2.1.trans hn.2.1
  have eA2 : gF σ 1 = nI A := hn.2.1
  have eD : xF ξ 203 = nI D := hs.2.2.1.trans hn.2.2.1
  have eD2 : gF σ 2 = nI D := hn.2.2.1
  have eS : xF ξ 18 = nI S := hs.2.2.2.1.trans hn.2.2.2.1
  have eS2 : gF σ 43 = nI S := hn.2.2.2.1
  have eB : xF ξ 19 = nI B := hs.2.2.2.2.trans hn.2.2.2.2
  have eB2 : gF σ 47 = nI B := hn.2.2.2.2
  have lH : H ≤ 6 := hc.1
  have lA : A ≤ 6 := hc.2.1
  have lD : D ≤ 9999 := hc.2.2.1
  have lS : S ≤ 6 := hc.2.2.2.1
  have lB : B ≤ 8 := hc.2.2.2.2.1
  obtain ⟨lT, eT2, eT, lF, eF2, eF, htxt, hlet, hmu⟩ := id htx
  obtain ⟨lR, eR2, eR, hbod⟩ := id htr
  unfold x0_at m_at
  simp only [x0_isHead_eq, m_isHead_eq, x0_orNone_eq, m_orNone_eq, bnd_ok, bnv_ok, bno_ok, nx_ok, b0, eH, eH2]
  by_cases h1 : 0 ≤ a1 ∧ a1 ≤ nI H - 1
  · obtain ⟨k, hk, rfl⟩ := isHat_k lH h1
    have hk6 : k < 6 := by omega
    obtain ⟨q1, q2, q3⟩ := hc.2.2.2.2.2.1 k hk
    simp only [h1, in6 hk6, cl6 hk6, hrow.1 k hk6, hrow.2.1 k hk6, hrow.2.2.1 k hk6, hx_neg (by omega) q2, hx_neg (by omega) q3, not_true, if_false, and_self, if_true]
    by_cases e0 : a2 = 0
    · exact ⟨gR σ 3 k, ξ, σ, by simp [e0], by simp [e0], hC⟩
    · by_cases e1 : a2 = 1
      · exact ⟨if gR σ 5 k = -1 then -5 else gR σ 5 k, ξ, σ, by simp [e1], by simp [e1], hC⟩
      · by_cases e2 : a2 = 2
        · exact ⟨if gR σ 4 k = -1 then -5 else gR σ 4 k, ξ, σ, by simp [e2], by simp [e2], hC⟩
        · exact ⟨-1, ξ, σ, by simp [e0, e1, e2], by simp [e0, e1, e2], hC⟩
  · exact ⟨-1, ξ, σ, by simp [h1], by simp [h1], hC⟩
theorem cHeads_ow {H A k : Nat} {sz ow wo : Nat → Int32} {v : Int32} (h : cHeads H A sz ow wo) (hv : hx v A) : cHeads H A sz (upd ow k v) wo := by
  intro j hj
  obtain ⟨q1, q2, q3⟩ := h j hj
  refine ⟨q1, ?_, q3⟩
  unfold upd
  split
  · exact hv
  · exact q2
theorem op_6 (N : Nat) (g : XG) : OP_6 N g (Cp g) := by
  intro a1 a2 ξ σ hC
  obtain ⟨H, A, D, S, B, T, F, R, wk, wi, hq, hr, hn, hs, hc, hrow, hby, hbw, hobj, hrw, hrd, hah, htx, hthe, htown, htr, htp, htd, him⟩ := id hC
  have eH : xF ξ 202 = nI H := hs.1.trans hn.1
  have eH2 : gF σ 0 = nI H := hn.1
  have eA : xF ξ 4 = nI A := hs.2.1.trans hn.2.1
  have eA2 : gF σ 1 = nI A := hn.2.1
  have eD : xF ξ 203 = nI D := hs.2.2.1.trans hn.2.2.1
  have eD2 : gF σ 2 = nI D := hn.2.2.1
  have eS : xF ξ 18 = nI S := hs.2.2.2.1.trans hn.2.2.2.1
  have eS2 : gF σ 43 = nI S := hn.2.2.2.1
  have eB : xF ξ 19 = nI B := hs.2.2.2.2.trans hn.2.2.2.2
  have eB2 : gF σ 47 = nI B := hn.2.2.2.2
  have lH : H ≤ 6 := hc.1
  have lA : A ≤ 6 := hc.2.1
  have lD : D ≤ 9999 := hc.2.2.1
  have lS : S ≤ 6 := hc.2.2.2.1
  have lB : B ≤ 8 := hc.2.2.2.2.1
  obtain ⟨lT, eT2, eT, lF, eF2, eF, htxt, hlet, hmu⟩ := id htx
  obtain ⟨lR, eR2, eR, hbod⟩ := id htr
  unfold x0_own m_own
  simp only [x0_isHead_eq, m_isHead_eq, x0_isHat_eq, m_isHat_eq, x0_own_23, m_own_23, x0_orNone_eq, m_orNone_eq, bnd_ok, bnv_ok, bno_ok, nx_ok, b0, eH, eH2, eA, eA2]
  by_cases h1 : 0 ≤ a1 ∧ a1 ≤ nI H - 1
  · obtain ⟨k, hk, rfl⟩ := isHat_k lH h1
    have hk6 : k < 6 := by omega
    obtain ⟨q1, q2, q3⟩ := hc.2.2.2.2.2.1 k hk
    by_cases h2 : hx a2 A
    · have h2' : ¬ (a2 ≠ -1 ∧ ¬ (0 ≤ a2 ∧ a2 ≤ nI A - 1)) := by
        rintro ⟨e1, e2⟩
        rcases h2 with h2 | ⟨j, hj, rfl⟩
        · exact e1 h2
        · exact e2 (isHat_i lA hj)
      refine ⟨if gR σ 4 k = -1 then -5 else gR σ 4 k, sXR ξ 1 k a2, sR σ 4 k a2, ?_, ?_, ?_⟩
      · by_cases e : a2 = -1
        · simp [h1, e, in6 hk6, cl6 hk6, hrow.2.1 k hk6]
        · have h3 : 0 ≤ a2 ∧ a2 ≤ nI A - 1 := Decidable.not_not.mp (fun z => h2' ⟨e, z⟩)
          simp [h1, e, h3, in6 hk6, cl6 hk6, hrow.2.1 k hk6]
      · by_cases e : a2 = -1
        · simp [h1, e, in6 hk6, cl6 hk6, hx_neg (show A ≤ 100 by omega) q2]
        · have h3 : 0 ≤ a2 ∧ a2 ≤ nI A - 1 := Decidable.not_not.mp (fun z => h2' ⟨e, z⟩)
          simp [h1, e, h3, in6 hk6, cl6 hk6, hx_neg (show A ≤ 100 by omega) q2]
      · obtain ⟨c1, c2, c3, c4, c5, c6, c7, c8, c9, c10, c11⟩ := hc
        obtain ⟨r1, r2, r3, r4, r5, r6, r7, r8, r9, r10⟩ := hrow
        exact ⟨H, A, D, S, B, T, F, R, wk, wi, hq, hr, hn, hs, ⟨c1, c2, c3, c4, c5, cHeads_ow c6 h2, c7, c8, c9, c10, c11⟩, ⟨r1, eqN_upd r2, r3, r4, r5, r6, r7, r8, r9, r10⟩, hby, hbw, hobj, hrw, hrd, hah, htx, hthe, htown, htr, htp, htd, him⟩
    · have e : ¬ a2 = -1 := fun e => h2 (Or.inl e)
      have h3 : ¬ (0 ≤ a2 ∧ a2 ≤ nI A - 1) := fun z => h2 (Or.inr (by obtain ⟨j, hj, rfl⟩ := isHat_k lA z; exact ⟨j, hj, rfl⟩))
      exact ⟨-1, ξ, σ, by simp [h1, e, h3], by simp [h1, e, h3], hC⟩
  · exact ⟨-1, ξ, σ, by simp [h1], by simp [h1], hC⟩
theorem op_7 (N : Nat) (g : XG) : OP_7 N g (Cp g) := by
  intro a1 a2 ξ σ hC
  obtain ⟨H, A, D, S, B, T, F, R, wk, wi, hq, hr, hn, hs, hc, hrow, hby, hbw, hobj, hrw, hrd, hah, htx, hthe, htown, htr, htp, htd, him⟩ := id hC
  have eH : xF ξ 202 = nI H := hs.1.trans hn.1
  have eH2 : gF σ 0 = nI H := hn.1
  have eA : xF ξ 4 = nI A := hs.2.1.trans hn.2.1
  have eA2 : gF σ 1 = nI A := hn.2.1
  have eD : xF ξ 203 = nI D := hs.2.2.1.trans hn.2.2.1
  have eD2 : gF σ 2 = nI D := hn.2.2.1
  have eS : xF ξ 18 = nI S := hs.2.2.2.1.trans hn.2.2.2.1
  have eS2 : gF σ 43 = nI S := hn.2.2.2.1
  have eB : xF ξ 19 = nI B := hs.2.2.2.2.trans hn.2.2.2.2
  have eB2 : gF σ 47 = nI B := hn.2.2.2.2
  have lH : H ≤ 6 := hc.1
  have lA : A ≤ 6 := hc.2.1
  have lD : D ≤ 9999 := hc.2.2.1
  have lS : S ≤ 6 := hc.2.2.2.1
  have lB : B ≤ 8 := hc.2.2.2.2.1
  obtain ⟨lT, eT2, eT, lF, eF2, eF, htxt, hlet, hmu⟩ := id htx
  obtain ⟨lR, eR2, eR, hbod⟩ := id htr
  unfold x0_skill m_skill
  rw [x0_isHat_eq, m_isHat_eq]
  simp only [bnd_ok, bnv_ok, bno_ok, nx_ok, x0_in_eq, m_in_eq, b0, eA, eA2]
  by_cases h1 : 0 ≤ a1 ∧ a1 ≤ nI A - 1
  · by_cases h2 : 0 ≤ a2 ∧ a2 ≤ 50
    · obtain ⟨k, hk, rfl⟩ := isHat_k lA h1
      have hk6 : k < 6 := by omega
      refine ⟨gR σ 9 k, sXR ξ 2 k a2, sR σ 9 k a2, ?_, ?_, ?_⟩
      · simp [h1, h2, in6 hk6, cl6 hk6, hrow.2.2.2.1 k hk6]
      · simp [h1, h2, in6 hk6, cl6 hk6]
      · obtain ⟨c1, c2, c3, c4, c5, c6, c7, c8, c9, c10, c11⟩ := hc
        obtain ⟨r1, r2, r3, r4, r5, r6, r7, r8, r9, r10⟩ := hrow
        refine ⟨H, A, D, S, B, T, F, R, wk, wi, hq, hr, hn, hs, ⟨c1, c2, c3, c4, c5, c6, c7, fun a ha => ?_, c9, c10, c11⟩, ⟨r1, r2, r3, eqN_upd r4, r5, r6, r7, r8, r9, r10⟩, hby, hbw, hobj, hrw, hrd, hah, htx, hthe, htown, htr, htp, htd, him⟩
        obtain ⟨q1, q2, q3, q4, q5⟩ := c8 a ha
        refine ⟨q1, q2, q3, ?_, q5⟩
        show rg (upd (gR σ 9) k a2 a) 50
        unfold upd
        split
        · exact rg_of (by omega) h2.1 h2.2
        · exact q4
    · exact ⟨-2, ξ, σ, by simp [h1, h2], by simp [h1, h2], hC⟩
  · exact ⟨-1, ξ, σ, by simp [h1], by simp [h1], hC⟩
theorem op_8 (N : Nat) (g : XG) : OP_8 N g (Cp g) := by
  intro a1 ξ σ hC
  obtain ⟨H, A, D, S, B, T, F, R, wk, wi, hq, hr, hn, hs, hc, hrow, hby, hbw, hobj, hrw, hrd, hah, htx, hthe, htown, htr, htp, htd, him⟩ := id hC
  have eH : xF ξ 202 = nI H := hs.1.trans hn.1
  have eH2 : gF σ 0 = nI H := hn.1
  have eA : xF ξ 4 = nI A := hs.2.1.trans hn.2.1
  have eA2 : gF σ 1 = nI A := hn.2.1
  have eD : xF ξ 203 = nI D := hs.2.2.1.trans hn.2.2.1
  have eD2 : gF σ 2 = nI D := hn.2.2.1
  have eS : xF ξ 18 = nI S := hs.2.2.2.1.trans hn.2.2.2.1
  have eS2 : gF σ 43 = nI S := hn.2.2.2.1
  have eB : xF ξ 19 = nI B := hs.2.2.2.2.trans hn.2.2.2.2
  have eB2 : gF σ 47 = nI B := hn.2.2.2.2
  have lH : H ≤ 6 := hc.1
  have lA : A ≤ 6 := hc.2.1
  have lD : D ≤ 9999 := hc.2.2.1
  have lS : S ≤ 6 := hc.2.2.2.1
  have lB : B ≤ 8 := hc.2.2.2.2.1
  obtain ⟨lT, eT2, eT, lF, eF2, eF, htxt, hlet, hmu⟩ := id htx
  obtain ⟨lR, eR2, eR, hbod⟩ := id htr
  have e6 : (nI F = (100 : Int32)) ↔ F = 100 := nI_eq (a := F) (b := 100) (by omega) (by omega)
  unfold x0_feed m_feed
  simp only [x0_in_eq, m_in_eq, bnd_ok, bnv_ok, bno_ok, nx_ok, b0, eF, eF2]
  by_cases h1 : 0 ≤ a1 ∧ a1 ≤ 127
  · obtain ⟨k, hk, rfl⟩ := rg_of (n := 127) (by omega) h1.1 h1.2
    by_cases h2 : F = 100
    · exact ⟨-4, ξ, σ, by simp [h1, e6.mpr h2], by simp [h1, e6.mpr h2], hC⟩
    · have hk6 : F < 100 := by omega
      have h2 : ¬ nI F = (100 : Int32) := fun z => h2 (e6.mp z)
      have hcl : (nI F).toNatClampNeg = F := nI_clamp (by omega)
      refine ⟨nI (F + 1), sXR (sXF ξ 9 (nI (F + 1))) 8 F (nI k), sF (sR σ 19 F (nI k)) 16 (nI (F + 1)), ?_, ?_, ?_⟩
      · simp [h1, h2, inN (show 100 < 2 ^ 31 by omega) hk6, hcl, xF_sXR, xF_sXF, nI_1, i8N (show k < 128 by omega), narN (show k < 128 by omega)]
      · simp [h1, h2, inN (show 100 < 2 ^ 31 by omega) hk6, hcl, eF2, gF_sR, gF_sF, nI_1]
      · refine ⟨H, A, D, S, B, T, F + 1, R, wk, wi, hq, hr, hn, hs, hc, hrow, hby, hbw, hobj, hrw, hrd, hah, ⟨lT, eT2, eT, by omega, rfl, rfl, fun i hi => ?_, hlet, hmu⟩, hthe, htown, htr, htp, htd, him⟩
        show upd (xR ξ 8) F (nI k) i = upd (gR σ 19) F (nI k) i ∧ rg (upd (gR σ 19) F (nI k) i) 127
        unfold upd
        by_cases e : i = F
        · simp only [e, if_true]
          exact ⟨trivial, k, by omega, rfl⟩
        · simp only [e, if_false]
          exact htxt i (by omega)
  · exact ⟨-2, ξ, σ, by simp [h1], by simp [h1], hC⟩
theorem op_40 (N : Nat) (g : XG) : OP_40 N g (Cp g) := by
  intro a1 ξ σ hC
  obtain ⟨H, A, D, S, B, T, F, R, wk, wi, hq, hr, hn, hs, hc, hrow, hby, hbw, hobj, hrw, hrd, hah, htx, hthe, htown, htr, htp, htd, him⟩ := id hC
  have eH : xF ξ 202 = nI H := hs.1.trans hn.1
  have eH2 : gF σ 0 = nI H := hn.1
  have eA : xF ξ 4 = nI A := hs.2.1.trans hn.2.1
  have eA2 : gF σ 1 = nI A := hn.2.1
  have eD : xF ξ 203 = nI D := hs.2.2.1.trans hn.2.2.1
  have eD2 : gF σ 2 = nI D := hn.2.2.1
  have eS : xF ξ 18 = nI S := hs.2.2.2.1.trans hn.2.2.2.1
  have eS2 : gF σ 43 = nI S := hn.2.2.2.1
  have eB : xF ξ 19 = nI B := hs.2.2.2.2.trans hn.2.2.2.2
  have eB2 : gF σ 47 = nI B := hn.2.2.2.2
  have lH : H ≤ 6 := hc.1
  have lA : A ≤ 6 := hc.2.1
  have lD : D ≤ 9999 := hc.2.2.1
  have lS : S ≤ 6 := hc.2.2.2.1
  have lB : B ≤ 8 := hc.2.2.2.2.1
  obtain ⟨lT, eT2, eT, lF, eF2, eF, htxt, hlet, hmu⟩ := id htx
  obtain ⟨lR, eR2, eR, hbod⟩ := id htr
  unfold x0_count m_count
  simp only [eH, eH2, eA, eA2, eS, eS2, eB, eB2, eT, eT2, eF, eF2, eR, eR2]
  by_cases e0 : a1 = 0
  · exact ⟨nI A, ξ, σ, by simp [e0], by simp [e0], hC⟩
  by_cases e1 : a1 = 1
  · exact ⟨nI H, ξ, σ, by simp [e1], by simp [e1], hC⟩
  by_cases e2 : a1 = 2
  · exact ⟨nI T, ξ, σ, by simp [e2], by simp [e2], hC⟩
  by_cases e3 : a1 = 3
  · exact ⟨nI S, ξ, σ, by simp [e3], by simp [e3], hC⟩
  by_cases e4 : a1 = 4
  · exact ⟨nI B, ξ, σ, by simp [e4], by simp [e4], hC⟩
  by_cases e5 : a1 = 5
  · exact ⟨nI F, ξ, σ, by simp [e5], by simp [e5], hC⟩
  by_cases e6 : a1 = 6
  · exact ⟨nI R, ξ, σ, by simp [e6], by simp [e6], hC⟩
  exact ⟨-2, ξ, σ, by simp [e0, e1, e2, e3, e4, e5, e6], by simp [e0, e1, e2, e3, e4, e5, e6], hC⟩
theorem op_38 (N : Nat) (g : XG) : OP_38 N g (Cp g) := by
  intro a1 ξ σ hC
  obtain ⟨H, A, D, S, B, T, F, R, wk, wi, hq, hr, hn, hs, hc, hrow, hby, hbw, hobj, hrw, hrd, hah, htx, hthe, htown, htr, htp, htd, him⟩ := id hC
  have eH : xF ξ 202 = nI H := hs.1.trans hn.1
  have eH2 : gF σ 0 = nI H := hn.1
  have eA : xF ξ 4 = nI A := hs.2.1.trans hn.2.1
  have eA2 : gF σ 1 = nI A := hn.2.1
  have eD : xF ξ 203 = nI D := hs.2.2.1.trans hn.2.2.1
  have eD2 : gF σ 2 = nI D := hn.2.2.1
  have eS : xF ξ 18 = nI S := hs.2.2.2.1.trans hn.2.2.2.1
  have eS2 : gF σ 43 = nI S := hn.2.2.2.1
  have eB : xF ξ 19 = nI B := hs.2.2.2.2.trans hn.2.2.2.2
  have eB2 : gF σ 47 = nI B := hn.2.2.2.2
  have lH : H ≤ 6 := hc.1
  have lA : A ≤ 6 := hc.2.1
  have lD : D ≤ 9999 := hc.2.2.1
  have lS : S ≤ 6 := hc.2.2.2.1
  have lB : B ≤ 8 := hc.2.2.2.2.1
  obtain ⟨lT, eT2, eT, lF, eF2, eF, htxt, hlet, hmu⟩ := id htx
  obtain ⟨lR, eR2, eR, hbod⟩ := id htr
  have em : (if (20 : Int32) < nI R then (20 : Int32) else nI R) = nI (min 20 R) := by
    by_cases h : 20 < R
    · rw [if_pos (show (20 : Int32) < nI R from nI_lt (a := 20) h (by omega)), show min 20 R = 20 by omega]; rfl
    · rw [if_neg (show ¬ (20 : Int32) < nI R from nI_nlt (b := R) (a := 20) (by omega) (by omega)), show min 20 R = R by omega]
  unfold x0_trace m_trace
  simp only [x0_in_eq, m_in_eq, bnd_ok, bnv_ok, bno_ok, nx_ok, b0, eR, eR2, em]
  by_cases h1 : ∃ k, k < min 20 R ∧ a1 = nI k
  · obtain ⟨k, hk, rfl⟩ := h1
    have a0 : 0 ≤ nI k := nI_pos' (by omega)
    have a9 : nI k ≤ 19 := nI_le (b := 19) (by omega) (by omega)
    have ap : nI k ≤ nI (min 20 R) - 1 := (i32_le_pred (by omega)).mpr (nI_lt hk (by omega))
    have ar : ¬ nI R ≤ nI k := nI_ge (by omega) (by omega)
    have hcl : (nI k).toNatClampNeg = k := nI_clamp (by omega)
    exact ⟨gR σ 73 k, ξ, σ, by simp [a0, ap, inN (show 20 < 2 ^ 31 by omega) (show k < 20 by omega), hcl, hbod k (by omega)], by simp [a0, a9, ar, inN (show 20 < 2 ^ 31 by omega) (show k < 20 by omega), hcl], hC⟩
  · have hx : ¬ (0 ≤ a1 ∧ a1 ≤ nI (min 20 R) - 1) := fun h => h1 (i32_nat (by omega) h.1 ((i32_le_pred (by omega)).mp h.2))
    refine ⟨-1, ξ, σ, by simp [hx], ?_, hC⟩
    by_cases h2 : 0 ≤ a1 ∧ a1 ≤ 19
    · obtain ⟨k, hk, rfl⟩ := rg_of (n := 19) (by omega) h2.1 h2.2
      have ar : nI R ≤ nI k := nI_le (by
        apply Decidable.byContradiction
        intro h
        exact h1 ⟨k, by omega, rfl⟩) (by omega)
      simp [h2, ar]
    · simp [h2]
theorem hx_upd {H A k j : Nat} {wo : Nat → Int32} {v : Int32} (h : ∀ h, h < H → hx (wo h) A) (hv : hx v A) (hj : j < H) : hx (upd wo k v j) A := by
  unfold upd
  split
  · exact hv
  · exact h j hj
/-- two heads' hats change places -/
def swp (f : Nat → Int32) (a b : Nat) : Nat → Int32 := upd (upd f a (f b)) b (f a)
theorem swp_at {f : Nat → Int32} {a b j : Nat} : swp f a b j = if j = b then f a else if j = a then f b else f j := rfl
theorem swp_inj {H a b : Nat} {wo : Nat → Int32} (h : cInj H wo) (ha : a < H) (hb : b < H) : cInj H (swp wo a b) := by
  intro x y hx hy he hne
  have key : ∀ z, swp wo a b z = wo (if z = b then a else if z = a then b else z) := by
    intro z
    rw [swp_at]
    split
    · rfl
    · split <;> rfl
  rw [key, key] at he
  rw [key] at hne
  have hlt : ∀ z, z < H → (if z = b then a else if z = a then b else z) < H := by
    intro z hz
    split
    · exact ha
    · split
      · exact hb
      · exact hz
  have e := h _ _ (hlt x hx) (hlt y hy) he hne
  grind
theorem swp_heads {H A a b : Nat} {sz ow wo : Nat → Int32} (h : cHeads H A sz ow wo) (ha : a < H) (hb : b < H) : cHeads H A sz ow (swp wo a b) := by
  intro x hx
  refine ⟨(h x hx).1, (h x hx).2.1, ?_⟩
  rw [swp_at]
  split
  · exact (h a ha).2.2
  · split
    · exact (h b hb).2.2
    · exact (h x hx).2.2
theorem m_swaps_eq (N : Nat) (σ : MS) {a b : Nat} (ha : a < 6) (hb : b < 6) : m_swaps N (nI a) (nI b) σ = some (sR (sR σ 5 a (gR σ 5 b)) 5 b (gR σ 5 a)) := by
  unfold m_swaps
  simp [in6 ha, in6 hb, cl6 ha, cl6 hb, bnd_ok, bnv_ok, bno_ok, nx_ok]
theorem x1_changes_eq (N : Nat) (g : XG) (τ : Nat) (ξ : XS) {a b : Nat} (ha : a < 6) (hb : b < 6) (na : vp_nar .byte (xR ξ (200 + 10 * τ) a) = xR ξ (200 + 10 * τ) a) (nb : vp_nar .byte (xR ξ (200 + 10 * τ) b) = xR ξ (200 + 10 * τ) b) :
    x1_changes N g τ (nI a) (nI b) ξ = some (sXR (sXR ξ (200 + 10 * τ) a (xR ξ (200 + 10 * τ) b)) (200 + 10 * τ) b (xR ξ (200 + 10 * τ) a)) := by
  unfold x1_changes
  simp [in6 ha, in6 hb, cl6 ha, cl6 hb, bnd_ok, bnv_ok, bno_ok, nx_ok, na, nb]
theorem op_13 (N : Nat) (g : XG) : OP_13 N g (Cp g) := by
  intro a1 a2 ξ σ hC
  obtain ⟨H, A, D, S, B, T, F, R, wk, wi, hq, hr, hn, hs, hc, hrow, hby, hbw, hobj, hrw, hrd, hah, htx, hthe, htown, htr, htp, htd, him⟩ := id hC
  have eH : xF ξ 202 = nI H := hs.1.trans hn.1
  have eH2 : gF σ 0 = nI H := hn.1
  have eA : xF ξ 4 = nI A := hs.2.1.trans hn.2.1
  have eA2 : gF σ 1 = nI A := hn.2.1
  have eD : xF ξ 203 = nI D := hs.2.2.1.trans hn.2.2.1
  have eD2 : gF σ 2 = nI D := hn.2.2.1
  have eS : xF ξ 18 = nI S := hs.2.2.2.1.trans hn.2.2.2.1
  have eS2 : gF σ 43 = nI S := hn.2.2.2.1
  have eB : xF ξ 19 = nI B := hs.2.2.2.2.trans hn.2.2.2.2
  have eB2 : gF σ 47 = nI B := hn.2.2.2.2
  have lH : H ≤ 6 := hc.1
  have lA : A ≤ 6 := hc.2.1
  have lD : D ≤ 9999 := hc.2.2.1
  have lS : S ≤ 6 := hc.2.2.2.1
  have lB : B ≤ 8 := hc.2.2.2.2.1
  obtain ⟨lT, eT2, eT, lF, eF2, eF, htxt, hlet, hmu⟩ := id htx
  obtain ⟨lR, eR2, eR, hbod⟩ := id htr
  unfold x0_change m_change
  simp only [x0_isHead_eq, m_isHead_eq, bnd_ok, bnv_ok, bno_ok, nx_ok, b0, eH, eH2]
  by_cases h1 : 0 ≤ a1 ∧ a1 ≤ nI H - 1
  · by_cases h2 : 0 ≤ a2 ∧ a2 ≤ nI H - 1
    · by_cases h3 : a1 = a2
      · exact ⟨-2, ξ, σ, by simp [h1, h2, h3], by simp [h1, h2, h3], hC⟩
      · obtain ⟨i, hi, rfl⟩ := isHat_k lH h1
        obtain ⟨j, hj, rfl⟩ := isHat_k lH h2
        have hi6 : i < 6 := by omega
        have hj6 : j < 6 := by omega
        obtain ⟨c1, c2, c3, c4, c5, c6, c7, c8, c9, c10, c11⟩ := hc
        obtain ⟨r1, r2, r3, r4, r5, r6, r7, r8, r9, r10⟩ := hrow
        have f1 := hx_fit (show A ≤ 100 by omega) (c6 i hi).2.2
        have f2 := hx_fit (show A ≤ 100 by omega) (c6 j hj).2.2
        have ei : xR ξ (200 + 10 * 0) i = gR σ 5 i := r3 i hi6
        have ej : xR ξ (200 + 10 * 0) j = gR σ 5 j := r3 j hj6
        have hx9 := x1_changes_eq N g 0 ξ hi6 hj6 (by rw [ei]; exact f1.2) (by rw [ej]; exact f2.2)
        rw [ei, ej] at hx9
        refine ⟨1, sXR (sXR ξ 200 i (gR σ 5 j)) 200 j (gR σ 5 i), sR (sR σ 5 i (gR σ 5 j)) 5 j (gR σ 5 i), by simp [h1, h2, h3, hx9, bnd_ok, bnv_ok, bno_ok, nx_ok], by simp [h1, h2, h3, m_swaps_eq N σ hi6 hj6, bnd_ok, bnv_ok, bno_ok, nx_ok], ?_⟩
        exact ⟨H, A, D, S, B, T, F, R, wk, wi, hq, hr, hn, hs, ⟨c1, c2, c3, c4, c5, swp_heads c6 hi hj, swp_inj c7 hi hj, c8, c9, c10, c11⟩, ⟨r1, r2, eqN_upd (eqN_upd r3), r4, r5, r6, r7, r8, r9, r10⟩, cByte_upd (cByte_upd hby f2.1) f1.1, hbw, hobj, hrw, hrd, hah, htx, hthe, htown, htr, htp, htd, him⟩
    · exact ⟨-1, ξ, σ, by simp [h1, h2], by simp [h1, h2], hC⟩
  · exact ⟨-1, ξ, σ, by simp [h1], by simp [h1], hC⟩
theorem op_27 (N : Nat) (g : XG) : OP_27 N g (Cp g) := by
  intro a1 a2 ξ σ hC
  obtain ⟨H, A, D, S, B, T, F, R, wk, wi, hq, hr, hn, hs, hc, hrow, hby, hbw, hobj, hrw, hrd, hah, htx, hthe, htown, htr, htp, htd, him⟩ := id hC
  have eH : xF ξ 202 = nI H := hs.1.trans hn.1
  have eH2 : gF σ 0 = nI H := hn.1
  have eA : xF ξ 4 = nI A := hs.2.1.trans hn.2.1
  have eA2 : gF σ 1 = nI A := hn.2.1
  have eD : xF ξ 203 = nI D := hs.2.2.1.trans hn.2.2.1
  have eD2 : gF σ 2 = nI D := hn.2.2.1
  have eS : xF ξ 18 = nI S := hs.2.2.2.1.trans hn.2.2.2.1
  have eS2 : gF σ 43 = nI S := hn.2.2.2.1
  have eB : xF ξ 19 = nI B := hs.2.2.2.2.trans hn.2.2.2.2
  have eB2 : gF σ 47 = nI B := hn.2.2.2.2
  have lH : H ≤ 6 := hc.1
  have lA : A ≤ 6 := hc.2.1
  have lD : D ≤ 9999 := hc.2.2.1
  have lS : S ≤ 6 := hc.2.2.2.1
  have lB : B ≤ 8 := hc.2.2.2.2.1
  obtain ⟨lT, eT2, eT, lF, eF2, eF, htxt, hlet, hmu⟩ := id htx
  obtain ⟨lR, eR2, eR, hbod⟩ := id htr
  have e6 : (nI S = (6 : Int32)) ↔ S = 6 := nI_eq (a := S) (b := 6) (by omega) (by omega)
  obtain ⟨c1, c2, c3, c4, c5, c6, c7, c8, c9, c10, c11⟩ := id hc
  obtain ⟨r1, r2, r3, r4, r5, r6, r7, r8, r9, r10⟩ := id hrow
  unfold x0_see m_see
  simp only [x0_isHat_eq, m_isHat_eq, x0_in_eq, m_in_eq, bnd_ok, bnv_ok, bno_ok, nx_ok, b0, eA, eA2, eS, eS2]
  by_cases h0 : a1 = -1
  · exact ⟨0, sXF ξ 18 0, sF σ 43 0, by simp [h0], by simp [h0], H, A, D, 0, B, T, F, R, wk, wi, hq, hr, ⟨hn.1, hn.2.1, hn.2.2.1, rfl, hn.2.2.2.2⟩, ⟨hs.1, hs.2.1, hs.2.2.1, rfl, hs.2.2.2.2⟩, ⟨c1, c2, c3, by omega, c5, c6, c7, c8, c9, fun k hk => absurd hk (by omega), c11⟩, hrow, hby, hbw, hobj, hrw, hrd, hah, htx, hthe, htown, htr, htp, htd, him⟩
  by_cases h1 : 0 ≤ a1 ∧ a1 ≤ nI A - 1
  · by_cases h2 : 0 ≤ a2 ∧ a2 ≤ 999
    · by_cases h3 : S = 6
      · exact ⟨-4, ξ, σ, by simp [h0, h1, h2, e6.mpr h3], by simp [h0, h1, h2, e6.mpr h3], hC⟩
      · have hk6 : S < 6 := by omega
        have h3 : ¬ nI S = (6 : Int32) := fun z => h3 (e6.mp z)
        obtain ⟨k, hk, rfl⟩ := isHat_k lA h1
        refine ⟨nI (S + 1), sXR (sXF (sXR ξ 14 S (nI k)) 18 (nI (S + 1))) 15 S a2, sF (sR (sR σ 44 S (nI k)) 45 S a2) 43 (nI (S + 1)), ?_, ?_, ?_⟩
        · simp [h0, h1, h2, h3, in6 hk6, cl6 hk6, xF_sXR, xF_sXF, nI_1, eS]
        · simp [h0, h1, h2, h3, in6 hk6, cl6 hk6, gF_sR, gF_sF, nI_1, eS2]
        · refine ⟨H, A, D, S + 1, B, T, F, R, wk, wi, hq, hr, ⟨hn.1, hn.2.1, hn.2.2.1, rfl, hn.2.2.2.2⟩, ⟨hs.1, hs.2.1, hs.2.2.1, rfl, hs.2.2.2.2⟩, ⟨c1, c2, c3, by omega, c5, c6, c7, c8, c9, fun j hj => ?_, c11⟩, ⟨r1, r2, r3, r4, r5, r6, eqN_upd r7, eqN_upd r8, r9, r10⟩, hby, hbw, hobj, hrw, hrd, hah, htx, hthe, htown, htr, htp, htd, him⟩
          show (∃ a, a < A ∧ upd (gR σ 44) S (nI k) j = nI a) ∧ rg (upd (gR σ 45) S a2 j) 999
          unfold upd
          by_cases e : j = S
          · simp only [e, if_true]
            exact ⟨⟨k, hk, rfl⟩, rg_of (by omega) h2.1 h2.2⟩
          · simp only [e, if_false]
            exact c10 j (by omega)
    · exact ⟨-2, ξ, σ, by simp [h0, h1, h2], by simp [h0, h1, h2], hC⟩
  · exact ⟨-1, ξ, σ, by simp [h0, h1], by simp [h0, h1], hC⟩
theorem op_32 (N : Nat) (g : XG) : OP_32 N g (Cp g) := by
  intro a1 a2 ξ σ hC
  obtain ⟨H, A, D, S, B, T, F, R, wk, wi, hq, hr, hn, hs, hc, hrow, hby, hbw, hobj, hrw, hrd, hah, htx, hthe, htown, htr, htp, htd, him⟩ := id hC
  have eH : xF ξ 202 = nI H := hs.1.trans hn.1
  have eH2 : gF σ 0 = nI H := hn.1
  have eA : xF ξ 4 = nI A := hs.2.1.trans hn.2.1
  have eA2 : gF σ 1 = nI A := hn.2.1
  have eD : xF ξ 203 = nI D := hs.2.2.1.trans hn.2.2.1
  have eD2 : gF σ 2 = nI D := hn.2.2.1
  have eS : xF ξ 18 = nI S := hs.2.2.2.1.trans hn.2.2.2.1
  have eS2 : gF σ 43 = nI S := hn.2.2.2.1
  have eB : xF ξ 19 = nI B := hs.2.2.2.2.trans hn.2.2.2.2
  have eB2 : gF σ 47 = nI B := hn.2.2.2.2
  have lH : H ≤ 6 := hc.1
  have lA : A ≤ 6 := hc.2.1
  have lD : D ≤ 9999 := hc.2.2.1
  have lS : S ≤ 6 := hc.2.2.2.1
  have lB : B ≤ 8 := hc.2.2.2.2.1
  obtain ⟨lT, eT2, eT, lF, eF2, eF, htxt, hlet, hmu⟩ := id htx
  obtain ⟨lR, eR2, eR, hbod⟩ := id htr
  have e6 : (nI B = (8 : Int32)) ↔ B = 8 := nI_eq (a := B) (b := 8) (by omega) (by omega)
  obtain ⟨c1, c2, c3, c4, c5, c6, c7, c8, c9, c10, c11⟩ := id hc
  obtain ⟨r1, r2, r3, r4, r5, r6, r7, r8, r9, r10⟩ := id hrow
  unfold x0_book m_book
  simp only [x0_isHat_eq, m_isHat_eq, x0_isHead_eq, m_isHead_eq, bnd_ok, bnv_ok, bno_ok, nx_ok, b0, eA, eA2, eH, eH2, eB, eB2]
  by_cases h0 : a1 = -1
  · exact ⟨0, sXF ξ 19 0, sF σ 47 0, by simp [h0], by simp [h0], H, A, D, S, 0, T, F, R, wk, wi, hq, hr, ⟨hn.1, hn.2.1, hn.2.2.1, hn.2.2.2.1, rfl⟩, ⟨hs.1, hs.2.1, hs.2.2.1, hs.2.2.2.1, rfl⟩, ⟨c1, c2, c3, c4, by omega, c6, c7, c8, c9, c10, fun k hk => absurd hk (by omega)⟩, hrow, hby, hbw, hobj, hrw, hrd, hah, htx, hthe, htown, htr, htp, htd, him⟩
  by_cases h1 : 0 ≤ a1 ∧ a1 ≤ nI A - 1
  · by_cases h2 : 0 ≤ a2 ∧ a2 ≤ nI H - 1
    · by_cases h3 : B = 8
      · exact ⟨-4, ξ, σ, by simp [h0, h1, h2, e6.mpr h3], by simp [h0, h1, h2, e6.mpr h3], hC⟩
      · have hk6 : B < 8 := by omega
        have h3 : ¬ nI B = (8 : Int32) := fun z => h3 (e6.mp z)
        have hcl : (nI B).toNatClampNeg = B := nI_clamp (by omega)
        have hin := inN (show 8 < 2 ^ 31 by omega) hk6
        obtain ⟨k, hk, rfl⟩ := isHat_k lA h1
        obtain ⟨j, hj, rfl⟩ := isHat_k lH h2
        refine ⟨nI (B + 1), sXR (sXF (sXR ξ 16 B (nI k)) 19 (nI (B + 1))) 17 B (nI j), sF (sR (sR σ 48 B (nI k)) 49 B (nI j)) 47 (nI (B + 1)), ?_, ?_, ?_⟩
        · simp [h0, h1, h2, h3, hin, hcl, xF_sXR, xF_sXF, nI_1, eB]
        · simp [h0, h1, h2, h3, hin, hcl, gF_sR, gF_sF, nI_1, eB2]
        · refine ⟨H, A, D, S, B + 1, T, F, R, wk, wi, hq, hr, ⟨hn.1, hn.2.1, hn.2.2.1, hn.2.2.2.1, rfl⟩, ⟨hs.1, hs.2.1, hs.2.2.1, hs.2.2.2.1, rfl⟩, ⟨c1, c2, c3, c4, by omega, c6, c7, c8, c9, c10, fun i hi => ?_⟩, ⟨r1, r2, r3, r4, r5, r6, r7, r8, eqN_upd r9, eqN_upd r10⟩, hby, hbw, hobj, hrw, hrd, hah, htx, hthe, htown, htr, htp, htd, him⟩
          show (∃ a, a < A ∧ upd (gR σ 48) B (nI k) i = nI a) ∧ ∃ h, h < H ∧ upd (gR σ 49) B (nI j) i = nI h
          unfold upd
          by_cases e : i = B
          · simp only [e, if_true]
            exact ⟨⟨k, hk, rfl⟩, j, hj, rfl⟩
          · simp only [e, if_false]
            exact c11 i (by omega)
    · exact ⟨-1, ξ, σ, by simp [h0, h1, h2], by simp [h0, h1, h2], hC⟩
  · exact ⟨-1, ξ, σ, by simp [h0, h1], by simp [h0, h1], hC⟩
