/-! PURE: by, the end -/
set_option maxRecDepth 100000
theorem dC1 {A u : Nat} (lA : A ≤ 6) (hu : u < 2 ^ A) (hp : pcN u < A) : ∃ c, c < A ∧ u.testBit c = false ∧ u ||| 2 ^ c < 2 ^ A ∧ u < 64 := by
  have h9 : ∀ (A : Fin 7) (u : Fin 64), u.1 < 2 ^ A.1 → pcN u.1 < A.1 → ∃ c : Fin 6, c.1 < A.1 ∧ u.1.testBit c.1 = false ∧ u.1 ||| 2 ^ c.1 < 2 ^ A.1 := by decide +kernel
  have h64 : u < 64 := Nat.lt_of_lt_of_le hu (d8 lA).2.1
  obtain ⟨c, a, b, d⟩ := h9 ⟨A, by omega⟩ ⟨u, h64⟩ hu hp
  exact ⟨c.1, a, b, d, h64⟩
theorem dC2 {A c : Nat} (lA : A ≤ 6) (hc : c < 6) : (2 ^ A - 1).testBit c = decide (c < A) := by
  have h9 : ∀ (A : Fin 7) (c : Fin 6), (2 ^ A.1 - 1).testBit c.1 = decide (c.1 < A.1) := by decide +kernel
  exact h9 ⟨A, by omega⟩ ⟨c, hc⟩
theorem byB_ok {A K : Nat} {Dd : Nat → Nat → Nat} (lA : A ≤ 6) (hKA : K ≤ A) : ∀ (n h u : Nat), u < 2 ^ A → pcN u ≤ K → K ≤ pcN u + n → byB A K Dd n h u ≠ none := by
  intro n
  induction n with
  | zero =>
    intro h u _ h1 h2
    unfold byB
    rw [if_pos (by omega)]
    simp
  | succ n ih =>
    intro h u hu h1 h2 hno
    have hf : byB A K Dd (n + 1) h u = foldV (onw A K Dd n h u) A := by rw [byB_succ]; rfl
    obtain ⟨u1, u2⟩ := foldV_ub (onw A K Dd n h u) A
    rw [← hf, hno] at u1 u2
    by_cases q : K ≤ pcN u + n
    · cases hb : byB A K Dd n (h + 1) u with
      | none => exact ih (h + 1) u hu h1 q hb
      | some v =>
        obtain ⟨w, hw, -⟩ := u1 v hb
        cases hw
    · obtain ⟨c, a1, a2, a3, a4⟩ := dC1 lA hu (by omega)
      have hpc := dA2 a4 (show c < 6 by omega) a2
      cases hb : byB A K Dd n (h + 1) (u ||| 2 ^ c) with
      | none => exact ih (h + 1) _ a3 (by omega) (by omega) hb
      | some v =>
        have ho : onw A K Dd n h u (some c) = some (v + Dd c h) := by
          show (if u.testBit c = true then none else oAdd (byB A K Dd n (h + 1) (u ||| 2 ^ c)) (Dd c h)) = _
          rw [if_neg (by rw [a2]; simp), hb]
          rfl
        obtain ⟨w, hw, -⟩ := u2 c a1 _ ho
        cases hw
theorem byV_b {A K : Nat} {Dd : Nat → Nat → Nat} : ∀ (n h u i v : Nat), byV A K Dd n h u i = some v → v < A := by
  intro n
  induction n with
  | zero => intro h u i v e; cases e
  | succ n ih =>
    intro h u i v e
    have e : (if i = h then byC A K Dd n h u else byV A K Dd n (h + 1) (nxU u (byC A K Dd n h u)) i) = some v := e
    by_cases q : i = h
    · rw [if_pos q] at e
      unfold byC at e
      split at e
      · cases e
      · have := (fi_some _ _ _ e).2.1
        omega
    · rw [if_neg q] at e
      exact ih _ _ _ _ e
theorem oAdd_0 (o : Option Nat) : oAdd o 0 = o := by cases o <;> rfl
theorem wS_none (ξ : XS) : wS ξ (xR ξ 22) (xR ξ 23) none = sXF ξ 24 (-1) := by
  unfold wS
  rw [sXC_self, sXC_self]
  rfl
theorem keepX_wS {ξ0 ξ : XS} {r q : Nat → Int32} {b : Option Nat} (h : keepX ξ0 ξ) (hr : cByte 6 r) : keepX ξ0 (wS ξ r q b) := by
  refine ⟨fun k hk => ?_, fun k hk => ?_, h.2.2.1, h.2.2.2.1, h.2.2.2.2.1, fun _ => hr⟩
  · show (if k = 24 then _ else xF ξ k) = _
    rw [if_neg (kFx_n hk rfl)]; exact h.1 k hk
  · show (if k = 23 then _ else if k = 22 then _ else xR ξ k) = _
    rw [if_neg (kRx_n hk rfl), if_neg (kRx_n hk rfl)]; exact h.2.1 k hk
theorem Cp_22 {g : XG} {ξ : XS} {σ : MS} (hC : Cp g ξ σ) : cByte 6 (xR ξ 22) := by
  obtain ⟨H, A, D, S, B, T, F, R, wk, wi, hq, hr, hn, hs, hc, hrow, hby, hbw, hobj, hrw, hrd, hah, htx, hthe, htown, htr, htp, htd, him⟩ := id hC
  have eH : xF ξ 202 = nI H := hs.1.trans hn.1
  have eH2 : gF σ 0 = nI H := hn.1
  have eA : xF ξ 4 = nI A := hs.2.1.trans hn.2.1
  have eA2 : gF σ 1 = nI A := hn.2.1
  have eD : xF ξ 203 = nI D := hs.2.2.1.trans hn.2.2.1
  have eD2 : gF σ 2 = nI D := hn.2.2.1
  have eS : xF ξ 18 = nI S := hs.2.2.2.1.trans hn.2.2.2.1
  have eS2 : gF σ 43 = nI S := hn.2.2.2.1
  have eB : xF ξ 19 = nI B := hs.2.2.2.2.trans hn.2.2.2.2
  have eB2 : gF σ 47 = nI B := hn.2.2.2.2
  have lH : H ≤ 6 := hc.1
  have lA : A ≤ 6 := hc.2.1
  have lD : D ≤ 9999 := hc.2.2.1
  have lS : S ≤ 6 := hc.2.2.2.1
  have lB : B ≤ 8 := hc.2.2.2.2.1
  obtain ⟨lT, eT2, eT, lF, eF2, eF, htxt, hlet, hmu⟩ := id htx
  obtain ⟨lR, eR2, eR, hbod⟩ := id htr
  exact hbw
set_option maxHeartbeats 2000000 in
theorem op_19 {N : Nat} (hN : 1000 ≤ N) (g : XG) : OP_19 N g (Cp g) := by
  intro a1 ξ σ hC
  obtain ⟨A, H, D, T, wk, hq, hr, hT, eA, eA2, hby, hin, lD, hus⟩ := Cp_all hC
  have lA : A ≤ 6 := hT.1.1
  have lH : H ≤ 6 := hT.1.2.1
  have eH2 := hT.2.1
  have eH : xF ξ 202 = nI H := hT.2.2.1
  obtain ⟨f, ξ', e2, hl, hf⟩ := looks_eq hN hT eA
  obtain ⟨fm, p, r9, f9, em, hr9⟩ := m_layBest_eq hN hT eA2 hus
  have hDb : ∀ a h, a < A → h < H → xR ξ' 21 (6 * a + h) = nI (deedM σ a h).toNatClampNeg ∧ (deedM σ a h).toNatClampNeg ≤ 1058 := by
    intro a h ha hh
    obtain ⟨c, hc, ec⟩ := deed_rg hT.1 ha hh (by obtain ⟨u, hu, eu⟩ := hus a ha; exact ⟨u, by omega, eu⟩)
    rw [hl.2.1]
    show f (6 * a + h) = _ ∧ _
    rw [hf a h ha hh, ec, nI_clamp (by omega)]
    exact ⟨rfl, hc⟩
  have eA' : xF ξ' 4 = nI A := by rw [hl.1 4 (by omega)]; exact eA
  have eH' : xF ξ' 202 = nI H := by rw [hl.1 202 (by omega)]; exact eH
  have hb22 : cByte 6 (xR ξ' 22) := by rw [hl.2.1]; exact Cp_22 hC
  obtain ⟨s1, s2, s3⟩ := d8 lA
  obtain ⟨r', q', ew, -, w2, w3, -⟩ := x0_ways2 (N := N) hN (g := g) (ξ := ξ') (A := A) (H := H) (K := min A H) (Dd := fun a h => (deedM σ a h).toNatClampNeg) lA lH (by omega) eA' eH' hDb H 0 0 (2 ^ A - 1) (min A H) 0 8 (xR ξ' 22) (xR ξ' 23) none (by omega) (by omega) (by omega) (by omega) (fun c hc => by rw [dC2 lA hc, Nat.zero_testBit]; simp) (by rw [show pcN 0 = 0 by decide]; omega) (by omega) hb22 (fun z hz => by cases hz)
  have hok := byB_ok (Dd := fun a h => (deedM σ a h).toNatClampNeg) lA (show min A H ≤ A by omega) H 0 0 (by omega) (by rw [show pcN 0 = 0 by decide]; omega) (by rw [show pcN 0 = 0 by decide]; omega)
  generalize hBd : byB A (min A H) (fun a h => (deedM σ a h).toNatClampNeg) H 0 0 = B at *
  have himp : imp none B 0 = true := by
    cases B with
    | none => exact absurd rfl hok
    | some v => rfl
  have hq' := w3 himp
  rw [oAdd_0, show omx none B = B by cases B <;> rfl, wS_none] at ew
  have hKmin : (if nI H < nI A then nI H else nI A) = nI (min A H) := by
    by_cases q : H < A
    · rw [if_pos (nI_lt q (by omega)), show min A H = H by omega]
    · rw [if_neg (Int32.not_lt.mpr (nI_le (by omega) (by omega))), show min A H = A by omega]
  have ew' : x0_waysFrom N g 8 0 (((1 : Int32) <<< (nI A &&& 31)) - 1) (if nI H < nI A then nI H else nI A) 0 (sXF ξ' 24 (-1)) = some (wS ξ' r' q' B) := by
    rw [s1, hKmin]; exact ew
  have kx : keepX ξ (wS ξ' r' q' B) := keepX_wS (keepX_21 hl) w2
  have km : keepM σ (sRw (sRw (sF (sP (sRw σ 39 fm) p) 40 (optI B (-1))) 38 r9) 41 f9) := by
    refine ⟨fun k hk => ?_, fun k hk => ?_, fun _ _ => rfl, fun _ _ => rfl, rfl⟩
    · show (if k = 40 then _ else gF σ k) = _
      rw [if_neg (kFm_n hk rfl)]
    · rw [gR_sRw, if_neg (kRm_n hk rfl), gR_sRw, if_neg (kRm_n hk rfl), gR_sF, gR_sP, if_neg (kRm_32 hk), gR_sRw, if_neg (kRm_n hk rfl)]
  unfold x0_by m_by
  simp only [x0_in_eq, m_in_eq, bnd_ok, b0]
  by_cases h1 : -1 ≤ a1 ∧ a1 ≤ 5
  · have e4 : xF (sXF ξ' 24 (-1)) 4 = nI A := eA'
    have e202 : xF (sXF ξ' 24 (-1)) 202 = nI H := eH'
    have f202 : xF (wS ξ' r' q' B) 202 = nI H := eH'
    have f24 : xF (wS ξ' r' q' B) 24 = optI B (-1) := rfl
    simp only [h1, and_self, not_true, if_false, e2, bnv_ok, nx_ok, e4, e202, ew', f202, f24, eH2]
    by_cases hm1 : a1 = -1
    · subst hm1
      have hlt : (-1 : Int32) < nI H := Int32.lt_of_lt_of_le (show (-1 : Int32) < 0 by decide) (nI_pos' (by omega))
      simp only [if_true, hlt, em, bnv_ok, show ¬ (0 : Int32) ≤ -1 by decide, if_false]
      exact ⟨_, _, _, rfl, rfl, Cp_keep hC kx km⟩
    · have h10 : 0 ≤ a1 := by
        have q := Int32.le_iff_toInt_le.mp h1.1
        rw [show (-1 : Int32).toInt = -1 by decide] at q
        rw [Int32.le_iff_toInt_le, show (0 : Int32).toInt = 0 by decide]
        have : a1.toInt ≠ -1 := fun z => hm1 (Int32.toInt_inj.mp (z.trans (by decide)))
        omega
      obtain ⟨i, hi, rfl⟩ := rg_of (n := 5) (by omega) h10 h1.2
      simp only [hm1, if_false]
      by_cases qH : i < H
      · have g1 : ¬ nI H ≤ nI i := nI_ge qH (by omega)
        have g2 : nI i < nI H := nI_lt qH (by omega)
        have gX : xR (wS ξ' r' q' B) 23 i = optI (byV A (min A H) (fun a h => (deedM σ a h).toNatClampNeg) H 0 0 i) (-1) := by
          show q' i = _
          rw [hq' i qH, if_neg (by omega)]
        have gM : gR (sRw (sRw (sF (sP (sRw σ 39 fm) p) 40 (optI B (-1))) 38 r9) 41 f9) 38 i = optI (byV A (min A H) (fun a h => (deedM σ a h).toNatClampNeg) H 0 0 i) (-1) := hr9 i qH
        have gX' := gX
        simp only [g1, g2, if_true, if_false, em, bnv_ok, h10, in6 (show i < 6 by omega), cl6 (show i < 6 by omega), gX, gM, x0_orNone_eq, m_orNone_eq, bnd_ok]
        refine ⟨_, _, _, rfl, ?_, Cp_keep hC kx km⟩
        cases hv : byV A (min A H) (fun a h => (deedM σ a h).toNatClampNeg) H 0 0 i with
        | none => rfl
        | some v =>
          have hv6 := byV_b H 0 0 i v hv
          show some (if nI v < 0 then -5 else nI v, _) = some (if nI v = -1 then -5 else nI v, _)
          rw [if_neg (nI_pos (by omega)), if_neg (nI_ne1 (by omega))]
      · have g1 : nI H ≤ nI i := nI_le (by omega) (by omega)
        have g2 : ¬ nI i < nI H := Int32.not_lt.mpr g1
        simp only [g1, g2, if_true, if_false]
        exact ⟨_, _, _, rfl, rfl, Cp_keep hC kx (keepM_refl σ)⟩
  · exact ⟨-1, ξ, σ, by simp [h1], by simp [h1], hC⟩
