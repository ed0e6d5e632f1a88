/-! PURE: undo -/
set_option maxRecDepth 100000
def xUn (ξ : XS) : XS :=
  let s1 := sXC ξ 0 (va_cpy (xR ξ 28) (xR ξ 0) 0 0 6)
  let s2 := sXC s1 1 (va_cpy (xR s1 29) (xR s1 1) 0 0 6)
  let s3 := sXC s2 2 (va_cpy (xR s2 30) (xR s2 2) 0 0 6)
  let s4 := sXC s3 7 (va_cpy (xR s3 31) (xR s3 7) 0 0 5)
  let s5 := sXC s4 14 (va_cpy (xR s4 32) (xR s4 14) 0 0 6)
  let s6 := sXC s5 15 (va_cpy (xR s5 33) (xR s5 15) 0 0 6)
  let s7 := sXC s6 16 (va_cpy (xR s6 34) (xR s6 16) 0 0 8)
  let s8 := sXC s7 17 (va_cpy (xR s7 35) (xR s7 17) 0 0 8)
  let s9 := sXF s8 18 (xF s8 37)
  let s10 := sXF s9 19 (xF s9 38)
  sXo s10 11 (xo s10 39)
/-- all but cells is as before -/
def onlyD (ξ ξ' : XS) : Prop := xF ξ' = xF ξ ∧ xR ξ' = xR ξ ∧ xQ ξ' = xQ ξ ∧ xo ξ' = xo ξ ∧ xL ξ' = xL ξ
theorem x0_undo_46_eq {N : Nat} {g : XG} {ξ : XS} {A : Nat} {kd vv hs tr rw rw0 : Nat → Int32} {hq hr : Nat → Nat} (lA : A ≤ 6) (eA : xF ξ 4 = nI A) (hk : ∀ a, a < A → rg (kd a) 6) (hrg : ∀ a, a < A → ∀ i, i < 4 → rg (rw (4 * a + i)) 9) (ho : cObj g (dE ξ) (xQ ξ 3) A kd vv hs tr hq hr) (hrd : cRowD A kd hr)
    (h27 : ∀ a, a < A → kd a = 6 → ∀ i, i < 4 → xR ξ 27 (4 * a + i) = rw (4 * a + i)) : ∀ (n c k : Nat) (η : XS), n + c = A → n < k → onlyD ξ η → keepW (dE ξ) (dE η) → (∀ x, (∀ a, a < A → kd a = 6 → x ≠ hr a) → dE η x = dE ξ x) → (∀ a, a < A → kd a = 6 → ∃ f, dE η (hr a) = some (.inl (xc g 1, 4, .inl f)) ∧ (a < c → ∀ i, i < 4 → f i = rw (4 * a + i))) → ∃ η', x0_undo_46 N g k (nI c) η = some (nI A, xUn η') ∧ onlyD ξ η' ∧ keepW (dE ξ) (dE η') ∧ (∀ x, (∀ a, a < A → kd a = 6 → x ≠ hr a) → dE η' x = dE ξ x) ∧ (∀ a, a < A → kd a = 6 → ∃ f, dE η' (hr a) = some (.inl (xc g 1, 4, .inl f)) ∧ ∀ i, i < 4 → f i = rw (4 * a + i)) := by
  intro n
  induction n with
  | zero =>
    intro c k η hc hk2 h1 h2 h3 h4
    obtain ⟨k, rfl⟩ : ∃ k', k = k' + 1 := ⟨k - 1, by omega⟩
    refine ⟨η, ?_, h1, h2, h3, fun a ha h6 => ?_⟩
    · show x0_undo_46b N g (x0_undo_46 N g k) (nI c) η = _
      unfold x0_undo_46b
      have eA' : xF η 4 = nI A := by rw [h1.1]; exact eA
      rw [eA', if_pos (nI_le (by omega) (by omega))]
      simp only [cpk66, cpk55, cpk88, if_true, nx_ok]
      rw [← eA']
      rfl
    · obtain ⟨f, z1, z2⟩ := h4 a ha h6
      exact ⟨f, z1, z2 (by omega)⟩
  | succ n ih =>
    intro c k η hc hk2 h1 h2 h3 h4
    obtain ⟨k, rfl⟩ : ∃ k', k = k' + 1 := ⟨k - 1, by omega⟩
    show ∃ η', x0_undo_46b N g (x0_undo_46 N g k) (nI c) η = _ ∧ _
    unfold x0_undo_46b
    have hc6 : c < 6 := by omega
    obtain ⟨q1, q2⟩ := ho c (by omega)
    obtain ⟨kk, hkk, ek, ek2⟩ := kd6 (hk c (by omega))
    rw [ek2] at q2
    have q2' : dE η (hq c) = some (.inr (8 + kk, hatL g kk (nI c) (vv c) (hs c) (tr c) (hr c))) := h2 _ _ q2 npa_o
    have h14 := isC14 q2' hkk
    have h8 := (hat_at hkk q2').2.2.2.2.2
    have eA' : xF η 4 = nI A := by rw [h1.1]; exact eA
    have eQ : xQ η 3 c = some (hq c) := by rw [h1.2.2.1]; exact q1
    simp only [eA', nI_ge (show c < A by omega) (show A < 2 ^ 31 by omega), if_false, in6 hc6, if_true, cl6 hc6, eQ, bno_ok, h8, h14, decide_eq_true_eq, x0_undo_90, nx_ok, nI_1]
    by_cases e6 : kk = 6
    · subst e6
      obtain ⟨f1, z1, z2⟩ := h4 c (by omega) ek
      have j2 : dR η (hq c) 14 14 6 = some (hr c) := by simp [dR, q2', hatL]
      have j3 : dA η (hr c) (xc g 1) = some (4, f1) := by simp [dA, z1]
      have e27 : xR η 27 = xR ξ 27 := by rw [h1.2.1]
      have hfb : fitB (xR ξ 27) (4 * c) (4 : Int32).toNatClampNeg = true := by
        unfold fitB
        rw [List.all_eq_true]
        intro i hi
        have hi4 : i < 4 := List.mem_range.mp hi
        rw [h27 c (by omega) ek i hi4]
        exact rg_fit (by omega) (hrg c (by omega) i hi4)
      simp only [if_true, show ¬ (1 : Int32) = 0 by decide, if_false, j2, bno_ok, j3, bnd_ok, nI4, cpkB hc6, e27, hfb, and_self, nI_clamp (show 4 * c < 2 ^ 31 by omega)]
      have hne : ∀ x, x ≠ hr c → dE (sXd η (hr c) (.inl (xc g 1, 4, .inl (va_cpy (xR ξ 27) f1 (4 * c) (0 : Int32).toNatClampNeg (4 : Int32).toNatClampNeg)))) x = dE η x := fun x hx => dE_sXd_ne hx
      refine ih (c + 1) k _ (by omega) (by omega) ⟨h1.1, h1.2.1, h1.2.2.1, h1.2.2.2.1, h1.2.2.2.2⟩ ?_ ?_ ?_
      · intro a e he hp
        exact keep_sXd z1 a e (h2 a e he hp) hp
      · intro x hx
        rw [hne x (hx c (by omega) ek)]
        exact h3 x hx
      · intro a ha h6
        by_cases e : a = c
        · subst e
          refine ⟨_, dE_sXd_eq z1, fun _ i hi => ?_⟩
          show (if 0 ≤ i ∧ i < 0 + 4 then xR ξ 27 (4 * a + (i - 0)) else _) = _
          rw [if_pos (by omega), show i - 0 = i by omega]
          exact h27 a ha h6 i hi
        · obtain ⟨f, y1, y2⟩ := h4 a ha h6
          refine ⟨f, by rw [hne _ (fun z => e (hrd a c ha (by omega) h6 ek z))]; exact y1, fun _ => y2 (by omega)⟩
    · simp only [e6, if_false, if_true]
      refine ih (c + 1) k η (by omega) (by omega) h1 h2 h3 (fun a ha h6 => ?_)
      obtain ⟨f, y1, y2⟩ := h4 a ha h6
      refine ⟨f, y1, fun z => y2 ?_⟩
      by_cases e : a = c
      · subst e
        exact absurd (nI_inj (a := kk) (b := 6) (by omega) (by omega) (ek.symm.trans h6)) e6
      · omega
set_option maxHeartbeats 4000000 in
theorem op_36 {N : Nat} (hN : 1000 ≤ N) (g : XG) : OP_36 N g (Cp g) := by
  intro ξ σ hC
  obtain ⟨H, A, D, S, B, T, F, R, wk, wi, hq, hr, hn, hs, hc, hrow, hby, hbw, hobj, hrw, hrd, hah, htx, hthe, htown, htr, htp, htd, him⟩ := id hC
  have eH : xF ξ 202 = nI H := hs.1.trans hn.1
  have eH2 : gF σ 0 = nI H := hn.1
  have eA : xF ξ 4 = nI A := hs.2.1.trans hn.2.1
  have eA2 : gF σ 1 = nI A := hn.2.1
  have eD : xF ξ 203 = nI D := hs.2.2.1.trans hn.2.2.1
  have eD2 : gF σ 2 = nI D := hn.2.2.1
  have eS : xF ξ 18 = nI S := hs.2.2.2.1.trans hn.2.2.2.1
  have eS2 : gF σ 43 = nI S := hn.2.2.2.1
  have eB : xF ξ 19 = nI B := hs.2.2.2.2.trans hn.2.2.2.2
  have eB2 : gF σ 47 = nI B := hn.2.2.2.2
  have lH : H ≤ 6 := hc.1
  have lA : A ≤ 6 := hc.2.1
  have lD : D ≤ 9999 := hc.2.2.1
  have lS : S ≤ 6 := hc.2.2.2.1
  have lB : B ≤ 8 := hc.2.2.2.2.1
  obtain ⟨lT, eT2, eT, lF, eF2, eF, htxt, hlet, hmu⟩ := id htx
  obtain ⟨lR, eR2, eR, hbod⟩ := id htr
  obtain ⟨c1, c2, c3, c4, c5, c6, c7, c8, c9, c10, c11⟩ := id hc
  obtain ⟨r1, r2, r3, r4, r5, r6, r7, r8, r9, r10⟩ := id hrow
  unfold x0_undo m_undo
  rcases him with ⟨i0, i1⟩ | ⟨i0, H', A', D', S', B', lA', hi⟩
  · refine ⟨-3, ξ, σ, ?_, ?_, hC⟩
    · rw [i1]; rfl
    · rw [i0]; rfl
  · obtain ⟨j1, j2, j3, j4, j5, j6, j7, j8, j9, j10⟩ := hi
    obtain ⟨w0, ew0⟩ : ∃ w0, xo ξ 39 = some w0 := by
      obtain ⟨w1, al, od, len, mo, many, f, fw, h1, -⟩ := j10
      exact ⟨w1, h1⟩
    obtain ⟨k1, k2, k3, k4, k5, k6, k7, k8, k9, k10, k11⟩ := id j3
    rw [i0, ew0]
    simp only [Option.isSome_some, if_true, show ¬ (1 : Int32) = 0 by decide, if_false, nx_ok]
    generalize hσ0 : sF (sF (sF (sF (sF (sF σ 15 _) 0 _) 1 _) 2 _) 43 _) 47 _ = σ0
    have g0 : ∀ k, k ≠ 15 → k ≠ 0 → k ≠ 1 → k ≠ 2 → k ≠ 43 → k ≠ 47 → gF σ0 k = gF σ k := by
      intro k k0 k1 k2 k3 k4 k5
      rw [← hσ0]
      simp only [gF_sF, k0, k1, k2, k3, k4, k5, if_false]
    have gR0 : ∀ k, gR σ0 k = gR σ k := by intro k; rw [← hσ0]; rfl
    have gJ0 : gJ σ0 = gJ σ := by rw [← hσ0]; rfl
    have g15 : gF σ0 15 = gF σ 51 := by rw [← hσ0]; rfl
    have g00 : gF σ0 0 = gF σ 52 := by rw [← hσ0]; rfl
    have g01 : gF σ0 1 = gF σ 53 := by rw [← hσ0]; rfl
    have g02 : gF σ0 2 = gF σ 54 := by rw [← hσ0]; rfl
    have g43 : gF σ0 43 = gF σ 55 := by rw [← hσ0]; rfl
    have g47 : gF σ0 47 = gF σ 56 := by rw [← hσ0]; rfl
    obtain ⟨σ1, em, m1, m2, m3, n1, n2, n3, n4, n5, n6, n7, n8, n9, n10, n11, n12, n13, n14, n15⟩ := m_undo_all (N := N) hN σ0
    simp only [gR0] at m3 n1 n2 n3 n4 n5 n6 n7 n8 n9 n10 n11 n12 n13 n14 n15
    rw [gJ0] at m2
    have fl : ∀ k, k ≠ 15 → k ≠ 0 → k ≠ 1 → k ≠ 2 → k ≠ 43 → k ≠ 47 → gF σ1 k = gF σ k := fun k k0 k1 k2 k3 k4 k5 => (m1 k).trans (g0 k k0 k1 k2 k3 k4 k5)
    have rl : ∀ k, k ∉ ([3, 4, 5, 6, 7, 8, 9, 10, 11, 44, 45, 12, 13, 48, 49] : List Nat) → gR σ1 k = gR σ k := m3
    have ht := x1_takes_eq N g (a := 0) (b := 2) ξ j8
    rw [ht, bnv_ok]
    generalize hξ1 : (let s1 := sXC ξ (200 + 10 * 0) (va_cpy (xR ξ (200 + 10 * 2)) (xR ξ (200 + 10 * 0)) 0 0 6); let s2 := sXC s1 (201 + 10 * 0) (va_cpy (xR s1 (201 + 10 * 2)) (xR s1 (201 + 10 * 0)) 0 0 6); let s3 := sXF s2 (202 + 10 * 0) (xF s2 (202 + 10 * 2)); sXF s3 (203 + 10 * 0) (xF s3 (203 + 10 * 2))) = ξ1
    have hE1 : dE ξ1 = dE ξ := by rw [← hξ1]; rfl
    have hQ1 : xQ ξ1 = xQ ξ := by rw [← hξ1]; rfl
    have ho1 : xo ξ1 = xo ξ := by rw [← hξ1]; rfl
    have hF1 : ∀ k, k ≠ 202 → k ≠ 203 → xF ξ1 k = xF ξ k := by
      intro k k1 k2
      rw [← hξ1]
      show (if k = 203 then _ else if k = 202 then _ else xF ξ k) = _
      rw [if_neg k2, if_neg k1]
    have hR1 : ∀ k, k ≠ 200 → k ≠ 201 → xR ξ1 k = xR ξ k := by
      intro k k1 k2
      rw [← hξ1]
      show (if k = 201 then _ else if k = 200 then _ else xR ξ k) = _
      rw [if_neg k2, if_neg k1]
    have h202 : xF ξ1 202 = xF ξ 222 := by rw [← hξ1]; rfl
    have h203 : xF ξ1 203 = xF ξ 223 := by rw [← hξ1]; rfl
    have h200 : eqN 6 (xR ξ1 200) (xR ξ 220) := by rw [← hξ1]; exact cpyN 6
    have h201 : eqN 6 (xR ξ1 201) (xR ξ 221) := by rw [← hξ1]; exact cpyN 6
    clear hξ1 ht
    have hall : allH ξ1 (xQ ξ1 26) (0 : Int32).toNatClampNeg (6 : Int32).toNatClampNeg = true := allH_of (by rw [hE1, hQ1]; exact j7)
    rw [if_pos ⟨cpk66, hall⟩]
    generalize hξ2 : sXF (sXQ ξ1 3 (va_cpy (xQ ξ1 26) (xQ ξ1 3) (0 : Int32).toNatClampNeg (0 : Int32).toNatClampNeg (6 : Int32).toNatClampNeg)) 4 _ = ξ2
    have hE2 : dE ξ2 = dE ξ := by rw [← hξ2]; exact hE1
    have hQ26 : xQ ξ2 26 = xQ ξ 26 := by rw [← hξ2, xQ_sXF, xQ_sXQ, if_neg (by omega), hQ1]
    have hQ3 : ∀ i, i < 6 → xQ ξ2 3 i = xQ ξ 26 i := by
      intro i hi
      rw [← hξ2, xQ_sXF, xQ_sXQ, if_pos rfl, hQ1]
      exact cpyQ (n := 6) hi
    have ho2 : xo ξ2 = xo ξ := by rw [← hξ2]; exact ho1
    have hF2 : ∀ k, k ≠ 4 → xF ξ2 k = xF ξ1 k := by
      intro k hk
      rw [← hξ2, xF_sXF, if_neg hk]
      rfl
    have hF4 : xF ξ2 4 = nI A' := by
      rw [← hξ2, xF_sXF, if_pos rfl]
      show xF ξ1 36 = _
      rw [hF1 36 (by omega) (by omega)]
      exact j2.2.1.trans j1.2.1
    have hR2 : xR ξ2 = xR ξ1 := by rw [← hξ2]; rfl
    clear hξ2
    have hobj' : cObj g (dE ξ2) (xQ ξ2 3) A' (gR σ 6) (gR σ 7) (gR σ 8) (gR σ 10) hq hr := by
      intro a ha
      rw [hE2, hQ3 a (by omega), (j5 a ha).1]
      exact hobj a (by omega)
    have hrd' : cRowD A' (gR σ 6) hr := fun a b ha hb => hrd a b (by omega) (by omega)
    obtain ⟨η, ex, o1, o2, o3, o4⟩ := x0_undo_46_eq (N := N) (g := g) (ξ := ξ2) (A := A') (kd := gR σ 6) (vv := gR σ 7) (hs := gR σ 8) (tr := gR σ 10) (rw := gR σ 66) (rw0 := gR σ 12) (hq := hq) (hr := hr) k2 hF4 (fun a ha => (c8 a (by omega)).1) (fun a ha => (k8 a ha).2.2.2.2.2.2) hobj' hrd' (fun a ha h6 i hi => by rw [hR2, hR1 27 (by omega) (by omega)]; exact j6 a ha h6 i hi) A' 0 N ξ2 (by omega) (by omega) ⟨rfl, rfl, rfl, rfl, rfl⟩ (keepW_refl _) (fun _ _ => rfl) (fun a ha h6 => by
      obtain ⟨f, z1, z2⟩ := hrw a (by omega) h6
      exact ⟨f, by rw [hE2]; exact z1, fun z => by omega⟩)
    refine ⟨nI A', _, σ1, ex, by rw [show (0 : Int32) = nI 0 from rfl] at em; rw [show (0 : Int32) = nI 0 from rfl]; exact em.trans (by rw [g01, j1.2.1]), ?_⟩
    have xf : ∀ k, k ≠ 18 → k ≠ 19 → k ≠ 4 → k ≠ 202 → k ≠ 203 → xF (xUn η) k = xF ξ k := by
      intro k k1 k2 k3 k4 k5
      show (if k = 19 then _ else if k = 18 then _ else xF η k) = _
      rw [if_neg k2, if_neg k1, o1.1, hF2 k k3, hF1 k k4 k5]
    have xr : ∀ k, k ∉ ([0, 1, 2, 7, 14, 15, 16, 17, 200, 201] : List Nat) → xR (xUn η) k = xR ξ k := by
      intro k hk
      simp only [List.mem_cons, List.not_mem_nil, or_false, not_or] at hk
      show (if k = 17 then _ else if k = 16 then _ else if k = 15 then _ else if k = 14 then _ else if k = 7 then _ else if k = 2 then _ else if k = 1 then _ else if k = 0 then _ else xR η k) = _
      rw [if_neg (by omega), if_neg (by omega), if_neg (by omega), if_neg (by omega), if_neg (by omega), if_neg (by omega), if_neg (by omega), if_neg (by omega), o1.2.1, hR2, hR1 k (by omega) (by omega)]
    have rr : ∀ k, k ≠ 200 → k ≠ 201 → xR η k = xR ξ k := fun k k1 k2 => by rw [o1.2.1, hR2, hR1 k k1 k2]
    have x0 : eqN 6 (xR (xUn η) 0) (xR ξ 28) := by
      have : eqN 6 (xR (xUn η) 0) (xR η 28) := cpyN 6
      rw [rr 28 (by omega) (by omega)] at this; exact this
    have x1 : eqN 6 (xR (xUn η) 1) (xR ξ 29) := by
      have : eqN 6 (xR (xUn η) 1) (xR η 29) := cpyN 6
      rw [rr 29 (by omega) (by omega)] at this; exact this
    have x2 : eqN 6 (xR (xUn η) 2) (xR ξ 30) := by
      have : eqN 6 (xR (xUn η) 2) (xR η 30) := cpyN 6
      rw [rr 30 (by omega) (by omega)] at this; exact this
    have x7 : eqN 5 (xR (xUn η) 7) (xR ξ 31) := by
      have : eqN 5 (xR (xUn η) 7) (xR η 31) := cpyN 5
      rw [rr 31 (by omega) (by omega)] at this; exact this
    have x14 : eqN 6 (xR (xUn η) 14) (xR ξ 32) := by
      have : eqN 6 (xR (xUn η) 14) (xR η 32) := cpyN 6
      rw [rr 32 (by omega) (by omega)] at this; exact this
    have x15 : eqN 6 (xR (xUn η) 15) (xR ξ 33) := by
      have : eqN 6 (xR (xUn η) 15) (xR η 33) := cpyN 6
      rw [rr 33 (by omega) (by omega)] at this; exact this
    have x16 : eqN 8 (xR (xUn η) 16) (xR ξ 34) := by
      have : eqN 8 (xR (xUn η) 16) (xR η 34) := cpyN 8
      rw [rr 34 (by omega) (by omega)] at this; exact this
    have x17 : eqN 8 (xR (xUn η) 17) (xR ξ 35) := by
      have : eqN 8 (xR (xUn η) 17) (xR η 35) := cpyN 8
      rw [rr 35 (by omega) (by omega)] at this; exact this
    have x200 : eqN 6 (xR (xUn η) 200) (xR ξ 220) := by
      show eqN 6 (xR η 200) _; rw [o1.2.1, hR2]; exact h200
    have x201 : eqN 6 (xR (xUn η) 201) (xR ξ 221) := by
      show eqN 6 (xR η 201) _; rw [o1.2.1, hR2]; exact h201
    have f18 : xF (xUn η) 18 = xF ξ 37 := by
      show xF η 37 = _; rw [o1.1, hF2 37 (by omega), hF1 37 (by omega) (by omega)]
    have f19 : xF (xUn η) 19 = xF ξ 38 := by
      show xF η 38 = _; rw [o1.1, hF2 38 (by omega), hF1 38 (by omega) (by omega)]
    have f4 : xF (xUn η) 4 = xF ξ 36 := by
      show xF η 4 = _; rw [o1.1, hF4]; exact (j2.2.1.trans j1.2.1).symm
    have f202 : xF (xUn η) 202 = xF ξ 222 := by
      show xF η 202 = _; rw [o1.1, hF2 202 (by omega), h202]
    have f203 : xF (xUn η) 203 = xF ξ 223 := by
      show xF η 203 = _; rw [o1.1, hF2 203 (by omega), h203]
    have q26 : xQ (xUn η) 26 = xQ ξ 26 := by
      show xQ η 26 = _; rw [o1.2.2.1, hQ26]
    have q3 : ∀ i, i < 6 → xQ (xUn η) 3 i = xQ ξ 26 i := by
      intro i hi
      show xQ η 3 i = _; rw [o1.2.2.1, hQ3 i hi]
    have xoo : ∀ k, k ≠ 11 → xo (xUn η) k = xo ξ k := by
      intro k hk
      show (if k = 11 then _ else xo η k) = _
      rw [if_neg hk, o1.2.2.2.1, ho2]
    have xo11 : xo (xUn η) 11 = xo ξ 39 := by
      show xo η 39 = _
      rw [o1.2.2.2.1, ho2]
    have xe : dE (xUn η) = dE η := rfl
    have kw : keepW (dE ξ) (dE η) := by rw [← hE2]; exact o2
    have wkeep : ∀ e, dE ξ wi = some e → dE η wi = some e := by
      intro e he
      rw [o3 wi (fun a ha h6 z => ?_), hE2]
      · exact he
      · obtain ⟨w1, al, od, len, mo, many, f, fw, h1, h2, h3, -⟩ := j10
        obtain ⟨f, z1, z2⟩ := hrw a (by omega) h6
        rw [← z, h3] at z1
        exact absurd z1 (by simp)
    have hobj2 : cObj g (dE η) (xQ (xUn η) 3) A' (gR σ1 6) (gR σ1 7) (gR σ1 8) (gR σ1 10) hq hr := by
      intro a ha
      have z := cObj_keep o2 hobj' a ha
      obtain ⟨y1, y2, y3, y4, y5⟩ := j5 a ha
      rw [n4 a (by omega), n5 a (by omega), n6 a (by omega), n8 a (by omega), y2, y3, y4, y5]
      refine ⟨?_, z.2⟩
      show xQ η 3 a = _
      rw [o1.2.2.1]
      exact z.1
    have kd6' : ∀ a, a < A' → gR σ1 6 a = gR σ 6 a := fun a ha => by rw [n4 a (by omega), (j5 a ha).2.1]
    have htown2 := cTown_keep kw wkeep j10
    generalize xUn η = ζ at *
    refine ⟨H', A', D', S', B', T, F, R, wi, wi, hq, hr, ?_, ?_, ?_, ?_, ?_, ?_, ?_, ?_, ?_, ?_, ?_, ?_, ?_, ?_, ?_, ?_, Or.inr ⟨?_, H', A', D', S', B', by omega, ?_⟩⟩
    · rw [m1, m1, m1, m1, m1, g00, g01, g02, g43, g47]; exact j1
    · rw [m1, m1, m1, m1, m1, g00, g01, g02, g43, g47, f202, f4, f203, f18, f19]; exact j2
    · exact core_pt j3 n1 n2 n3 n4 n5 n6 n7 n8 n9 n12 n13 n10 n11 n14 n15
    · obtain ⟨s1, s2, s3, s4, s5, s6, s7, s8, s9, s10⟩ := j4
      exact ⟨eqN_trans x0 (eqN_trans s1 (eqN_symm n1)), eqN_trans x1 (eqN_trans s2 (eqN_symm n2)), eqN_trans x200 (eqN_trans s3 (eqN_symm n3)), eqN_trans x2 (eqN_trans s4 (eqN_symm n7)), eqN_trans x201 (eqN_trans s5 (eqN_symm n9)), eqN_trans x7 (eqN_trans s6 (eqN_symm n13)), eqN_trans x14 (eqN_trans s7 (eqN_symm n10)), eqN_trans x15 (eqN_trans s8 (eqN_symm n11)), eqN_trans x16 (eqN_trans s9 (eqN_symm n14)), eqN_trans x17 (eqN_trans s10 (eqN_symm n15))⟩
    · intro i hi
      rw [x200 i hi]; exact j8 i hi
    · rw [xr 22 (by decide)]; exact hbw
    · rw [xe]; exact hobj2
    · rw [xe]
      intro a ha h6
      obtain ⟨f, z1, z2⟩ := o4 a ha ((kd6' a ha).symm.trans h6)
      exact ⟨f, z1, fun i hi => by rw [z2 i hi, n12 _ (by omega)]⟩
    · intro a b ha hb h6 h6b
      exact hrd' a b ha hb ((kd6' a ha).symm.trans h6) ((kd6' b hb).symm.trans h6b)
    · rw [xe]
      intro i hi y hy
      exact cAllH_keep kw j7 i hi y (by rw [← q3 i hi]; exact hy)
    · rw [fl 14 (by omega) (by omega) (by omega) (by omega) (by omega) (by omega), fl 16 (by omega) (by omega) (by omega) (by omega) (by omega) (by omega), fl 33 (by omega) (by omega) (by omega) (by omega) (by omega) (by omega), xf 10 (by omega) (by omega) (by omega) (by omega) (by omega), xf 9 (by omega) (by omega) (by omega) (by omega) (by omega), xr 8 (by decide), rl 19 (by decide), rl 31 (by decide)]; exact htx
    · rw [m1 15, g15, rl 20 (by decide), rl 21 (by decide), rl 22 (by decide), rl 23 (by decide)]; exact j9
    · rw [m1 15, g15, rl 20 (by decide), rl 21 (by decide), rl 22 (by decide), rl 23 (by decide), rl 24 (by decide), rl 25 (by decide), rl 26 (by decide), xe, xo11]; exact htown2
    · rw [fl 72 (by omega) (by omega) (by omega) (by omega) (by omega) (by omega), xf 311 (by omega) (by omega) (by omega) (by omega) (by omega), xr 310 (by decide), rl 73 (by decide)]; exact htr
    · rw [rl 74 (by decide), rl 75 (by decide), m2, xe]
      intro t ht
      rw [xoo (100 + t) (by omega)]
      rcases htp t ht with h | ⟨s, n, r, e, y1, y2, y3, y4, y5, y6, y7⟩
      · exact Or.inl h
      · refine Or.inr ⟨s, n, r, e, y1, y2, y3, y4, y5, ?_, y7⟩
        rw [o3 r (fun a ha h6 => (htd t ht r y5).2.1 a (by omega) h6), hE2]
        exact y6
    · intro t ht r hr'
      rw [xoo (100 + t) (by omega)] at hr'
      obtain ⟨z1, z2, z3, z4⟩ := htd t ht r hr'
      exact ⟨fun u hu hur => z1 u hu (by rw [xoo (100 + u) (by omega)] at hur; exact hur), fun a ha h6 => z2 a (by omega) ((kd6' a ha).symm.trans h6), z4, z4⟩
    · rw [fl 50 (by omega) (by omega) (by omega) (by omega) (by omega) (by omega)]; exact i0
    · have fl' : ∀ k, 50 < k → gF σ1 k = gF σ k := fun k hk => fl k (by omega) (by omega) (by omega) (by omega) (by omega) (by omega)
      refine ⟨?_, ?_, ?_, ?_, fun a ha => ?_, fun a ha h6 i hi => ?_, ?_, ?_, ?_, ?_⟩
      · rw [fl' 52 (by omega), fl' 53 (by omega), fl' 54 (by omega), fl' 55 (by omega), fl' 56 (by omega)]; exact j1
      · rw [fl' 52 (by omega), fl' 53 (by omega), fl' 54 (by omega), fl' 55 (by omega), fl' 56 (by omega), xf 222 (by omega) (by omega) (by omega) (by omega) (by omega), xf 36 (by omega) (by omega) (by omega) (by omega) (by omega), xf 223 (by omega) (by omega) (by omega) (by omega) (by omega), xf 37 (by omega) (by omega) (by omega) (by omega) (by omega), xf 38 (by omega) (by omega) (by omega) (by omega) (by omega)]; exact j2
      · rw [rl 57 (by decide), rl 58 (by decide), rl 59 (by decide), rl 60 (by decide), rl 61 (by decide), rl 62 (by decide), rl 63 (by decide), rl 64 (by decide), rl 65 (by decide), rl 66 (by decide), rl 67 (by decide), rl 68 (by decide), rl 69 (by decide), rl 70 (by decide), rl 71 (by decide)]; exact j3
      · rw [rl 57 (by decide), rl 58 (by decide), rl 59 (by decide), rl 63 (by decide), rl 65 (by decide), rl 67 (by decide), rl 68 (by decide), rl 69 (by decide), rl 70 (by decide), rl 71 (by decide), xr 28 (by decide), xr 29 (by decide), xr 220 (by decide), xr 30 (by decide), xr 221 (by decide), xr 31 (by decide), xr 32 (by decide), xr 33 (by decide), xr 34 (by decide), xr 35 (by decide)]; exact j4
      · rw [q26, q3 a (by omega), rl 60 (by decide), rl 61 (by decide), rl 62 (by decide), rl 64 (by decide), n4 a (by omega), n5 a (by omega), n6 a (by omega), n8 a (by omega)]
        exact ⟨rfl, rfl, rfl, rfl, rfl⟩
      · rw [xr 27 (by decide), rl 66 (by decide)]
        exact j6 a ha ((kd6' a ha).symm.trans h6) i hi
      · rw [xe, q26]; exact cAllH_keep kw j7
      · rw [xr 220 (by decide)]; exact j8
      · rw [fl' 51 (by omega), rl 20 (by decide), rl 21 (by decide), rl 22 (by decide), rl 23 (by decide)]; exact j9
      · rw [fl' 51 (by omega), rl 20 (by decide), rl 21 (by decide), rl 22 (by decide), rl 23 (by decide), rl 24 (by decide), rl 25 (by decide), rl 26 (by decide), xe, xoo 39 (by omega)]; exact htown2
