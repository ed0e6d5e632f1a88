/-! PURE: image -/
set_option maxRecDepth 100000
theorem core_pt {H A D S B : Nat} {sz ow wo kd vv hs sk tr us rw dn sw sd bw bo sz' ow' wo' kd' vv' hs' sk' tr' us' rw' dn' sw' sd' bw' bo' : Nat → Int32} (h : core H A D S B sz ow wo kd vv hs sk tr us rw dn sw sd bw bo)
    (e1 : eqN 6 sz' sz) (e2 : eqN 6 ow' ow) (e3 : eqN 6 wo' wo) (e4 : eqN 6 kd' kd) (e5 : eqN 6 vv' vv) (e6 : eqN 6 hs' hs) (e7 : eqN 6 sk' sk) (e8 : eqN 6 tr' tr) (e9 : eqN 6 us' us) (e10 : eqN 24 rw' rw) (e11 : eqN 5 dn' dn) (e12 : eqN 6 sw' sw) (e13 : eqN 6 sd' sd) (e14 : eqN 8 bw' bw) (e15 : eqN 8 bo' bo) :
    core H A D S B sz' ow' wo' kd' vv' hs' sk' tr' us' rw' dn' sw' sd' bw' bo' := by
  obtain ⟨c1, c2, c3, c4, c5, c6, c7, c8, c9, c10, c11⟩ := h
  refine ⟨c1, c2, c3, c4, c5, fun h hh => ?_, cInj_eq c1 e3 c7, fun a ha => ?_, fun t ht => ?_, fun k hk => ?_, fun k hk => ?_⟩
  · rw [e1 h (by omega), e2 h (by omega), e3 h (by omega)]; exact c6 h hh
  · obtain ⟨d1, d2, d3, d4, d5, d6, d7⟩ := c8 a ha
    rw [e4 a (by omega), e5 a (by omega), e6 a (by omega), e7 a (by omega), e8 a (by omega), e9 a (by omega)]
    exact ⟨d1, d2, d3, d4, d5, d6, fun i hi => by rw [e10 _ (by omega)]; exact d7 i hi⟩
  · rw [e11 t ht]; exact c9 t ht
  · rw [e12 k (by omega), e13 k (by omega)]; exact c10 k hk
  · rw [e14 k (by omega), e15 k (by omega)]; exact c11 k hk
theorem cpyN {f g : Nat → Int32} (n : Nat) : eqN n (va_cpy f g 0 0 n) f := by
  intro i h
  unfold va_cpy
  rw [if_pos (by omega), show 0 + (i - 0) = i by omega]
theorem cpyQ {f g : Nat → Option Nat} {n i : Nat} (h : i < n) : va_cpy f g 0 0 n i = f i := by
  unfold va_cpy
  rw [if_pos (by omega), show 0 + (i - 0) = i by omega]
theorem isC14 {g : XG} {ξ : XS} {q k : Nat} {a v s t : Int32} {r : Nat} (h : dE ξ q = some (.inr (8 + k, hatL g k a v s t r))) (hk : k ≤ 6) : isC ξ q 14 14 = decide (k = 6) := by
  simp only [isC, dCi, h]
  have h7 : k = 0 ∨ k = 1 ∨ k = 2 ∨ k = 3 ∨ k = 4 ∨ k = 5 ∨ k = 6 := by omega
  rcases h7 with rfl | rfl | rfl | rfl | rfl | rfl | rfl <;> rfl
theorem rg_fit {x : Int32} {n : Nat} (hn : n < 128) (h : rg x n) : fits .byte (.int x) = true := by
  obtain ⟨k, hk, rfl⟩ := h
  exact fitN (by omega)
theorem cpk66 : cpk (0 : Int32) (0 : Int32) (6 : Int32) 6 6 = true := by decide
theorem cpk55 : cpk (0 : Int32) (0 : Int32) (5 : Int32) 5 5 = true := by decide
theorem cpk88 : cpk (0 : Int32) (0 : Int32) (8 : Int32) 8 8 = true := by decide
theorem nI4 {a : Nat} : (4 : Int32) * nI a = nI (4 * a) := by rw [show (4 : Int32) = nI 4 from rfl, nI_mul]
theorem cpkA {a : Nat} (h : a < 6) : cpk (0 : Int32) (nI (4 * a)) (4 : Int32) 4 24 = true := by
  have h9 : ∀ a : Fin 6, cpk (0 : Int32) (nI (4 * a)) (4 : Int32) 4 24 = true := by decide
  exact h9 ⟨a, h⟩
theorem cpkB {a : Nat} (h : a < 6) : cpk (nI (4 * a)) (0 : Int32) (4 : Int32) 24 4 = true := by
  have h9 : ∀ a : Fin 6, cpk (nI (4 * a)) (0 : Int32) (4 : Int32) 24 4 = true := by decide
  exact h9 ⟨a, h⟩
/-- X's rows, all written at once -/
def xIm (ξ : XS) : XS :=
  let s1 := sXC ξ 28 (va_cpy (xR ξ 0) (xR ξ 28) 0 0 6)
  let s2 := sXC s1 29 (va_cpy (xR s1 1) (xR s1 29) 0 0 6)
  let s3 := sXC s2 30 (va_cpy (xR s2 2) (xR s2 30) 0 0 6)
  let s4 := sXC s3 31 (va_cpy (xR s3 7) (xR s3 31) 0 0 5)
  let s5 := sXC s4 32 (va_cpy (xR s4 14) (xR s4 32) 0 0 6)
  let s6 := sXC s5 33 (va_cpy (xR s5 15) (xR s5 33) 0 0 6)
  let s7 := sXC s6 34 (va_cpy (xR s6 16) (xR s6 34) 0 0 8)
  let s8 := sXC s7 35 (va_cpy (xR s7 17) (xR s7 35) 0 0 8)
  let s9 := sXF s8 36 (xF s8 4)
  let s10 := sXF s9 37 (xF s9 18)
  let s11 := sXF s10 38 (xF s10 19)
  sXo s11 39 (xo s11 11)
theorem x0_image_28_eq {N : Nat} {g : XG} {ξ : XS} {A : Nat} {kd vv hs tr rw : Nat → Int32} {hq hr : Nat → Nat} (lA : A ≤ 6) (eA : xF ξ 4 = nI A) (hk : ∀ a, a < A → rg (kd a) 6) (hrg : ∀ a, a < A → ∀ i, i < 4 → rg (rw (4 * a + i)) 9) (ho : cObj g (dE ξ) (xQ ξ 3) A kd vv hs tr hq hr) (hrow : cRow g (dE ξ) A kd rw hr) : ∀ (n c k : Nat) (f : Nat → Int32), n + c = A → n < k → (∀ a, a < c → kd a = 6 → ∀ i, i < 4 → f (4 * a + i) = rw (4 * a + i)) → ∃ f', x0_image_28 N g k (nI c) (sXC ξ 27 f) = some (nI A, xIm (sXC ξ 27 f')) ∧ ∀ a, a < A → kd a = 6 → ∀ i, i < 4 → f' (4 * a + i) = rw (4 * a + i) := by
  intro n
  induction n with
  | zero =>
    intro c k f hc hk2 hf
    obtain ⟨k, rfl⟩ : ∃ k', k = k' + 1 := ⟨k - 1, by omega⟩
    refine ⟨f, ?_, fun a ha => hf a (by omega)⟩
    show x0_image_28b N g (x0_image_28 N g k) (nI c) (sXC ξ 27 f) = _
    unfold x0_image_28b
    rw [show xF (sXC ξ 27 f) 4 = nI A from eA, if_pos (nI_le (by omega) (by omega))]
    simp only [cpk66, cpk55, cpk88, if_true, nx_ok]
    rw [← eA]
    rfl
  | succ n ih =>
    intro c k f hc hk2 hf
    obtain ⟨k, rfl⟩ : ∃ k', k = k' + 1 := ⟨k - 1, by omega⟩
    show ∃ f', x0_image_28b N g (x0_image_28 N g k) (nI c) (sXC ξ 27 f) = _ ∧ _
    unfold x0_image_28b
    have hc6 : c < 6 := by omega
    obtain ⟨q1, q2⟩ := ho c (by omega)
    obtain ⟨kk, hkk, ek, ek2⟩ := kd6 (hk c (by omega))
    rw [ek2] at q2
    have q2' : dE (sXC ξ 27 f) (hq c) = some (.inr (8 + kk, hatL g kk (nI c) (vv c) (hs c) (tr c) (hr c))) := q2
    have h14 := isC14 q2' hkk
    have h8 := (hat_at hkk q2').2.2.2.2.2
    simp only [show xF (sXC ξ 27 f) 4 = nI A from eA, nI_ge (show c < A by omega) (show A < 2 ^ 31 by omega), if_false, in6 hc6, if_true, cl6 hc6, xQ_sXC, q1, bno_ok, h8, h14, decide_eq_true_eq, x0_image_72, nx_ok, nI_1]
    by_cases e6 : kk = 6
    · subst e6
      obtain ⟨f1, z1, z2⟩ := hrow c (by omega) ek
      have j2 : dR (sXC ξ 27 f) (hq c) 14 14 6 = some (hr c) := by simp [dR, q2', hatL]
      have z1' : dE (sXC ξ 27 f) (hr c) = some (.inl (xc g 1, 4, .inl f1)) := z1
      have j3 : dA (sXC ξ 27 f) (hr c) (xc g 1) = some (4, f1) := by simp [dA, z1']
      have hfb : fitB f1 (0 : Int32).toNatClampNeg (4 : Int32).toNatClampNeg = true := by
        unfold fitB
        rw [List.all_eq_true]
        intro i hi
        have hi4 : i < 4 := List.mem_range.mp hi
        show fits .byte (.int (f1 (0 + i))) = true
        rw [Nat.zero_add, z2 i hi4]
        exact rg_fit (by omega) (hrg c (by omega) i hi4)
      simp only [if_true, show ¬ (1 : Int32) = 0 by decide, if_false, j2, bno_ok, j3, bnd_ok, nI4, cpkA hc6, hfb, and_self, nI_clamp (show 4 * c < 2 ^ 31 by omega)]
      rw [show sXC (sXC ξ 27 f) 27 (va_cpy f1 (xR (sXC ξ 27 f) 27) (0 : Int32).toNatClampNeg (4 * c) (4 : Int32).toNatClampNeg) = sXC ξ 27 (va_cpy f1 f 0 (4 * c) 4) by
        rw [show xR (sXC ξ 27 f) 27 = f by rw [xR_sXC, if_pos rfl]]
        unfold sXC
        simp only [va_up2]
        rfl]
      refine ih (c + 1) k _ (by omega) (by omega) (fun a ha h6 i hi => ?_)
      unfold va_cpy
      by_cases e : a = c
      · subst e
        rw [if_pos (by omega), show 0 + (4 * a + i - 4 * a) = i by omega, z2 i hi]
      · rw [if_neg (by omega)]
        exact hf a (by omega) h6 i hi
    · simp only [e6, if_false, if_true]
      refine ih (c + 1) k f (by omega) (by omega) (fun a ha h6 i hi => ?_)
      by_cases e : a = c
      · subst e
        exact absurd (nI_inj (a := kk) (b := 6) (by omega) (by omega) (ek.symm.trans h6)) e6
      · exact hf a (by omega) h6 i hi
theorem allH_of {ξ : XS} {Q : Nat → Option Nat} (h : cAllH (dE ξ) Q) : allH ξ Q (0 : Int32).toNatClampNeg (6 : Int32).toNatClampNeg = true := by
  unfold allH
  rw [List.all_eq_true]
  intro i hi
  have hi6 : i < 6 := List.mem_range.mp hi
  show (match Q (0 + i) with | none => true | some y => isC ξ y 8 14) = true
  rw [Nat.zero_add]
  cases hq : Q i with
  | none => rfl
  | some y =>
    obtain ⟨ci, fs, h1, h2, h3⟩ := h i hi6 y hq
    simp [isC, dCi, h1, h2, h3]
theorem op_35 {N : Nat} (hN : 1000 ≤ N) (g : XG) : OP_35 N g (Cp g) := by
  intro ξ σ hC
  obtain ⟨H, A, D, S, B, T, F, R, wk, wi, hq, hr, hn, hs, hc, hrow, hby, hbw, hobj, hrw, hrd, hah, htx, hthe, htown, htr, htp, htd, him⟩ := id hC
  have eH : xF ξ 202 = nI H := hs.1.trans hn.1
  have eH2 : gF σ 0 = nI H := hn.1
  have eA : xF ξ 4 = nI A := hs.2.1.trans hn.2.1
  have eA2 : gF σ 1 = nI A := hn.2.1
  have eD : xF ξ 203 = nI D := hs.2.2.1.trans hn.2.2.1
  have eD2 : gF σ 2 = nI D := hn.2.2.1
  have eS : xF ξ 18 = nI S := hs.2.2.2.1.trans hn.2.2.2.1
  have eS2 : gF σ 43 = nI S := hn.2.2.2.1
  have eB : xF ξ 19 = nI B := hs.2.2.2.2.trans hn.2.2.2.2
  have eB2 : gF σ 47 = nI B := hn.2.2.2.2
  have lH : H ≤ 6 := hc.1
  have lA : A ≤ 6 := hc.2.1
  have lD : D ≤ 9999 := hc.2.2.1
  have lS : S ≤ 6 := hc.2.2.2.1
  have lB : B ≤ 8 := hc.2.2.2.2.1
  obtain ⟨lT, eT2, eT, lF, eF2, eF, htxt, hlet, hmu⟩ := id htx
  obtain ⟨lR, eR2, eR, hbod⟩ := id htr
  obtain ⟨c1, c2, c3, c4, c5, c6, c7, c8, c9, c10, c11⟩ := id hc
  obtain ⟨r1, r2, r3, r4, r5, r6, r7, r8, r9, r10⟩ := id hrow
  unfold x0_image m_image
  simp only [nx_ok]
  generalize hσ0 : sF (sF (sF (sF (sF (sF (sF σ 50 1) 51 _) 52 _) 53 _) 54 _) 55 _) 56 _ = σ0
  have g0 : ∀ k, k ≠ 50 → k ≠ 51 → k ≠ 52 → k ≠ 53 → k ≠ 54 → k ≠ 55 → k ≠ 56 → gF σ0 k = gF σ k := by
    intro k k0 k1 k2 k3 k4 k5 k6
    rw [← hσ0]
    simp only [gF_sF, k0, k1, k2, k3, k4, k5, k6, if_false]
  have gR0 : ∀ k, gR σ0 k = gR σ k := by intro k; rw [← hσ0]; rfl
  have gJ0 : gJ σ0 = gJ σ := by rw [← hσ0]; rfl
  have g50 : gF σ0 50 = 1 := by rw [← hσ0]; rfl
  have g51 : gF σ0 51 = gF σ 15 := by rw [← hσ0]; rfl
  have g52 : gF σ0 52 = gF σ 0 := by rw [← hσ0]; rfl
  have g53 : gF σ0 53 = gF σ 1 := by rw [← hσ0]; rfl
  have g54 : gF σ0 54 = gF σ 2 := by rw [← hσ0]; rfl
  have g55 : gF σ0 55 = gF σ 43 := by rw [← hσ0]; rfl
  have g56 : gF σ0 56 = gF σ 47 := by rw [← hσ0]; rfl
  obtain ⟨σ1, em, m1, m2, m3, n1, n2, n3, n4, n5, n6, n7, n8, n9, n10, n11, n12, n13, n14, n15⟩ := m_image_all (N := N) hN σ0
  simp only [gR0] at m3 n1 n2 n3 n4 n5 n6 n7 n8 n9 n10 n11 n12 n13 n14 n15
  rw [gJ0] at m2
  have f : ∀ k, k ≠ 50 → k ≠ 51 → k ≠ 52 → k ≠ 53 → k ≠ 54 → k ≠ 55 → k ≠ 56 → gF σ1 k = gF σ k := fun k k0 k1 k2 k3 k4 k5 k6 => (m1 k).trans (g0 k k0 k1 k2 k3 k4 k5 k6)
  have fl : ∀ k, k < 50 ∨ 56 < k → gF σ1 k = gF σ k := fun k hk => f k (by omega) (by omega) (by omega) (by omega) (by omega) (by omega) (by omega)
  have rl : ∀ k, k < 57 ∨ 71 < k → gR σ1 k = gR σ k := fun k hk => m3 k (by simp; omega)
  rw [x1_takes_eq N g (a := 2) (b := 0) ξ hby, bnv_ok]
  generalize hξ1 : (let s1 := sXC ξ (200 + 10 * 2) (va_cpy (xR ξ (200 + 10 * 0)) (xR ξ (200 + 10 * 2)) 0 0 6); let s2 := sXC s1 (201 + 10 * 2) (va_cpy (xR s1 (201 + 10 * 0)) (xR s1 (201 + 10 * 2)) 0 0 6); let s3 := sXF s2 (202 + 10 * 2) (xF s2 (202 + 10 * 0)); sXF s3 (203 + 10 * 2) (xF s3 (203 + 10 * 0))) = ξ1
  have hE1 : dE ξ1 = dE ξ := by rw [← hξ1]; rfl
  have hQ1 : xQ ξ1 = xQ ξ := by rw [← hξ1]; rfl
  have ho1 : xo ξ1 = xo ξ := by rw [← hξ1]; rfl
  have hF1 : ∀ k, k ≠ 222 → k ≠ 223 → xF ξ1 k = xF ξ k := by
    intro k k1 k2
    rw [← hξ1]
    show (if k = 223 then _ else if k = 222 then _ else xF ξ k) = _
    rw [if_neg k2, if_neg k1]
  have hR1 : ∀ k, k ≠ 220 → k ≠ 221 → xR ξ1 k = xR ξ k := by
    intro k k1 k2
    rw [← hξ1]
    show (if k = 221 then _ else if k = 220 then _ else xR ξ k) = _
    rw [if_neg k2, if_neg k1]
  have h222 : xF ξ1 222 = xF ξ 202 := by rw [← hξ1]; rfl
  have h223 : xF ξ1 223 = xF ξ 203 := by rw [← hξ1]; rfl
  have h220 : eqN 6 (xR ξ1 220) (xR ξ 200) := by rw [← hξ1]; exact cpyN 6
  have h221 : eqN 6 (xR ξ1 221) (xR ξ 201) := by rw [← hξ1]; exact cpyN 6
  clear hξ1
  have hall : allH ξ1 (xQ ξ1 3) (0 : Int32).toNatClampNeg (6 : Int32).toNatClampNeg = true := allH_of (by rw [hE1, hQ1]; exact hah)
  rw [if_pos ⟨cpk66, hall⟩]
  generalize hξ2 : sXQ ξ1 26 (va_cpy (xQ ξ1 3) (xQ ξ1 26) (0 : Int32).toNatClampNeg (0 : Int32).toNatClampNeg (6 : Int32).toNatClampNeg) = ξ2
  have hE2 : dE ξ2 = dE ξ := by rw [← hξ2]; exact hE1
  have hQ3 : xQ ξ2 3 = xQ ξ 3 := by rw [← hξ2, xQ_sXQ, if_neg (by omega), hQ1]
  have hQ26 : ∀ i, i < 6 → xQ ξ2 26 i = xQ ξ 3 i := by
    intro i hi
    rw [← hξ2, xQ_sXQ, if_pos rfl, hQ1]
    exact cpyQ (n := 6) hi
  have ho2 : xo ξ2 = xo ξ := by rw [← hξ2]; exact ho1
  have hF2 : xF ξ2 = xF ξ1 := by rw [← hξ2]; rfl
  have hR2 : xR ξ2 = xR ξ1 := by rw [← hξ2]; rfl
  clear hξ2
  obtain ⟨f', ex, hf'⟩ := x0_image_28_eq (N := N) (g := g) (ξ := ξ2) (A := A) (kd := gR σ 6) (vv := gR σ 7) (hs := gR σ 8) (tr := gR σ 10) (rw := gR σ 12) (hq := hq) (hr := hr) lA (by rw [hF2, hF1 4 (by omega) (by omega)]; exact eA) (fun a ha => (c8 a ha).1) (fun a ha => (c8 a ha).2.2.2.2.2.2) (by rw [hE2, hQ3]; exact hobj) (by rw [hE2]; exact hrw) A 0 N (xR ξ2 27) (by omega) (by omega) (fun a ha => by omega)
  rw [sXC_self] at ex
  refine ⟨nI A, _, σ1, ex, by rw [show (0 : Int32) = nI 0 from rfl] at em; rw [show (0 : Int32) = nI 0 from rfl]; exact em.trans (by rw [g0 1 (by omega) (by omega) (by omega) (by omega) (by omega) (by omega) (by omega), eA2]), ?_⟩
  have xf : ∀ k, k ≠ 36 → k ≠ 37 → k ≠ 38 → k ≠ 222 → k ≠ 223 → xF (xIm (sXC ξ2 27 f')) k = xF ξ k := by
    intro k k1 k2 k3 k4 k5
    show (if k = 38 then _ else if k = 37 then _ else if k = 36 then _ else xF ξ2 k) = _
    rw [if_neg k3, if_neg k2, if_neg k1, hF2, hF1 k k4 k5]
  have xr : ∀ k, k < 27 ∨ (199 < k ∧ k < 220) ∨ 221 < k → xR (xIm (sXC ξ2 27 f')) k = xR ξ k := by
    intro k hk
    show (if k = 35 then _ else if k = 34 then _ else if k = 33 then _ else if k = 32 then _ else if k = 31 then _ else if k = 30 then _ else if k = 29 then _ else if k = 28 then _ else if k = 27 then _ else xR ξ2 k) = _
    rw [if_neg (by omega), if_neg (by omega), if_neg (by omega), if_neg (by omega), if_neg (by omega), if_neg (by omega), if_neg (by omega), if_neg (by omega), if_neg (by omega), hR2, hR1 k (by omega) (by omega)]
  have xe : dE (xIm (sXC ξ2 27 f')) = dE ξ := hE2
  have xq3 : xQ (xIm (sXC ξ2 27 f')) 3 = xQ ξ 3 := hQ3
  have xq26 : ∀ i, i < 6 → xQ (xIm (sXC ξ2 27 f')) 26 i = xQ ξ 3 i := hQ26
  have xoo : ∀ k, k ≠ 39 → xo (xIm (sXC ξ2 27 f')) k = xo ξ k := by
    intro k hk
    show (if k = 39 then _ else xo ξ2 k) = _
    rw [if_neg hk, ho2]
  have xo39 : xo (xIm (sXC ξ2 27 f')) 39 = xo ξ 11 := by
    show xo ξ2 11 = _
    rw [ho2]
  have x28 : eqN 6 (xR (xIm (sXC ξ2 27 f')) 28) (xR ξ 0) := by
    have : eqN 6 (xR (xIm (sXC ξ2 27 f')) 28) (xR ξ2 0) := cpyN 6
    rw [hR2, hR1 0 (by omega) (by omega)] at this; exact this
  have x29 : eqN 6 (xR (xIm (sXC ξ2 27 f')) 29) (xR ξ 1) := by
    have : eqN 6 (xR (xIm (sXC ξ2 27 f')) 29) (xR ξ2 1) := cpyN 6
    rw [hR2, hR1 1 (by omega) (by omega)] at this; exact this
  have x30 : eqN 6 (xR (xIm (sXC ξ2 27 f')) 30) (xR ξ 2) := by
    have : eqN 6 (xR (xIm (sXC ξ2 27 f')) 30) (xR ξ2 2) := cpyN 6
    rw [hR2, hR1 2 (by omega) (by omega)] at this; exact this
  have x31 : eqN 5 (xR (xIm (sXC ξ2 27 f')) 31) (xR ξ 7) := by
    have : eqN 5 (xR (xIm (sXC ξ2 27 f')) 31) (xR ξ2 7) := cpyN 5
    rw [hR2, hR1 7 (by omega) (by omega)] at this; exact this
  have x32 : eqN 6 (xR (xIm (sXC ξ2 27 f')) 32) (xR ξ 14) := by
    have : eqN 6 (xR (xIm (sXC ξ2 27 f')) 32) (xR ξ2 14) := cpyN 6
    rw [hR2, hR1 14 (by omega) (by omega)] at this; exact this
  have x33 : eqN 6 (xR (xIm (sXC ξ2 27 f')) 33) (xR ξ 15) := by
    have : eqN 6 (xR (xIm (sXC ξ2 27 f')) 33) (xR ξ2 15) := cpyN 6
    rw [hR2, hR1 15 (by omega) (by omega)] at this; exact this
  have x34 : eqN 8 (xR (xIm (sXC ξ2 27 f')) 34) (xR ξ 16) := by
    have : eqN 8 (xR (xIm (sXC ξ2 27 f')) 34) (xR ξ2 16) := cpyN 8
    rw [hR2, hR1 16 (by omega) (by omega)] at this; exact this
  have x35 : eqN 8 (xR (xIm (sXC ξ2 27 f')) 35) (xR ξ 17) := by
    have : eqN 8 (xR (xIm (sXC ξ2 27 f')) 35) (xR ξ2 17) := cpyN 8
    rw [hR2, hR1 17 (by omega) (by omega)] at this; exact this
  have x220 : eqN 6 (xR (xIm (sXC ξ2 27 f')) 220) (xR ξ 200) := by
    show eqN 6 (xR ξ2 220) _; rw [hR2]; exact h220
  have x221 : eqN 6 (xR (xIm (sXC ξ2 27 f')) 221) (xR ξ 201) := by
    show eqN 6 (xR ξ2 221) _; rw [hR2]; exact h221
  have x27 : xR (xIm (sXC ξ2 27 f')) 27 = f' := rfl
  have x36 : xF (xIm (sXC ξ2 27 f')) 36 = xF ξ 4 := by
    show xF ξ2 4 = _; rw [hF2, hF1 4 (by omega) (by omega)]
  have x37 : xF (xIm (sXC ξ2 27 f')) 37 = xF ξ 18 := by
    show xF ξ2 18 = _; rw [hF2, hF1 18 (by omega) (by omega)]
  have x38 : xF (xIm (sXC ξ2 27 f')) 38 = xF ξ 19 := by
    show xF ξ2 19 = _; rw [hF2, hF1 19 (by omega) (by omega)]
  have x222 : xF (xIm (sXC ξ2 27 f')) 222 = xF ξ 202 := by
    show xF ξ2 222 = _; rw [hF2, h222]
  have x223 : xF (xIm (sXC ξ2 27 f')) 223 = xF ξ 203 := by
    show xF ξ2 223 = _; rw [hF2, h223]
  generalize xIm (sXC ξ2 27 f') = η at *
  refine ⟨H, A, D, S, B, T, F, R, wk, wk, hq, hr, ?_, ?_, ?_, ?_, ?_, ?_, ?_, ?_, ?_, ?_, ?_, ?_, ?_, ?_, ?_, ?_, Or.inr ⟨?_, H, A, D, S, B, by omega, ?_⟩⟩
  · rw [fl 0 (by omega), fl 1 (by omega), fl 2 (by omega), fl 43 (by omega), fl 47 (by omega)]; exact hn
  · rw [fl 0 (by omega), fl 1 (by omega), fl 2 (by omega), fl 43 (by omega), fl 47 (by omega), xf 202 (by omega) (by omega) (by omega) (by omega) (by omega), xf 4 (by omega) (by omega) (by omega) (by omega) (by omega), xf 203 (by omega) (by omega) (by omega) (by omega) (by omega), xf 18 (by omega) (by omega) (by omega) (by omega) (by omega), xf 19 (by omega) (by omega) (by omega) (by omega) (by omega)]; exact hs
  · rw [rl 3 (by omega), rl 4 (by omega), rl 5 (by omega), rl 6 (by omega), rl 7 (by omega), rl 8 (by omega), rl 9 (by omega), rl 10 (by omega), rl 11 (by omega), rl 12 (by omega), rl 13 (by omega), rl 44 (by omega), rl 45 (by omega), rl 48 (by omega), rl 49 (by omega)]; exact hc
  · rw [rl 3 (by omega), rl 4 (by omega), rl 5 (by omega), rl 9 (by omega), rl 11 (by omega), rl 13 (by omega), rl 44 (by omega), rl 45 (by omega), rl 48 (by omega), rl 49 (by omega), xr 0 (by omega), xr 1 (by omega), xr 200 (by omega), xr 2 (by omega), xr 201 (by omega), xr 7 (by omega), xr 14 (by omega), xr 15 (by omega), xr 16 (by omega), xr 17 (by omega)]; exact hrow
  · rw [xr 200 (by omega)]; exact hby
  · rw [xr 22 (by omega)]; exact hbw
  · rw [rl 6 (by omega), rl 7 (by omega), rl 8 (by omega), rl 10 (by omega), xe, xq3]; exact hobj
  · rw [rl 6 (by omega), rl 12 (by omega), xe]; exact hrw
  · rw [rl 6 (by omega)]; exact hrd
  · rw [xe, xq3]; exact hah
  · rw [fl 14 (by omega), fl 16 (by omega), fl 33 (by omega), xf 10 (by omega) (by omega) (by omega) (by omega) (by omega), xf 9 (by omega) (by omega) (by omega) (by omega) (by omega), xr 8 (by omega), rl 19 (by omega), rl 31 (by omega)]; exact htx
  · rw [fl 15 (by omega), rl 20 (by omega), rl 21 (by omega), rl 22 (by omega), rl 23 (by omega)]; exact hthe
  · rw [fl 15 (by omega), rl 20 (by omega), rl 21 (by omega), rl 22 (by omega), rl 23 (by omega), rl 24 (by omega), rl 25 (by omega), rl 26 (by omega), xe, xoo 11 (by omega)]; exact htown
  · rw [fl 72 (by omega), xf 311 (by omega) (by omega) (by omega) (by omega) (by omega), xr 310 (by omega), rl 73 (by omega)]; exact htr
  · rw [rl 74 (by omega), rl 75 (by omega), m2, xe]
    intro t ht
    rw [xoo (100 + t) (by omega)]
    exact htp t ht
  · rw [rl 6 (by omega)]
    intro t ht r hr'
    rw [xoo (100 + t) (by omega)] at hr'
    obtain ⟨z1, z2, z3, z4⟩ := htd t ht r hr'
    exact ⟨fun u hu hur => z1 u hu (by rw [xoo (100 + u) (by omega)] at hur; exact hur), z2, z3, z3⟩
  · rw [m1]; exact g50
  · refine ⟨?_, ?_, ?_, ?_, fun a ha => ?_, fun a ha h6 i hi => ?_, ?_, ?_, ?_, ?_⟩
    · rw [m1, m1, m1, m1, m1, g52, g53, g54, g55, g56]; exact hn
    · rw [m1, m1, m1, m1, m1, g52, g53, g54, g55, g56, x222, x36, x223, x37, x38]; exact hs
    · exact core_pt hc n1 n2 n3 n4 n5 n6 n7 n8 n9 n12 n13 n10 n11 n14 n15
    · exact ⟨eqN_trans x28 (eqN_trans r1 (eqN_symm n1)), eqN_trans x29 (eqN_trans r2 (eqN_symm n2)), eqN_trans x220 (eqN_trans r3 (eqN_symm n3)), eqN_trans x30 (eqN_trans r4 (eqN_symm n7)), eqN_trans x221 (eqN_trans r5 (eqN_symm n9)), eqN_trans x31 (eqN_trans r6 (eqN_symm n13)), eqN_trans x32 (eqN_trans r7 (eqN_symm n10)), eqN_trans x33 (eqN_trans r8 (eqN_symm n11)), eqN_trans x34 (eqN_trans r9 (eqN_symm n14)), eqN_trans x35 (eqN_trans r10 (eqN_symm n15))⟩
    · rw [xq26 a (by omega), xq3, n4 a (by omega), n5 a (by omega), n6 a (by omega), n8 a (by omega), rl 6 (by omega), rl 7 (by omega), rl 8 (by omega), rl 10 (by omega)]
      exact ⟨rfl, rfl, rfl, rfl, rfl⟩
    · rw [rl 6 (by omega)] at h6
      rw [x27, n12 _ (by omega)]
      exact hf' a ha h6 i hi
    · rw [xe]
      intro i hi y hy
      exact hah i hi y (by rw [← xq26 i hi]; exact hy)
    · intro i hi
      rw [x220 i hi]; exact hby i hi
    · rw [m1 51, g51, rl 20 (by omega), rl 21 (by omega), rl 22 (by omega), rl 23 (by omega)]; exact hthe
    · rw [m1 51, g51, rl 20 (by omega), rl 21 (by omega), rl 22 (by omega), rl 23 (by omega), rl 24 (by omega), rl 25 (by omega), rl 26 (by omega), xe, xo39]; exact htown
