/-! PURE: heads of hats, towns' numbers; put, looked, told, how, row -/
set_option maxRecDepth 100000
def optI (o : Option Nat) (d : Int32) : Int32 := match o with | some h => nI h | none => d
theorem m_headOf_2_eq (N : Nat) (σ : MS) {H : Nat} (eH : gF σ 0 = nI H) (lH : H ≤ 6) (x : Int32) : ∀ (n c k : Nat), n + c = H → n < k → m_headOf_2 N k x (nI c) σ = some (optI (fi (fun h => decide (gR σ 5 h = x)) n c) (-5), σ) := by
  intro n
  induction n with
  | zero =>
    intro c k hc hk
    obtain ⟨k, rfl⟩ : ∃ k', k = k' + 1 := ⟨k - 1, by omega⟩
    show m_headOf_2b N (m_headOf_2 N k) x (nI c) σ = _
    unfold m_headOf_2b
    rw [eH, if_pos (nI_le (by omega) (by omega))]
    rfl
  | succ n ih =>
    intro c k hc hk
    obtain ⟨k, rfl⟩ : ∃ k', k = k' + 1 := ⟨k - 1, by omega⟩
    show m_headOf_2b N (m_headOf_2 N k) x (nI c) σ = _
    unfold m_headOf_2b
    rw [eH, if_neg (nI_ge (by omega) (by omega)), if_pos (in6 (by omega)), cl6 (by omega)]
    by_cases h : gR σ 5 c = x
    · simp [h, fi, optI]
    · simp only [h, if_false, bnd_ok, bnv_ok, bno_ok, nx_ok, nI_1]
      rw [ih (c + 1) k (by omega) (by omega)]
      simp [fi, h]
theorem x1_headOf_2_eq (N : Nat) (g : XG) (τ : Nat) (ξ : XS) {H : Nat} (eH : xF ξ (202 + 10 * τ) = nI H) (lH : H ≤ 6) (x : Int32) : ∀ (n c k : Nat), n + c = H → n < k → x1_headOf_2 N g τ k x (nI c) ξ = some (optI (fi (fun h => decide (xR ξ (200 + 10 * τ) h = x)) n c) (-1), ξ) := by
  intro n
  induction n with
  | zero =>
    intro c k hc hk
    obtain ⟨k, rfl⟩ : ∃ k', k = k' + 1 := ⟨k - 1, by omega⟩
    show x1_headOf_2b N g τ (x1_headOf_2 N g τ k) x (nI c) ξ = _
    unfold x1_headOf_2b
    rw [eH, if_pos (nI_le (by omega) (by omega))]
    rfl
  | succ n ih =>
    intro c k hc hk
    obtain ⟨k, rfl⟩ : ∃ k', k = k' + 1 := ⟨k - 1, by omega⟩
    show x1_headOf_2b N g τ (x1_headOf_2 N g τ k) x (nI c) ξ = _
    unfold x1_headOf_2b
    rw [eH, if_neg (nI_ge (by omega) (by omega)), if_pos (in6 (by omega)), cl6 (by omega)]
    by_cases h : xR ξ (200 + 10 * τ) c = x
    · simp [h, fi, optI]
    · simp only [h, if_false, bnd_ok, bnv_ok, bno_ok, nx_ok, nI_1]
      rw [ih (c + 1) k (by omega) (by omega)]
      simp [fi, h]
theorem fi_cong {p q : Nat → Bool} : ∀ (n c : Nat), (∀ i, c ≤ i → i < c + n → p i = q i) → fi p n c = fi q n c := by
  intro n
  induction n with
  | zero => intro c h; rfl
  | succ n ih =>
    intro c h
    simp only [fi]
    rw [h c (by omega) (by omega), ih (c + 1) (fun i h1 h2 => h i (by omega) (by omega))]
theorem fi_some {p : Nat → Bool} : ∀ (n c h : Nat), fi p n c = some h → c ≤ h ∧ h < c + n ∧ p h = true := by
  intro n
  induction n with
  | zero => intro c h e; cases e
  | succ n ih =>
    intro c h e
    simp only [fi] at e
    by_cases hp : p c = true
    · rw [if_pos hp] at e
      cases e
      exact ⟨by omega, by omega, hp⟩
    · rw [if_neg hp] at e
      obtain ⟨h1, h2, h3⟩ := ih _ _ e
      exact ⟨by omega, by omega, h3⟩
theorem fi_none {p : Nat → Bool} : ∀ (n c : Nat), fi p n c = none → ∀ i, c ≤ i → i < c + n → p i = false := by
  intro n
  induction n with
  | zero => intro c e i h1 h2; omega
  | succ n ih =>
    intro c e i h1 h2
    simp only [fi] at e
    by_cases hp : p c = true
    · rw [if_pos hp] at e; cases e
    · rw [if_neg hp] at e
      by_cases hi : i = c
      · subst hi; simpa using hp
      · exact ih (c + 1) e i (by omega) (by omega)
/-- the head that has a hat on -/
def hdOf (wo : Nat → Int32) (H : Nat) (x : Int32) : Option Nat := fi (fun h => decide (wo h = x)) H 0
theorem m_headOf_eq {N : Nat} (hN : 1000 ≤ N) (σ : MS) {H : Nat} (eH : gF σ 0 = nI H) (lH : H ≤ 6) (x : Int32) : m_headOf N x σ = some (optI (hdOf (gR σ 5) H x) (-5), σ) := by
  unfold m_headOf
  exact m_headOf_2_eq N σ eH lH x H 0 N (by omega) (by omega)
theorem x1_headOf_eq {N : Nat} (hN : 1000 ≤ N) (g : XG) (τ : Nat) (ξ : XS) {H : Nat} (eH : xF ξ (202 + 10 * τ) = nI H) (lH : H ≤ 6) (wo : Nat → Int32) (hw : eqN 6 (xR ξ (200 + 10 * τ)) wo) (x : Int32) : x1_headOf N g τ x ξ = some (optI (hdOf wo H x) (-1), ξ) := by
  unfold x1_headOf
  have h := x1_headOf_2_eq N g τ ξ eH lH x H 0 N (by omega) (by omega)
  rw [fi_cong H 0 (q := fun h => decide (wo h = x)) (fun i _ h2 => by simp only [hw i (by omega)])] at h
  exact h
theorem hdOf_some {wo : Nat → Int32} {H h : Nat} {x : Int32} (e : hdOf wo H x = some h) : h < H ∧ wo h = x := by
  obtain ⟨_, h2, h3⟩ := fi_some _ _ _ e
  exact ⟨by omega, by simpa using h3⟩
theorem hdOf_none {wo : Nat → Int32} {H : Nat} {x : Int32} (e : hdOf wo H x = none) : ∀ h, h < H → wo h ≠ x := by
  intro h hh
  have := fi_none _ _ e h (by omega) (by omega)
  simpa using this
theorem op_5 {N : Nat} (hN : 1000 ≤ N) (g : XG) : OP_5 N g (Cp g) := by
  intro a1 a2 ξ σ hC
  obtain ⟨H, A, D, S, B, T, F, R, wk, wi, hq, hr, hn, hs, hc, hrow, hby, hbw, hobj, hrw, hrd, hah, htx, hthe, htown, htr, htp, htd, him⟩ := id hC
  have eH : xF ξ 202 = nI H := hs.1.trans hn.1
  have eH2 : gF σ 0 = nI H := hn.1
  have eA : xF ξ 4 = nI A := hs.2.1.trans hn.2.1
  have eA2 : gF σ 1 = nI A := hn.2.1
  have eD : xF ξ 203 = nI D := hs.2.2.1.trans hn.2.2.1
  have eD2 : gF σ 2 = nI D := hn.2.2.1
  have eS : xF ξ 18 = nI S := hs.2.2.2.1.trans hn.2.2.2.1
  have eS2 : gF σ 43 = nI S := hn.2.2.2.1
  have eB : xF ξ 19 = nI B := hs.2.2.2.2.trans hn.2.2.2.2
  have eB2 : gF σ 47 = nI B := hn.2.2.2.2
  have lH : H ≤ 6 := hc.1
  have lA : A ≤ 6 := hc.2.1
  have lD : D ≤ 9999 := hc.2.2.1
  have lS : S ≤ 6 := hc.2.2.2.1
  have lB : B ≤ 8 := hc.2.2.2.2.1
  obtain ⟨lT, eT2, eT, lF, eF2, eF, htxt, hlet, hmu⟩ := id htx
  obtain ⟨lR, eR2, eR, hbod⟩ := id htr
  obtain ⟨c1, c2, c3, c4, c5, c6, c7, c8, c9, c10, c11⟩ := id hc
  obtain ⟨r1, r2, r3, r4, r5, r6, r7, r8, r9, r10⟩ := id hrow
  unfold x0_put m_put
  simp only [x0_isHat_eq, m_isHat_eq, x0_isHead_eq, m_isHead_eq, bnd_ok, bnv_ok, bno_ok, nx_ok, b0, eA, eA2, eH, eH2]
  by_cases h1 : 0 ≤ a1 ∧ a1 ≤ nI A - 1
  · obtain ⟨k, hk, rfl⟩ := isHat_k lA h1
    -- what both do from here
    have hx57 : ∀ a2, (a2 = -1 ∨ ∃ j, j < H ∧ a2 = nI j) → x0_put_57 N g (nI k) a2 ξ = some (optI (hdOf (gR σ 5) H (nI k)) (-5), (match a2, hdOf (gR σ 5) H (nI k) with | a2, o => (if a2 = -1 then (fun z : XS => z) else (fun z : XS => sXR z 200 a2.toNatClampNeg (nI k))) (match o with | some h => sXR ξ 200 h (-1) | none => ξ))) := by
      intro a2 h2
      unfold x0_put_57
      rw [x1_headOf_eq hN g 0 ξ eH lH (gR σ 5) r3 (nI k)]
      simp only [bnd_ok, bnv_ok, bno_ok, nx_ok]
      cases ho : hdOf (gR σ 5) H (nI k) with
      | none =>
        simp only [optI, if_true]
        rcases h2 with rfl | ⟨j, hj, rfl⟩
        · simp [x0_put_81, x0_put_97, x0_orNone_eq, bnd_ok, bnv_ok, bno_ok, nx_ok]
        · simp [x0_put_81, x0_put_97, x0_orNone_eq, bnd_ok, bnv_ok, bno_ok, nx_ok, nI_ne1 (show j < 2 ^ 31 by omega), in6 (show j < 6 by omega), cl6 (show j < 6 by omega), i8N (show k < 128 by omega), narN (show k < 128 by omega)]
      | some h =>
        obtain ⟨hh, -⟩ := hdOf_some ho
        simp only [optI, nI_ne1 (show h < 2 ^ 31 by omega), if_false, in6 (show h < 6 by omega), cl6 (show h < 6 by omega), if_true, narM]
        rcases h2 with rfl | ⟨j, hj, rfl⟩
        · simp [x0_put_81, x0_put_97, x0_orNone_eq, bnd_ok, bnv_ok, bno_ok, nx_ok, nI_ne1 (show h < 2 ^ 31 by omega)]
        · simp [x0_put_81, x0_put_97, x0_orNone_eq, bnd_ok, bnv_ok, bno_ok, nx_ok, nI_ne1 (show j < 2 ^ 31 by omega), nI_ne1 (show h < 2 ^ 31 by omega), in6 (show j < 6 by omega), cl6 (show j < 6 by omega), i8N (show k < 128 by omega), narN (show k < 128 by omega)]
    have hm49 : ∀ a2, (a2 = -1 ∨ ∃ j, j < H ∧ a2 = nI j) → m_put_49 N (nI k) a2 σ = some (optI (hdOf (gR σ 5) H (nI k)) (-5), (match a2, hdOf (gR σ 5) H (nI k) with | a2, o => (if a2 = -1 then (fun z : MS => z) else (fun z : MS => sR z 5 a2.toNatClampNeg (nI k))) (match o with | some h => sR σ 5 h (-1) | none => σ))) := by
      intro a2 h2
      unfold m_put_49
      rw [m_headOf_eq hN σ eH2 lH (nI k)]
      simp only [bnd_ok, bnv_ok, bno_ok, nx_ok]
      cases ho : hdOf (gR σ 5) H (nI k) with
      | none =>
        simp only [optI]
        rcases h2 with rfl | ⟨j, hj, rfl⟩
        · simp [m_put_66, bnd_ok, bnv_ok, bno_ok, nx_ok]
        · simp [m_put_66, bnd_ok, bnv_ok, bno_ok, nx_ok, nI_ne1 (show j < 2 ^ 31 by omega), nI_pos (show j < 2 ^ 31 by omega), in6 (show j < 6 by omega), cl6 (show j < 6 by omega)]
      | some h =>
        obtain ⟨hh, -⟩ := hdOf_some ho
        simp only [optI, nI_pos (show h < 2 ^ 31 by omega), if_false, in6 (show h < 6 by omega), cl6 (show h < 6 by omega), if_true]
        rcases h2 with rfl | ⟨j, hj, rfl⟩
        · simp [m_put_66, bnd_ok, bnv_ok, bno_ok, nx_ok]
        · simp [m_put_66, bnd_ok, bnv_ok, bno_ok, nx_ok, nI_ne1 (show j < 2 ^ 31 by omega), nI_pos (show j < 2 ^ 31 by omega), in6 (show j < 6 by omega), cl6 (show j < 6 by omega)]
    -- the world behind
    have hw1 : ∀ o : Option Nat, hdOf (gR σ 5) H (nI k) = o → cHeads H A (gR σ 3) (gR σ 4) (match o with | some h => upd (gR σ 5) h (-1) | none => gR σ 5) ∧ cInj H (match o with | some h => upd (gR σ 5) h (-1) | none => gR σ 5) ∧ (∀ h, h < H → (match o with | some h => upd (gR σ 5) h (-1) | none => gR σ 5) h ≠ nI k) := by
      intro o ho
      cases o with
      | none => exact ⟨c6, c7, hdOf_none ho⟩
      | some h =>
        obtain ⟨hh, hv⟩ := hdOf_some ho
        refine ⟨fun x hx => ⟨(c6 x hx).1, (c6 x hx).2.1, ?_⟩, fun x y hx hy he hne => ?_, fun x hx => ?_⟩
        · simp only [upd_at]
          split
          · exact Or.inl rfl
          · exact (c6 x hx).2.2
        · simp only [upd_at] at he hne
          by_cases e1 : x = h
          · simp [e1] at hne
          · by_cases e2 : y = h
            · simp [e1, e2] at he hne; exact absurd he hne
            · simp only [e1, e2, if_false] at he hne
              exact c7 x y hx hy he hne
        · simp only [upd_at]
          split
          · exact fun e => nI_ne1 (show k < 2 ^ 31 by omega) e.symm
          · rename_i e1
            intro e
            exact e1 (c7 x h hx hh (e.trans hv.symm) (by rw [e]; exact nI_ne1 (by omega)))
    have hfin : ∀ a2, (a2 = -1 ∨ ∃ j, j < H ∧ a2 = nI j ∧ (gR σ 5 j = -1 ∨ gR σ 5 j = nI k)) → Cp g (match a2, hdOf (gR σ 5) H (nI k) with | a2, o => (if a2 = -1 then (fun z : XS => z) else (fun z : XS => sXR z 200 a2.toNatClampNeg (nI k))) (match o with | some h => sXR ξ 200 h (-1) | none => ξ)) (match a2, hdOf (gR σ 5) H (nI k) with | a2, o => (if a2 = -1 then (fun z : MS => z) else (fun z : MS => sR z 5 a2.toNatClampNeg (nI k))) (match o with | some h => sR σ 5 h (-1) | none => σ)) := by
      intro a2 h2
      obtain ⟨w1, w2, w3⟩ := hw1 _ rfl
      have step : ∀ (f' f : Nat → Int32) (j : Nat), j < H → cHeads H A (gR σ 3) (gR σ 4) f → cInj H f → (∀ h, h < H → f h ≠ nI k) → cHeads H A (gR σ 3) (gR σ 4) (upd f j (nI k)) ∧ cInj H (upd f j (nI k)) := by
        intro f' f j hj u1 u2 u3
        refine ⟨fun x hx => ⟨(u1 x hx).1, (u1 x hx).2.1, ?_⟩, fun x y hx hy he hne => ?_⟩
        · unfold upd
          split
          · exact Or.inr ⟨k, hk, rfl⟩
          · exact (u1 x hx).2.2
        · simp only [upd_at] at he hne
          by_cases e1 : x = j <;> by_cases e2 : y = j <;> simp only [e1, e2, if_true, if_false] at he hne
          · rw [e1, e2]
          · exact absurd he.symm (u3 y hy)
          · exact absurd he (u3 x hx)
          · exact u2 x y hx hy he hne
      cases ho : hdOf (gR σ 5) H (nI k) with
      | none =>
        rw [ho] at w1 w2 w3
        rcases h2 with rfl | ⟨j, hj, rfl, -⟩
        · exact hC
        · simp only [nI_ne1 (show j < 2 ^ 31 by omega), if_false, cl6 (show j < 6 by omega)]
          obtain ⟨s1, s2⟩ := step (gR σ 5) (gR σ 5) j hj w1 w2 w3
          exact ⟨H, A, D, S, B, T, F, R, wk, wi, hq, hr, hn, hs, ⟨c1, c2, c3, c4, c5, s1, s2, c8, c9, c10, c11⟩, ⟨r1, r2, eqN_upd r3, r4, r5, r6, r7, r8, r9, r10⟩, cByte_upd hby (fitN (by omega)), hbw, hobj, hrw, hrd, hah, htx, hthe, htown, htr, htp, htd, him⟩
      | some h =>
        rw [ho] at w1 w2 w3
        rcases h2 with rfl | ⟨j, hj, rfl, -⟩
        · exact ⟨H, A, D, S, B, T, F, R, wk, wi, hq, hr, hn, hs, ⟨c1, c2, c3, c4, c5, w1, w2, c8, c9, c10, c11⟩, ⟨r1, r2, eqN_upd r3, r4, r5, r6, r7, r8, r9, r10⟩, cByte_upd hby fitM, hbw, hobj, hrw, hrd, hah, htx, hthe, htown, htr, htp, htd, him⟩
        · simp only [nI_ne1 (show j < 2 ^ 31 by omega), if_false, cl6 (show j < 6 by omega)]
          obtain ⟨s1, s2⟩ := step (gR σ 5) (upd (gR σ 5) h (-1)) j hj w1 w2 w3
          exact ⟨H, A, D, S, B, T, F, R, wk, wi, hq, hr, hn, hs, ⟨c1, c2, c3, c4, c5, s1, s2, c8, c9, c10, c11⟩, ⟨r1, r2, eqN_upd (eqN_upd r3), r4, r5, r6, r7, r8, r9, r10⟩, cByte_upd (cByte_upd hby fitM) (fitN (by omega)), hbw, hobj, hrw, hrd, hah, htx, hthe, htown, htr, htp, htd, him⟩
    by_cases h0 : a2 = -1
    · subst h0
      refine ⟨optI (hdOf (gR σ 5) H (nI k)) (-5), _, _, ?_, ?_, hfin (-1) (Or.inl rfl)⟩
      · simp only [h1, not_true, if_false, if_true, x0_put_23, and_self]
        exact hx57 (-1) (Or.inl rfl)
      · simp only [h1, not_true, if_false, if_true, m_put_23, and_self, show ((-1 : Int32) < 0) by decide]
        exact hm49 (-1) (Or.inl rfl)
    · by_cases h2 : 0 ≤ a2 ∧ a2 ≤ nI H - 1
      · obtain ⟨j, hj, rfl⟩ := isHat_k lH h2
        have j6 : j < 6 := by omega
        by_cases h3 : gR σ 5 j = -1 ∨ gR σ 5 j = nI k
        · refine ⟨optI (hdOf (gR σ 5) H (nI k)) (-5), _, _, ?_, ?_, hfin (nI j) (Or.inr ⟨j, hj, rfl, h3⟩)⟩
          · simp only [h1, h0, h2, not_true, if_false, if_true, x0_put_23, and_self, in6 j6, cl6 j6, r3 j j6]
            rcases h3 with h3 | h3
            · simp only [h3, if_true]
              rw [hx57 _ (Or.inr ⟨j, hj, rfl⟩)]
              simp only [h0, if_false, cl6 j6]
            · simp only [h3, nI_ne1 (show k < 2 ^ 31 by omega), if_true, if_false]
              rw [hx57 _ (Or.inr ⟨j, hj, rfl⟩)]
              simp only [h0, if_false, cl6 j6]
          · simp only [h1, h0, h2, not_true, if_false, if_true, m_put_23, and_self, in6 j6, cl6 j6, nI_pos (show j < 2 ^ 31 by omega)]
            rcases h3 with h3 | h3
            · simp only [h3, if_true, show ((-1 : Int32) < 0) by decide]
              rw [hm49 _ (Or.inr ⟨j, hj, rfl⟩)]
              simp only [h0, if_false, cl6 j6]
            · simp only [h3, nI_pos (show k < 2 ^ 31 by omega), if_true, if_false]
              rw [hm49 _ (Or.inr ⟨j, hj, rfl⟩)]
              simp only [h0, if_false, cl6 j6]
        · have h4 : ¬ gR σ 5 j < 0 := fun z => h3 (Or.inl ((hx_neg (by omega) (c6 j hj).2.2).mp z))
          have h5 : ¬ gR σ 5 j = nI k := fun z => h3 (Or.inr z)
          have h6 : ¬ gR σ 5 j = -1 := fun z => h3 (Or.inl z)
          refine ⟨-3, ξ, σ, ?_, ?_, hC⟩
          · simp [h1, h0, h2, x0_put_23, in6 j6, cl6 j6, r3 j j6, h5, h6]
          · simp [h1, h0, h2, m_put_23, in6 j6, cl6 j6, nI_pos (show j < 2 ^ 31 by omega), h4, h5]
      · exact ⟨-1, ξ, σ, by simp [h1, h0, h2], by simp [h1, h0, h2], hC⟩
  · exact ⟨-1, ξ, σ, by simp [h1], by simp [h1], hC⟩
