/-! PURE: hat -/
set_option maxRecDepth 100000
theorem sXd_pXd (ξ : XS) (q : Nat) (e e' : va_E) : sXd (pXd ξ q e) q e' = pXd ξ q e' := by
  unfold sXd pXd
  simp only [va_up2]
theorem sXd_pXd2 (ξ : XS) {q r : Nat} (h : r ≠ q) (e e' f : va_E) : sXd (pXd (pXd ξ q e) r f) q e' = pXd (pXd ξ q e') r f := by
  unfold sXd pXd
  have : va_up (va_up (va_up ξ.2.2.2.2.2 q e) r f) q e' = va_up (va_up ξ.2.2.2.2.2 q e') r f := by
    funext j
    simp only [va_up_at]
    by_cases e1 : j = q
    · subst e1
      rw [if_pos rfl, if_neg (Ne.symm h), if_pos rfl]
    · simp [e1]
  simp only [this]
theorem dO_pXd (ξ : XS) (q ci : Nat) (fs : List Value) : dO (pXd ξ q (.inr (ci, fs))) q = some (ci, fs) := by
  unfold dO
  rw [dE_pXd, if_pos rfl]
theorem y7_init_eq {N : Nat} {g : XG} {ξ : XS} {q ci : Nat} {fs : List Value} (hci : ci ∈ ([8, 9, 10, 11, 12, 13, 14] : List Nat)) (hl : 4 < fs.length) {x2 x3 x4 x5 : Int32} {mc ms : Nat} {K : XS → Prop} (hK : K (pXd ξ q (.inr (ci, ((((fs.set 4 (.ref (xa g 0))).set 0 (.int x2)).set 1 (.int x3)).set 2 (.int x4)).set 3 (.int x5))))) : y7_init N g q x2 x3 x4 x5 (pXd ξ q (.inr (ci, fs))) mc ms K := by
  unfold y7_init
  have l0 : 0 < fs.length := by omega
  have l1 : 1 < fs.length := by omega
  have l2 : 2 < fs.length := by omega
  have l3 : 3 < fs.length := by omega
  simp only [dO_pXd, bndp_ok, hci, hl, l0, l1, l2, l3, and_self, if_true, nx_ok, sXd_pXd, List.length_set]
  exact hK
theorem y8_init_eq {N : Nat} {g : XG} {ξ : XS} {q ci : Nat} {fs : List Value} (h1 : ci ∈ ([9, 12] : List Nat)) (h2 : ci ∈ ([8, 9, 10, 11, 12, 13, 14] : List Nat)) (hl : 5 < fs.length) {x2 x3 x4 x5 : Int32} {mc ms : Nat} {K : XS → Prop} (hK : K (pXd ξ q (.inr (ci, (((((fs.set 5 (.ref (xa g 0))).set 4 (.ref (xa g 0))).set 0 (.int x2)).set 1 (.int x3)).set 2 (.int x4)).set 3 (.int x5))))) : y8_init N g q x2 x3 x4 x5 (pXd ξ q (.inr (ci, fs))) mc ms K := by
  unfold y8_init
  simp only [dO_pXd, bndp_ok, h1, hl, and_self, if_true, nx_ok, sXd_pXd]
  exact ⟨0, 0, by omega, by omega, y7_init_eq h2 (by rw [List.length_set]; omega) hK⟩
theorem y9_init_eq {N : Nat} {g : XG} {ξ : XS} {q ci : Nat} {fs : List Value} (h1 : ci ∈ ([10, 13] : List Nat)) (h2 : ci ∈ ([8, 9, 10, 11, 12, 13, 14] : List Nat)) (hl : 5 < fs.length) {x2 x3 x4 x5 : Int32} {mc ms : Nat} {K : XS → Prop} (hK : K (pXd ξ q (.inr (ci, (((((fs.set 5 (.ref (xa g 0))).set 4 (.ref (xa g 0))).set 0 (.int x2)).set 1 (.int x3)).set 2 (.int x4)).set 3 (.int x5))))) : y9_init N g q x2 x3 x4 x5 (pXd ξ q (.inr (ci, fs))) mc ms K := by
  unfold y9_init
  simp only [dO_pXd, bndp_ok, h1, hl, and_self, if_true, nx_ok, sXd_pXd]
  exact ⟨0, 0, by omega, by omega, y7_init_eq h2 (by rw [List.length_set]; omega) hK⟩
theorem y10_init_eq {N : Nat} {g : XG} {ξ : XS} {q ci : Nat} {fs : List Value} (h1 : ci ∈ ([11, 14] : List Nat)) (h2 : ci ∈ ([8, 9, 10, 11, 12, 13, 14] : List Nat)) (hl : 5 < fs.length) {x2 x3 x4 x5 : Int32} {mc ms : Nat} {K : XS → Prop} (hK : K (pXd ξ q (.inr (ci, (((((fs.set 5 (.ref (xa g 0))).set 4 (.ref (xa g 0))).set 0 (.int x2)).set 1 (.int x3)).set 2 (.int x4)).set 3 (.int x5))))) : y10_init N g q x2 x3 x4 x5 (pXd ξ q (.inr (ci, fs))) mc ms K := by
  unfold y10_init
  simp only [dO_pXd, bndp_ok, h1, hl, and_self, if_true, nx_ok, sXd_pXd]
  exact ⟨0, 0, by omega, by omega, y7_init_eq h2 (by rw [List.length_set]; omega) hK⟩
theorem hatOf_eq {N : Nat} {g : XG} {ξ : XS} {k : Nat} (hk : k ≤ 6) {x2 x3 x4 : Int32} {mc ms : Nat} (h1 : 5 ≤ mc) (h2 : 50 ≤ ms) {K : Nat → XS → Prop}
    (hK1 : k ≠ 6 → ∀ q, q ∉ xL ξ → K q (pXd ξ q (.inr (8 + k, hatL g k (xF ξ 4) x2 x3 x4 0))))
    (hK2 : k = 6 → ∀ q r, q ∉ xL ξ → r ∉ xL ξ → r ≠ q → K q (pXd (pXd ξ q (.inr (8 + k, hatL g k (xF ξ 4) x2 x3 x4 r))) r (.inl (xc g 1, 4, .inl (fun _ => 0))))) : y0_hatOf N g (nI k) x2 x3 x4 ξ mc ms K := by
  unfold y0_hatOf
  have h7 : k = 0 ∨ k = 1 ∨ k = 2 ∨ k = 3 ∨ k = 4 ∨ k = 5 ∨ k = 6 := by omega
  rcases h7 with rfl | rfl | rfl | rfl | rfl | rfl | rfl
  · rw [if_neg (show ¬ nI 0 = 1 by decide), if_neg (show ¬ nI 0 = 2 by decide), if_neg (show ¬ nI 0 = 3 by decide), if_neg (show ¬ nI 0 = 4 by decide), if_neg (show ¬ nI 0 = 5 by decide), if_neg (show ¬ nI 0 = 6 by decide)]
    exact ⟨by omega, by omega, fun q hq => ⟨0, 0, by omega, by omega, y7_init_eq (by decide) (by decide) (hK1 (by omega) q hq)⟩⟩
  · rw [if_pos (show nI 1 = 1 by decide)]
    exact ⟨by omega, by omega, fun q hq => ⟨0, 0, by omega, by omega, y8_init_eq (by decide) (by decide) (by decide) (hK1 (by omega) q hq)⟩⟩
  · rw [if_neg (show ¬ nI 2 = 1 by decide), if_pos (show nI 2 = 2 by decide)]
    exact ⟨by omega, by omega, fun q hq => ⟨0, 0, by omega, by omega, y9_init_eq (by decide) (by decide) (by decide) (hK1 (by omega) q hq)⟩⟩
  · rw [if_neg (show ¬ nI 3 = 1 by decide), if_neg (show ¬ nI 3 = 2 by decide), if_pos (show nI 3 = 3 by decide)]
    exact ⟨by omega, by omega, fun q hq => ⟨0, 0, by omega, by omega, y10_init_eq (by decide) (by decide) (by decide) (hK1 (by omega) q hq)⟩⟩
  · rw [if_neg (show ¬ nI 4 = 1 by decide), if_neg (show ¬ nI 4 = 2 by decide), if_neg (show ¬ nI 4 = 3 by decide), if_pos (show nI 4 = 4 by decide)]
    refine ⟨by omega, by omega, fun q hq => ⟨0, 0, by omega, by omega, ?_⟩⟩
    unfold y11_init
    simp only [dO_pXd, bndp_ok, show (12 : Nat) ∈ ([12] : List Nat) by decide, show 6 < ([.int 0, .int 0, .int 0, .int 0, .null, .null, .null] : List Value).length by decide, and_self, if_true, nx_ok, sXd_pXd]
    exact ⟨0, 0, by omega, by omega, y8_init_eq (by decide) (by decide) (by simp) (hK1 (by omega) q hq)⟩
  · rw [if_neg (show ¬ nI 5 = 1 by decide), if_neg (show ¬ nI 5 = 2 by decide), if_neg (show ¬ nI 5 = 3 by decide), if_neg (show ¬ nI 5 = 4 by decide), if_pos (show nI 5 = 5 by decide)]
    refine ⟨by omega, by omega, fun q hq => ⟨0, 0, by omega, by omega, ?_⟩⟩
    unfold y12_init
    simp only [dO_pXd, bndp_ok, show (13 : Nat) ∈ ([13] : List Nat) by decide, show 6 < ([.int 0, .int 0, .int 0, .int 0, .null, .null, .null] : List Value).length by decide, and_self, if_true, nx_ok, sXd_pXd]
    exact ⟨0, 0, by omega, by omega, y9_init_eq (by decide) (by decide) (by simp) (hK1 (by omega) q hq)⟩
  · rw [if_neg (show ¬ nI 6 = 1 by decide), if_neg (show ¬ nI 6 = 2 by decide), if_neg (show ¬ nI 6 = 3 by decide), if_neg (show ¬ nI 6 = 4 by decide), if_neg (show ¬ nI 6 = 5 by decide), if_pos (show nI 6 = 6 by decide)]
    refine ⟨by omega, by omega, fun q hq => ⟨mc - 1, ms - 8, by omega, by omega, ?_⟩⟩
    unfold y13_init
    simp only [dO_pXd, bndp_ok, show (14 : Nat) ∈ ([14] : List Nat) by decide, show 7 < ([.int 0, .int 0, .int 0, .int 0, .null, .null, .null, .null] : List Value).length by decide, and_self, if_true, nx_ok, sXd_pXd]
    refine ⟨0, 0, by omega, by omega, y10_init_eq (by decide) (by decide) (by simp) ?_⟩
    show (if ¬ (4 : Int32) < 0 ∧ (4 : Int32).toNatClampNeg ≤ 10000 then _ else False)
    rw [if_pos (show ¬ (4 : Int32) < 0 ∧ (4 : Int32).toNatClampNeg ≤ 10000 by decide)]
    refine ⟨by omega, show 4 ≤ _ by omega, fun r hr => ?_⟩
    rw [xL_pXd, List.mem_append, not_or] at hr
    have hne : r ≠ q := fun z => hr.2 (by simp [z])
    have hO : ∀ (e : List Value) (f : va_E), dO (pXd (pXd ξ q (.inr (14, e))) r f) q = some (14, e) := by
      intro e f
      unfold dO
      rw [dE_pXd, if_neg (Ne.symm hne), dE_pXd, if_pos rfl]
    simp only [hO, bndp_ok]
    rw [if_pos (by simp)]
    simp only [nx_ok, sXd_pXd2 ξ hne]
    exact hK2 rfl q r hq hr.1 hne
theorem m_hat_136_eq {N : Nat} {σ : MS} {A : Nat} (lA : A < 6) (eA : gF σ 1 = nI A) : ∀ (n c k : Nat) (f : Nat → Int32), n + c = 4 → n < k → (∀ i, i < c → f (4 * A + i) = 0) → (∀ j, j < 4 * A → f j = gR σ 12 j) → ∃ f', m_hat_136 N k (nI c) (sRw σ 12 f) = some (nI A, sF (sRw σ 12 f') 1 (nI (A + 1))) ∧ (∀ i, i < 4 → f' (4 * A + i) = 0) ∧ (∀ j, j < 4 * A → f' j = gR σ 12 j) := by
  intro n
  induction n with
  | zero =>
    intro c k f hc hk h1 h2
    obtain ⟨k, rfl⟩ : ∃ k', k = k' + 1 := ⟨k - 1, by omega⟩
    obtain rfl : c = 4 := by omega
    refine ⟨f, ?_, h1, h2⟩
    show m_hat_136b N (m_hat_136 N k) (nI 4) (sRw σ 12 f) = _
    unfold m_hat_136b
    rw [if_pos (show (4 : Int32) ≤ nI 4 by decide), gF_sRw, eA, nI_1, nx_ok, gF_sF, if_pos rfl, nI_pred]
  | succ n ih =>
    intro c k f hc hk h1 h2
    obtain ⟨k, rfl⟩ : ∃ k', k = k' + 1 := ⟨k - 1, by omega⟩
    show ∃ f', m_hat_136b N (m_hat_136 N k) (nI c) (sRw σ 12 f) = _ ∧ _
    unfold m_hat_136b
    have h9 : ¬ (4 : Int32) ≤ nI c := nI_ge (b := 4) (by omega) (by omega)
    have hix : (4 : Int32) * nI A + nI c = nI (4 * A + c) := by
      rw [nI4]; exact (Int32.ofNat_add _ _).symm
    simp only [h9, if_false, gF_sRw, eA, hix, inN (show 24 < 2 ^ 31 by omega) (show 4 * A + c < 24 by omega), if_true, nI_clamp (show 4 * A + c < 2 ^ 31 by omega), nx_ok, nI_1, sR_sRw]
    refine ih (c + 1) k _ (by omega) (by omega) (fun i hi => ?_) (fun j hj => ?_)
    · rw [upd_at]
      split
      · rfl
      · exact h1 i (by omega)
    · rw [upd_at, if_neg (by omega)]; exact h2 j hj
/-- one hat more -/
theorem Cp_hat {g : XG} {ξ η : XS} {σ : MS} {A k q r x2 x3 x4 x5 : Nat} {f' : Nat → Int32} (hC : Cp g ξ σ) (eA : xF ξ 4 = nI A) (lA : A < 6) (hk : k ≤ 6) (h2 : x2 ≤ 9) (h3 : x3 ≤ 9) (h4 : x4 ≤ 50) (h5 : x5 ≤ 4) (hF : xF η = xF ξ) (hR : xR η = xR ξ) (hQ : xQ η = xQ ξ) (ho : xo η = xo ξ) (hx : ext (dE ξ) (dE η)) (hq9 : dE η q = some (.inr (8 + k, hatL g k (nI A) (nI x2) (nI x3) (nI x5) r)))
    (hr9 : k = 6 → r ∉ xL ξ ∧ dE η r = some (.inl (xc g 1, 4, .inl (fun _ => 0)))) (hf1 : ∀ i, i < 4 → f' (4 * A + i) = 0) (hf2 : ∀ j, j < 4 * A → f' j = gR σ 12 j) :
    Cp g (sXF (sXR (sXR (sXQ η 3 (va_up (xQ η 3) A (some q))) 2 A (nI x4)) 201 A 0) 4 (nI (A + 1))) (sF (sRw (sR (sR (sR (sR (sR (sR σ 6 A (nI k)) 7 A (nI x2)) 8 A (nI x3)) 9 A (nI x4)) 10 A (nI x5)) 11 A 0) 12 f') 1 (nI (A + 1))) := by
  obtain ⟨H, A0, D, S, B, T, F, R, wk, wi, hq, hr, hn, hs, hc, hrow, hby, hbw, hobj, hrw, hrd, hah, htx, hthe, htown, htr, htp, htd, him⟩ := hC
  obtain rfl : A0 = A := nI_inj (by have := hc.2.1; omega) (by omega) ((hs.2.1.trans hn.2.1).symm.trans eA)
  obtain ⟨c1, c2, c3, c4, c5, c6, c7, c8, c9, c10, c11⟩ := id hc
  obtain ⟨r1, r2, r3, r4, r5, r6, r7, r8, r9, r10⟩ := id hrow
  have eR : ∀ j, xR η j = xR ξ j := fun j => by rw [hR]
  have eF : ∀ j, xF η j = xF ξ j := fun j => by rw [hF]
  have hrin : ∀ a, a < A0 → gR σ 6 a = 6 → hr a ∈ xL ξ := fun a ha h6 => by
    obtain ⟨f, z, -⟩ := hrw a ha h6
    exact dE_in z
  refine ⟨H, A0 + 1, D, S, B, T, F, R, wk, wi, fun a => if a = A0 then q else hq a, fun a => if a = A0 then r else hr a, ?_, ?_, ?_, ?_, ?_, ?_, ?_, ?_, ?_, ?_, ?_, hthe, ?_, ?_, ?_, ?_, ?_⟩
  · exact ⟨hn.1, rfl, hn.2.2⟩
  · refine ⟨(eF 202).trans hs.1, rfl, (eF 203).trans hs.2.2.1, (eF 18).trans hs.2.2.2.1, (eF 19).trans hs.2.2.2.2⟩
  · refine ⟨c1, by omega, c3, c4, c5, fun h hh => ⟨(c6 h hh).1, hx_le (c6 h hh).2.1 (by omega), hx_le (c6 h hh).2.2 (by omega)⟩, c7, fun a ha => ?_, c9, fun k hk => ?_, fun k hk => ?_⟩
    · show rg (upd (gR σ 6) A0 (nI k) a) 6 ∧ rg (upd (gR σ 7) A0 (nI x2) a) 9 ∧ rg (upd (gR σ 8) A0 (nI x3) a) 9 ∧ rg (upd (gR σ 9) A0 (nI x4) a) 50 ∧ rg (upd (gR σ 10) A0 (nI x5) a) 4 ∧ rg (upd (gR σ 11) A0 0 a) 9999 ∧ ∀ i, i < 4 → rg (f' (4 * a + i)) 9
      simp only [upd_at]
      by_cases e : a = A0
      · subst e
        simp only [if_true]
        exact ⟨⟨k, hk, rfl⟩, ⟨x2, h2, rfl⟩, ⟨x3, h3, rfl⟩, ⟨x4, h4, rfl⟩, ⟨x5, h5, rfl⟩, ⟨0, by omega, rfl⟩, fun i hi => by rw [hf1 i hi]; exact ⟨0, by omega, rfl⟩⟩
      · simp only [e, if_false]
        obtain ⟨d1, d2, d3, d4, d5, d6, d7⟩ := c8 a (by omega)
        exact ⟨d1, d2, d3, d4, d5, d6, fun i hi => by rw [hf2 _ (by omega)]; exact d7 i hi⟩
    · obtain ⟨⟨a, ha, e⟩, z⟩ := c10 k hk
      exact ⟨⟨a, by omega, e⟩, z⟩
    · obtain ⟨⟨a, ha, e⟩, z⟩ := c11 k hk
      exact ⟨⟨a, by omega, e⟩, z⟩
  · refine ⟨?_, ?_, ?_, ?_, ?_, ?_, ?_, ?_, ?_, ?_⟩
    · show eqN 6 (xR η 0) _; rw [eR]; exact r1
    · show eqN 6 (xR η 1) _; rw [eR]; exact r2
    · show eqN 6 (xR η 200) _; rw [eR]; exact r3
    · show eqN 6 (upd (xR η 2) A0 (nI x4)) (upd (gR σ 9) A0 (nI x4)); rw [eR]; exact eqN_upd r4
    · show eqN 6 (upd (xR η 201) A0 0) (upd (gR σ 11) A0 0); rw [eR]; exact eqN_upd r5
    · show eqN 5 (xR η 7) _; rw [eR]; exact r6
    · show eqN 6 (xR η 14) _; rw [eR]; exact r7
    · show eqN 6 (xR η 15) _; rw [eR]; exact r8
    · show eqN 8 (xR η 16) _; rw [eR]; exact r9
    · show eqN 8 (xR η 17) _; rw [eR]; exact r10
  · show cByte 6 (xR η 200); rw [eR]; exact hby
  · show cByte 6 (xR η 22); rw [eR]; exact hbw
  · intro a ha
    show (va_up (xQ η 3) A0 (some q)) a = some (if a = A0 then q else hq a) ∧ dE η (if a = A0 then q else hq a) = some (.inr (8 + (upd (gR σ 6) A0 (nI k) a).toNatClampNeg, hatL g (upd (gR σ 6) A0 (nI k) a).toNatClampNeg (nI a) (upd (gR σ 7) A0 (nI x2) a) (upd (gR σ 8) A0 (nI x3) a) (upd (gR σ 10) A0 (nI x5) a) (if a = A0 then r else hr a)))
    simp only [va_up_at, upd_at]
    by_cases e : a = A0
    · subst e
      simp only [if_true, nI_clamp (show k < 2 ^ 31 by omega)]
      exact ⟨trivial, hq9⟩
    · simp only [e, if_false, hQ]
      obtain ⟨z1, z2⟩ := hobj a (by omega)
      exact ⟨z1, hx _ _ z2⟩
  · intro a ha h6
    have h6 : upd (gR σ 6) A0 (nI k) a = 6 := h6
    show ∃ f, dE η (if a = A0 then r else hr a) = some (.inl (xc g 1, 4, .inl f)) ∧ ∀ i, i < 4 → f i = f' (4 * a + i)
    rw [upd_at] at h6
    by_cases e : a = A0
    · subst e
      rw [if_pos rfl] at h6
      have hk6 : k = 6 := nI_inj (by omega) (by omega) h6
      rw [if_pos rfl]
      exact ⟨_, (hr9 hk6).2, fun i hi => (hf1 i hi).symm⟩
    · rw [if_neg e] at h6
      rw [if_neg e]
      obtain ⟨f, z1, z2⟩ := hrw a (by omega) h6
      exact ⟨f, hx _ _ z1, fun i hi => by rw [z2 i hi, hf2 _ (by omega)]⟩
  · intro a b ha hb h6 h6b he
    have h6 : upd (gR σ 6) A0 (nI k) a = 6 := h6
    have h6b : upd (gR σ 6) A0 (nI k) b = 6 := h6b
    simp only at he
    rw [upd_at] at h6 h6b
    by_cases e : a = A0
    · by_cases e2 : b = A0
      · omega
      · rw [if_pos e] at h6 he
        rw [if_neg e2] at h6b he
        have hk6 : k = 6 := nI_inj (by omega) (by omega) h6
        exact absurd (he ▸ hrin b (by omega) h6b) (hr9 hk6).1
    · by_cases e2 : b = A0
      · rw [if_neg e] at h6 he
        rw [if_pos e2] at h6b he
        have hk6 : k = 6 := nI_inj (by omega) (by omega) h6b
        exact absurd (he ▸ hrin a (by omega) h6) (hr9 hk6).1
      · rw [if_neg e] at h6 he
        rw [if_neg e2] at h6b he
        exact hrd a b (by omega) (by omega) h6 h6b he
  · intro i hi y hy
    have hy : va_up (xQ η 3) A0 (some q) i = some y := hy
    show ∃ ci fs, dE η y = some (.inr (ci, fs)) ∧ 8 ≤ ci ∧ ci ≤ 14
    rw [va_up_at] at hy
    by_cases e : i = A0
    · rw [if_pos e] at hy
      cases hy
      exact ⟨_, _, hq9, by omega, by omega⟩
    · rw [if_neg e, hQ] at hy
      exact cAllH_keep hx.w hah i hi y hy
  · obtain ⟨t1, t2, t3, t4, t5, t6, t7, t8, t9⟩ := htx
    refine ⟨t1, t2, (eF 10).trans t3, t4, t5, (eF 9).trans t6, ?_, t8, t9⟩
    show cText F (xR η 8) _; rw [eR]; exact t7
  · show cTown g (dE η) (xo η 11) _ _ _ _ _ _ _ _ _
    rw [ho]
    exact cTown_keep hx.w (fun e => hx _ e) htown
  · obtain ⟨t1, t2, t3, t4⟩ := htr
    refine ⟨t1, t2, (eF 311).trans t3, ?_⟩
    show eqN 20 (xR η 310) _; rw [eR]; exact t4
  · show cTape g (dE η) (xo η) _ _ _
    rw [ho]
    exact cTape_ext hx htp
  · intro t ht r' hr'
    have hr' : xo ξ (100 + t) = some r' := by rw [← ho]; exact hr'
    obtain ⟨z1, z2, z3, z4⟩ := htd t ht r' hr'
    refine ⟨fun u hu hur => z1 u hu (by rw [← ho]; exact hur), fun a ha h6 => ?_, z3, z4⟩
    have h6 : upd (gR σ 6) A0 (nI k) a = 6 := h6
    show r' ≠ (if a = A0 then r else hr a)
    rw [upd_at] at h6
    by_cases e : a = A0
    · rw [if_pos e] at h6 ⊢
      have hk6 : k = 6 := nI_inj (by omega) (by omega) h6
      rcases htp t ht with h | ⟨s, n, r2, e2, y1, y2, y3, y4, y5, y6, y7⟩
      · rw [h.2] at hr'; cases hr'
      · rw [hr'] at y5
        cases y5
        exact fun z => (hr9 hk6).1 (z ▸ dE_in y6)
    · rw [if_neg e] at h6 ⊢
      exact z2 a (by omega) h6
  · show (gF σ 50 = 0 ∧ xo η 39 = none) ∨ _
    rw [ho]
    rcases him with h | ⟨h, H', A', D', S', B', h2, h3⟩
    · exact Or.inl h
    · refine Or.inr ⟨h, H', A', D', S', B', by omega, ?_⟩
      obtain ⟨i1, i2, i3, i4, i5, i6, i7, i8, i9, i10⟩ := h3
      refine ⟨i1, ⟨(eF 222).trans i2.1, (eF 36).trans i2.2.1, (eF 223).trans i2.2.2.1, (eF 37).trans i2.2.2.2.1, (eF 38).trans i2.2.2.2.2⟩, i3, ?_, fun a ha => ?_, fun a ha h6 i hi => ?_, ?_, ?_, i9, ?_⟩
      · show rows (xR η 28) (xR η 29) (xR η 220) (xR η 30) (xR η 221) (xR η 31) (xR η 32) (xR η 33) (xR η 34) (xR η 35) _ _ _ _ _ _ _ _ _ _
        rw [hR]; exact i4
      · show xQ η 26 a = va_up (xQ η 3) A0 (some q) a ∧ gR σ 60 a = upd (gR σ 6) A0 (nI k) a ∧ gR σ 61 a = upd (gR σ 7) A0 (nI x2) a ∧ gR σ 62 a = upd (gR σ 8) A0 (nI x3) a ∧ gR σ 64 a = upd (gR σ 10) A0 (nI x5) a
        have ne : ¬ a = A0 := by omega
        simp only [va_up_at, upd_at, ne, if_false, hQ]
        exact i5 a ha
      · have h6 : upd (gR σ 6) A0 (nI k) a = 6 := h6
        rw [upd_at, if_neg (by omega)] at h6
        show xR η 27 _ = _
        rw [hR]
        exact i6 a ha h6 i hi
      · show cAllH (dE η) (xQ η 26)
        rw [hQ]; exact cAllH_keep hx.w i7
      · show cByte 6 (xR η 220); rw [hR]; exact i8
      · show cTown g (dE η) (xo η 39) _ _ _ _ _ _ _ _ _
        rw [ho]
        exact cTown_keep hx.w (fun e => hx _ e) i10
theorem op_1 {N : Nat} (hN : 1000 ≤ N) (g : XG) : OP_1 N g (Cp g) := by
  intro a1 a2 a3 a4 a5 ξ σ hC
  obtain ⟨A, H, D, T, wk, hq, hr, hT, eA, eA2, hby, hin, lD, hus⟩ := Cp_all hC
  have lA : A ≤ 6 := hT.1.1
  unfold m_hat y0_hat
  simp only [x0_in_eq, m_in_eq, x0_isTrade_eq, m_isTrade_eq, bnd_ok, bndp_ok, b0, eA, eA2]
  by_cases h1 : 0 ≤ a1 ∧ a1 ≤ 6
  · by_cases h5 : 0 ≤ a5 ∧ a5 ≤ 4
    · by_cases h2 : 0 ≤ a2 ∧ a2 ≤ 9
      · by_cases h3 : 0 ≤ a3 ∧ a3 ≤ 9
        · by_cases h4 : 0 ≤ a4 ∧ a4 ≤ 50
          · simp only [h1, h2, h3, h4, h5, and_self, not_true, if_false]
            by_cases h6 : nI A = 6
            · simp only [h6, if_true]
              exact ⟨-4, σ, rfl, rfl, hC⟩
            · have lA6 : A < 6 := Nat.lt_of_le_of_ne lA (fun z => h6 (by rw [z]; rfl))
              obtain ⟨k, hk, rfl⟩ := rg_of (n := 6) (by omega) h1.1 h1.2
              obtain ⟨x2, hx2, rfl⟩ := rg_of (n := 9) (by omega) h2.1 h2.2
              obtain ⟨x3, hx3, rfl⟩ := rg_of (n := 9) (by omega) h3.1 h3.2
              obtain ⟨x4, hx4, rfl⟩ := rg_of (n := 50) (by omega) h4.1 h4.2
              obtain ⟨x5, hx5, rfl⟩ := rg_of (n := 4) (by omega) h5.1 h5.2
              obtain ⟨f', em, hf1, hf2⟩ := m_hat_136_eq (N := N) (σ := sR (sR (sR (sR (sR (sR σ 6 A (nI k)) 7 A (nI x2)) 8 A (nI x3)) 9 A (nI x4)) 10 A (nI x5)) 11 A 0) lA6 eA2 4 0 N (gR σ 12) (by omega) (by omega) (fun i hi => by omega) (fun j _ => rfl)
              rw [show sRw (sR (sR (sR (sR (sR (sR σ 6 A (nI k)) 7 A (nI x2)) 8 A (nI x3)) 9 A (nI x4)) 10 A (nI x5)) 11 A 0) 12 (gR σ 12) = sR (sR (sR (sR (sR (sR σ 6 A (nI k)) 7 A (nI x2)) 8 A (nI x3)) 9 A (nI x4)) 10 A (nI x5)) 11 A 0 from sRw_self (sR (sR (sR (sR (sR (sR σ 6 A (nI k)) 7 A (nI x2)) 8 A (nI x3)) 9 A (nI x4)) 10 A (nI x5)) 11 A 0) 12] at em
              have gA : ∀ s : MS, ∀ j i v, gF (sR s j i v) 1 = gF s 1 := fun s j i v => rfl
              simp only [h6, if_false, gA, eA2, in6 lA6, cl6 lA6, if_true, nx_ok]
              refine ⟨nI A, _, em, 9000, 110000, by omega, by omega, hatOf_eq hk (by omega) (by omega) (fun hk6 q hq => ?_) (fun hk6 q r hq hr hne => ?_)⟩
              · have hd : dE (pXd ξ q (.inr (8 + k, hatL g k (xF ξ 4) (nI x2) (nI x3) (nI x5) 0))) q = some (.inr (8 + k, hatL g k (nI A) (nI x2) (nI x3) (nI x5) 0)) := by rw [dE_pXd, if_pos rfl, eA]
                have hc8 : isC (pXd ξ q (.inr (8 + k, hatL g k (xF ξ 4) (nI x2) (nI x3) (nI x5) 0))) q 8 14 = true := (hat_at hk hd).2.2.2.2.2
                have h4' : ∀ s : XS, xF s 4 = nI A → xF s 4 = nI A := fun _ h => h
                generalize hη : pXd ξ q (.inr (8 + k, hatL g k (xF ξ 4) (nI x2) (nI x3) (nI x5) 0)) = η at *
                have e4 : xF η 4 = nI A := by rw [← hη]; exact eA
                have := Cp_hat (η := η) (f' := f') hC eA lA6 hk hx2 hx3 hx4 hx5 (by rw [← hη]; rfl) (by rw [← hη]; rfl) (by rw [← hη]; rfl) (by rw [← hη]; rfl) (by rw [← hη]; exact ext_pXd hq) hd (fun z => absurd z hk6) hf1 hf2
                simp only [in6 lA6, hc8, and_self, if_true, nx_ok, cl6 lA6, xF_sXQ, xF_sXR, e4, nI_1]
                exact ⟨trivial, this⟩
              · subst hk6
                have hE : dE (pXd (pXd ξ q (.inr (8 + 6, hatL g 6 (xF ξ 4) (nI x2) (nI x3) (nI x5) r))) r (.inl (xc g 1, 4, .inl (fun _ => 0)))) q = some (.inr (8 + 6, hatL g 6 (nI A) (nI x2) (nI x3) (nI x5) r)) := by rw [dE_pXd, if_neg (Ne.symm hne), dE_pXd, if_pos rfl, eA]
                have hEr : dE (pXd (pXd ξ q (.inr (8 + 6, hatL g 6 (xF ξ 4) (nI x2) (nI x3) (nI x5) r))) r (.inl (xc g 1, 4, .inl (fun _ => 0)))) r = some (.inl (xc g 1, 4, .inl (fun _ => 0))) := by rw [dE_pXd, if_pos rfl]
                have hc8 : isC (pXd (pXd ξ q (.inr (8 + 6, hatL g 6 (xF ξ 4) (nI x2) (nI x3) (nI x5) r))) r (.inl (xc g 1, 4, .inl (fun _ => 0)))) q 8 14 = true := (hat_at (by omega) hE).2.2.2.2.2
                have hx : ext (dE ξ) (dE (pXd (pXd ξ q (.inr (8 + 6, hatL g 6 (xF ξ 4) (nI x2) (nI x3) (nI x5) r))) r (.inl (xc g 1, 4, .inl (fun _ => 0))))) := (ext_pXd hq).trans (ext_pXd (by rw [xL_pXd, List.mem_append, not_or]; exact ⟨hr, by simp [hne]⟩))
                generalize hη : pXd (pXd ξ q (.inr (8 + 6, hatL g 6 (xF ξ 4) (nI x2) (nI x3) (nI x5) r))) r (.inl (xc g 1, 4, .inl (fun _ => 0))) = η at *
                have e4 : xF η 4 = nI A := by rw [← hη]; exact eA
                have := Cp_hat (η := η) (f' := f') hC eA lA6 hk hx2 hx3 hx4 hx5 (by rw [← hη]; rfl) (by rw [← hη]; rfl) (by rw [← hη]; rfl) (by rw [← hη]; rfl) hx hE (fun _ => ⟨hr, hEr⟩) hf1 hf2
                simp only [in6 lA6, hc8, and_self, if_true, nx_ok, cl6 lA6, xF_sXQ, xF_sXR, e4, nI_1]
                exact ⟨trivial, this⟩
          · exact ⟨-2, σ, by simp [h1, h2, h3, h4, h5], by simp [h1, h2, h3, h4, h5, hC]⟩
        · exact ⟨-2, σ, by simp [h1, h2, h3, h5], by simp [h1, h2, h3, h5, hC]⟩
      · exact ⟨-2, σ, by simp [h1, h2, h5], by simp [h1, h2, h5, hC]⟩
    · exact ⟨-1, σ, by simp [h1, h5], by simp [h1, h5, hC]⟩
  · exact ⟨-1, σ, by simp [h1], by simp [h1, hC]⟩
