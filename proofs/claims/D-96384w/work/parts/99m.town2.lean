/-! PURE: town: numbers (under way) -/
set_option maxRecDepth 100000
theorem m_takesNumber_eq {N : Nat} (hN : 1000 ≤ N) {σ : MS} {F p : Nat} (lF : F ≤ 100) (eF : gF σ 16 = nI F) (ep : gF σ 17 = nI p) (hp : p ≤ 150) : m_takesNumber N σ = some (match numT (gR σ 19) F p with | .inl _ => (0, σ) | .inr (v, p') => (1, sF (sF σ 18 v) 17 (nI p'))) := by
  obtain ⟨N3, rfl⟩ : ∃ k, N = k + 3 := ⟨N - 3, by omega⟩
  unfold m_takesNumber
  rw [m_isDigit_eq lF eF ep (by omega), bnd_ok]
  unfold numT
  by_cases q : dgT (hrT (gR σ 19) F p) = true
  · rw [q, if_neg (by decide), if_pos rfl, nx_ok, nx_ok]
    have h1 : m_isDigit (N3 + 3) (sF σ 18 0) = some (b2i (dgT (hrT (gR σ 19) F p)), sF σ 18 0) := m_isDigit_eq (σ := sF σ 18 0) lF eF ep (by omega)
    have n1 : m_next (N3 + 3) (sF σ 18 0) = some (hrT (gR σ 19) F p, sF σ 18 0) := m_next_eq (σ := sF σ 18 0) lF eF ep (by omega)
    show m_takesNumber_16b (N3 + 3) (m_takesNumber_16 (N3 + 3) (N3 + 2)) 0 (sF σ 18 0) = _
    unfold m_takesNumber_16b
    rw [if_neg (by decide), h1, bnd_ok, q, if_neg (by decide), n1, bnd_ok, nx_ok, nx_ok, nx_ok]
    have e18 : gF (sF σ 18 0) 18 = 0 := rfl
    have e17 : ∀ x, gF (sF (sF σ 18 0) 18 x) 17 = nI p := fun x => ep
    rw [e18, e17, nI_1, sF2]
    generalize hv : 10 * (0 : Int32) + hrT (gR σ 19) F p - 48 = v
    have h2 : m_isDigit (N3 + 3) (sF (sF σ 18 v) 17 (nI (p + 1))) = some (b2i (dgT (hrT (gR σ 19) F (p + 1))), sF (sF σ 18 v) 17 (nI (p + 1))) := m_isDigit_eq (σ := sF (sF σ 18 v) 17 (nI (p + 1))) lF eF rfl (by omega)
    have n2 : m_next (N3 + 3) (sF (sF σ 18 v) 17 (nI (p + 1))) = some (hrT (gR σ 19) F (p + 1), sF (sF σ 18 v) 17 (nI (p + 1))) := m_next_eq (σ := sF (sF σ 18 v) 17 (nI (p + 1))) lF eF rfl (by omega)
    show m_takesNumber_16b (N3 + 3) (m_takesNumber_16 (N3 + 3) (N3 + 1)) (0 + 1) _ = _
    unfold m_takesNumber_16b
    rw [if_neg (by decide), h2, bnd_ok]
    by_cases q2 : dgT (hrT (gR σ 19) F (p + 1)) = true
    · rw [q2, if_neg (by decide), n2, bnd_ok, nx_ok, nx_ok, nx_ok, if_pos rfl]
      have f18 : gF (sF (sF σ 18 v) 17 (nI (p + 1))) 18 = v := rfl
      have f17 : ∀ x, gF (sF (sF (sF σ 18 v) 17 (nI (p + 1))) 18 x) 17 = nI (p + 1) := fun x => rfl
      rw [f18, f17, nI_1, sFc σ (show (18 : Nat) ≠ 17 by decide), sF2, sFc (sF σ 17 _) (show (18 : Nat) ≠ 17 by decide), sF2, sFc σ (show (17 : Nat) ≠ 18 by decide)]
      show m_takesNumber_16b (N3 + 3) (m_takesNumber_16 (N3 + 3) N3) (0 + 1 + 1) _ = _
      unfold m_takesNumber_16b
      rw [if_pos (by decide)]
    · rw [eq_false_of_ne_true q2, if_pos (show b2i false = 0 from rfl), if_neg (by simp)]
  · rw [eq_false_of_ne_true q, if_pos (show b2i false = 0 from rfl), if_neg (by simp)]
