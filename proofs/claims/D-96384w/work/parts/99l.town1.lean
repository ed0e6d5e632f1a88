/-! PURE: town: the plain reader -/
set_option maxRecDepth 100000
/-- the sign at p, or -1 behind the end -/
def hrT (tx : Nat → Int32) (F p : Nat) : Int32 := if p < F then tx p else -1
def dgT (c : Int32) : Bool := decide (48 ≤ c ∧ c ≤ 57)
/-- one or two digits -/
def numT (tx : Nat → Int32) (F p : Nat) : Nat ⊕ (Int32 × Nat) :=
  if dgT (hrT tx F p) = true then
    (if dgT (hrT tx F (p + 1)) = true then .inr (10 * (10 * 0 + hrT tx F p - 48) + hrT tx F (p + 1) - 48, p + 2) else .inr (10 * 0 + hrT tx F p - 48, p + 1))
  else .inl p
theorem m_next_eq {N : Nat} {σ : MS} {F p : Nat} (lF : F ≤ 100) (eF : gF σ 16 = nI F) (ep : gF σ 17 = nI p) (hp : p ≤ 200) : m_next N σ = some (hrT (gR σ 19) F p, σ) := by
  unfold m_next hrT
  rw [eF, ep]
  by_cases q : p < F
  · rw [if_neg (nI_ge q (by omega)), if_pos (inN (by omega) (by omega)), nI_clamp (by omega), if_pos q]
  · rw [if_pos (nI_le (by omega) (by omega)), if_neg q]
theorem m_takes_eq {N : Nat} {σ : MS} {F p : Nat} (lF : F ≤ 100) (eF : gF σ 16 = nI F) (ep : gF σ 17 = nI p) (hp : p ≤ 200) (x : Int32) : m_takes N x σ = some (if hrT (gR σ 19) F p = x then (1, sF σ 17 (nI (p + 1))) else (0, σ)) := by
  unfold m_takes
  rw [m_next_eq lF eF ep hp, bnd_ok]
  by_cases q : hrT (gR σ 19) F p = x
  · rw [if_pos q, if_pos q, ep, nI_1]
    rfl
  · rw [if_neg q, if_neg q]
theorem m_isDigit_eq {N : Nat} {σ : MS} {F p : Nat} (lF : F ≤ 100) (eF : gF σ 16 = nI F) (ep : gF σ 17 = nI p) (hp : p ≤ 200) : m_isDigit N σ = some (b2i (dgT (hrT (gR σ 19) F p)), σ) := by
  unfold m_isDigit
  rw [m_next_eq lF eF ep hp, bnd_ok, m_in_eq, bnd_ok, if_pos (b01 _)]
  unfold dgT b2i
  by_cases q : 48 ≤ hrT (gR σ 19) F p ∧ hrT (gR σ 19) F p ≤ 57
  · rw [if_pos q, decide_eq_true q]; rfl
  · rw [if_neg q, decide_eq_false q]; rfl
theorem sF2 (σ : MS) (k : Nat) (x y : Int32) : sF (sF σ k x) k y = sF σ k y := by
  unfold sF
  simp only [va_up2]
theorem sFc (σ : MS) {k j : Nat} (h : k ≠ j) (x y : Int32) : sF (sF σ k x) j y = sF (sF σ j y) k x := by
  unfold sF
  congr 1
  funext i
  simp only [va_up_at]
  by_cases e : i = j
  · subst e; simp [Ne.symm h]
  · simp [e]
