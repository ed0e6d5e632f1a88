/-! PURE: a trial on the side, and its end -/
set_option maxRecDepth 100000
theorem kRm_n {k j : Nat} (h : kRm k = true) (hj : kRm j = false) : k ≠ j := by rintro rfl; rw [hj] at h; cases h
theorem kRx_n {k j : Nat} (h : kRx k = true) (hj : kRx j = false) : k ≠ j := by rintro rfl; rw [hj] at h; cases h
theorem kFx_n {k j : Nat} (h : kFx k = true) (hj : kFx j = false) : k ≠ j := by rintro rfl; rw [hj] at h; cases h
theorem kFm_n {k j : Nat} (h : kFm k = true) (hj : kFm j = false) : k ≠ j := by rintro rfl; rw [hj] at h; cases h
def keepS (σ0 σ : MS) : Prop := (∀ k, kFm k = true → k ≠ 2 → k ≠ 33 → gF σ k = gF σ0 k) ∧ (∀ k, kRm k = true → gR σ k = gR σ0 k) ∧ gF σ 33 = 2000000000 ∧ gF σ 35 = gF σ0 2 ∧ eqN 6 (gR σ 36) (gR σ0 11) ∧ eqN 6 (gR σ 37) (gR σ0 5) ∧ gJ σ 76 = gJ σ0 76
theorem m_save_17_eq (N : Nat) : ∀ (n b k : Nat) (σ : MS), n + b = 6 → n < k → ∃ σ', m_save_17 N k (nI b) σ = some σ' ∧ (∀ j, gF σ' j = gF σ j) ∧ (∀ j, j ≠ 36 → j ≠ 37 → gR σ' j = gR σ j) ∧ (∀ i, b ≤ i → i < 6 → gR σ' 36 i = gR σ 11 i ∧ gR σ' 37 i = gR σ 5 i) ∧ (∀ i, i < b → gR σ' 36 i = gR σ 36 i ∧ gR σ' 37 i = gR σ 37 i) ∧ gJ σ' = gJ σ := by
  intro n
  induction n with
  | zero =>
    intro b k σ hb hk
    obtain ⟨k, rfl⟩ : ∃ k', k = k' + 1 := ⟨k - 1, by omega⟩
    refine ⟨σ, ?_, fun _ => rfl, fun _ _ _ => rfl, fun i h1 h2 => by omega, fun _ _ => ⟨rfl, rfl⟩, rfl⟩
    show m_save_17b N (m_save_17 N k) (nI b) σ = _
    unfold m_save_17b
    rw [if_pos (show (6 : Int32) ≤ nI b from nI_le (a := 6) (by omega) (by omega))]
  | succ n ih =>
    intro b k σ hb hk
    obtain ⟨k, rfl⟩ : ∃ k', k = k' + 1 := ⟨k - 1, by omega⟩
    obtain ⟨σ', h1, h2, h3, h4, h5, h6⟩ := ih (b + 1) k (sR (sR σ 36 b (gR σ 11 b)) 37 b (gR σ 5 b)) (by omega) (by omega)
    refine ⟨σ', ?_, h2, fun j j1 j2 => ?_, fun i i1 i2 => ?_, fun i i1 => ?_, h6⟩
    · show m_save_17b N (m_save_17 N k) (nI b) σ = _
      unfold m_save_17b
      have h9 : ¬ (6 : Int32) ≤ nI b := nI_ge (b := 6) (by omega) (by omega)
      simp only [h9, if_false, in6 (show b < 6 by omega), cl6 (show b < 6 by omega), if_true, nx_ok, nI_1]
      exact h1
    · rw [h3 j j1 j2, gR_sR, if_neg j2, gR_sR, if_neg j1]
    · by_cases e : i = b
      · subst e
        rw [(h5 i (by omega)).1, (h5 i (by omega)).2]
        simp [gR_sR, upd_at]
      · rw [(h4 i (by omega) i2).1, (h4 i (by omega) i2).2]
        exact ⟨rfl, rfl⟩
    · rw [(h5 i (by omega)).1, (h5 i (by omega)).2]
      have hib : i ≠ b := by omega
      simp [gR_sR, upd_at, hib]
theorem m_putBack_17_eq (N : Nat) : ∀ (n b k : Nat) (σ : MS), n + b = 6 → n < k → ∃ σ', m_putBack_17 N k (nI b) σ = some σ' ∧ (∀ j, gF σ' j = gF σ j) ∧ (∀ j, j ≠ 11 → j ≠ 5 → gR σ' j = gR σ j) ∧ (∀ i, b ≤ i → i < 6 → gR σ' 11 i = gR σ 36 i ∧ gR σ' 5 i = gR σ 37 i) ∧ (∀ i, i < b → gR σ' 11 i = gR σ 11 i ∧ gR σ' 5 i = gR σ 5 i) ∧ gJ σ' = gJ σ := by
  intro n
  induction n with
  | zero =>
    intro b k σ hb hk
    obtain ⟨k, rfl⟩ : ∃ k', k = k' + 1 := ⟨k - 1, by omega⟩
    refine ⟨σ, ?_, fun _ => rfl, fun _ _ _ => rfl, fun i h1 h2 => by omega, fun _ _ => ⟨rfl, rfl⟩, rfl⟩
    show m_putBack_17b N (m_putBack_17 N k) (nI b) σ = _
    unfold m_putBack_17b
    rw [if_pos (show (6 : Int32) ≤ nI b from nI_le (a := 6) (by omega) (by omega))]
  | succ n ih =>
    intro b k σ hb hk
    obtain ⟨k, rfl⟩ : ∃ k', k = k' + 1 := ⟨k - 1, by omega⟩
    obtain ⟨σ', h1, h2, h3, h4, h5, h6⟩ := ih (b + 1) k (sR (sR σ 11 b (gR σ 36 b)) 5 b (gR σ 37 b)) (by omega) (by omega)
    refine ⟨σ', ?_, h2, fun j j1 j2 => ?_, fun i i1 i2 => ?_, fun i i1 => ?_, h6⟩
    · show m_putBack_17b N (m_putBack_17 N k) (nI b) σ = _
      unfold m_putBack_17b
      have h9 : ¬ (6 : Int32) ≤ nI b := nI_ge (b := 6) (by omega) (by omega)
      simp only [h9, if_false, in6 (show b < 6 by omega), cl6 (show b < 6 by omega), if_true, nx_ok, nI_1]
      exact h1
    · rw [h3 j j1 j2, gR_sR, if_neg j2, gR_sR, if_neg j1]
    · by_cases e : i = b
      · subst e
        rw [(h5 i (by omega)).1, (h5 i (by omega)).2]
        simp [gR_sR, upd_at]
      · rw [(h4 i (by omega) i2).1, (h4 i (by omega) i2).2]
        exact ⟨rfl, rfl⟩
    · rw [(h5 i (by omega)).1, (h5 i (by omega)).2]
      have hib : i ≠ b := by omega
      simp [gR_sR, upd_at, hib]
/-- the trial -/
def Sim (g : XG) (ξ0 : XS) (σ0 : MS) (ξ : XS) (σ : MS) (A H D T wk : Nat) (hq hr : Nat → Nat) (U : Nat) : Prop :=
  keepX ξ0 ξ ∧ keepS σ0 σ ∧ Tp g 1 ξ σ A H D T wk hq hr ∧ (∀ a, a < A → rg (gR σ 11 a) U) ∧ cByte 6 (xR ξ 210) ∧ cInj H (gR σ 5)
theorem x1_takes_eq (N : Nat) (g : XG) {a b : Nat} (ξ : XS) (hb : cByte 6 (xR ξ (200 + 10 * b))) : x1_takes N g a b ξ = some (let s1 := sXC ξ (200 + 10 * a) (va_cpy (xR ξ (200 + 10 * b)) (xR ξ (200 + 10 * a)) 0 0 6); let s2 := sXC s1 (201 + 10 * a) (va_cpy (xR s1 (201 + 10 * b)) (xR s1 (201 + 10 * a)) 0 0 6); let s3 := sXF s2 (202 + 10 * a) (xF s2 (202 + 10 * b)); sXF s3 (203 + 10 * a) (xF s3 (203 + 10 * b))) := by
  unfold x1_takes
  have h1 : cpk (0 : Int32) (0 : Int32) (6 : Int32) 6 6 = true := by decide
  have h2 : fitB (xR ξ (200 + 10 * b)) (0 : Int32).toNatClampNeg (6 : Int32).toNatClampNeg = true := by
    unfold fitB
    rw [List.all_eq_true]
    intro i hi
    have := hb i (List.mem_range.mp hi)
    show fits .byte (.int (xR ξ (200 + 10 * b) (0 + i))) = true
    rw [Nat.zero_add]
    exact this
  rw [if_pos ⟨h1, h2⟩, nx_ok, if_pos h1]
  rfl
theorem cpy6 {f g : Nat → Int32} {i : Nat} (h : i < 6) : va_cpy f g 0 0 6 i = f i := by
  unfold va_cpy
  rw [if_pos (by omega), show 0 + (i - 0) = i by omega]
theorem m_save_eq {N : Nat} (hN : 1000 ≤ N) (σ : MS) : ∃ σ', m_save N σ = some σ' ∧ (∀ j, j ≠ 33 → j ≠ 35 → gF σ' j = gF σ j) ∧ (∀ j, j ≠ 36 → j ≠ 37 → gR σ' j = gR σ j) ∧ gF σ' 33 = 2000000000 ∧ gF σ' 35 = gF σ 2 ∧ eqN 6 (gR σ' 36) (gR σ 11) ∧ eqN 6 (gR σ' 37) (gR σ 5) ∧ gJ σ' = gJ σ := by
  obtain ⟨σ', h1, h2, h3, h4, h5, h6⟩ := m_save_17_eq N 6 0 N (sF (sF σ 33 2000000000) 35 (gF σ 2)) (by omega) (by omega)
  refine ⟨σ', h1, fun j j1 j2 => ?_, h3, ?_, ?_, fun i hi => (h4 i (by omega) hi).1, fun i hi => (h4 i (by omega) hi).2, h6⟩
  · rw [h2, gF_sF, if_neg j2, gF_sF, if_neg j1]
  · rw [h2]; rfl
  · rw [h2]; rfl
theorem keepS_save {σ0 σ σ' : MS} (km : keepM σ0 σ) (h2 : ∀ j, j ≠ 33 → j ≠ 35 → gF σ' j = gF σ j) (h3 : ∀ j, j ≠ 36 → j ≠ 37 → gR σ' j = gR σ j) (h4 : gF σ' 33 = 2000000000) (h5 : gF σ' 35 = gF σ 2) (h6 : eqN 6 (gR σ' 36) (gR σ 11)) (h7 : eqN 6 (gR σ' 37) (gR σ 5)) (h8 : gJ σ' = gJ σ) : keepS σ0 σ' :=
  ⟨fun k hk k2 k3 => (h2 k k3 (kFm_n hk rfl)).trans (km.1 k hk), fun k hk => (h3 k (kRm_n hk rfl) (kRm_n hk rfl)).trans (km.2.1 k hk), h4, h5.trans (km.1 2 rfl), eqN_trans h6 km.2.2.2.1, eqN_trans h7 km.2.2.1, by rw [h8]; exact km.2.2.2.2⟩
theorem putBack_eq {N : Nat} (hN : 1000 ≤ N) {σ0 σ : MS} (h33 : gF σ0 33 = 9999) (h : keepS σ0 σ) : ∃ σ', m_putBack N σ = some σ' ∧ keepM σ0 σ' := by
  obtain ⟨k1, k2, k3, k4, k5, k6, k7⟩ := h
  obtain ⟨σ', h1, h2, h3, h4, h5, h6⟩ := m_putBack_17_eq N 6 0 N (sF (sF σ 33 9999) 2 (gF σ 35)) (by omega) (by omega)
  refine ⟨σ', h1, fun k hk => ?_, fun k hk => ?_, fun i hi => ?_, fun i hi => ?_, ?_⟩
  · rw [h2, gF_sF]
    by_cases e : k = 2
    · rw [if_pos e, e]; exact k4
    · rw [if_neg e, gF_sF]
      by_cases e2 : k = 33
      · rw [if_pos e2, e2, h33]
      · rw [if_neg e2]; exact k1 k hk e e2
  · rw [h3 k (kRm_n hk rfl) (kRm_n hk rfl)]; exact k2 k hk
  · rw [(h4 i (by omega) hi).2]; exact k6 i hi
  · rw [(h4 i (by omega) hi).1]; exact k5 i hi
  · rw [h6]; exact k7
