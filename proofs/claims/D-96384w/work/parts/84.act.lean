/-! PURE: act -/
set_option maxRecDepth 100000
def Bp (ξ0 : XS) (σ0 : MS) (ξ : XS) (σ : MS) (R : Nat) : Prop := (∀ j, j ≠ 311 → xF ξ j = xF ξ0 j) ∧ (∀ j, j ≠ 310 → xR ξ j = xR ξ0 j) ∧ xQ ξ = xQ ξ0 ∧ xo ξ = xo ξ0 ∧ dE ξ = dE ξ0 ∧ (∀ j, j ≠ 72 → gF σ j = gF σ0 j) ∧ (∀ j, j ≠ 73 → gR σ j = gR σ0 j) ∧ gJ σ = gJ σ0 ∧ R ≤ 1000 ∧ xF ξ 311 = nI R ∧ gF σ 72 = nI R ∧ eqN 20 (xR ξ 310) (gR σ 73)
theorem ran_both {N : Nat} {g : XG} {ξ0 ξ : XS} {σ0 σ : MS} {R : Nat} (c : Int32) (h : Bp ξ0 σ0 ξ σ R) (hR : R < 1000) : ∃ ξ1 σ1, x4_ran N g c ξ = some ξ1 ∧ m_body N c σ = some σ1 ∧ Bp ξ0 σ0 ξ1 σ1 (R + 1) := by
  obtain ⟨h1, h2, h3, h4, h5, h6, h7, h8, h9, h10, h11, h12⟩ := h
  unfold x4_ran m_body x4_ran_19 m_body_19
  by_cases q : 20 ≤ R
  · have q' : (20 : Int32) ≤ nI R := nI_le (a := 20) q (by omega)
    simp only [h10, h11, q', if_true, nx_ok, nI_1]
    refine ⟨_, _, rfl, rfl, fun j hj => ?_, h2, h3, h4, h5, fun j hj => ?_, h7, h8, by omega, ?_, ?_, h12⟩
    · rw [xF_sXF, if_neg hj]; exact h1 j hj
    · rw [gF_sF, if_neg hj]; exact h6 j hj
    · rw [xF_sXF, if_pos rfl]
    · rw [gF_sF, if_pos rfl]
  · have q' : ¬ (20 : Int32) ≤ nI R := nI_ge (b := 20) (by omega) (by omega)
    have e1 : xF (sXR ξ 310 R c) 311 = nI R := h10
    have e2 : gF (sR σ 73 R c) 72 = nI R := h11
    simp only [h10, h11, q', if_false, inN (show 20 < 2 ^ 31 by omega) (show R < 20 by omega), if_true, nI_clamp (show R < 2 ^ 31 by omega), nx_ok, e1, e2, nI_1]
    refine ⟨_, _, rfl, rfl, fun j hj => ?_, fun j hj => ?_, h3, h4, h5, fun j hj => ?_, fun j hj => ?_, h8, by omega, ?_, ?_, ?_⟩
    · rw [xF_sXF, if_neg hj]; exact h1 j hj
    · rw [xR_sXF, xR_sXR, if_neg hj]; exact h2 j hj
    · rw [gF_sF, if_neg hj]; exact h6 j hj
    · rw [gR_sF, gR_sR, if_neg hj]; exact h7 j hj
    · rw [xF_sXF, if_pos rfl]
    · rw [gF_sF, if_pos rfl]
    · exact eqN_upd h12
/-- hat a, of kind k, at q -/
def Ho (g : XG) (ξ0 : XS) (σ0 : MS) (q k a : Nat) : Prop := ∃ s t r, k ≤ 6 ∧ a < 6 ∧ gR σ0 6 a = nI k ∧ dE ξ0 q = some (.inr (8 + k, hatL g k (nI a) (gR σ0 7 a) s t r))
theorem hatSits_both {N : Nat} {g : XG} {ξ0 ξ : XS} {σ0 σ : MS} {R q k a : Nat} (ho : Ho g ξ0 σ0 q k a) (x : Int32) (h : Bp ξ0 σ0 ξ σ R) (hR : R < 1000) : ∃ v ξ1 σ1, x7_sits N g q x ξ = some (v, ξ1) ∧ m_hatSits N (nI a) x σ = some (v, σ1) ∧ Bp ξ0 σ0 ξ1 σ1 (R + 1) := by
  obtain ⟨s, t, r, hk, ha, ek, hd⟩ := ho
  obtain ⟨ξ1, σ1, e1, e2, h2⟩ := ran_both (N := N) (g := g) 10 h hR
  have hd0 : dE ξ q = some (.inr (8 + k, hatL g k (nI a) (gR σ0 7 a) s t r)) := by rw [h.2.2.2.2.1]; exact hd
  have hd1 : dE ξ1 q = some (.inr (8 + k, hatL g k (nI a) (gR σ0 7 a) s t r)) := by rw [h2.2.2.2.2.1]; exact hd
  have s4 : dRs ξ q [8, 9, 10, 11, 12, 13, 14] 4 = some (xa g 0) := by
    have h7 : k = 0 ∨ k = 1 ∨ k = 2 ∨ k = 3 ∨ k = 4 ∨ k = 5 ∨ k = 6 := by omega
    rcases h7 with rfl | rfl | rfl | rfl | rfl | rfl | rfl <;> simp [dRs, hd0, hatL]
  unfold x7_sits m_hatSits
  rw [if_pos s4, e1, bnv_ok, (hat_at hk hd1).1, bno_ok, e2, bnv_ok]
  exact ⟨_, _, _, rfl, rfl, h2⟩
theorem m6 {ξ0 ξ : XS} {σ0 σ : MS} {R a k : Nat} (h : Bp ξ0 σ0 ξ σ R) (e : gR σ0 6 a = nI k) : gR σ 6 a = nI k := by rw [h.2.2.2.2.2.2.1 6 (by omega)]; exact e
theorem m7 {ξ0 ξ : XS} {σ0 σ : MS} {R : Nat} (h : Bp ξ0 σ0 ξ σ R) : gR σ 7 = gR σ0 7 := h.2.2.2.2.2.2.1 7 (by omega)
theorem Bp_d {ξ0 ξ : XS} {σ0 σ : MS} {R q : Nat} {e : va_E} (h : Bp ξ0 σ0 ξ σ R) (hd : dE ξ0 q = some e) : dE ξ q = some e := by rw [h.2.2.2.2.1]; exact hd
theorem sits_both {N : Nat} {g : XG} {ξ0 ξ : XS} {σ0 σ : MS} {R q k a : Nat} (ho : Ho g ξ0 σ0 q k a) (x : Int32) (h : Bp ξ0 σ0 ξ σ R) (hR : R < 990) : ∃ v ξ1 σ1 R1, xv_sits N g q x ξ = some (v, ξ1) ∧ m_sitsAct N (nI a) x σ = some (v, σ1) ∧ Bp ξ0 σ0 ξ1 σ1 R1 ∧ R1 ≤ R + 2 := by
  have ho' := ho
  obtain ⟨s, t, r, hk, ha, ek, hd⟩ := ho
  have e6 := m6 h ek
  have hd0 := Bp_d h hd
  have hci : dCi ξ q = some (8 + k) := (hat_at hk hd0).2.2.2.2.1
  unfold xv_sits m_sitsAct
  rw [hci, bno_ok, if_pos (in6 ha), cl6 ha, e6]
  have h7 : k = 0 ∨ k = 1 ∨ k = 2 ∨ k = 3 ∨ k = 4 ∨ k = 5 ∨ k = 6 := by omega
  have pl : ∃ v ξ1 σ1 R1, x7_sits N g q x ξ = some (v, ξ1) ∧ (bnd (m_hatSits N (nI a) x σ) fun v_21 s_20 => some (v_21, s_20)) = some (v, σ1) ∧ Bp ξ0 σ0 ξ1 σ1 R1 ∧ R1 ≤ R + 2 := by
    obtain ⟨v, ξ1, σ1, z1, z2, z3⟩ := hatSits_both (N := N) ho' x h (by omega)
    rw [z2, bnd_ok]
    exact ⟨v, ξ1, σ1, R + 1, z1, rfl, z3, by omega⟩
  rcases h7 with rfl | rfl | rfl | rfl | rfl | rfl | rfl
  · rw [if_neg (show ¬ nI 0 = 2 by decide), if_neg (show ¬ nI 0 = 3 by decide), if_neg (show ¬ nI 0 = 4 by decide), if_neg (show ¬ nI 0 = 5 by decide), if_neg (show ¬ nI 0 = 6 by decide)]
    exact pl
  · rw [if_neg (show ¬ nI 1 = 2 by decide), if_neg (show ¬ nI 1 = 3 by decide), if_neg (show ¬ nI 1 = 4 by decide), if_neg (show ¬ nI 1 = 5 by decide), if_neg (show ¬ nI 1 = 6 by decide)]
    exact pl
  · rw [if_pos (show nI 2 = 2 by decide)]
    show ∃ v ξ1 σ1 R1, x9_sits N g q x ξ = _ ∧ _
    unfold x9_sits
    obtain ⟨ξ1, σ1, e1, e2, h2⟩ := ran_both (N := N) (g := g) 30 h (by omega)
    obtain ⟨v, ξ2, σ2, z1, z2, z3⟩ := hatSits_both (N := N) ho' (x * 3) h2 (by omega)
    rw [if_pos (show dRs ξ q [10, 13] 5 = some (xa g 0) by simp [dRs, hd0, hatL]), e1, bnv_ok, if_pos (hat_at hk (Bp_d h2 hd)).2.2.2.2.2, z1, bnd_ok, e2, bnv_ok, z2, bnd_ok]
    exact ⟨_, _, _, R + 1 + 1, rfl, rfl, z3, by omega⟩
  · rw [if_neg (show ¬ nI 3 = 2 by decide), if_pos (show nI 3 = 3 by decide)]
    exact pl
  · rw [if_neg (show ¬ nI 4 = 2 by decide), if_neg (show ¬ nI 4 = 3 by decide), if_pos (show nI 4 = 4 by decide)]
    show ∃ v ξ1 σ1 R1, x11_sits N g q x ξ = _ ∧ _
    unfold x11_sits
    obtain ⟨ξ1, σ1, e1, e2, h2⟩ := ran_both (N := N) (g := g) 50 h (by omega)
    obtain ⟨v, ξ2, σ2, z1, z2, z3⟩ := hatSits_both (N := N) ho' x h2 (by omega)
    rw [if_pos (show dRs ξ q [12] 6 = some (xa g 0) by simp [dRs, hd0, hatL]), e1, bnv_ok, if_pos (hat_at hk (Bp_d h2 hd)).2.2.2.2.2, z1, bnd_ok, e2, bnv_ok, z2, bnd_ok]
    exact ⟨_, _, _, R + 1 + 1, rfl, rfl, z3, by omega⟩
  · rw [if_neg (show ¬ nI 5 = 2 by decide), if_neg (show ¬ nI 5 = 3 by decide), if_neg (show ¬ nI 5 = 4 by decide), if_pos (show nI 5 = 5 by decide)]
    show ∃ v ξ1 σ1 R1, x9_sits N g q x ξ = _ ∧ _
    unfold x9_sits
    obtain ⟨ξ1, σ1, e1, e2, h2⟩ := ran_both (N := N) (g := g) 30 h (by omega)
    obtain ⟨v, ξ2, σ2, z1, z2, z3⟩ := hatSits_both (N := N) ho' (x * 3) h2 (by omega)
    rw [if_pos (show dRs ξ q [10, 13] 5 = some (xa g 0) by simp [dRs, hd0, hatL]), e1, bnv_ok, if_pos (hat_at hk (Bp_d h2 hd)).2.2.2.2.2, z1, bnd_ok, e2, bnv_ok, z2, bnd_ok]
    exact ⟨_, _, _, R + 1 + 1, rfl, rfl, z3, by omega⟩
  · rw [if_neg (show ¬ nI 6 = 2 by decide), if_neg (show ¬ nI 6 = 3 by decide), if_neg (show ¬ nI 6 = 4 by decide), if_neg (show ¬ nI 6 = 5 by decide), if_pos (show nI 6 = 6 by decide)]
    show ∃ v ξ1 σ1 R1, x13_sits N g q x ξ = _ ∧ _
    unfold x13_sits
    obtain ⟨ξ1, σ1, e1, e2, h2⟩ := ran_both (N := N) (g := g) 71 h (by omega)
    obtain ⟨v, ξ2, σ2, z1, z2, z3⟩ := hatSits_both (N := N) ho' x h2 (by omega)
    rw [if_pos (show dRs ξ q [14] 7 = some (xa g 0) by simp [dRs, hd0, hatL]), e1, bnv_ok, if_pos (hat_at hk (Bp_d h2 hd)).2.2.2.2.2, z1, bnd_ok, (hat_at hk (Bp_d z3 hd)).2.1, bno_ok, e2, bnv_ok, z2, bnd_ok, m7 z3, if_pos (in6 ha)]
    exact ⟨_, _, _, R + 1 + 1, rfl, rfl, z3, by omega⟩
theorem hatDoes_both {N : Nat} {g : XG} {ξ0 ξ : XS} {σ0 σ : MS} {R q k a : Nat} (ho : Ho g ξ0 σ0 q k a) (x : Int32) (h : Bp ξ0 σ0 ξ σ R) (hR : R < 980) : ∃ v ξ1 σ1 R1, x7_does N g q x ξ = some (v, ξ1) ∧ m_hatDoes N (nI a) x σ = some (v, σ1) ∧ Bp ξ0 σ0 ξ1 σ1 R1 ∧ R1 ≤ R + 3 := by
  have ho' := ho
  obtain ⟨s, t, r, hk, ha, ek, hd⟩ := ho
  have hd0 := Bp_d h hd
  have s4 : dRs ξ q [8, 9, 10, 11, 12, 13, 14] 4 = some (xa g 0) := by
    have h7 : k = 0 ∨ k = 1 ∨ k = 2 ∨ k = 3 ∨ k = 4 ∨ k = 5 ∨ k = 6 := by omega
    rcases h7 with rfl | rfl | rfl | rfl | rfl | rfl | rfl <;> simp [dRs, hd0, hatL]
  obtain ⟨ξ1, σ1, e1, e2, h2⟩ := ran_both (N := N) (g := g) 11 h (by omega)
  obtain ⟨v, ξ2, σ2, R2, z1, z2, z3, z4⟩ := sits_both (N := N) ho' x h2 (by omega)
  unfold x7_does m_hatDoes
  rw [if_pos s4, e1, bnv_ok, z1, bnd_ok, (hat_at hk (Bp_d z3 hd)).2.1, bno_ok, e2, bnv_ok, z2, bnd_ok, if_pos (in6 ha), cl6 ha, m7 z3]
  exact ⟨_, _, _, R2, rfl, rfl, z3, by omega⟩
theorem tight_both {N : Nat} {g : XG} {ξ0 ξ : XS} {σ0 σ : MS} {R q k a : Nat} (ho : Ho g ξ0 σ0 q k a) (hk' : k = 1 ∨ k = 4) (x : Int32) (h : Bp ξ0 σ0 ξ σ R) (hR : R < 970) : ∃ v ξ1 σ1 R1, x8_does N g q x ξ = some (v, ξ1) ∧ m_tightDoes N (nI a) x σ = some (v, σ1) ∧ Bp ξ0 σ0 ξ1 σ1 R1 ∧ R1 ≤ R + 4 := by
  have ho' := ho
  obtain ⟨s, t, r, hk, ha, ek, hd⟩ := ho
  have hd0 := Bp_d h hd
  have s5 : dRs ξ q [9, 12] 5 = some (xa g 0) := by
    rcases hk' with rfl | rfl <;> simp [dRs, hd0, hatL]
  obtain ⟨ξ1, σ1, e1, e2, h2⟩ := ran_both (N := N) (g := g) 20 h (by omega)
  obtain ⟨v, ξ2, σ2, R2, z1, z2, z3, z4⟩ := hatDoes_both (N := N) ho' x h2 (by omega)
  unfold x8_does m_tightDoes
  rw [if_pos s5, e1, bnv_ok, if_pos (hat_at hk (Bp_d h2 hd)).2.2.2.2.2, z1, bnd_ok, e2, bnv_ok, z2, bnd_ok]
  exact ⟨_, _, _, R2, rfl, rfl, z3, by omega⟩
theorem does_both {N : Nat} {g : XG} {ξ0 ξ : XS} {σ0 σ : MS} {R q k a : Nat} (ho : Ho g ξ0 σ0 q k a) (x : Int32) (h : Bp ξ0 σ0 ξ σ R) (hR : R < 960) : ∃ v ξ1 σ1 R1, xv_does N g q x ξ = some (v, ξ1) ∧ m_doesAct N (nI a) x σ = some (v, σ1) ∧ Bp ξ0 σ0 ξ1 σ1 R1 ∧ R1 ≤ R + 8 := by
  have ho' := ho
  obtain ⟨s, t, r, hk, ha, ek, hd⟩ := ho
  have e6 := m6 h ek
  have hd0 := Bp_d h hd
  have hci : dCi ξ q = some (8 + k) := (hat_at hk hd0).2.2.2.2.1
  unfold xv_does m_doesAct
  rw [hci, bno_ok, if_pos (in6 ha), cl6 ha, e6]
  have h7 : k = 1 ∨ k = 4 ∨ k = 6 ∨ (k = 0 ∨ k = 2 ∨ k = 3 ∨ k = 5) := by omega
  rcases h7 with rfl | rfl | rfl | h7
  · rw [if_pos (show nI 1 = 1 by decide)]
    obtain ⟨v, ξ1, σ1, R1, z1, z2, z3, z4⟩ := tight_both (N := N) ho' (Or.inl rfl) x h (by omega)
    rw [z2, bnd_ok]
    exact ⟨v, ξ1, σ1, R1, z1, rfl, z3, by omega⟩
  · rw [if_neg (show ¬ nI 4 = 1 by decide), if_pos (show nI 4 = 4 by decide)]
    show ∃ v ξ1 σ1 R1, x11_does N g q x ξ = _ ∧ _
    unfold x11_does
    obtain ⟨ξ1, σ1, e1, e2, h2⟩ := ran_both (N := N) (g := g) 51 h (by omega)
    obtain ⟨v, ξ2, σ2, R2, z1, z2, z3, z4⟩ := tight_both (N := N) ho' (Or.inr rfl) (x + 1) h2 (by omega)
    rw [if_pos (show dRs ξ q [12] 6 = some (xa g 0) by simp [dRs, hd0, hatL]), e1, bnv_ok, if_pos (hat_at hk (Bp_d h2 hd)).2.2.2.2.2, z1, bnd_ok, e2, bnv_ok, z2, bnd_ok]
    exact ⟨_, _, _, R2, rfl, rfl, z3, by omega⟩
  · rw [if_neg (show ¬ nI 6 = 1 by decide), if_neg (show ¬ nI 6 = 4 by decide), if_pos (show nI 6 = 6 by decide)]
    show ∃ v ξ1 σ1 R1, x13_does N g q x ξ = _ ∧ _
    unfold x13_does
    obtain ⟨ξ1, σ1, e1, e2, h2⟩ := ran_both (N := N) (g := g) 70 h (by omega)
    obtain ⟨v, ξ2, σ2, R2, z1, z2, z3, z4⟩ := hatDoes_both (N := N) ho' x h2 (by omega)
    obtain ⟨w, ξ3, σ3, y1, y2, y3⟩ := hatSits_both (N := N) ho' 2 z3 (by omega)
    rw [if_pos (show dRs ξ q [14] 7 = some (xa g 0) by simp [dRs, hd0, hatL]), e1, bnv_ok, if_pos (hat_at hk (Bp_d h2 hd)).2.2.2.2.2, z1, bnd_ok, nx_ok, if_pos (hat_at hk (Bp_d z3 hd)).2.2.2.2.2, y1, bnd_ok, e2, bnv_ok, z2, bnd_ok, nx_ok, y2, bnd_ok]
    exact ⟨_, _, _, R2 + 1, rfl, rfl, y3, by omega⟩
  · have g1 : ¬ nI k = 1 := fun z => by have : k = 1 := nI_inj (by omega) (by omega) z; omega
    have g4 : ¬ nI k = 4 := fun z => by have : k = 4 := nI_inj (by omega) (by omega) z; omega
    have g6 : ¬ nI k = 6 := fun z => by have : k = 6 := nI_inj (by omega) (by omega) z; omega
    rw [if_neg g1, if_neg g4, if_neg g6]
    obtain ⟨v, ξ1, σ1, R1, z1, z2, z3, z4⟩ := hatDoes_both (N := N) ho' x h (by omega)
    rw [z2, bnd_ok]
    refine ⟨v, ξ1, σ1, R1, ?_, rfl, z3, by omega⟩
    rcases h7 with rfl | rfl | rfl | rfl <;> exact z1
theorem hatTells_both {N : Nat} {g : XG} {ξ0 ξ : XS} {σ0 σ : MS} {R q k a : Nat} (ho : Ho g ξ0 σ0 q k a) (x : Int32) (h : Bp ξ0 σ0 ξ σ R) (hR : R < 950) : ∃ v ξ1 σ1 R1, x7_tells N g q x ξ = some (v, ξ1) ∧ m_hatTells N (nI a) x σ = some (v, σ1) ∧ Bp ξ0 σ0 ξ1 σ1 R1 ∧ R1 ≤ R + 9 := by
  have ho' := ho
  obtain ⟨s, t, r, hk, ha, ek, hd⟩ := ho
  have hd0 := Bp_d h hd
  have s4 : dRs ξ q [8, 9, 10, 11, 12, 13, 14] 4 = some (xa g 0) := by
    have h7 : k = 0 ∨ k = 1 ∨ k = 2 ∨ k = 3 ∨ k = 4 ∨ k = 5 ∨ k = 6 := by omega
    rcases h7 with rfl | rfl | rfl | rfl | rfl | rfl | rfl <;> simp [dRs, hd0, hatL]
  obtain ⟨ξ1, σ1, e1, e2, h2⟩ := ran_both (N := N) (g := g) 12 h (by omega)
  obtain ⟨v, ξ2, σ2, R2, z1, z2, z3, z4⟩ := does_both (N := N) ho' x h2 (by omega)
  unfold x7_tells m_hatTells
  rw [if_pos s4, e1, bnv_ok, z1, bnd_ok, e2, bnv_ok, z2, bnd_ok]
  exact ⟨_, _, _, R2, rfl, rfl, z3, by omega⟩
theorem tells_both {N : Nat} {g : XG} {ξ0 ξ : XS} {σ0 σ : MS} {R q k a : Nat} (ho : Ho g ξ0 σ0 q k a) (x : Int32) (h : Bp ξ0 σ0 ξ σ R) (hR : R < 900) : ∃ v ξ1 σ1 R1, xv_tells N g q x ξ = some (v, ξ1) ∧ m_tellsAct N (nI a) x σ = some (v, σ1) ∧ Bp ξ0 σ0 ξ1 σ1 R1 ∧ R1 ≤ R + 20 := by
  have ho' := ho
  obtain ⟨s, t, r, hk, ha, ek, hd⟩ := ho
  have e6 := m6 h ek
  have hd0 := Bp_d h hd
  have hci : dCi ξ q = some (8 + k) := (hat_at hk hd0).2.2.2.2.1
  unfold xv_tells m_tellsAct
  rw [hci, bno_ok, if_pos (in6 ha), cl6 ha, e6]
  have h7 : k = 3 ∨ k = 4 ∨ k = 5 ∨ k = 6 ∨ (k = 0 ∨ k = 1 ∨ k = 2) := by omega
  rcases h7 with rfl | rfl | rfl | rfl | h7
  · rw [if_pos (show nI 3 = 3 by decide)]
    show ∃ v ξ1 σ1 R1, x10_tells N g q x ξ = _ ∧ _
    unfold x10_tells
    obtain ⟨ξ1, σ1, e1, e2, h2⟩ := ran_both (N := N) (g := g) 40 h (by omega)
    obtain ⟨v, ξ2, σ2, R2, z1, z2, z3, z4⟩ := hatTells_both (N := N) ho' x h2 (by omega)
    obtain ⟨w, ξ3, σ3, R3, y1, y2, y3, y4⟩ := does_both (N := N) ho' 1 z3 (by omega)
    rw [if_pos (show dRs ξ q [11, 14] 5 = some (xa g 0) by simp [dRs, hd0, hatL]), e1, bnv_ok, if_pos (hat_at hk (Bp_d h2 hd)).2.2.2.2.2, z1, bnd_ok, nx_ok, if_pos (show isH ξ2 q [11, 14] = true by simp [isH, dCi, Bp_d z3 hd]), y1, bnd_ok, e2, bnv_ok, z2, bnd_ok, nx_ok, y2, bnd_ok]
    exact ⟨_, _, _, R3, rfl, rfl, y3, by omega⟩
  · rw [if_neg (show ¬ nI 4 = 3 by decide), if_pos (show nI 4 = 4 by decide)]
    obtain ⟨v, ξ1, σ1, R1, z1, z2, z3, z4⟩ := hatTells_both (N := N) ho' x h (by omega)
    rw [z2, bnd_ok]
    exact ⟨v, ξ1, σ1, R1, z1, rfl, z3, by omega⟩
  · rw [if_neg (show ¬ nI 5 = 3 by decide), if_neg (show ¬ nI 5 = 4 by decide), if_pos (show nI 5 = 5 by decide)]
    show ∃ v ξ1 σ1 R1, x12_tells N g q x ξ = _ ∧ _
    unfold x12_tells
    obtain ⟨ξ1, σ1, e1, e2, h2⟩ := ran_both (N := N) (g := g) 60 h (by omega)
    obtain ⟨v, ξ2, σ2, R2, z1, z2, z3, z4⟩ := hatTells_both (N := N) ho' (x - nI a) h2 (by omega)
    rw [if_pos (show dRs ξ q [13] 6 = some (xa g 0) by simp [dRs, hd0, hatL]), e1, bnv_ok, (hat_at hk (Bp_d h2 hd)).1, bno_ok, if_pos (hat_at hk (Bp_d h2 hd)).2.2.2.2.2, z1, bnd_ok, e2, bnv_ok, z2, bnd_ok]
    exact ⟨_, _, _, R2, rfl, rfl, z3, by omega⟩
  · rw [if_neg (show ¬ nI 6 = 3 by decide), if_neg (show ¬ nI 6 = 4 by decide), if_neg (show ¬ nI 6 = 5 by decide), if_pos (show nI 6 = 6 by decide)]
    show ∃ v ξ1 σ1 R1, x10_tells N g q x ξ = _ ∧ _
    unfold x10_tells
    obtain ⟨ξ1, σ1, e1, e2, h2⟩ := ran_both (N := N) (g := g) 40 h (by omega)
    obtain ⟨v, ξ2, σ2, R2, z1, z2, z3, z4⟩ := hatTells_both (N := N) ho' x h2 (by omega)
    obtain ⟨w, ξ3, σ3, R3, y1, y2, y3, y4⟩ := does_both (N := N) ho' 1 z3 (by omega)
    rw [if_pos (show dRs ξ q [11, 14] 5 = some (xa g 0) by simp [dRs, hd0, hatL]), e1, bnv_ok, if_pos (hat_at hk (Bp_d h2 hd)).2.2.2.2.2, z1, bnd_ok, nx_ok, if_pos (show isH ξ2 q [11, 14] = true by simp [isH, dCi, Bp_d z3 hd]), y1, bnd_ok, e2, bnv_ok, z2, bnd_ok, nx_ok, y2, bnd_ok]
    exact ⟨_, _, _, R3, rfl, rfl, y3, by omega⟩
  · have g3 : ¬ nI k = 3 := fun z => by have : k = 3 := nI_inj (by omega) (by omega) z; omega
    have g4 : ¬ nI k = 4 := fun z => by have : k = 4 := nI_inj (by omega) (by omega) z; omega
    have g5 : ¬ nI k = 5 := fun z => by have : k = 5 := nI_inj (by omega) (by omega) z; omega
    have g6 : ¬ nI k = 6 := fun z => by have : k = 6 := nI_inj (by omega) (by omega) z; omega
    rw [if_neg g3, if_neg g4, if_neg g5, if_neg g6]
    obtain ⟨v, ξ1, σ1, R1, z1, z2, z3, z4⟩ := hatTells_both (N := N) ho' x h (by omega)
    rw [z2, bnd_ok]
    refine ⟨v, ξ1, σ1, R1, ?_, rfl, z3, by omega⟩
    rcases h7 with rfl | rfl | rfl <;> exact z1
theorem Cp_Bp {g : XG} {ξ0 ξ : XS} {σ0 σ : MS} {R : Nat} (hC : Cp g ξ0 σ0) (h : Bp ξ0 σ0 ξ σ R) : Cp g ξ σ := by
  obtain ⟨h1, h2, h3, h4, h5, h6, h7, h8, h9, h10, h11, h12⟩ := h
  have hC2 : Cp g (sXF (sXC ξ0 310 (xR ξ 310)) 311 (nI R)) (sF (sRw σ0 73 (gR σ 73)) 72 (nI R)) := by
    obtain ⟨H, A, D, S, B, T, F, R0, wk, wi, hq, hr, hn, hs, hc, hrow, hby, hbw, hobj, hrw, hrd, hah, htx, hthe, htown, htr, htp, htd, him⟩ := hC
    exact ⟨H, A, D, S, B, T, F, R, wk, wi, hq, hr, hn, hs, hc, hrow, hby, hbw, hobj, hrw, hrd, hah, htx, hthe, htown, ⟨h9, rfl, rfl, h12⟩, htp, htd, him⟩
  refine Cp_keep hC2 ⟨fun k _ => ?_, fun k _ => ?_, ⟨by rw [h3]; rfl, by rw [h3]; rfl⟩, by rw [h4]; rfl, fun a e he => by rw [h5]; exact he, fun z => ?_⟩ ⟨fun k _ => ?_, fun k _ => ?_, fun i _ => ?_, fun i _ => ?_, by rw [h8]; rfl⟩
  · rw [xF_sXF]
    by_cases e : k = 311
    · rw [if_pos e, e, h10]
    · rw [if_neg e, xF_sXC, h1 k e]
  · rw [xR_sXF, xR_sXC]
    by_cases e : k = 310
    · rw [if_pos e, e]
    · rw [if_neg e, h2 k e]
  · rw [h2 22 (by omega)]; exact z
  · rw [gF_sF]
    by_cases e : k = 72
    · rw [if_pos e, e, h11]
    · rw [if_neg e, gF_sRw, h6 k e]
  · rw [gR_sF, gR_sRw]
    by_cases e : k = 73
    · rw [if_pos e, e]
    · rw [if_neg e, h7 k e]
  · rw [h7 5 (by omega)]; rfl
  · rw [h7 11 (by omega)]; rfl
theorem op_37 {N : Nat} (hN : 1000 ≤ N) (g : XG) : OP_37 N g (Cp g) := by
  intro a1 a2 a3 ξ σ hC
  obtain ⟨H, A, D, S, B, T, F, R, wk, wi, hq, hr, hn, hs, hc, hrow, hby, hbw, hobj, hrw, hrd, hah, htx, hthe, htown, htr, htp, htd, him⟩ := id hC
  have eH : xF ξ 202 = nI H := hs.1.trans hn.1
  have eH2 : gF σ 0 = nI H := hn.1
  have eA : xF ξ 4 = nI A := hs.2.1.trans hn.2.1
  have eA2 : gF σ 1 = nI A := hn.2.1
  have eD : xF ξ 203 = nI D := hs.2.2.1.trans hn.2.2.1
  have eD2 : gF σ 2 = nI D := hn.2.2.1
  have eS : xF ξ 18 = nI S := hs.2.2.2.1.trans hn.2.2.2.1
  have eS2 : gF σ 43 = nI S := hn.2.2.2.1
  have eB : xF ξ 19 = nI B := hs.2.2.2.2.trans hn.2.2.2.2
  have eB2 : gF σ 47 = nI B := hn.2.2.2.2
  have lH : H ≤ 6 := hc.1
  have lA : A ≤ 6 := hc.2.1
  have lD : D ≤ 9999 := hc.2.2.1
  have lS : S ≤ 6 := hc.2.2.2.1
  have lB : B ≤ 8 := hc.2.2.2.2.1
  obtain ⟨lT, eT2, eT, lF, eF2, eF, htxt, hlet, hmu⟩ := id htx
  obtain ⟨lR, eR2, eR, hbod⟩ := id htr
  obtain ⟨c1, c2, c3, c4, c5, c6, c7, c8, c9, c10, c11⟩ := id hc
  have hB0 : Bp ξ σ (sXF ξ 311 0) (sF σ 72 0) 0 := by
    refine ⟨fun j hj => ?_, fun _ _ => rfl, rfl, rfl, rfl, fun j hj => ?_, fun _ _ => rfl, rfl, by omega, rfl, rfl, hbod⟩
    · rw [xF_sXF, if_neg hj]
    · rw [gF_sF, if_neg hj]
  unfold x0_act m_act
  have eA' : xF (sXF ξ 311 0) 4 = nI A := eA
  have eA2' : gF (sF σ 72 0) 1 = nI A := eA2
  simp only [nx_ok, x0_isHat_eq, m_isHat_eq, x0_in_eq, m_in_eq, bnd_ok, b0, eA', eA2']
  by_cases h1 : 0 ≤ a1 ∧ a1 ≤ nI A - 1
  · by_cases h2 : 0 ≤ a2 ∧ a2 ≤ 2
    · obtain ⟨a, ha, rfl⟩ := isHat_k lA h1
      have ha6 : a < 6 := by omega
      obtain ⟨q1, q2⟩ := hobj a ha
      obtain ⟨k, hk, ek, ek2⟩ := kd6 (c8 a ha).1
      rw [ek2] at q2
      have ho : Ho g ξ σ (hq a) k a := ⟨_, _, _, hk, ha6, ek, q2⟩
      simp only [h1, h2, and_self, not_true, if_false, in6 ha6, if_true, cl6 ha6, xQ_sXF, q1, bno_ok]
      by_cases e0 : a2 = 0
      · simp only [e0, if_true]
        obtain ⟨v, ξ1, σ1, R1, z1, z2, z3, z4⟩ := sits_both (N := N) ho a3 hB0 (by omega)
        rw [z1, z2, bnd_ok, bnd_ok]
        exact ⟨_, _, _, rfl, rfl, Cp_Bp hC z3⟩
      · by_cases e1 : a2 = 1
        · simp only [e1, if_true, show ¬ (1 : Int32) = 0 by decide, if_false]
          obtain ⟨v, ξ1, σ1, R1, z1, z2, z3, z4⟩ := does_both (N := N) ho a3 hB0 (by omega)
          rw [z1, z2, bnd_ok, bnd_ok]
          exact ⟨_, _, _, rfl, rfl, Cp_Bp hC z3⟩
        · simp only [e0, e1, if_false]
          obtain ⟨v, ξ1, σ1, R1, z1, z2, z3, z4⟩ := tells_both (N := N) ho a3 hB0 (by omega)
          rw [z1, z2, bnd_ok, bnd_ok]
          exact ⟨_, _, _, rfl, rfl, Cp_Bp hC z3⟩
    · exact ⟨0, _, _, by simp only [h1, h2, and_self, not_true, if_false, not_false_iff, if_true], by simp only [h1, h2, and_self, not_true, if_false, not_false_iff, if_true], Cp_Bp hC hB0⟩
  · exact ⟨0, _, _, by simp only [h1, not_false_iff, if_true], by simp only [h1, not_false_iff, if_true], Cp_Bp hC hB0⟩
