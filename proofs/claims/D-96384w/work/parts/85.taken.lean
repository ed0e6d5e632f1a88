/-! PURE: taken -/
set_option maxRecDepth 100000
def famT (j : Nat) : List Nat := if j = 0 then [8, 9, 10, 11, 12, 13, 14] else if j = 1 then [9, 12] else if j = 2 then [10, 13] else if j = 3 then [11, 14] else if j = 4 then [12] else if j = 5 then [13] else [14]
theorem takenFor_eq {N : Nat} {g : XG} {x0 : Option Nat} {j : Nat} (hj : j ≤ 6) {ξ : XS} {mc ms : Nat} {K : Option Nat → XS → Prop} {KX : String → Nat → XS → Prop} (hok : okH ξ x0 = true) (h : if canH ξ x0 (famT j) = true then K x0 ξ else mkX 3 850 mc ms (fun q => KX "java/lang/ClassCastException" q ξ)) : y0_takenFor N g x0 (nI j) ξ mc ms K KX := by
  unfold y0_takenFor
  rw [if_pos hok, if_pos hok, if_pos hok, if_pos hok, if_pos hok, if_pos hok, if_pos hok]
  have h7 : j = 0 ∨ j = 1 ∨ j = 2 ∨ j = 3 ∨ j = 4 ∨ j = 5 ∨ j = 6 := by omega
  rcases h7 with rfl | rfl | rfl | rfl | rfl | rfl | rfl
  · rw [if_pos (show nI 0 = 0 by decide)]; exact h
  · rw [if_neg (show ¬ nI 1 = 0 by decide), if_pos (show nI 1 = 1 by decide)]; exact h
  · rw [if_neg (show ¬ nI 2 = 0 by decide), if_neg (show ¬ nI 2 = 1 by decide), if_pos (show nI 2 = 2 by decide)]; exact h
  · rw [if_neg (show ¬ nI 3 = 0 by decide), if_neg (show ¬ nI 3 = 1 by decide), if_neg (show ¬ nI 3 = 2 by decide), if_pos (show nI 3 = 3 by decide)]; exact h
  · rw [if_neg (show ¬ nI 4 = 0 by decide), if_neg (show ¬ nI 4 = 1 by decide), if_neg (show ¬ nI 4 = 2 by decide), if_neg (show ¬ nI 4 = 3 by decide), if_pos (show nI 4 = 4 by decide)]; exact h
  · rw [if_neg (show ¬ nI 5 = 0 by decide), if_neg (show ¬ nI 5 = 1 by decide), if_neg (show ¬ nI 5 = 2 by decide), if_neg (show ¬ nI 5 = 3 by decide), if_neg (show ¬ nI 5 = 4 by decide), if_pos (show nI 5 = 5 by decide)]; exact h
  · rw [if_neg (show ¬ nI 6 = 0 by decide), if_neg (show ¬ nI 6 = 1 by decide), if_neg (show ¬ nI 6 = 2 by decide), if_neg (show ¬ nI 6 = 3 by decide), if_neg (show ¬ nI 6 = 4 by decide), if_neg (show ¬ nI 6 = 5 by decide)]; exact h
theorem m_taken_v (j k : Fin 7) : ∀ (N : Nat) (σ : MS), (if nI j.1 = 0 then some (nI k.1, σ) else if nI k.1 = nI j.1 then some (nI k.1, σ) else if nI j.1 = 1 then if nI k.1 = 4 then some (nI k.1, σ) else m_taken_51 N (nI j.1) (nI k.1) σ else m_taken_51 N (nI j.1) (nI k.1) σ) = some (if 8 + k.1 ∈ famT j.1 then nI k.1 else -12, σ) := by
  intro N σ
  unfold m_taken_51 m_taken_61
  have h9 : ∀ j k : Fin 7, (if nI j.1 = 0 then nI k.1 else if nI k.1 = nI j.1 then nI k.1 else if nI j.1 = 1 then (if nI k.1 = 4 then nI k.1 else if nI j.1 = 2 then (if nI k.1 = 5 then nI k.1 else if nI j.1 = 3 then (if nI k.1 = 6 then nI k.1 else -12) else -12) else if nI j.1 = 3 then (if nI k.1 = 6 then nI k.1 else -12) else -12) else if nI j.1 = 2 then (if nI k.1 = 5 then nI k.1 else if nI j.1 = 3 then (if nI k.1 = 6 then nI k.1 else -12) else -12) else if nI j.1 = 3 then (if nI k.1 = 6 then nI k.1 else -12) else -12) = (if 8 + k.1 ∈ famT j.1 then nI k.1 else -12) := by decide +kernel
  rw [← h9 j k]
  repeat' split
  all_goals rfl
theorem op_39 {N : Nat} (hN : 1000 ≤ N) (g : XG) : OP_39 N g (Cp g) := by
  intro a1 a2 ξ σ hC
  obtain ⟨H, A, D, S, B, T, F, R, wk, wi, hq, hr, hn, hs, hc, hrow, hby, hbw, hobj, hrw, hrd, hah, htx, hthe, htown, htr, htp, htd, him⟩ := id hC
  have eH : xF ξ 202 = nI H := hs.1.trans hn.1
  have eH2 : gF σ 0 = nI H := hn.1
  have eA : xF ξ 4 = nI A := hs.2.1.trans hn.2.1
  have eA2 : gF σ 1 = nI A := hn.2.1
  have eD : xF ξ 203 = nI D := hs.2.2.1.trans hn.2.2.1
  have eD2 : gF σ 2 = nI D := hn.2.2.1
  have eS : xF ξ 18 = nI S := hs.2.2.2.1.trans hn.2.2.2.1
  have eS2 : gF σ 43 = nI S := hn.2.2.2.1
  have eB : xF ξ 19 = nI B := hs.2.2.2.2.trans hn.2.2.2.2
  have eB2 : gF σ 47 = nI B := hn.2.2.2.2
  have lH : H ≤ 6 := hc.1
  have lA : A ≤ 6 := hc.2.1
  have lD : D ≤ 9999 := hc.2.2.1
  have lS : S ≤ 6 := hc.2.2.2.1
  have lB : B ≤ 8 := hc.2.2.2.2.1
  obtain ⟨lT, eT2, eT, lF, eF2, eF, htxt, hlet, hmu⟩ := id htx
  obtain ⟨lR, eR2, eR, hbod⟩ := id htr
  obtain ⟨c1, c2, c3, c4, c5, c6, c7, c8, c9, c10, c11⟩ := id hc
  unfold m_taken y0_taken
  simp only [x0_isHat_eq, m_isHat_eq, x0_in_eq, m_in_eq, bnd_ok, bndp_ok, b0, eA, eA2]
  by_cases h2 : 0 ≤ a2 ∧ a2 ≤ 6
  · obtain ⟨j, hj, rfl⟩ := rg_of (n := 6) (by omega) h2.1 h2.2
    simp only [h2, and_self, not_true, if_false]
    by_cases h1 : 0 ≤ a1 ∧ a1 ≤ nI A - 1
    · obtain ⟨a, ha, rfl⟩ := isHat_k lA h1
      have ha6 : a < 6 := by omega
      obtain ⟨q1, q2⟩ := hobj a ha
      obtain ⟨k, hk, ek, ek2⟩ := kd6 (c8 a ha).1
      rw [ek2] at q2
      obtain ⟨t0, t1, t2, t3, t4, t5⟩ := hat_at hk q2
      simp only [h1, and_self, not_true, if_false, in6 ha6, if_true, cl6 ha6, nx_ok, q1, bnop_ok, ek]
      have hm := m_taken_v ⟨j, by omega⟩ ⟨k, by omega⟩ N σ
      simp only at hm
      rw [hm]
      refine ⟨_, σ, rfl, 9000, 110000, by omega, by omega, takenFor_eq hj (show okH ξ (some (hq a)) = true from t5) ?_⟩
      have hcan : canH ξ (some (hq a)) (famT j) = decide (8 + k ∈ famT j) := by simp [canH, isH, t4]
      rw [hcan]
      by_cases q : 8 + k ∈ famT j
      · simp only [q, decide_true, if_true]
        show bndp (xv_kind N g (hq a) ξ) _
        rw [hat_kind hk q2, bndp_ok]
        exact ⟨rfl, hC⟩
      · simp only [q, decide_false, Bool.false_eq_true, if_false]
        exact ⟨by omega, by omega, fun q => ⟨trivial, trivial, hC⟩⟩
    · simp only [h1, not_false_iff, if_true]
      refine ⟨-11, σ, rfl, 100, 2000, by omega, by omega, takenFor_eq hj rfl ?_⟩
      rw [if_pos (show canH ξ none (famT j) = true from rfl)]
      exact ⟨by omega, by omega, fun q => ⟨rfl, hC⟩⟩
  · exact ⟨-2, σ, by simp [h2], by simp [h2, hC]⟩
