/-! PURE: judge, shift -/
set_option maxRecDepth 100000
theorem lgEq {x y : Int64} : (lg_cmp x y = 0) ↔ x = y := by
  unfold lg_cmp
  by_cases h1 : x > y
  · simp only [h1, if_true]
    refine ⟨fun h => absurd h (by decide), fun h => ?_⟩
    subst h
    exact absurd h1 (Int64.lt_irrefl)
  · simp only [h1, if_false]
    by_cases h2 : x = y
    · simp [h2]
    · simp [h2]
theorem lgGe {x y : Int64} : (0 ≤ lg_cmp x y) ↔ y ≤ x := by
  unfold lg_cmp
  by_cases h1 : x > y
  · simp only [h1, if_true]
    exact ⟨fun _ => Int64.le_of_lt h1, fun _ => by decide⟩
  · simp only [h1, if_false]
    by_cases h2 : x = y
    · simp only [h2, if_true]
      exact ⟨fun _ => Int64.le_refl y, fun _ => by decide⟩
    · simp only [h2, if_false]
      refine ⟨fun h => absurd h (by decide), fun h => absurd (Int64.le_antisymm (Int64.not_lt.mp h1) h) h2⟩
theorem i64sum {x : Int32} {h : Nat} (hh : h < 6) : (x.toInt64 + (nI h).toInt64).toInt = x.toInt + h := by
  have h1 := Int32.toInt_lt x
  have h2 := Int32.le_toInt x
  rw [Int64.toInt_add, Int32.toInt_toInt64, Int32.toInt_toInt64, nI_toInt (by omega), Int.bmod_eq_of_le (by omega) (by omega)]
theorem toI64_inj {x y : Int32} : x.toInt64 = y.toInt64 ↔ x = y := by
  refine ⟨fun h => ?_, fun h => by rw [h]⟩
  have := congrArg Int64.toInt h
  rw [Int32.toInt_toInt64, Int32.toInt_toInt64] at this
  exact Int32.toInt_inj.mp this
set_option maxHeartbeats 2000000 in
theorem op_34 {N : Nat} (hN : 1000 ≤ N) (g : XG) (hd : xcD g) : OP_34 N g (Cp g) := by
  intro a1 a2 ξ σ hC
  obtain ⟨A, H, D, T, wk, hq, hr, hT, eA, eA2, hby, hin, lD, hus⟩ := Cp_all hC
  have lH : H ≤ 6 := hT.1.2.1
  have eH2 := hT.2.1
  have eH : xF ξ 202 = nI H := hT.2.2.1
  have e3 : eqN 6 (xR ξ 200) (gR σ 5) := hT.2.2.2.1
  have htp : cTape g (dE ξ) (xo ξ) (gR σ 74) (gR σ 75) (gJ σ 76) := by
    obtain ⟨H, A, D, S, B, T, F, R, wk, wi, hq, hr, hn, hs, hc, hrow, hby, hbw, hobj, hrw, hrd, hah, htx, hthe, htown, htr, htp, -⟩ := hC
    exact htp
  unfold m_judge y0_judge
  simp only [x0_isTape_eq, m_isTape_eq, bnd_ok, bndp_ok, b0]
  by_cases h1 : 0 ≤ a1 ∧ a1 ≤ 5
  · obtain ⟨t, ht, rfl⟩ := rg_of (n := 5) (by omega) h1.1 h1.2
    have ht6 : t < 6 := by omega
    simp only [h1, and_self, not_true, if_false, in6 ht6, cl6 ht6, if_true]
    rcases htp t ht6 with ⟨e1, e2⟩ | ⟨s, n, r, e, y1, y2, y3, y4, y5, y6, y7⟩
    · -- no row
      have hle : gR σ 74 t ≤ 0 := by rw [e1]; decide
      simp only [hle, if_true, e2, show okRow g ξ none = true from rfl, show canA g ξ none 1 = true from rfl, nx_ok]
      have key0 : ∀ k, 0 < k → ∃ v, m_judge_24 N k (nI t) a2 0 σ = some (v, σ) ∧ ∀ (K : Int32 → XS → Prop), K v ξ → y0_firstOther_2 N g K k none a2 0 ξ 9000 110000 := by
        intro k hk
        obtain ⟨k, rfl⟩ : ∃ k', k = k' + 1 := ⟨k - 1, by omega⟩
        by_cases hH : H = 0
        · refine ⟨-5, ?_, fun K hK => ?_⟩
          · show m_judge_24b N (m_judge_24 N k) (nI t) a2 0 σ = _
            unfold m_judge_24b
            rw [eH2, hH, if_pos (show nI 0 ≤ 0 by decide)]
          · show y0_firstOther_2b N g K (y0_firstOther_2 N g K k) none a2 0 ξ 9000 110000
            unfold y0_firstOther_2b
            rw [eH, hH, if_pos (show nI 0 ≤ 0 by decide)]
            exact hK
        · have hH0 : ¬ nI H ≤ 0 := nI_ge (a := 0) (by omega) (by omega)
          refine ⟨100, ?_, fun K hK => ?_⟩
          · show m_judge_24b N (m_judge_24 N k) (nI t) a2 0 σ = _
            unfold m_judge_24b
            rw [eH2, if_neg hH0, if_pos (in6 ht6), cl6 ht6, e1, if_pos (by decide)]
            rfl
          · show y0_firstOther_2b N g K (y0_firstOther_2 N g K k) none a2 0 ξ 9000 110000
            unfold y0_firstOther_2b
            rw [eH, if_neg hH0]
            exact ⟨by omega, by omega, fun q => hK⟩
      obtain ⟨v, z1, z2⟩ := key0 N (by omega)
      exact ⟨v, σ, z1, 9000, 110000, by omega, by omega, z2 _ ⟨rfl, hC⟩⟩
    · obtain ⟨t1, t2, t3⟩ := t_ok hd y1 y6 y7
      have hcan : canA g ξ (some r) 1 = decide (tCls s = 1) := by
        unfold canA
        simp only [t2 1 (by omega)]
        by_cases q : tCls s = 1 <;> simp [q]
      simp only [y5, t1, if_true, hcan]
      by_cases hs0 : s = 0
      · subst hs0
        have hle : gR σ 74 t ≤ 0 := by rw [y3]; decide
        simp only [hle, if_true, show decide (tCls 0 = 1) = true by decide, nx_ok]
        rcases y7 with ⟨z, -⟩ | ⟨-, f, rfl, hf⟩
        · cases z
        have hL : dLen ξ r (xc g 1) = some n := by rw [t3 1 (by omega)]; rfl
        have hA : dA ξ r (xc g 1) = some (n, f) := by simp [dA, y6, tCls]
        have h74 : ¬ gR σ 74 t < 0 := by rw [y3]; decide
        have key : ∀ (m h k : Nat), m + h = H → m < k → (h = 0 ∨ 0 ≤ a2) → ∃ v, m_judge_24 N k (nI t) a2 (nI h) σ = some (v, σ) ∧ ∀ (K : Int32 → XS → Prop), (∀ ξ1, keepX ξ ξ1 → K v ξ1) → y0_firstOther_2 N g K k (some r) a2 (nI h) ξ 9000 110000 := by
          intro m
          induction m with
          | zero =>
            intro h k hh hk _
            obtain ⟨k, rfl⟩ : ∃ k', k = k' + 1 := ⟨k - 1, by omega⟩
            refine ⟨-5, ?_, fun K hK => ?_⟩
            · show m_judge_24b N (m_judge_24 N k) (nI t) a2 (nI h) σ = _
              unfold m_judge_24b
              rw [eH2, if_pos (nI_le (by omega) (by omega))]
            · show y0_firstOther_2b N g K (y0_firstOther_2 N g K k) (some r) a2 (nI h) ξ 9000 110000
              unfold y0_firstOther_2b
              rw [eH, if_pos (nI_le (by omega) (by omega))]
              exact hK ξ (keepX_refl ξ)
          | succ m ih =>
            intro h k hh hk h0
            obtain ⟨k, rfl⟩ : ∃ k', k = k' + 1 := ⟨k - 1, by omega⟩
            have hh6 : h < 6 := by omega
            have hsum := i64sum (x := a2) hh6
            have hoff : ∀ (K : Int32 → XS → Prop), (∀ ξ1, keepX ξ ξ1 → K (100 + nI h) ξ1) → mkOff ξ (-13) 9000 110000 (fun q_5 s_7 => if isC s_7 q_5 16 16 = true then K (nI h + 100) s_7 else False) := by
              intro K hK
              refine ⟨by omega, by omega, fun q fs hq hl hv => ?_⟩
              simp only [(off_dI hl hv).2, if_true]
              rw [Int32.add_comm]
              exact hK _ (keepX_pXd hq)
            have hge : (0 ≤ lg_cmp (a2.toInt64 + (nI h).toInt64) ((Int32.ofNat n).toInt64)) ↔ (n : Int) ≤ a2.toInt + h := by
              rw [lgGe, Int64.le_iff_toInt_le, hsum, show Int32.ofNat n = nI n from rfl, Int32.toInt_toInt64, nI_toInt (by omega)]
            have hge0 : (0 ≤ lg_cmp (a2.toInt64 + (nI h).toInt64) 0) ↔ 0 ≤ a2.toInt + h := by
              rw [lgGe, Int64.le_iff_toInt_le, hsum, show (0 : Int64).toInt = 0 by decide]
            by_cases hneg : a2 < 0
            · have hz : h = 0 := h0.resolve_right (Int32.not_le.mpr hneg)
              subst hz
              have hn := Int32.lt_iff_toInt_lt.mp hneg
              rw [show (0 : Int32).toInt = 0 by decide] at hn
              refine ⟨100 + nI 0, ?_, fun K hK => ?_⟩
              · show m_judge_24b N (m_judge_24 N k) (nI t) a2 (nI 0) σ = _
                unfold m_judge_24b
                rw [eH2, if_neg (nI_ge (by omega) (by omega)), if_pos (in6 ht6), cl6 ht6, if_neg h74, if_pos hneg]
              · show y0_firstOther_2b N g K (y0_firstOther_2 N g K k) (some r) a2 (nI 0) ξ 9000 110000
                unfold y0_firstOther_2b
                rw [eH, if_neg (nI_ge (by omega) (by omega)), nx_ok]
                show bnop (dLen ξ r (xc g 1)) _
                rw [hL, bnop_ok, if_neg (fun z => by have := hge.mp z; omega), if_neg (fun z => by have := hge0.mp z; omega)]
                exact hoff K hK
            · have hnn : 0 ≤ a2 := Int32.not_lt.mp hneg
              have hn0 := Int32.le_iff_toInt_le.mp hnn
              rw [show (0 : Int32).toInt = 0 by decide] at hn0
              have hub := Int32.toInt_lt a2
              have hcmp : (a2 ≤ nI n - nI h - 1) ↔ a2.toInt + h < n := by
                have q1 : (nI n - nI h).toInt = (n : Int) - h := by
                  rw [Int32.toInt_sub, nI_toInt (by omega), nI_toInt (by omega), Int.bmod_eq_of_le (by omega) (by omega)]
                rw [Int32.le_iff_toInt_le, Int32.toInt_sub, q1, show (1 : Int32).toInt = 1 by decide, Int.bmod_eq_of_le (by omega) (by omega)]
                omega
              by_cases hlt : a2.toInt + h < n
              · obtain ⟨i, hi, rfl⟩ := i32_nat (x := a2) (n := 60) (by omega) hnn (by rw [Int32.lt_iff_toInt_lt, nI_toInt (by omega)]; omega)
                rw [nI_toInt (by omega)] at hlt
                have hix : (60 : Int32) * nI t + nI i + nI h = nI (60 * t + (i + h)) := by
                  rw [ix60, show 60 * t + (i + h) = 60 * t + i + h by omega]; exact (Int32.ofNat_add _ _).symm
                have hx4 : (nI i).toInt64 + (nI h).toInt64 = nJ (i + h) := by rw [nI_nJ (by omega), nI_nJ (by omega), nJ_add]
                have hx32 : (nJ (i + h)).toInt32 = nI (i + h) := by
                  apply Int32.toInt_inj.mp
                  rw [Int64.toInt_toInt32, nJ_toInt (by omega), nI_toInt (by omega), Int.bmod_eq_of_le (by omega) (by omega)]
                have hval : (lg_cmp (gJ σ 76 (60 * t + (i + h))) ((gR σ 5 h).toInt64) = 0) ↔ f (i + h) = gR σ 5 h := by
                  rw [lgEq, ← (show (f (i + h)).toInt64 = gJ σ 76 (60 * t + (i + h)) from (hf (i + h) (by omega)).1), toI64_inj]
                have hM : m_judge_24 N (k + 1) (nI t) (nI i) (nI h) σ = if f (i + h) = gR σ 5 h then m_judge_24 N k (nI t) (nI i) (nI (h + 1)) σ else some (nI h, σ) := by
                  show m_judge_24b N (m_judge_24 N k) (nI t) (nI i) (nI h) σ = _
                  unfold m_judge_24b
                  rw [eH2, if_neg (nI_ge (by omega) (by omega)), if_pos (in6 ht6), cl6 ht6, if_neg h74, if_neg hneg, if_pos (in6 ht6), y4, if_pos (hcmp.mpr (by rw [nI_toInt (by omega)]; exact hlt)), hix, if_pos (inN (by omega) (show 60 * t + (i + h) < 360 by omega)), if_pos (in6 hh6), cl6 hh6, nI_clamp (by omega)]
                  simp only [hval, nx_ok, nI_1]
                have hX : ∀ K, y0_firstOther_2 N g K (k + 1) (some r) (nI i) (nI h) ξ 9000 110000 = if f (i + h) = gR σ 5 h then y0_firstOther_2 N g K k (some r) (nI i) (nI (h + 1)) ξ 9000 110000 else K (nI h) ξ := by
                  intro K
                  show y0_firstOther_2b N g K (y0_firstOther_2 N g K k) (some r) (nI i) (nI h) ξ 9000 110000 = _
                  unfold y0_firstOther_2b
                  rw [eH, if_neg (nI_ge (by omega) (by omega)), nx_ok]
                  show bnop (dLen ξ r (xc g 1)) _ = _
                  rw [hL]
                  apply propext
                  rw [bnop_ok, if_neg (fun z => by have := hge.mp z; rw [nI_toInt (by omega)] at this; omega), if_pos (hge0.mpr (by rw [nI_toInt (by omega)]; omega)), hA, bndp_ok, hx4, hx32, if_pos (inN (by omega) (by omega)), if_pos (in6 hh6), cl6 hh6, nI_clamp (by omega), e3 h hh6]
                  simp only [nx_ok, nI_1]
                by_cases q : f (i + h) = gR σ 5 h
                · obtain ⟨v, z1, z2⟩ := ih (h + 1) k (by omega) (by omega) (Or.inr hnn)
                  refine ⟨v, by rw [hM, if_pos q]; exact z1, fun K hK => ?_⟩
                  rw [hX, if_pos q]
                  exact z2 K hK
                · refine ⟨nI h, by rw [hM, if_neg q], fun K hK => ?_⟩
                  rw [hX, if_neg q]
                  exact hK ξ (keepX_refl ξ)
              · refine ⟨100 + nI h, ?_, fun K hK => ?_⟩
                · show m_judge_24b N (m_judge_24 N k) (nI t) a2 (nI h) σ = _
                  unfold m_judge_24b
                  rw [eH2, if_neg (nI_ge (by omega) (by omega)), if_pos (in6 ht6), cl6 ht6, if_neg h74, if_neg hneg, if_pos (in6 ht6), y4, if_neg (fun z => hlt (hcmp.mp z))]
                · show y0_firstOther_2b N g K (y0_firstOther_2 N g K k) (some r) a2 (nI h) ξ 9000 110000
                  unfold y0_firstOther_2b
                  rw [eH, if_neg (nI_ge (by omega) (by omega)), nx_ok]
                  show bnop (dLen ξ r (xc g 1)) _
                  rw [hL, bnop_ok, if_pos (hge.mpr (by omega))]
                  exact hoff K hK
        obtain ⟨v, z1, z2⟩ := key H 0 N (by omega) (by omega) (Or.inl rfl)
        refine ⟨v, σ, z1, 9000, 110000, by omega, by omega, ?_⟩
        unfold y0_firstOther
        rw [nx_ok]
        exact z2 _ (fun ξ1 kx => ⟨rfl, Cp_keep hC kx (keepM_refl σ)⟩)
      · have hgt : ¬ gR σ 74 t ≤ 0 := by rw [y3]; exact nI_ge (a := 0) (by omega) (by omega)
        have hc1 : ¬ tCls s = 1 := by
          have h7 : s = 1 ∨ s = 2 ∨ s = 3 ∨ s = 4 := by omega
          rcases h7 with rfl | rfl | rfl | rfl <;> decide
        simp only [hgt, if_false, hc1, decide_false, Bool.false_eq_true]
        exact ⟨-12, σ, rfl, by omega, by omega, fun q => ⟨rfl, hC⟩⟩
  · exact ⟨-1, σ, by simp [h1], by simp [h1, hC]⟩
