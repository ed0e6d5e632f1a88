/-! PURE: looked, told, how, row -/
set_option maxRecDepth 100000
theorem m_looked_2_eq (N : Nat) (σ : MS) {B H A : Nat} (eB : gF σ 47 = nI B) (lB : B ≤ 8) (lH : H ≤ 6) (c11 : cBook B A H (gR σ 48) (gR σ 49)) : ∀ (n c k : Nat), n + c = B → n < k → m_looked_2 N k (nI c) σ = some (optI (fi (fun i => !decide (gR σ 5 (gR σ 49 i).toNatClampNeg = gR σ 48 i)) n c) (-5), σ) := by
  intro n
  induction n with
  | zero =>
    intro c k hc hk
    obtain ⟨k, rfl⟩ : ∃ k', k = k' + 1 := ⟨k - 1, by omega⟩
    show m_looked_2b N (m_looked_2 N k) (nI c) σ = _
    unfold m_looked_2b
    rw [eB, if_pos (nI_le (by omega) (by omega))]
    rfl
  | succ n ih =>
    intro c k hc hk
    obtain ⟨k, rfl⟩ : ∃ k', k = k' + 1 := ⟨k - 1, by omega⟩
    show m_looked_2b N (m_looked_2 N k) (nI c) σ = _
    unfold m_looked_2b
    obtain ⟨-, h, hh, e⟩ := c11 c (by omega)
    rw [eB, if_neg (nI_ge (by omega) (by omega)), if_pos (inN (by omega) (by omega)), nI_clamp (by omega), e, if_pos (in6 (by omega)), if_pos (inN (by omega) (by omega)), ← e]
    by_cases h9 : gR σ 5 (gR σ 49 c).toNatClampNeg = gR σ 48 c
    · simp only [h9, if_true, bnd_ok, bnv_ok, bno_ok, nx_ok, nI_1]
      rw [ih (c + 1) k (by omega) (by omega)]
      simp [fi, h9]
    · simp [h9, fi, optI]
theorem x0_looked_2_eq {N : Nat} (hN : 1000 ≤ N) (g : XG) (ξ : XS) {B H : Nat} {wo bw bo : Nat → Int32} (eB : xF ξ 19 = nI B) (lB : B ≤ 8) (eH : xF ξ 202 = nI H) (lH : H ≤ 6) (r3 : eqN 6 (xR ξ 200) wo) (r9 : eqN 8 (xR ξ 16) bw) (r10 : eqN 8 (xR ξ 17) bo) : ∀ (n c k : Nat), n + c = B → n < k → x0_looked_2 N g k (nI c) ξ = some (optI (fi (fun i => !decide (optI (hdOf wo H (bw i)) (-1) = bo i)) n c) (-5), ξ) := by
  intro n
  induction n with
  | zero =>
    intro c k hc hk
    obtain ⟨k, rfl⟩ : ∃ k', k = k' + 1 := ⟨k - 1, by omega⟩
    show x0_looked_2b N g (x0_looked_2 N g k) (nI c) ξ = _
    unfold x0_looked_2b
    rw [eB, if_pos (nI_le (by omega) (by omega))]
    rfl
  | succ n ih =>
    intro c k hc hk
    obtain ⟨k, rfl⟩ : ∃ k', k = k' + 1 := ⟨k - 1, by omega⟩
    show x0_looked_2b N g (x0_looked_2 N g k) (nI c) ξ = _
    unfold x0_looked_2b
    rw [eB, if_neg (nI_ge (by omega) (by omega)), if_pos (inN (by omega) (by omega)), nI_clamp (by omega), r9 c (by omega), x1_headOf_eq hN g 0 ξ eH lH wo r3 (bw c)]
    simp only [bnd_ok, bnv_ok, bno_ok, nx_ok, inN (show 8 < 2 ^ 31 by omega) (show c < 8 by omega), if_true, r10 c (by omega), nI_1]
    by_cases h9 : optI (hdOf wo H (bw c)) (-1) = bo c
    · simp only [h9, if_true]
      rw [ih (c + 1) k (by omega) (by omega)]
      simp [fi, h9]
    · simp only [h9, if_false, fi, decide_false, Bool.not_false, if_true]
      rfl
theorem op_33 {N : Nat} (hN : 1000 ≤ N) (g : XG) : OP_33 N g (Cp g) := by
  intro ξ σ hC
  obtain ⟨H, A, D, S, B, T, F, R, wk, wi, hq, hr, hn, hs, hc, hrow, hby, hbw, hobj, hrw, hrd, hah, htx, hthe, htown, htr, htp, htd, him⟩ := id hC
  have eH : xF ξ 202 = nI H := hs.1.trans hn.1
  have eH2 : gF σ 0 = nI H := hn.1
  have eA : xF ξ 4 = nI A := hs.2.1.trans hn.2.1
  have eA2 : gF σ 1 = nI A := hn.2.1
  have eD : xF ξ 203 = nI D := hs.2.2.1.trans hn.2.2.1
  have eD2 : gF σ 2 = nI D := hn.2.2.1
  have eS : xF ξ 18 = nI S := hs.2.2.2.1.trans hn.2.2.2.1
  have eS2 : gF σ 43 = nI S := hn.2.2.2.1
  have eB : xF ξ 19 = nI B := hs.2.2.2.2.trans hn.2.2.2.2
  have eB2 : gF σ 47 = nI B := hn.2.2.2.2
  have lH : H ≤ 6 := hc.1
  have lA : A ≤ 6 := hc.2.1
  have lD : D ≤ 9999 := hc.2.2.1
  have lS : S ≤ 6 := hc.2.2.2.1
  have lB : B ≤ 8 := hc.2.2.2.2.1
  obtain ⟨lT, eT2, eT, lF, eF2, eF, htxt, hlet, hmu⟩ := id htx
  obtain ⟨lR, eR2, eR, hbod⟩ := id htr
  obtain ⟨c1, c2, c3, c4, c5, c6, c7, c8, c9, c10, c11⟩ := id hc
  obtain ⟨r1, r2, r3, r4, r5, r6, r7, r8, r9, r10⟩ := id hrow
  refine ⟨_, ξ, σ, x0_looked_2_eq hN g ξ eB lB eH lH r3 r9 r10 B 0 N (by omega) (by omega), ?_, hC⟩
  have h := m_looked_2_eq N σ (A := A) eB2 lB lH c11 B 0 N (by omega) (by omega)
  rw [fi_cong B 0 (q := fun i => !decide (optI (hdOf (gR σ 5) H (gR σ 48 i)) (-1) = gR σ 49 i)) ?_] at h
  · exact h
  · intro i _ hi
    obtain ⟨⟨a, ha, e1⟩, j, hj, e2⟩ := c11 i (by omega)
    simp only [e2, cl6 (show j < 6 by omega), e1]
    congr 1
    rw [decide_eq_decide]
    constructor
    · intro e
      cases ho : hdOf (gR σ 5) H (nI a) with
      | none => exact absurd e (hdOf_none ho j hj)
      | some h' =>
        obtain ⟨hh, hv⟩ := hdOf_some ho
        have := c7 h' j hh hj (hv.trans e.symm) (by rw [hv]; exact nI_ne1 (by omega))
        rw [this]; rfl
    · intro e
      cases ho : hdOf (gR σ 5) H (nI a) with
      | none => rw [ho] at e; exact absurd e.symm (nI_ne1 (by omega))
      | some h' =>
        obtain ⟨hh, hv⟩ := hdOf_some ho
        rw [ho] at e
        have e3 : h' = j := (nI_eq (by omega) (by omega)).mp e
        rw [← e3]; exact hv
theorem nI_mul (a b : Nat) : nI a * nI b = nI (a * b) := (Int32.ofNat_mul a b).symm
theorem m_begin_eq (N : Nat) (σ : MS) {T : Nat} {cl wd nu as : Nat → Int32} (lT : T ≤ 6) (h : cThe T (gF σ 15) cl wd nu as) : m_begin N σ = some (nI (mBeg (gF σ 15)), σ) := by
  unfold m_begin
  rcases h with h | ⟨f, hf, e, -⟩
  · rw [h]; rfl
  · rw [e, if_pos (nI_pos' (by omega))]
    unfold mBeg
    rw [if_neg (nI_pos (by omega)), nI_clamp (by omega)]
    rw [show ((10 : Int32) * nI f) = nI (10 * f) from nI_mul 10 f]
theorem mCnt_of {T : Nat} {the : Int32} {cl wd nu as : Nat → Int32} (lT : T ≤ 6) (h : cThe T the cl wd nu as) : mCnt the cl ≤ 10 ∧ mBeg the ≤ 50 ∧ ∀ c, mBeg the ≤ c → c < mBeg the + mCnt the cl → rg (wd c) 3 ∧ rg (nu c) 99 ∧ rg (as c) 99 := by
  rcases h with h | ⟨f, hf, e, n, hn, en, hc⟩
  · subst h
    refine ⟨Nat.zero_le _, Nat.zero_le _, fun c h1 h2 => ?_⟩
    have : mCnt (-1) cl = 0 := rfl
    omega
  · have e1 : mBeg the = 10 * f := by unfold mBeg; rw [e, if_neg (nI_pos (by omega)), nI_clamp (by omega)]
    have e2 : mCnt the cl = n := by unfold mCnt; rw [e, if_neg (nI_pos (by omega)), nI_clamp (by omega), en, nI_clamp (by omega)]
    rw [e1, e2]
    exact ⟨hn, by omega, fun c h1 h2 => hc c h1 h2⟩
theorem m_behind_eq (N : Nat) (σ : MS) {T : Nat} {wd nu as : Nat → Int32} (lT : T ≤ 6) (h : cThe T (gF σ 15) (gR σ 20) wd nu as) : m_behind N σ = some (nI (mBeg (gF σ 15) + mCnt (gF σ 15) (gR σ 20)), σ) := by
  unfold m_behind
  rcases h with h | ⟨f, hf, e, n, hn, en, hc⟩
  · rw [h]; rfl
  · have e1 : mBeg (gF σ 15) = 10 * f := by unfold mBeg; rw [e, if_neg (nI_pos (by omega)), nI_clamp (by omega)]
    have e2 : mCnt (gF σ 15) (gR σ 20) = n := by unfold mCnt; rw [e, if_neg (nI_pos (by omega)), nI_clamp (by omega), en, nI_clamp (by omega)]
    rw [e1, e2, e, if_pos (nI_pos' (by omega)), if_pos (in6 (by omega)), cl6 (by omega), en]
    rw [show ((10 : Int32) * nI f) = nI (10 * f) from nI_mul 10 f, nI_add]
theorem m_moth_eq {N : Nat} (hN : 1000 ≤ N) (σ : MS) {T : Nat} {as : Nat → Int32} (lT : T ≤ 6) (h : cThe T (gF σ 15) (gR σ 20) (gR σ 21) (gR σ 22) as) : m_moth N σ = some (mothS (gR σ 21) (gR σ 22) (mCnt (gF σ 15) (gR σ 20)) (mBeg (gF σ 15)), σ) := by
  obtain ⟨l1, l2, -⟩ := mCnt_of lT h
  have hb := m_behind_eq N σ lT h
  have key : ∀ (n c k : Nat) (x : Int32), n + c = mBeg (gF σ 15) + mCnt (gF σ 15) (gR σ 20) → n < k → m_moth_7 N k x (nI c) σ = some (fo (fun c x => if gR σ 21 c = 2 then gR σ 22 c else x) n c x, σ) := by
    intro n
    induction n with
    | zero =>
      intro c k x hc hk
      obtain ⟨k, rfl⟩ : ∃ k', k = k' + 1 := ⟨k - 1, by omega⟩
      show m_moth_7b N (m_moth_7 N k) x (nI c) σ = _
      unfold m_moth_7b
      rw [hb, bnd_ok, if_pos (nI_le (by omega) (by omega))]
      rfl
    | succ n ih =>
      intro c k x hc hk
      obtain ⟨k, rfl⟩ : ∃ k', k = k' + 1 := ⟨k - 1, by omega⟩
      show m_moth_7b N (m_moth_7 N k) x (nI c) σ = _
      unfold m_moth_7b m_moth_35
      rw [hb, bnd_ok, if_neg (nI_ge (by omega) (by omega)), if_pos (inN (by omega) (by omega)), nI_clamp (by omega)]
      simp only [inN (show 60 < 2 ^ 31 by omega) (show c < 60 by omega), if_true, nx_ok, nI_1]
      by_cases h9 : gR σ 21 c = 2
      · simp only [h9, if_true]
        rw [ih (c + 1) k _ (by omega) (by omega)]
        simp [fo, h9]
      · simp only [h9, if_false]
        rw [ih (c + 1) k _ (by omega) (by omega)]
        simp [fo, h9]
  unfold m_moth
  rw [m_begin_eq N σ lT h]
  exact key (mCnt (gF σ 15) (gR σ 20)) (mBeg (gF σ 15)) N 0 (by omega) (by omega)
theorem m_work_eq {N : Nat} (hN : 1000 ≤ N) (σ : MS) {T : Nat} (lT : T ≤ 6) (h : cThe T (gF σ 15) (gR σ 20) (gR σ 21) (gR σ 22) (gR σ 23)) (t : Int32) : m_work N t σ = some (workS (gR σ 21) (gR σ 22) (gR σ 23) (mCnt (gF σ 15) (gR σ 20)) (mBeg (gF σ 15)) t, σ) := by
  obtain ⟨l1, l2, -⟩ := mCnt_of lT h
  have hb := m_behind_eq N σ lT h
  have key : ∀ (n c k : Nat) (x : Int32), n + c = mBeg (gF σ 15) + mCnt (gF σ 15) (gR σ 20) → n < k → m_work_8 N k t x (nI c) σ = some (fo (fun c x => if gR σ 21 c = 3 ∧ gR σ 22 c = t then gR σ 23 c else x) n c x, σ) := by
    intro n
    induction n with
    | zero =>
      intro c k x hc hk
      obtain ⟨k, rfl⟩ : ∃ k', k = k' + 1 := ⟨k - 1, by omega⟩
      show m_work_8b N (m_work_8 N k) t x (nI c) σ = _
      unfold m_work_8b
      rw [hb, bnd_ok, if_pos (nI_le (by omega) (by omega))]
      rfl
    | succ n ih =>
      intro c k x hc hk
      obtain ⟨k, rfl⟩ : ∃ k', k = k' + 1 := ⟨k - 1, by omega⟩
      show m_work_8b N (m_work_8 N k) t x (nI c) σ = _
      unfold m_work_8b m_work_45 m_work_46
      rw [hb, bnd_ok, if_neg (nI_ge (by omega) (by omega)), if_pos (inN (by omega) (by omega)), nI_clamp (by omega)]
      simp only [inN (show 60 < 2 ^ 31 by omega) (show c < 60 by omega), if_true, nx_ok, nI_1]
      by_cases h9 : gR σ 21 c = 3
      · by_cases h8 : gR σ 22 c = t
        · simp only [h9, h8, if_true]
          rw [ih (c + 1) k _ (by omega) (by omega)]
          simp [fo, h9, h8]
        · simp only [h9, h8, if_true, if_false]
          rw [ih (c + 1) k _ (by omega) (by omega)]
          simp [fo, h9, h8]
      · simp only [h9, if_false]
        rw [ih (c + 1) k _ (by omega) (by omega)]
        simp [fo, h9]
  unfold m_work
  rw [m_begin_eq N σ lT h]
  exact key (mCnt (gF σ 15) (gR σ 20)) (mBeg (gF σ 15)) N 10 (by omega) (by omega)
theorem sub10 {x : Int32} {lo : Nat} (hl : lo ≤ 100) : (0 ≤ x - nI lo ∧ x - nI lo ≤ 4) ↔ (nI lo ≤ x ∧ x ≤ nI (lo + 4)) := by
  have h1 := Int32.toInt_lt x
  have h2 := Int32.le_toInt x
  simp only [Int32.le_iff_toInt_le, Int32.toInt_sub, nI_toInt (show lo < 2 ^ 31 by omega), nI_toInt (show lo + 4 < 2 ^ 31 by omega), show (0 : Int32).toInt = 0 by decide, show (4 : Int32).toInt = 4 by decide]
  simp only [Int.bmod]
  constructor
  · rintro ⟨a, b⟩
    split at a <;> split at b <;> constructor <;> omega
  · rintro ⟨a, b⟩
    split <;> constructor <;> omega
theorem op_10 {N : Nat} (hN : 1000 ≤ N) (g : XG) : OP_10 N g (Cp g) := by
  intro a1 ξ σ hC
  obtain ⟨H, A, D, S, B, T, F, R, wk, wi, hq, hr, hn, hs, hc, hrow, hby, hbw, hobj, hrw, hrd, hah, htx, hthe, htown, htr, htp, htd, him⟩ := id hC
  have eH : xF ξ 202 = nI H := hs.1.trans hn.1
  have eH2 : gF σ 0 = nI H := hn.1
  have eA : xF ξ 4 = nI A := hs.2.1.trans hn.2.1
  have eA2 : gF σ 1 = nI A := hn.2.1
  have eD : xF ξ 203 = nI D := hs.2.2.1.trans hn.2.2.1
  have eD2 : gF σ 2 = nI D := hn.2.2.1
  have eS : xF ξ 18 = nI S := hs.2.2.2.1.trans hn.2.2.2.1
  have eS2 : gF σ 43 = nI S := hn.2.2.2.1
  have eB : xF ξ 19 = nI B := hs.2.2.2.2.trans hn.2.2.2.2
  have eB2 : gF σ 47 = nI B := hn.2.2.2.2
  have lH : H ≤ 6 := hc.1
  have lA : A ≤ 6 := hc.2.1
  have lD : D ≤ 9999 := hc.2.2.1
  have lS : S ≤ 6 := hc.2.2.2.1
  have lB : B ≤ 8 := hc.2.2.2.2.1
  obtain ⟨lT, eT2, eT, lF, eF2, eF, htxt, hlet, hmu⟩ := id htx
  obtain ⟨lR, eR2, eR, hbod⟩ := id htr
  obtain ⟨c1, c2, c3, c4, c5, c6, c7, c8, c9, c10, c11⟩ := id hc
  obtain ⟨r1, r2, r3, r4, r5, r6, r7, r8, r9, r10⟩ := id hrow
  obtain ⟨w0, al, od, len, mo, many, f, fw, t1, t2, t3, t4, t5⟩ := id htown
  have s10 : (0 ≤ a1 - 10 ∧ a1 - 10 ≤ 4) ↔ (10 ≤ a1 ∧ a1 ≤ 14) := sub10 (x := a1) (lo := 10) (by omega)
  have s20 : (0 ≤ a1 - 20 ∧ a1 - 20 ≤ 4) ↔ (20 ≤ a1 ∧ a1 ≤ 24) := sub10 (x := a1) (lo := 20) (by omega)
  unfold x0_told m_told
  simp only [x0_isTrade_eq, m_in_eq, bnd_ok, bnv_ok, bno_ok, nx_ok, b0, eD, eD2, m_moth_eq hN σ lT hthe, m_work_eq hN σ lT hthe]
  by_cases e0 : a1 = 0
  · exact ⟨nI D, ξ, σ, by simp [e0], by simp [e0], hC⟩
  by_cases e1 : a1 = 1
  · refine ⟨mothS (gR σ 21) (gR σ 22) (mCnt (gF σ 15) (gR σ 20)) (mBeg (gF σ 15)), ξ, σ, ?_, by simp [e1], hC⟩
    simp [e1, t1, bno_ok, dI, t2]
  by_cases h1 : (10 : Int32) ≤ a1 ∧ a1 ≤ 14
  · obtain ⟨k, hk, e⟩ := rg_of (n := 4) (by omega) (s10.mpr h1).1 (s10.mpr h1).2
    have e : a1 - 10 = nI k := e
    refine ⟨gR σ 13 k, ξ, σ, ?_, ?_, hC⟩
    · simp only [e0, e1, if_false]
      rw [e]
      have h9 : ¬ ¬ (0 ≤ nI k ∧ nI k ≤ 4) := fun z => z ⟨nI_pos' (by omega), nI_le (b := 4) (by omega) (by omega)⟩
      rw [if_neg h9, if_pos (inN (by omega) (by omega)), nI_clamp (by omega), r6 k (by omega)]
    · rw [if_neg (fun z => z h1), e, if_pos (inN (by omega) (by omega)), nI_clamp (by omega)]
  · by_cases h2 : (20 : Int32) ≤ a1 ∧ a1 ≤ 24
    · obtain ⟨k, hk, e⟩ := rg_of (n := 4) (by omega) (s20.mpr h2).1 (s20.mpr h2).2
      have e : a1 - 20 = nI k := e
      refine ⟨workS (gR σ 21) (gR σ 22) (gR σ 23) (mCnt (gF σ 15) (gR σ 20)) (mBeg (gF σ 15)) (nI k), ξ, σ, ?_, ?_, hC⟩
      · simp only [e0, e1, if_false]
        rw [if_pos (fun z => h1 (s10.mp z)), if_neg (fun z => z (s20.mpr h2)), t1, bno_ok]
        rw [show dR ξ w0 3 3 1 = some wk by simp [dR, t2], bno_ok, show dA ξ wk (xc g 0) = some (5, fw) by simp [dA, t3], bnd_ok, e, if_pos (inN (by omega) (by omega)), nI_clamp (by omega), t4 k (by omega)]
      · rw [if_pos h1, if_neg (fun z => z h2), e]
    · refine ⟨-1, ξ, σ, ?_, ?_, hC⟩
      · simp only [e0, e1, if_false]
        rw [if_pos (fun z => h1 (s10.mp z)), if_pos (fun z => h2 (s20.mp z))]
      · rw [if_pos h1, if_pos h2]
        simp [e0, e1]
