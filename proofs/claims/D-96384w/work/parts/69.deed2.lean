/-! PURE: the deed -/
set_option maxRecDepth 100000
def max0 (x : Int32) : Int32 := if 0 < x then x else 0
theorem most0 (y : Int32) : (if y < 0 then (0 : Int32) else y) = max0 y := by
  unfold max0
  by_cases h : y < 0
  · rw [if_pos h, if_neg (Int32.not_lt.mpr (Int32.le_of_lt h))]
  · rw [if_neg h]
    by_cases h2 : 0 < y
    · rw [if_pos h2]
    · rw [if_neg h2]
      exact Int32.le_antisymm (Int32.not_lt.mp h2) (Int32.not_lt.mp h)
theorem max0_0 (x : Int32) : max0 (max0 x) = max0 x := by
  unfold max0
  by_cases h : 0 < x
  · simp [h]
  · simp [h]
def apV (hs sz : Int32) : Int32 := if sz ≤ hs then hs - sz else sz - hs
theorem apX {hs sz : Int32} (h1 : rg hs 9) (h2 : rg sz 9) : (if 0 ≤ hs - sz then hs - sz else 0 - (hs - sz)) = apV hs sz ∧ (apV hs sz ≤ 0 ↔ hs = sz) := by
  obtain ⟨a, ha, rfl⟩ := h1
  obtain ⟨b, hb, rfl⟩ := h2
  have h9 : ∀ (a b : Fin 10), (if 0 ≤ nI a - nI b then nI a - nI b else 0 - (nI a - nI b)) = apV (nI a) (nI b) ∧ (apV (nI a) (nI b) ≤ 0 ↔ nI a = nI b) := by decide +kernel
  exact h9 ⟨a, by omega⟩ ⟨b, by omega⟩
def deedV (kd vv hs sk us rwD mo fit sz : Int32) : Int32 :=
  if kd = 1 then max0 (max0 (sk + fit) - 2 * apV hs sz) else
  if kd = 2 then max0 (max0 (sk + fit) - mo * us / 4) else
  if kd = 3 then max0 (sk + fit) + vv else
  if kd = 4 then (if hs = sz then max0 (sk + fit) else 0) else
  if kd = 5 then max0 (max0 (max0 (sk + fit) - mo * us / 4) - vv) else
  if kd = 6 then max0 (sk + fit) + vv + rwD else max0 (sk + fit)
theorem dV0 (vv hs sk us rwD mo fit sz : Int32) : deedV (nI 0) vv hs sk us rwD mo fit sz = max0 (sk + fit) := by
  simp only [deedV, show ¬ nI 0 = 1 by decide, show ¬ nI 0 = 2 by decide, show ¬ nI 0 = 3 by decide, show ¬ nI 0 = 4 by decide, show ¬ nI 0 = 5 by decide, show ¬ nI 0 = 6 by decide, if_false]
theorem dV1 (vv hs sk us rwD mo fit sz : Int32) : deedV (nI 1) vv hs sk us rwD mo fit sz = max0 (max0 (sk + fit) - 2 * apV hs sz) := by
  unfold deedV
  rw [if_pos (show nI 1 = 1 by decide)]
theorem dV2 (vv hs sk us rwD mo fit sz : Int32) : deedV (nI 2) vv hs sk us rwD mo fit sz = max0 (max0 (sk + fit) - mo * us / 4) := by
  simp only [deedV, show ¬ nI 2 = 1 by decide, if_false]
  rw [if_pos (show nI 2 = 2 by decide)]
theorem dV3 (vv hs sk us rwD mo fit sz : Int32) : deedV (nI 3) vv hs sk us rwD mo fit sz = max0 (sk + fit) + vv := by
  simp only [deedV, show ¬ nI 3 = 1 by decide, show ¬ nI 3 = 2 by decide, if_false]
  rw [if_pos (show nI 3 = 3 by decide)]
theorem dV4 (vv hs sk us rwD mo fit sz : Int32) : deedV (nI 4) vv hs sk us rwD mo fit sz = if hs = sz then max0 (sk + fit) else 0 := by
  simp only [deedV, show ¬ nI 4 = 1 by decide, show ¬ nI 4 = 2 by decide, show ¬ nI 4 = 3 by decide, if_false]
  rw [if_pos (show nI 4 = 4 by decide)]
theorem dV5 (vv hs sk us rwD mo fit sz : Int32) : deedV (nI 5) vv hs sk us rwD mo fit sz = max0 (max0 (max0 (sk + fit) - mo * us / 4) - vv) := by
  simp only [deedV, show ¬ nI 5 = 1 by decide, show ¬ nI 5 = 2 by decide, show ¬ nI 5 = 3 by decide, show ¬ nI 5 = 4 by decide, if_false]
  rw [if_pos (show nI 5 = 5 by decide)]
theorem dV6 (vv hs sk us rwD mo fit sz : Int32) : deedV (nI 6) vv hs sk us rwD mo fit sz = max0 (sk + fit) + vv + rwD := by
  simp only [deedV, show ¬ nI 6 = 1 by decide, show ¬ nI 6 = 2 by decide, show ¬ nI 6 = 3 by decide, show ¬ nI 6 = 4 by decide, show ¬ nI 6 = 5 by decide, if_false]
  rw [if_pos (show nI 6 = 6 by decide)]
def ftM (σ : MS) (a : Nat) (h : Int32) : Int32 := fitS (lkM (nI a) h (gR σ 6 a) (gR σ 10 a) (gR σ 11 a) (gF σ 2)) (gR σ 21) (gR σ 22) (gR σ 24) (gR σ 25) (gR σ 26) (clsS (gR σ 21) (mCnt (gF σ 15) (gR σ 20)) (mBeg (gF σ 15))) 0
def rwDM (σ : MS) (a : Nat) : Int32 := gR σ 12 (4 * a + (gF σ 2).toNatClampNeg % 4)
def deedM (σ : MS) (a h : Nat) : Int32 := deedV (gR σ 6 a) (gR σ 7 a) (gR σ 8 a) (gR σ 9 a) (gR σ 11 a) (rwDM σ a) (mothS (gR σ 21) (gR σ 22) (mCnt (gF σ 15) (gR σ 20)) (mBeg (gF σ 15))) (ftM σ a (nI h)) (gR σ 3 h)
/-- what a deed needs -/
def Dp (g : XG) (τ : Nat) (ξ : XS) (σ : MS) (A H D T wk : Nat) (hq hr : Nat → Nat) : Prop :=
  A ≤ 6 ∧ H ≤ 6 ∧ D < 2 ^ 30 ∧ T ≤ 6 ∧ gF σ 2 = nI D ∧ xF ξ (203 + 10 * τ) = nI D ∧ cHats A (gR σ 6) (gR σ 7) (gR σ 8) (gR σ 9) (gR σ 10) (fun _ => 0) (gR σ 12) ∧ (∀ h, h < H → rg (gR σ 3 h) 9) ∧
  cObj g (dE ξ) (xQ ξ 3) A (gR σ 6) (gR σ 7) (gR σ 8) (gR σ 10) hq hr ∧ cRow g (dE ξ) A (gR σ 6) (gR σ 12) hr ∧ eqN 6 (xR ξ 2) (gR σ 9) ∧ eqN 6 (xR ξ 0) (gR σ 3) ∧ eqN 6 (xR ξ (201 + 10 * τ)) (gR σ 11) ∧
  cThe T (gF σ 15) (gR σ 20) (gR σ 21) (gR σ 22) (gR σ 23) ∧ cTown g (dE ξ) (xo ξ 11) (gF σ 15) (gR σ 20) (gR σ 21) (gR σ 22) (gR σ 23) (gR σ 24) (gR σ 25) (gR σ 26) wk
theorem sig_of {g : XG} {E : Nat → Option va_E} {w : Option Nat} {the : Int32} {cl wd nu as fr to sg : Nat → Int32} {wk : Nat} (h : cTown g E w the cl wd nu as fr to sg wk) : ∀ c ∈ clsS wd (mCnt the cl) (mBeg the), ∃ F, sig fr to sg c F := by
  obtain ⟨w1, al, od, len, mo, many, f, fw, h1, h2, h3, h4, h5, h6, h7⟩ := h
  intro c hc
  obtain ⟨j, hj, rfl⟩ := List.mem_iff_getElem.mp hc
  obtain ⟨a, t, F, -, -, -, z, -⟩ := h7 j hj
  exact ⟨F, z⟩
theorem m_apart_eq (N : Nat) (σ : MS) {a h : Nat} (ha : a < 6) (hh : h < 6) : m_apart N (nI a) (nI h) σ = some (apV (gR σ 8 a) (gR σ 3 h), σ) := by
  unfold m_apart
  simp only [in6 ha, in6 hh, cl6 ha, cl6 hh, if_true, apV]
  split <;> rfl
theorem mod4 {a D : Nat} (ha : a < 6) (hD : D < 2 ^ 30) : 4 * nI a + (nI D - nI D / 4 * 4) = nI (4 * a + D % 4) := by
  rw [show (4 : Int32) = nI 4 from rfl, nI_div (by omega) (by omega), nI_mul, nI_mul]
  have : D = D % 4 + D / 4 * 4 := by omega
  generalize D % 4 = r at *
  generalize D / 4 = q at *
  subst this
  rw [show nI (r + q * 4) = nI r + nI (q * 4) from Int32.ofNat_add r (q * 4), Int32.add_sub_cancel, show nI (4 * a + r) = nI (4 * a) + nI r from Int32.ofNat_add _ _]
theorem mod4' {D : Nat} (hD : D < 2 ^ 30) : nI D - nI D / 4 * 4 = nI (D % 4) := by
  have := mod4 (a := 0) (by omega) hD
  rw [show 4 * nI 0 = (0 : Int32) from rfl, Int32.zero_add, Nat.mul_zero, Nat.zero_add] at this
  exact this
theorem kd6 {x : Int32} (h : rg x 6) : ∃ k, k ≤ 6 ∧ x = nI k ∧ x.toNatClampNeg = k := by
  obtain ⟨k, hk, rfl⟩ := h
  exact ⟨k, hk, rfl, nI_clamp (by omega)⟩
theorem m_deed_eq {N : Nat} (hN : 1000 ≤ N) {g : XG} {τ : Nat} {ξ : XS} (σ : MS) {A H D T wk : Nat} {hq hr : Nat → Nat} (hp : Dp g τ ξ σ A H D T wk hq hr) {a h : Nat} (ha : a < A) (hh : h < H) : ∃ p, m_deed N (nI a) (nI h) σ = some (deedM σ a h, sP σ p) := by
  obtain ⟨p1, p2, p3, p4, p5, p6, p7, p8, p9, p10, p11, p12, p13, p14, p15⟩ := hp
  obtain ⟨p, hf⟩ := m_fits_eq hN σ (show a < 6 by omega) (nI h) p4 p14 (sig_of p15) (gR σ 32)
  rw [sP_self] at hf
  refine ⟨p, ?_⟩
  obtain ⟨k1, k2, k3, k4, k5, k6, k7⟩ := p7 a ha
  have ha6 : a < 6 := by omega
  have hh6 : h < 6 := by omega
  have hmo : m_moth N (sP σ p) = some (mothS (gR σ 21) (gR σ 22) (mCnt (gF σ 15) (gR σ 20)) (mBeg (gF σ 15)), sP σ p) := m_moth_eq hN (sP σ p) (as := gR σ 23) p4 (show cThe T (gF (sP σ p) 15) (gR (sP σ p) 20) (gR (sP σ p) 21) (gR (sP σ p) 22) _ from p14)
  have hap : m_apart N (nI a) (nI h) (sP σ p) = some (apV (gR σ 8 a) (gR σ 3 h), sP σ p) := m_apart_eq N (sP σ p) ha6 hh6
  have hix : 4 * nI a + (gF σ 2 - gF σ 2 / 4 * 4) = nI (4 * a + D % 4) := by rw [p5]; exact mod4 ha6 p3
  have hrw : rwDM σ a = gR σ 12 (4 * a + D % 4) := by unfold rwDM; rw [p5, nI_clamp (by omega)]
  unfold m_deed
  simp only [in6 ha6, cl6 ha6, if_true, hf, bnd_ok, m_most_eq, most0, nx_ok, gR_sP, gF_sP, hmo, hap, hix, inN (show 24 < 2 ^ 31 by omega) (show 4 * a + D % 4 < 24 by omega), nI_clamp (show 4 * a + D % 4 < 2 ^ 31 by omega), show ¬ (6 : Nat) = 32 by decide, show ¬ (7 : Nat) = 32 by decide, show ¬ (11 : Nat) = 32 by decide, show ¬ (12 : Nat) = 32 by decide, if_false, (apX k3 (p8 h hh)).2]
  unfold deedM deedV ftM
  rw [hrw]
  split
  · rfl
  · split
    · rfl
    · split
      · rfl
      · split
        · split <;> rfl
        · split
          · rfl
          · split <;> rfl
/-- what X looks at -/
def xlk (ξ : XS) (a h k t u d : Int32) : XS := sXF (sXF (sXF (sXF (sXF (sXF ξ 300 a) 301 h) 302 k) 303 t) 304 u) 305 d
theorem max0_eq (x : Int32) : (if 0 < x then x else 0) = max0 x := rfl
theorem x0_deedOf_eq {N : Nat} (hN : 1000 ≤ N) {g : XG} {τ : Nat} (hτ : τ ≤ 3) (ξ : XS) (σ : MS) {A H D T wk : Nat} {hq hr : Nat → Nat} (hp : Dp g τ ξ σ A H D T wk hq hr) {a h : Nat} (ha : a < A) (hh : h < H) : ∃ k t u d, x0_deedOf N g τ (nI a) (nI h) ξ = some (deedM σ a h, xlk ξ (nI a) (nI h) k t u d) := by
  obtain ⟨p1, p2, p3, p4, p5, p6, p7, p8, p9, p10, p11, p12, p13, p14, p15⟩ := hp
  obtain ⟨k1, k2, k3, k4, k5, k6, k7⟩ := p7 a ha
  have ha6 : a < 6 := by omega
  have hh6 : h < 6 := by omega
  obtain ⟨q1, q2⟩ := p9 a ha
  obtain ⟨k, hk, ek, ek2⟩ := kd6 k1
  rw [ek2] at q2
  refine ⟨nI k, gR σ 10 a, gR σ 11 a - gR σ 11 a / 10 * 10, gF σ 2 - gF σ 2 / 7 * 7, ?_⟩
  generalize hη : xlk ξ (nI a) (nI h) (nI k) (gR σ 10 a) (gR σ 11 a - gR σ 11 a / 10 * 10) (gF σ 2 - gF σ 2 / 7 * 7) = η
  have hE : dE η = dE ξ := by rw [← hη]; rfl
  have hR : xR η = xR ξ := by rw [← hη]; rfl
  have hO : xo η = xo ξ := by rw [← hη]; rfl
  have hF : xF η (203 + 10 * τ) = xF ξ (203 + 10 * τ) := by
    rw [← hη]
    unfold xlk
    simp only [xF_sXF]
    repeat rw [if_neg (by omega)]
  have hL : lkX η = lkM (nI a) (nI h) (gR σ 6 a) (gR σ 10 a) (gR σ 11 a) (gF σ 2) := by
    rw [← hη, ek]; rfl
  have hFo : xF (sXF (sXF (sXF (sXF (sXF ξ 300 (nI a)) 301 (nI h)) 302 (nI k)) 303 (gR σ 10 a)) 304 (gR σ 11 a - gR σ 11 a / 10 * 10)) (203 + 10 * τ) = gF σ 2 := by
    simp only [xF_sXF]
    repeat rw [if_neg (by omega)]
    rw [p6, p5]
  have hat := hat_at hk q2
  obtain ⟨w0, ew0⟩ : ∃ w0, xo ξ 11 = some w0 := by
    obtain ⟨w1, al, od, len, mo, many, f, fw, h1, -⟩ := p15
    exact ⟨w1, h1⟩
  have hfit : x2_fits N g w0 η = some (ftM σ a (nI h), η) := by
    have := x2_fits_eq hN (g := g) (ξ := η) (wk := wk) p4 p14 ew0 (by rw [hE]; exact p15)
    rw [hL] at this
    exact this
  have hmo : dI η w0 3 3 3 = some (mothS (gR σ 21) (gR σ 22) (mCnt (gF σ 15) (gR σ 20)) (mBeg (gF σ 15))) := by
    obtain ⟨w1, al, od, len, mo, many, f, fw, h1, h2, -⟩ := p15
    rw [ew0] at h1
    cases h1
    simp [dI, hE, h2]
  have hw3 : isC η w0 3 3 = true := by
    obtain ⟨w1, al, od, len, mo, many, f, fw, h1, h2, -⟩ := p15
    rw [ew0] at h1
    cases h1
    simp [isC, dCi, hE, h2]
  have hηq : dE η (hq a) = some (.inr (8 + k, hatL g k (nI a) (gR σ 7 a) (gR σ 8 a) (gR σ 10 a) (hr a))) := by rw [hE]; exact q2
  have hatη := hat_at hk hηq
  obtain ⟨t0, t1, t2, t3, t4, t5⟩ := hatη
  have hdeed : xv_deed N g (hq a) (ftM σ a (nI h)) (gR σ 3 h) (gR σ 11 a) (gF σ 2) η = some (deedM σ a h, η) := by
    have s4 : dRs η (hq a) [8, 9, 10, 11, 12, 13, 14] 4 = some (xa g 0) := by
      have h7 : k = 0 ∨ k = 1 ∨ k = 2 ∨ k = 3 ∨ k = 4 ∨ k = 5 ∨ k = 6 := by omega
      rcases h7 with rfl | rfl | rfl | rfl | rfl | rfl | rfl <;> simp [dRs, hηq, hatL]
    have s7 : ∀ x2 x3 x4, x7_deed N g (hq a) (ftM σ a (nI h)) x2 x3 x4 η = some (max0 (gR σ 9 a + ftM σ a (nI h)), η) := by
      intro x2 x3 x4
      unfold x7_deed
      rw [if_pos s4, t0, bno_ok, if_pos (in6 ha6), cl6 ha6, hR, p11 a ha6]
      rfl
    have s8 : ∀ x3 x4, x8_deed N g (hq a) (ftM σ a (nI h)) (gR σ 3 h) x3 x4 η = some (max0 (max0 (gR σ 9 a + ftM σ a (nI h)) - 2 * apV (gR σ 8 a) (gR σ 3 h)), η) := by
      intro x3 x4
      unfold x8_deed
      rw [if_pos t5, s7, bnd_ok, t2, bno_ok, (apX k3 (p8 h hh)).1]
      rfl
    unfold xv_deed
    rw [t4, bno_ok]
    unfold deedM
    rw [ek]
    generalize deedV_hide : ftM σ a (nI h) = fit at *
    have h7 : k = 0 ∨ k = 1 ∨ k = 2 ∨ k = 3 ∨ k = 4 ∨ k = 5 ∨ k = 6 := by omega
    rcases h7 with rfl | rfl | rfl | rfl | rfl | rfl | rfl
    · show x7_deed N g (hq a) fit (gR σ 3 h) (gR σ 11 a) (gF σ 2) η = _
      rw [s7, dV0]
    · show x8_deed N g (hq a) fit (gR σ 3 h) (gR σ 11 a) (gF σ 2) η = _
      rw [s8, dV1]
    · have s5 : dRs η (hq a) [10, 13] 5 = some (xa g 0) := by simp [dRs, hηq, hatL]
      show x9_deed N g (hq a) fit (gR σ 3 h) (gR σ 11 a) (gF σ 2) η = _
      unfold x9_deed
      rw [if_pos t5, s7, bnd_ok, if_pos s5, hO, ew0, bno_ok, hmo, bno_ok, dV2]
      rfl
    · show x10_deed N g (hq a) fit (gR σ 3 h) (gR σ 11 a) (gF σ 2) η = _
      unfold x10_deed
      rw [if_pos t5, s7, bnd_ok, t1, bno_ok, dV3]
    · show x11_deed N g (hq a) fit (gR σ 3 h) (gR σ 11 a) (gF σ 2) η = _
      unfold x11_deed
      rw [t2, bno_ok, s8, bnd_ok, if_pos t5, dV4]
      by_cases e : gR σ 8 a = gR σ 3 h
      · rw [if_pos e, if_pos e, e]
        have : apV (gR σ 3 h) (gR σ 3 h) = 0 := by unfold apV; simp
        rw [this, Int32.mul_zero, Int32.sub_zero, max0_0]
      · rw [if_neg e, if_neg e]
    · have s5 : dRs η (hq a) [10, 13] 5 = some (xa g 0) := by simp [dRs, hηq, hatL]
      show x12_deed N g (hq a) fit (gR σ 3 h) (gR σ 11 a) (gF σ 2) η = _
      unfold x12_deed x9_deed
      rw [if_pos t5, if_pos t5, s7, bnd_ok, if_pos s5, hO, ew0, bno_ok, hmo, bno_ok, bnd_ok, t1, bno_ok, dV5]
      rfl
    · obtain ⟨f, z1, z2⟩ := p10 a ha ek
      show x13_deed N g (hq a) fit (gR σ 3 h) (gR σ 11 a) (gF σ 2) η = _
      unfold x13_deed x10_deed
      rw [if_pos t5, if_pos t5, s7, bnd_ok, t1, bno_ok, bnd_ok, show dR η (hq a) 14 14 6 = some (hr a) by simp [dR, hηq, hatL], bno_ok, show dA η (hr a) (xc g 1) = some (4, f) by simp [dA, hE, z1], bnd_ok, p5, mod4' p3, if_pos (inN (by omega) (by omega)), nI_clamp (by omega), z2 _ (by omega), dV6]
      unfold rwDM
      rw [p5, nI_clamp (by omega)]
  unfold x0_deedOf
  rw [if_pos (in6 ha6), cl6 ha6, q1, bno_ok]
  simp only [nx_ok]
  rw [hat_kind (ξ := sXF (sXF ξ 300 (nI a)) 301 (nI h)) hk q2, bnd_ok]
  rw [show dI (sXF (sXF (sXF ξ 300 (nI a)) 301 (nI h)) 302 (nI k)) (hq a) 8 14 3 = some (gR σ 10 a) from hat.2.2.2.1, bno_ok, if_pos (in6 ha6)]
  simp only [xR_sXF, p13 a ha6, hFo]
  rw [show sXF (sXF (sXF (sXF (sXF (sXF ξ 300 (nI a)) 301 (nI h)) 302 (nI k)) 303 (gR σ 10 a)) 304 (gR σ 11 a - gR σ 11 a / 10 * 10)) 305 (gF σ 2 - gF σ 2 / 7 * 7) = η from hη, hO, ew0, bno_ok, if_pos hw3, hfit, bnd_ok, if_pos (in6 hh6), if_pos (in6 ha6), cl6 hh6, hR, p12 h hh6, p13 a ha6, hF, p6, ← p5, hdeed, bnd_ok]
