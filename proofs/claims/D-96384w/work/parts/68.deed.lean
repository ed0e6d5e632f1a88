/-! PURE: what fits, and the deed (both) -/
set_option maxRecDepth 100000
def hS (L : Nat → Int32) (fr to sg : Nat → Int32) (c : Nat) : Bool :=
  match evs L sg ((to c).toNatClampNeg - (fr c).toNatClampNeg) (fr c).toNatClampNeg [] with
  | some (b :: _) => b
  | _ => false
def sig (fr to sg : Nat → Int32) (c : Nat) (F : (Nat → Int32) → Bool) : Prop := ∃ b n, fr c = nI b ∧ to c = nI (b + n) ∧ b + n ≤ 600 ∧ n ≤ 100 ∧ (∀ j, j < n → -124 ≤ sg (b + j) ∧ sg (b + j) ≤ 5299) ∧ ∀ L, evs L sg n b [] = some [F L]
theorem hS_eq {fr to sg : Nat → Int32} {c : Nat} {F : (Nat → Int32) → Bool} (h : sig fr to sg c F) (L : Nat → Int32) : hS L fr to sg c = F L := by
  obtain ⟨b, n, h1, h2, h3, h4, h5, h6⟩ := h
  unfold hS
  rw [h1, h2, nI_clamp (by omega), nI_clamp (by omega), show b + n - b = n by omega, h6]
def valS (wd nu : Nat → Int32) (c : Nat) : Int32 := if wd c = 0 then nu c else -nu c
def fitS (L : Nat → Int32) (wd nu fr to sg : Nat → Int32) (l : List Nat) (x : Int32) : Int32 := l.foldl (fun x c => if hS L fr to sg c = true then x + valS wd nu c else x) x
theorem clsS_len (wd : Nat → Int32) (n b : Nat) : (clsS wd n b).length ≤ n := by
  unfold clsS
  exact Nat.le_trans (List.length_filter_le _ _) (by simp)
theorem clsS_mem {wd : Nat → Int32} {n b c : Nat} (h : c ∈ clsS wd n b) : b ≤ c ∧ c < b + n ∧ wd c ≤ 1 := by
  unfold clsS at h
  have := List.mem_filter.mp h
  have h2 := List.mem_range'_1.mp this.1
  exact ⟨h2.1, h2.2, of_decide_eq_true this.2⟩
theorem clsS_succ (wd : Nat → Int32) (n b : Nat) : clsS wd (n + 1) b = if wd b ≤ 1 then b :: clsS wd n (b + 1) else clsS wd n (b + 1) := by
  unfold clsS
  rw [List.range'_succ, List.filter_cons]
  by_cases h : wd b ≤ 1 <;> simp [h]
theorem x2_fits_eq {N : Nat} (hN : 1000 ≤ N) {g : XG} {ξ : XS} {w0 wk T : Nat} {w : Option Nat} {the : Int32} {cl wd nu as fr to sg : Nat → Int32} (lT : T ≤ 6) (hT : cThe T the cl wd nu as) (hw : w = some w0) (h : cTown g (dE ξ) w the cl wd nu as fr to sg wk) :
    x2_fits N g w0 ξ = some (fitS (lkX ξ) wd nu fr to sg (clsS wd (mCnt the cl) (mBeg the)) 0, ξ) := by
  obtain ⟨w1, al, od, len, mo, many, f, fw, h1, h2, h3, h4, h5, h6, h7⟩ := h
  obtain rfl : w0 = w1 := by rw [hw] at h1; exact Option.some.inj h1
  have l10 : (clsS wd (mCnt the cl) (mBeg the)).length ≤ 10 := Nat.le_trans (clsS_len _ _ _) (mCnt_of lT hT).1
  generalize clsS wd (mCnt the cl) (mBeg the) = cs at *
  have hal : dR ξ w0 3 3 0 = some al := by simp [dR, h2]
  have hc4 : isC ξ al 4 4 = true := by simp [isC, dCi, h5]
  have key : ∀ (n j k : Nat) (x : Int32), n + j = cs.length → n < k → x2_fits_4 N g w0 k x (nI j) ξ = some (fitS (lkX ξ) wd nu fr to sg (cs.drop j) x, ξ) := by
    intro n
    induction n with
    | zero =>
      intro j k x hj hk
      obtain ⟨k, rfl⟩ : ∃ k', k = k' + 1 := ⟨k - 1, by omega⟩
      show x2_fits_4b N g w0 (x2_fits_4 N g w0 k) x (nI j) ξ = _
      unfold x2_fits_4b
      rw [hal, bno_ok, if_pos hc4, x2_size_eq h5, bnd_ok, if_pos (nI_le (by omega) (by omega)), List.drop_of_length_le (by omega)]
      rfl
    | succ n ih =>
      intro j k x hj hk
      obtain ⟨k, rfl⟩ : ∃ k', k = k' + 1 := ⟨k - 1, by omega⟩
      show x2_fits_4b N g w0 (x2_fits_4 N g w0 k) x (nI j) ξ = _
      unfold x2_fits_4b
      obtain ⟨q1, q2, q3⟩ := h6 (by omega)
      obtain ⟨a, t, F, z1, z2, z3, z4⟩ := h7 j (by omega)
      have hF := hS_eq (c := cs[j]) (F := F) z4.1 (lkX ξ)
      have hg := x2_get_eq (N := N) h5 q1 (show j < cs.length by omega) q2 q3 z1
      have hc : isC ξ a 17 17 = true := by simp [isC, dCi, z2]
      simp only [hal, bno_ok, hc4, if_true, x2_size_eq h5, bnd_ok, nI_ge (show j < cs.length by omega) (show cs.length < 2 ^ 31 by omega), if_false, hg, hc, show dR ξ a 17 17 1 = some t by simp [dR, z2], xv_holds_eq hN 12 20 t F z3 (by omega), show dI ξ a 17 17 0 = some (valS wd nu cs[j]) by simp [dI, z2, valS]]
      simp only [x2_fits_53, nx_ok, nI_1, ih (j + 1) k _ (by omega) (by omega)]
      rw [List.drop_eq_getElem_cons (show j < cs.length by omega)]
      unfold fitS
      rw [List.foldl_cons, hF]
      cases F (lkX ξ) <;> simp [b2i]
  unfold x2_fits
  exact key cs.length 0 N 0 (by omega) (by omega)
theorem m_holds_eq {N : Nat} (hN : 1000 ≤ N) (σ : MS) {c a : Nat} (hc : c < 60) (ha : a < 6) (h : Int32) {F : (Nat → Int32) → Bool} (hs : sig (gR σ 24) (gR σ 25) (gR σ 26) c F) (p : Nat → Int32) :
    ∃ p', m_holds N (nI c) (nI a) h (sP σ p) = some (b2i (hS (lkM (nI a) h (gR σ 6 a) (gR σ 10 a) (gR σ 11 a) (gF σ 2)) (gR σ 24) (gR σ 25) (gR σ 26) c), sP σ p') := by
  rw [hS_eq hs]
  obtain ⟨b, n, h1, h2, h3, h4, h5, h6⟩ := hs
  unfold m_holds
  simp only [nx_ok, gR_sP, show ¬ (24 : Nat) = 32 by decide, if_false, inN (show 60 < 2 ^ 31 by omega) hc, if_true, nI_clamp (show c < 2 ^ 31 by omega), h1]
  exact m_holds_11_eq σ hc ha h h2 h3 h5 _ rfl n b N [] p _ (by omega) (by omega) (by omega) (by simpa using h4) (fun i hi => absurd hi (by simp)) (h6 _)
theorem m_fits_eq {N : Nat} (hN : 1000 ≤ N) (σ : MS) {a T : Nat} (ha : a < 6) (h : Int32) (lT : T ≤ 6) (hT : cThe T (gF σ 15) (gR σ 20) (gR σ 21) (gR σ 22) (gR σ 23))
    (hs : ∀ c ∈ clsS (gR σ 21) (mCnt (gF σ 15) (gR σ 20)) (mBeg (gF σ 15)), ∃ F, sig (gR σ 24) (gR σ 25) (gR σ 26) c F) (p : Nat → Int32) :
    ∃ p', m_fits N (nI a) h (sP σ p) = some (fitS (lkM (nI a) h (gR σ 6 a) (gR σ 10 a) (gR σ 11 a) (gF σ 2)) (gR σ 21) (gR σ 22) (gR σ 24) (gR σ 25) (gR σ 26) (clsS (gR σ 21) (mCnt (gF σ 15) (gR σ 20)) (mBeg (gF σ 15))) 0, sP σ p') := by
  obtain ⟨l1, l2, -⟩ := mCnt_of lT hT
  have hbg : ∀ p, m_begin N (sP σ p) = some (nI (mBeg (gF σ 15)), sP σ p) := fun p => m_begin_eq N (sP σ p) lT (show cThe T (gF (sP σ p) 15) _ _ _ _ from hT)
  have hbe : ∀ p, m_behind N (sP σ p) = some (nI (mBeg (gF σ 15) + mCnt (gF σ 15) (gR σ 20)), sP σ p) := fun p => m_behind_eq N (sP σ p) lT (show cThe T (gF (sP σ p) 15) (gR (sP σ p) 20) _ _ _ from hT)
  generalize mCnt (gF σ 15) (gR σ 20) = M at *
  generalize mBeg (gF σ 15) = Bg at *
  have key : ∀ (n b k : Nat) (x : Int32) (p : Nat → Int32), n + b = Bg + M → Bg ≤ b → n < k → (∀ c ∈ clsS (gR σ 21) n b, ∃ F, sig (gR σ 24) (gR σ 25) (gR σ 26) c F) → ∃ p', m_fits_8 N k (nI a) h x (nI b) (sP σ p) = some (fitS (lkM (nI a) h (gR σ 6 a) (gR σ 10 a) (gR σ 11 a) (gF σ 2)) (gR σ 21) (gR σ 22) (gR σ 24) (gR σ 25) (gR σ 26) (clsS (gR σ 21) n b) x, sP σ p') := by
    intro n
    induction n with
    | zero =>
      intro b k x p hb hB hk _
      obtain ⟨k, rfl⟩ : ∃ k', k = k' + 1 := ⟨k - 1, by omega⟩
      refine ⟨p, ?_⟩
      show m_fits_8b N (m_fits_8 N k) (nI a) h x (nI b) (sP σ p) = _
      unfold m_fits_8b
      rw [hbe, bnd_ok, if_pos (nI_le (by omega) (by omega))]
      rfl
    | succ n ih =>
      intro b k x p hb hB hk hs
      obtain ⟨k, rfl⟩ : ∃ k', k = k' + 1 := ⟨k - 1, by omega⟩
      show ∃ p', m_fits_8b N (m_fits_8 N k) (nI a) h x (nI b) (sP σ p) = some (_, sP σ p')
      unfold m_fits_8b
      have e60 : inb (nI b) 60 = true := inN (by omega) (by omega)
      have ecl : (nI b).toNatClampNeg = b := nI_clamp (by omega)
      simp only [hbe, bnd_ok, nI_ge (show b < Bg + M by omega) (show Bg + M < 2 ^ 31 by omega), if_false, e60, if_true, ecl, gR_sP, show ¬ (21 : Nat) = 32 by decide, show ¬ (22 : Nat) = 32 by decide]
      rw [clsS_succ] at hs ⊢
      by_cases w1 : gR σ 21 b ≤ 1
      · rw [if_pos w1] at hs ⊢
        obtain ⟨F, hF⟩ := hs b (by simp)
        obtain ⟨p1, e1⟩ := m_holds_eq hN σ (show b < 60 by omega) ha h hF p
        simp only [Int32.not_lt.mpr w1, if_false, e1, bnd_ok, gR_sP, show ¬ (21 : Nat) = 32 by decide, show ¬ (22 : Nat) = 32 by decide, m_fits_71, m_fits_73, nx_ok, nI_1, b2i0]
        unfold fitS
        rw [List.foldl_cons]
        by_cases q : hS (lkM (nI a) h (gR σ 6 a) (gR σ 10 a) (gR σ 11 a) (gF σ 2)) (gR σ 24) (gR σ 25) (gR σ 26) b = true
        · simp only [q, Bool.true_eq_false, if_false, if_true, valS]
          by_cases w0 : gR σ 21 b = 0
          · simp only [w0, if_true]
            exact ih (b + 1) k _ p1 (by omega) (by omega) (by omega) (fun c hc => hs c (by simp [hc]))
          · simp only [w0, if_false]
            exact ih (b + 1) k _ p1 (by omega) (by omega) (by omega) (fun c hc => hs c (by simp [hc]))
        · simp only [eq_false_of_ne_true q, Bool.false_eq_true, if_false, if_true]
          exact ih (b + 1) k x p1 (by omega) (by omega) (by omega) (fun c hc => hs c (by simp [hc]))
      · rw [if_neg w1] at hs ⊢
        simp only [Int32.not_le.mp w1, if_true, m_fits_73, nx_ok, nI_1]
        exact ih (b + 1) k x p (by omega) (by omega) (by omega) hs
  unfold m_fits
  simp only [nx_ok, hbg, bnd_ok]
  exact key M Bg N 0 p (by omega) (by omega) (by omega) hs
