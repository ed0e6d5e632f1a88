/-! PURE: signs worked out (M), what fits (both) -/
set_option maxRecDepth 100000
theorem narZ0 : vp_nar .boolean (0 : Int32) = 0 := by decide +kernel
theorem narZ1 : vp_nar .boolean (1 : Int32) = 1 := by decide +kernel
theorem nIm1 (n : Nat) : nI (n + 1) + (-1) = nI n := by
  have h := nI_pred n
  rw [← h]
  rw [Int32.sub_eq_add_neg]
theorem upd_top {p : Nat → Int32} {st : List Bool} {b b' : Bool} (h : piled p (b :: st)) : piled (upd p st.length (b2i b')) (b' :: st) := piled_push b' (piled_pop h)
set_option maxHeartbeats 2000000 in
theorem m_holds_11_eq {N : Nat} (σ : MS) {c a B M : Nat} (hc : c < 60) (ha : a < 6) (h : Int32) (eTo : gR σ 25 c = nI (B + M)) (lB : B + M ≤ 600)
    (hs : ∀ j, j < M → -124 ≤ gR σ 26 (B + j) ∧ gR σ 26 (B + j) ≤ 5299) (L : Nat → Int32) (eL : L = lkM (nI a) h (gR σ 6 a) (gR σ 10 a) (gR σ 11 a) (gF σ 2)) :
    ∀ (n b k : Nat) (st : List Bool) (p : Nat → Int32) (v : Bool), n + b = B + M → B ≤ b → n < k → st.length + n ≤ 100 → piled p st → evs L (gR σ 26) n b st = some [v] → ∃ p', m_holds_11 N k (nI c) (nI a) h (nI st.length) (nI b) (sP σ p) = some (b2i v, sP σ p') := by
  intro n
  induction n with
  | zero =>
    intro b k st p v hb _ hk hl hp he
    obtain ⟨k, rfl⟩ : ∃ k', k = k' + 1 := ⟨k - 1, by omega⟩
    have he : st = [v] := Option.some.inj he
    subst he
    refine ⟨p, ?_⟩
    show m_holds_11b N (m_holds_11 N k) (nI c) (nI a) h (nI [v].length) (nI b) (sP σ p) = _
    unfold m_holds_11b
    have hp0 : p 0 = b2i v := piled_top (st := []) hp
    simp only [gR_sP, show ¬ (25 : Nat) = 32 by decide, if_false, eTo, inN (show 60 < 2 ^ 31 by omega) hc, if_true, nI_clamp (show c < 2 ^ 31 by omega), nI_le (show B + M ≤ b by omega) (show b < 2 ^ 31 by omega)]
    rw [if_pos (show inb (0 : Int32) 100 = true from inN (k := 0) (by omega) (by omega)), show (0 : Int32).toNatClampNeg = 0 from rfl, hp0]
    cases v <;> simp [b2i]
  | succ n ih =>
    intro b k st p v hb hBb hk hl hp he
    obtain ⟨k, rfl⟩ : ∃ k', k = k' + 1 := ⟨k - 1, by omega⟩
    show ∃ p', m_holds_11b N (m_holds_11 N k) (nI c) (nI a) h (nI st.length) (nI b) (sP σ p) = some (b2i v, sP σ p')
    unfold m_holds_11b
    simp only [gR_sP, show ¬ (25 : Nat) = 32 by decide, show ¬ (26 : Nat) = 32 by decide, if_false, eTo, inN (show 60 < 2 ^ 31 by omega) hc, if_true, nI_clamp (show c < 2 ^ 31 by omega), nI_ge (show b < B + M by omega) (show B + M < 2 ^ 31 by omega), inN (show 600 < 2 ^ 31 by omega) (show b < 600 by omega), nI_clamp (show b < 2 ^ 31 by omega), nx_ok]
    have hsb := hs (b - B) (by omega)
    rw [show B + (b - B) = b by omega] at hsb
    simp only [evs] at he
    generalize gR σ 26 b = t at hsb he ⊢
    have step : ∀ (st' : List Bool) (p' : Nat → Int32), st'.length + n ≤ 100 → piled p' st' → evs L (gR σ 26) n (b + 1) st' = some [v] → ∃ p'', m_holds_247 N (m_holds_11 N k) (nI c) (nI a) h (nI st'.length) (nI b) (sP σ p') = some (b2i v, sP σ p'') := by
      intro st' p' h1 h2 h3
      unfold m_holds_247
      simp only [nx_ok, nI_1]
      exact ih (b + 1) k st' p' v (by omega) (by omega) (by omega) h1 h2 h3
    by_cases t1 : t = -33
    · subst t1
      simp only [if_true]
      cases st with
      | nil => simp [ev1] at he
      | cons x st =>
        simp only [ev1, if_true] at he
        have hx := piled_top hp
        have e1 : nI (x :: st).length - 1 = nI st.length := nI_pred st.length
        have hl' : st.length < 100 := by simp at hl; omega
        simp only [e1, inN (show 100 < 2 ^ 31 by omega) hl', if_true, nI_clamp (show st.length < 2 ^ 31 by omega), hx, m_holds_63, nx_ok, sR_sP]
        cases x
        · simp only [b2i, if_true, Bool.false_eq_true, if_false, narZ1]
          exact step (true :: st) _ (by simp at hl ⊢; omega) (upd_top (b' := true) hp) he
        · simp only [b2i, if_true, show ¬ (1 : Int32) = 0 by decide, if_false, narZ0]
          exact step (false :: st) _ (by simp at hl ⊢; omega) (upd_top (b' := false) hp) he
    · simp only [t1, if_false]
      by_cases t2 : 0 ≤ t
      · have t3 : ¬ t < 0 := Int32.not_lt.mpr t2
        simp only [t2, if_true]
        simp only [ev1, t1, t3, if_false] at he
        obtain ⟨j, hj, ej⟩ := t1000 t2 hsb.2
        rw [ej, m_factOf_eq N (sP σ p) ha h hj, bnd_ok]
        have eLj : lkM (nI a) h (gR (sP σ p) 6 a) (gR (sP σ p) 10 a) (gR (sP σ p) 11 a) (gF (sP σ p) 2) j = L (t / 1000).toNatClampNeg := by
          rw [eL, ej, nI_clamp (by omega)]; rfl
        rw [eLj]
        have hf : fact L t = (if t / 100 - t / 100 / 10 * 10 = 0 then decide (L (t / 1000).toNatClampNeg < t - t / 100 * 100) else if t / 100 - t / 100 / 10 * 10 = 1 then decide (L (t / 1000).toNatClampNeg = t - t / 100 * 100) else decide (t - t / 100 * 100 < L (t / 1000).toNatClampNeg)) := rfl
        have hl' : st.length < 100 := by omega
        have put : ∀ x : Bool, fact L t = x → ∃ p'', m_holds_243 N (m_holds_11 N k) (nI c) (nI a) h (nI st.length) (nI b) (b2i x) (nI st.length) (sP σ p) = some (b2i v, sP σ p'') := by
          intro x hx
          unfold m_holds_243
          simp only [inN (show 100 < 2 ^ 31 by omega) hl', if_true, nI_clamp (show st.length < 2 ^ 31 by omega), nx_ok, sR_sP, narZ, nI_1]
          rw [hx] at he
          exact step (x :: st) _ (by simp; omega) (piled_push x hp) he
        generalize L (t / 1000).toNatClampNeg = is at hf ⊢
        generalize t / 100 - t / 100 / 10 * 10 = s at hf ⊢
        generalize t - t / 100 * 100 = m at hf ⊢
        by_cases s0 : s = 0
        · simp only [s0, if_true] at hf ⊢
          by_cases q : m ≤ is
          · simp only [q, if_true]
            exact put false (by rw [hf]; simp [Int32.not_lt.mpr q])
          · simp only [q, if_false]
            exact put true (by rw [hf]; simp [Int32.not_le.mp q])
        · by_cases s1 : s = 1
          · simp only [s1, if_true, show ¬ (1 : Int32) = 0 by decide, if_false] at hf ⊢
            by_cases q : is = m
            · simp only [q, if_true]
              exact put true (by rw [hf]; simp [q])
            · simp only [q, if_false]
              exact put false (by rw [hf]; simp [q])
          · simp only [s0, s1, if_false] at hf ⊢
            by_cases q : is ≤ m
            · simp only [q, if_true]
              exact put false (by rw [hf]; simp [Int32.not_lt.mpr q])
            · simp only [q, if_false]
              exact put true (by rw [hf]; simp [Int32.not_le.mp q])
      · have t3 : t < 0 := Int32.not_le.mp t2
        simp only [t2, if_false]
        simp only [ev1, t1, t3, if_true, if_false] at he
        match st, hp, hl, he with
        | [], _, _, he => simp at he
        | [_], _, _, he => simp at he
        | y :: x :: st, hp, hl, he =>
          simp only at he
          have hy := piled_top hp
          have hx := piled_top (piled_pop hp)
          have e1 : nI (y :: x :: st).length + (-1) = nI (st.length + 1) := nIm1 (st.length + 1)
          have e2 : nI (st.length + 1) - 1 = nI st.length := nI_pred st.length
          have hl' : st.length + 1 < 100 := by simp at hl; omega
          have hy : p (st.length + 1) = b2i y := hy
          have fin : ∀ z : Bool, (if t = -38 then x && y else x || y) = z → ∃ p'', m_holds_147 N (m_holds_11 N k) (nI c) (nI a) h (nI (st.length + 1)) (nI b) (b2i z) (nI st.length) (sP σ p) = some (b2i v, sP σ p'') := by
            intro z hz
            unfold m_holds_147
            simp only [inN (show 100 < 2 ^ 31 by omega) (show st.length < 100 by omega), if_true, nI_clamp (show st.length < 2 ^ 31 by omega), nx_ok, sR_sP, narZ]
            rw [hz] at he
            exact step (z :: st) _ (by simp at hl ⊢; omega) (upd_top (b' := z) (piled_pop hp)) he
          simp only [e1, e2, inN (show 100 < 2 ^ 31 by omega) (show st.length < 100 by omega), inN (show 100 < 2 ^ 31 by omega) hl', if_true, nI_clamp (show st.length < 2 ^ 31 by omega), nI_clamp (show st.length + 1 < 2 ^ 31 by omega), hx, hy, b2i0, m_holds_116, m_holds_142]
          by_cases t4 : t = -38
          · simp only [t4, if_true] at fin ⊢
            cases x
            · simp only [if_true]; exact fin false rfl
            · cases y
              · simp only [Bool.true_eq_false, if_true, if_false]; exact fin false rfl
              · simp only [Bool.true_eq_false, if_false]; exact fin true rfl
          · simp only [t4, if_false] at fin ⊢
            cases x
            · cases y
              · simp only [if_true]; exact fin false rfl
              · simp only [Bool.true_eq_false, if_true, if_false]; exact fin true rfl
            · simp only [Bool.true_eq_false, if_false]; exact fin true (by cases y <;> rfl)
