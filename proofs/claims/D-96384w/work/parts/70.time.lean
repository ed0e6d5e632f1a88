/-! PURE: a day's deeds (both), at a time τ -/
set_option maxRecDepth 100000
def lkeq (ξ ξ' : XS) : Prop := (∀ k, k < 300 ∨ 305 < k → xF ξ' k = xF ξ k) ∧ xR ξ' = xR ξ ∧ xQ ξ' = xQ ξ ∧ xo ξ' = xo ξ ∧ dE ξ' = dE ξ ∧ xL ξ' = xL ξ
theorem lkeq_refl (ξ : XS) : lkeq ξ ξ := ⟨fun _ _ => rfl, rfl, rfl, rfl, rfl, rfl⟩
theorem lkeq.trans {a b c : XS} (h : lkeq a b) (h2 : lkeq b c) : lkeq a c := ⟨fun k hk => (h2.1 k hk).trans (h.1 k hk), h2.2.1.trans h.2.1, h2.2.2.1.trans h.2.2.1, h2.2.2.2.1.trans h.2.2.2.1, h2.2.2.2.2.1.trans h.2.2.2.2.1, h2.2.2.2.2.2.trans h.2.2.2.2.2⟩
theorem lkeq_xlk (ξ : XS) (a h k t u d : Int32) : lkeq ξ (xlk ξ a h k t u d) := by
  refine ⟨fun j hj => ?_, rfl, rfl, rfl, rfl, rfl⟩
  unfold xlk
  simp only [xF_sXF]
  repeat rw [if_neg (by omega)]
theorem Dp_lk {g : XG} {τ : Nat} {ξ ξ' : XS} {σ : MS} {A H D T wk : Nat} {hq hr : Nat → Nat} (hτ : τ ≤ 3) (h : Dp g τ ξ σ A H D T wk hq hr) (e : lkeq ξ ξ') (p : Nat → Int32) : Dp g τ ξ' (sP σ p) A H D T wk hq hr := by
  obtain ⟨p1, p2, p3, p4, p5, p6, p7, p8, p9, p10, p11, p12, p13, p14, p15⟩ := h
  obtain ⟨e1, e2, e3, e4, e5, e6⟩ := e
  refine ⟨p1, p2, p3, p4, p5, ?_, p7, p8, ?_, ?_, ?_, ?_, ?_, p14, ?_⟩
  · rw [e1 _ (by omega)]; exact p6
  · rw [e5, e3]; exact p9
  · rw [e5]; exact p10
  · rw [e2]; exact p11
  · rw [e2]; exact p12
  · rw [e2]; exact p13
  · rw [e5, e4]; exact p15
def Tp (g : XG) (τ : Nat) (ξ : XS) (σ : MS) (A H D T wk : Nat) (hq hr : Nat → Nat) : Prop :=
  Dp g τ ξ σ A H D T wk hq hr ∧ gF σ 0 = nI H ∧ xF ξ (202 + 10 * τ) = nI H ∧ eqN 6 (xR ξ (200 + 10 * τ)) (gR σ 5) ∧ ∀ h, h < H → hx (gR σ 5 h) A
theorem Tp_lk {g : XG} {τ : Nat} {ξ ξ' : XS} {σ : MS} {A H D T wk : Nat} {hq hr : Nat → Nat} (hτ : τ ≤ 3) (h : Tp g τ ξ σ A H D T wk hq hr) (e : lkeq ξ ξ') (p : Nat → Int32) : Tp g τ ξ' (sP σ p) A H D T wk hq hr := by
  obtain ⟨p1, p2, p3, p4, p5⟩ := h
  refine ⟨Dp_lk hτ p1 e p, p2, ?_, ?_, p5⟩
  · rw [e.1 _ (by omega)]; exact p3
  · rw [e.2.1]; exact p4
theorem Tp_lkX {g : XG} {τ : Nat} {ξ ξ' : XS} {σ : MS} {A H D T wk : Nat} {hq hr : Nat → Nat} (hτ : τ ≤ 3) (h : Tp g τ ξ σ A H D T wk hq hr) (e : lkeq ξ ξ') : Tp g τ ξ' σ A H D T wk hq hr := by
  have := Tp_lk hτ h e (gR σ 32)
  rwa [sP_self] at this
theorem m_deed_at {N : Nat} (hN : 1000 ≤ N) {g : XG} {τ : Nat} {ξ : XS} (hτ : τ ≤ 3) (σ : MS) {A H D T wk : Nat} {hq hr : Nat → Nat} (hp : Dp g τ ξ σ A H D T wk hq hr) {a h : Nat} (ha : a < A) (hh : h < H) (p : Nat → Int32) : ∃ p', m_deed N (nI a) (nI h) (sP σ p) = some (deedM σ a h, sP σ p') := by
  obtain ⟨p', e⟩ := m_deed_eq hN (sP σ p) (Dp_lk hτ hp (lkeq_refl ξ) p) ha hh
  rw [sP_sP] at e
  exact ⟨p', e⟩
theorem x0_deed_at {N : Nat} (hN : 1000 ≤ N) {g : XG} {τ : Nat} (hτ : τ ≤ 3) {ξ ξ1 : XS} (σ : MS) {A H D T wk : Nat} {hq hr : Nat → Nat} (hp : Dp g τ ξ σ A H D T wk hq hr) (e : lkeq ξ ξ1) {a h : Nat} (ha : a < A) (hh : h < H) : ∃ ξ2, x0_deedOf N g τ (nI a) (nI h) ξ1 = some (deedM σ a h, ξ2) ∧ lkeq ξ ξ2 := by
  have hp' := Dp_lk hτ hp e (gR σ 32)
  rw [sP_self] at hp'
  obtain ⟨k, t, u, d, e2⟩ := x0_deedOf_eq hN hτ ξ1 σ hp' ha hh
  exact ⟨_, e2, e.trans (lkeq_xlk _ _ _ _ _ _ _)⟩
def todayS (σ : MS) (t : Int32) (n b : Nat) (x : Int32) : Int32 := fo (fun h x => if gR σ 5 h = -1 then x else if t = -1 ∨ gR σ 10 (gR σ 5 h).toNatClampNeg = t then x + deedM σ (gR σ 5 h).toNatClampNeg h else x) n b x
def todayM (σ : MS) (H : Nat) (t : Int32) : Int32 := todayS σ t H 0 0
theorem todayS_succ (σ : MS) (t : Int32) (n b : Nat) (x : Int32) : todayS σ t (n + 1) b x = todayS σ t n (b + 1) (if gR σ 5 b = -1 then x else if t = -1 ∨ gR σ 10 (gR σ 5 b).toNatClampNeg = t then x + deedM σ (gR σ 5 b).toNatClampNeg b else x) := rfl
theorem t_neg {t : Int32} (h : t = -1 ∨ 0 ≤ t) : (t < 0 ↔ t = -1) := by
  rcases h with rfl | h
  · exact ⟨fun _ => rfl, fun _ => by decide⟩
  · exact ⟨fun h2 => absurd h (Int32.not_le.mpr h2), fun h2 => by subst h2; exact absurd h (by decide)⟩
theorem m_todayOf_eq {N : Nat} (hN : 1000 ≤ N) {g : XG} {τ : Nat} {ξ : XS} (hτ : τ ≤ 3) (σ : MS) {A H D T wk : Nat} {hq hr : Nat → Nat} (hp : Tp g τ ξ σ A H D T wk hq hr) {t : Int32} (ht : t = -1 ∨ 0 ≤ t) (p : Nat → Int32) : ∃ p', m_todayOf N t (sP σ p) = some (todayM σ H t, sP σ p') := by
  obtain ⟨hd, e1, e2, e3, e4⟩ := hp
  have lA : A ≤ 6 := hd.1
  have lH : H ≤ 6 := hd.2.1
  have tn := t_neg ht
  have key : ∀ (n b k : Nat) (x : Int32) (p : Nat → Int32), n + b = H → n < k → ∃ p', m_todayOf_4 N k t x (nI b) (sP σ p) = some (todayS σ t n b x, sP σ p') := by
    intro n
    induction n with
    | zero =>
      intro b k x p hb hk
      obtain ⟨k, rfl⟩ : ∃ k', k = k' + 1 := ⟨k - 1, by omega⟩
      refine ⟨p, ?_⟩
      show m_todayOf_4b N (m_todayOf_4 N k) t x (nI b) (sP σ p) = _
      unfold m_todayOf_4b
      rw [gF_sP, e1, if_pos (nI_le (by omega) (by omega))]
      rfl
    | succ n ih =>
      intro b k x p hb hk
      obtain ⟨k, rfl⟩ : ∃ k', k = k' + 1 := ⟨k - 1, by omega⟩
      show ∃ p', m_todayOf_4b N (m_todayOf_4 N k) t x (nI b) (sP σ p) = some (_, sP σ p')
      unfold m_todayOf_4b
      simp only [gF_sP, e1, nI_ge (show b < H by omega) (show H < 2 ^ 31 by omega), if_false, in6 (show b < 6 by omega), if_true, cl6 (show b < 6 by omega), gR_sP, show ¬ (5 : Nat) = 32 by decide, show ¬ (10 : Nat) = 32 by decide, m_todayOf_55, m_todayOf_41, m_todayOf_56, nx_ok, nI_1, Int32.add_zero, todayS_succ]
      rcases e4 b (by omega) with hw | ⟨a, ha, hw⟩
      · simp only [hw, show (-1 : Int32) < 0 by decide, if_true]
        exact ih (b + 1) k x p (by omega) (by omega)
      · simp only [hw, nI_pos (show a < 2 ^ 31 by omega), if_false, nI_ne1 (show a < 2 ^ 31 by omega), cl6 (show a < 6 by omega), in6 (show a < 6 by omega), if_true]
        obtain ⟨p1, ed⟩ := m_deed_at hN hτ σ hd ha (show b < H by omega) p
        simp only [ed, bnd_ok]
        by_cases q1 : t = -1
        · simp only [q1, true_or, if_true, show (-1 : Int32) < 0 by decide]
          rw [← q1]
          exact ih (b + 1) k _ p1 (by omega) (by omega)
        · simp only [mt tn.mp q1, q1, false_or, if_false]
          by_cases q2 : gR σ 10 a = t
          · simp only [q2, if_true]
            exact ih (b + 1) k _ p1 (by omega) (by omega)
          · simp only [q2, if_false]
            exact ih (b + 1) k x p (by omega) (by omega)
  unfold m_todayOf
  exact key H 0 N 0 p (by omega) (by omega)
theorem x0_todayOf_eq {N : Nat} (hN : 1000 ≤ N) {g : XG} {τ : Nat} {ξ : XS} (hτ : τ ≤ 3) (σ : MS) {A H D T wk : Nat} {hq hr : Nat → Nat} (hp : Tp g τ ξ σ A H D T wk hq hr) (t : Int32) {ξ1 : XS} (hl : lkeq ξ ξ1) : ∃ ξ2, x0_todayOf N g τ t ξ1 = some (todayM σ H t, ξ2) ∧ lkeq ξ ξ2 := by
  obtain ⟨hd, e1, e2, e3, e4⟩ := hp
  have lA : A ≤ 6 := hd.1
  have lH : H ≤ 6 := hd.2.1
  have hobj := hd.2.2.2.2.2.2.2.2.1
  have hats := hd.2.2.2.2.2.2.1
  have key : ∀ (n b k : Nat) (x : Int32) (ξ1 : XS), lkeq ξ ξ1 → n + b = H → n < k → ∃ ξ2, x0_todayOf_5 N g τ k t x (nI b) ξ1 = some (todayS σ t n b x, ξ2) ∧ lkeq ξ ξ2 := by
    intro n
    induction n with
    | zero =>
      intro b k x ξ1 hl hb hk
      obtain ⟨k, rfl⟩ : ∃ k', k = k' + 1 := ⟨k - 1, by omega⟩
      refine ⟨ξ1, ?_, hl⟩
      show x0_todayOf_5b N g τ (x0_todayOf_5 N g τ k) t x (nI b) ξ1 = _
      unfold x0_todayOf_5b
      rw [hl.1 _ (by omega), e2, if_pos (nI_le (by omega) (by omega))]
      rfl
    | succ n ih =>
      intro b k x ξ1 hl hb hk
      obtain ⟨k, rfl⟩ : ∃ k', k = k' + 1 := ⟨k - 1, by omega⟩
      show ∃ ξ2, x0_todayOf_5b N g τ (x0_todayOf_5 N g τ k) t x (nI b) ξ1 = some (_, ξ2) ∧ lkeq ξ ξ2
      unfold x0_todayOf_5b
      simp only [hl.1 (202 + 10 * τ) (by omega), hl.2.1, hl.2.2.1, e2, nI_ge (show b < H by omega) (show H < 2 ^ 31 by omega), if_false, in6 (show b < 6 by omega), if_true, cl6 (show b < 6 by omega), e3 b (by omega), x0_todayOf_60, x0_todayOf_48, nx_ok, nI_1, todayS_succ]
      rcases e4 b (by omega) with hw | ⟨a, ha, hw⟩
      · simp only [hw, if_true]
        exact ih (b + 1) k x ξ1 hl (by omega) (by omega)
      · simp only [hw, if_false, nI_ne1 (show a < 2 ^ 31 by omega), cl6 (show a < 6 by omega), in6 (show a < 6 by omega), if_true]
        obtain ⟨ξ2, ed, hl2⟩ := x0_deed_at hN hτ σ hd hl ha (show b < H by omega)
        obtain ⟨q1, q2⟩ := hobj a ha
        obtain ⟨k6, hk6, -, ek6⟩ := kd6 (hats a ha).1
        rw [ek6] at q2
        have t3 : dI ξ1 (hq a) 8 14 3 = some (gR σ 10 a) := (hat_at (ξ := ξ1) hk6 (by rw [hl.2.2.2.2.1]; exact q2)).2.2.2.1
        simp only [ed, bnd_ok, q1, bno_ok, t3]
        by_cases q1 : t = -1
        · simp only [q1, true_or, if_true]
          rw [← q1]
          exact ih (b + 1) k _ ξ2 hl2 (by omega) (by omega)
        · simp only [q1, false_or, if_false]
          by_cases q2 : gR σ 10 a = t
          · simp only [q2, if_true]
            exact ih (b + 1) k _ ξ2 hl2 (by omega) (by omega)
          · simp only [q2, if_false]
            exact ih (b + 1) k x ξ1 hl (by omega) (by omega)
  unfold x0_todayOf
  exact key H 0 N 0 ξ1 hl (by omega) (by omega)
