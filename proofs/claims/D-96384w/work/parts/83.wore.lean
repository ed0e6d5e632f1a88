/-! PURE: wore -/
set_option maxRecDepth 100000
def alN (p : Nat → Bool) : Nat → Nat → Bool
  | 0, _ => true
  | n + 1, b => p b && alN p n (b + 1)
theorem lk21 {ξ ξ2 : XS} {f : Nat → Int32} {i : Nat} {v : Int32} (h : lkeq (sXC ξ 21 f) ξ2) : lkeq (sXC ξ 21 (upd f i v)) (sXR ξ2 21 i v) := by
  obtain ⟨h1, h2, h3, h4, h5, h6⟩ := h
  refine ⟨h1, ?_, h3, h4, h5, h6⟩
  funext j
  rw [xR_sXR, h2, xR_sXC, xR_sXC, xR_sXC]
  simp only [if_true]
  split <;> rfl
theorem ix36 {a h : Nat} : (6 : Int32) * nI a + nI h = nI (6 * a + h) := by
  rw [show (6 : Int32) = nI 6 from rfl, nI_mul]
  exact (Int32.ofNat_add _ _).symm
theorem looks_eq {N : Nat} (hN : 1000 ≤ N) {g : XG} {ξ : XS} {σ : MS} {A H D T wk : Nat} {hq hr : Nat → Nat} (hT : Tp g 0 ξ σ A H D T wk hq hr) (eA : xF ξ 4 = nI A) : ∃ f ξ', x0_looksForDeeds N g ξ = some ξ' ∧ lkeq (sXC ξ 21 f) ξ' ∧ ∀ a h, a < A → h < H → f (6 * a + h) = deedM σ a h := by
  have lA : A ≤ 6 := hT.1.1
  have lH : H ≤ 6 := hT.1.2.1
  have eH : xF ξ 202 = nI H := hT.2.2.1
  have key : ∀ (n a k : Nat) (f : Nat → Int32) (ξ1 : XS), n + a = A → n < k → lkeq (sXC ξ 21 f) ξ1 → (∀ b h, b < a → h < H → f (6 * b + h) = deedM σ b h) → ∃ f' ξ', x0_looksForDeeds_2 N g k (nI a) ξ1 = some ξ' ∧ lkeq (sXC ξ 21 f') ξ' ∧ ∀ b h, b < A → h < H → f' (6 * b + h) = deedM σ b h := by
    intro n
    induction n with
    | zero =>
      intro a k f ξ1 hb hk hl hf
      obtain ⟨k, rfl⟩ : ∃ k', k = k' + 1 := ⟨k - 1, by omega⟩
      refine ⟨f, ξ1, ?_, hl, fun b h hb hh => hf b h (by omega) hh⟩
      show x0_looksForDeeds_2b N g (x0_looksForDeeds_2 N g k) (nI a) ξ1 = _
      unfold x0_looksForDeeds_2b
      rw [hl.1 4 (by omega), show xF (sXC ξ 21 f) 4 = nI A from eA, if_pos (nI_le (by omega) (by omega))]
    | succ n ih =>
      intro a k f ξ1 hb hk hl hf
      obtain ⟨k, rfl⟩ : ∃ k', k = k' + 1 := ⟨k - 1, by omega⟩
      show ∃ f' ξ', x0_looksForDeeds_2b N g (x0_looksForDeeds_2 N g k) (nI a) ξ1 = _ ∧ _
      unfold x0_looksForDeeds_2b
      have inner : ∀ (m c j : Nat) (f : Nat → Int32) (ξ1 : XS), m + c = H → m < j → lkeq (sXC ξ 21 f) ξ1 → (∀ b h, b < a → h < H → f (6 * b + h) = deedM σ b h) → (∀ h, h < c → f (6 * a + h) = deedM σ a h) → ∃ f' ξ', x0_looksForDeeds_12 N g (x0_looksForDeeds_2 N g k) j (nI a) (nI c) ξ1 = some ξ' ∧ lkeq (sXC ξ 21 f') ξ' ∧ ∀ b h, b < A → h < H → f' (6 * b + h) = deedM σ b h := by
        intro m
        induction m with
        | zero =>
          intro c j f ξ1 hc hj hl hf hg
          obtain ⟨j, rfl⟩ : ∃ j', j = j' + 1 := ⟨j - 1, by omega⟩
          show ∃ f' ξ', x0_looksForDeeds_12b N g (x0_looksForDeeds_2 N g k) (x0_looksForDeeds_12 N g (x0_looksForDeeds_2 N g k) j) (nI a) (nI c) ξ1 = _ ∧ _
          unfold x0_looksForDeeds_12b
          rw [hl.1 202 (by omega), show xF (sXC ξ 21 f) 202 = nI H from eH, if_pos (nI_le (by omega) (by omega))]
          simp only [nx_ok, nI_1]
          refine ih (a + 1) k f ξ1 (by omega) (by omega) hl (fun b h hb hh => ?_)
          by_cases e : b = a
          · subst e; exact hg h (by omega)
          · exact hf b h (by omega) hh
        | succ m ihm =>
          intro c j f ξ1 hc hj hl hf hg
          obtain ⟨j, rfl⟩ : ∃ j', j = j' + 1 := ⟨j - 1, by omega⟩
          show ∃ f' ξ', x0_looksForDeeds_12b N g (x0_looksForDeeds_2 N g k) (x0_looksForDeeds_12 N g (x0_looksForDeeds_2 N g k) j) (nI a) (nI c) ξ1 = _ ∧ _
          unfold x0_looksForDeeds_12b
          have hd : Dp g 0 (sXC ξ 21 f) σ A H D T wk hq hr := hT.1
          obtain ⟨ξ2, e2, hl2⟩ := x0_deed_at hN (by omega) σ hd hl (show a < A by omega) (show c < H by omega)
          rw [hl.1 202 (by omega), show xF (sXC ξ 21 f) 202 = nI H from eH, if_neg (nI_ge (by omega) (by omega)), e2, bnd_ok, ix36, if_pos (inN (by omega) (show 6 * a + c < 36 by omega)), nI_clamp (by omega), nx_ok, nI_1, nx_ok]
          refine ihm (c + 1) j _ _ (by omega) (by omega) (lk21 hl2) (fun b h hb hh => ?_) (fun h hh => ?_)
          · rw [upd_at, if_neg (by omega)]; exact hf b h hb hh
          · rw [upd_at]
            by_cases e : h = c
            · subst e; rw [if_pos rfl]
            · rw [if_neg (by omega)]; exact hg h (by omega)
      rw [hl.1 4 (by omega), show xF (sXC ξ 21 f) 4 = nI A from eA, if_neg (nI_ge (by omega) (by omega)), nx_ok]
      exact inner H 0 N f ξ1 (by omega) (by omega) hl hf (fun h hh => by omega)
  have h0 : lkeq (sXC ξ 21 (xR ξ 21)) ξ := by rw [sXC_self]; exact lkeq_refl ξ
  exact key A 0 N (xR ξ 21) ξ (by omega) (by omega) h0 (fun b h hb hh => by omega)
/-- hat a on head h is as all that was seen says -/
def seenB (σ : MS) (a h : Nat) (n b : Nat) : Bool := alN (fun k => !decide (gR σ 44 k = nI a) || decide (deedM σ a h = gR σ 45 k)) n b
def woreS (σ : MS) (S a : Nat) (n b : Nat) (x : Int32) : Int32 := fo (fun h x => if seenB σ a h S 0 = true then x ||| ((1 : Int32) <<< (nI h &&& 31)) else x) n b x
theorem woreS_succ (σ : MS) (S a n b : Nat) (x : Int32) : woreS σ S a (n + 1) b x = woreS σ S a n (b + 1) (if seenB σ a b S 0 = true then x ||| ((1 : Int32) <<< (nI b &&& 31)) else x) := rfl
theorem m_woreOn_eq {N : Nat} (hN : 1000 ≤ N) {g : XG} {ξ : XS} {σ : MS} {A H D T wk S : Nat} {hq hr : Nat → Nat} (hT : Tp g 0 ξ σ A H D T wk hq hr) (eS : gF σ 43 = nI S) (lS : S ≤ 6) {a : Nat} (ha : a < A) (p : Nat → Int32) : ∃ p', m_woreOn N (nI a) (sP σ p) = some (woreS σ S a H 0 0, sP σ p') := by
  have lA : A ≤ 6 := hT.1.1
  have lH : H ≤ 6 := hT.1.2.1
  have eH : gF σ 0 = nI H := hT.2.1
  have key : ∀ (n b k : Nat) (x : Int32) (p : Nat → Int32), n + b = H → n < k → ∃ p', m_woreOn_4 N k (nI a) x (nI b) (sP σ p) = some (woreS σ S a n b x, sP σ p') := by
    intro n
    induction n with
    | zero =>
      intro b k x p hb hk
      obtain ⟨k, rfl⟩ : ∃ k', k = k' + 1 := ⟨k - 1, by omega⟩
      refine ⟨p, ?_⟩
      show m_woreOn_4b N (m_woreOn_4 N k) (nI a) x (nI b) (sP σ p) = _
      unfold m_woreOn_4b
      rw [gF_sP, eH, if_pos (nI_le (by omega) (by omega))]
      rfl
    | succ n ih =>
      intro b k x p hb hk
      obtain ⟨k, rfl⟩ : ∃ k', k = k' + 1 := ⟨k - 1, by omega⟩
      show ∃ p', m_woreOn_4b N (m_woreOn_4 N k) (nI a) x (nI b) (sP σ p) = some (_, sP σ p')
      unfold m_woreOn_4b
      obtain ⟨p1, e1⟩ := m_deed_at hN (by omega) σ hT.1 ha (show b < H by omega) p
      rw [gF_sP, eH, if_neg (nI_ge (by omega) (by omega)), e1, bnd_ok, nx_ok, nx_ok, nx_ok, woreS_succ]
      have inner : ∀ (m c j : Nat) (z : Bool), m + c = S → m < j → m_woreOn_26 N (m_woreOn_4 N k) j (nI a) x (nI b) (deedM σ a b) (b2i z) (nI c) (sP σ p1) = m_woreOn_4 N k (nI a) (if (z && seenB σ a b m c) = true then x ||| ((1 : Int32) <<< (nI b &&& 31)) else x) (nI (b + 1)) (sP σ p1) := by
        intro m
        induction m with
        | zero =>
          intro c j z hc hj
          obtain ⟨j, rfl⟩ : ∃ j', j = j' + 1 := ⟨j - 1, by omega⟩
          show m_woreOn_26b N (m_woreOn_4 N k) (m_woreOn_26 N (m_woreOn_4 N k) j) (nI a) x (nI b) (deedM σ a b) (b2i z) (nI c) (sP σ p1) = _
          unfold m_woreOn_26b
          rw [gF_sP, eS, if_pos (nI_le (by omega) (by omega))]
          cases z
          · simp [b2i, m_woreOn_89, nx_ok, nI_1]
          · simp [b2i, m_woreOn_89, nx_ok, nI_1, seenB, alN]
        | succ m ihm =>
          intro c j z hc hj
          obtain ⟨j, rfl⟩ : ∃ j', j = j' + 1 := ⟨j - 1, by omega⟩
          show m_woreOn_26b N (m_woreOn_4 N k) (m_woreOn_26 N (m_woreOn_4 N k) j) (nI a) x (nI b) (deedM σ a b) (b2i z) (nI c) (sP σ p1) = _
          unfold m_woreOn_26b
          have hc6 : c < 6 := by omega
          have h1 := ihm (c + 1) j true (by omega) (by omega)
          have h0 := ihm (c + 1) j false (by omega) (by omega)
          simp only [show b2i true = 1 from rfl, show b2i false = 0 from rfl] at h1 h0
          simp only [gF_sP, eS, nI_ge (show c < S by omega) (show S < 2 ^ 31 by omega), if_false, in6 hc6, cl6 hc6, if_true, gR_sP, show ¬ (44 : Nat) = 32 by decide, show ¬ (45 : Nat) = 32 by decide, m_woreOn_67, m_woreOn_63, m_woreOn_68, nx_ok, nI_1, h0, h1]
          have es : seenB σ a b (m + 1) c = ((!decide (gR σ 44 c = nI a) || decide (deedM σ a b = gR σ 45 c)) && seenB σ a b m (c + 1)) := rfl
          rw [es]
          cases z
          · simp [b2i]
          · simp only [show b2i true = 1 from rfl, show ¬ (1 : Int32) = 0 by decide, if_false]
            by_cases q1 : gR σ 44 c = nI a
            · by_cases q2 : gR σ 45 c = deedM σ a b
              · simp [q1, q2]
              · simp [q1, q2, Ne.symm q2]
            · simp [q1]
      obtain ⟨p2, e2⟩ := ih (b + 1) k (if (true && seenB σ a b S 0) = true then x ||| ((1 : Int32) <<< (nI b &&& 31)) else x) p1 (by omega) (by omega)
      have := inner S 0 N true (by omega) (by omega)
      rw [show (1 : Int32) = b2i true from rfl, show (0 : Int32) = nI 0 from rfl]
      refine ⟨p2, this.trans ?_⟩
      rw [e2, Bool.true_and]
      rfl
  unfold m_woreOn
  exact key H 0 N 0 p (by omega) (by omega)
theorem x0_asSeen_eq {N : Nat} (hN : 1000 ≤ N) {g : XG} {ξ : XS} {σ : MS} {A H S : Nat} (lA : A ≤ 6) (lH : H ≤ 6) (eS : xF ξ 18 = nI S) (lS : S ≤ 6) (e14 : eqN 6 (xR ξ 14) (gR σ 44)) (e15 : eqN 6 (xR ξ 15) (gR σ 45)) (hf : ∀ a h, a < A → h < H → xR ξ 21 (6 * a + h) = deedM σ a h) {a h : Nat} (ha : a < A) (hh : h < H) : x0_isAsSeen N g (nI a) (nI h) ξ = some (b2i (seenB σ a h S 0), ξ) := by
  have key : ∀ (n c k : Nat), n + c = S → n < k → x0_isAsSeen_2 N g k (nI a) (nI h) (nI c) ξ = some (b2i (seenB σ a h n c), ξ) := by
    intro n
    induction n with
    | zero =>
      intro c k hc hk
      obtain ⟨k, rfl⟩ : ∃ k', k = k' + 1 := ⟨k - 1, by omega⟩
      show x0_isAsSeen_2b N g (x0_isAsSeen_2 N g k) (nI a) (nI h) (nI c) ξ = _
      unfold x0_isAsSeen_2b
      rw [eS, if_pos (nI_le (by omega) (by omega))]
      rfl
    | succ n ih =>
      intro c k hc hk
      obtain ⟨k, rfl⟩ : ∃ k', k = k' + 1 := ⟨k - 1, by omega⟩
      show x0_isAsSeen_2b N g (x0_isAsSeen_2 N g k) (nI a) (nI h) (nI c) ξ = _
      unfold x0_isAsSeen_2b
      have hc6 : c < 6 := by omega
      have es : seenB σ a h (n + 1) c = ((!decide (gR σ 44 c = nI a) || decide (deedM σ a h = gR σ 45 c)) && seenB σ a h n (c + 1)) := rfl
      rw [es]
      simp only [eS, nI_ge (show c < S by omega) (show S < 2 ^ 31 by omega), if_false, in6 hc6, cl6 hc6, if_true, e14 c hc6, e15 c hc6, ix36, inN (show 36 < 2 ^ 31 by omega) (show 6 * a + h < 36 by omega), nI_clamp (show 6 * a + h < 2 ^ 31 by omega), hf a h ha hh, x0_isAsSeen_42, nx_ok, nI_1, ih (c + 1) k (by omega) (by omega)]
      by_cases q1 : gR σ 44 c = nI a
      · by_cases q2 : deedM σ a h = gR σ 45 c
        · simp [q1, q2]
        · simp [q1, q2, b2i]
      · simp [q1]
  unfold x0_isAsSeen
  exact key S 0 N (by omega) (by omega)
theorem x0_woreOf_eq {N : Nat} (hN : 1000 ≤ N) {g : XG} {ξ : XS} {σ : MS} {A H S : Nat} (lA : A ≤ 6) (lH : H ≤ 6) (eH : xF ξ 202 = nI H) (eS : xF ξ 18 = nI S) (lS : S ≤ 6) (e14 : eqN 6 (xR ξ 14) (gR σ 44)) (e15 : eqN 6 (xR ξ 15) (gR σ 45)) (hf : ∀ a h, a < A → h < H → xR ξ 21 (6 * a + h) = deedM σ a h) {a : Nat} (ha : a < A) : x0_woreOf N g (nI a) ξ = some (woreS σ S a H 0 0, ξ) := by
  have key : ∀ (n b k : Nat) (x : Int32), n + b = H → n < k → x0_woreOf_4 N g k (nI a) x (nI b) ξ = some (woreS σ S a n b x, ξ) := by
    intro n
    induction n with
    | zero =>
      intro b k x hb hk
      obtain ⟨k, rfl⟩ : ∃ k', k = k' + 1 := ⟨k - 1, by omega⟩
      show x0_woreOf_4b N g (x0_woreOf_4 N g k) (nI a) x (nI b) ξ = _
      unfold x0_woreOf_4b
      rw [eH, if_pos (nI_le (by omega) (by omega))]
      rfl
    | succ n ih =>
      intro b k x hb hk
      obtain ⟨k, rfl⟩ : ∃ k', k = k' + 1 := ⟨k - 1, by omega⟩
      show x0_woreOf_4b N g (x0_woreOf_4 N g k) (nI a) x (nI b) ξ = _
      unfold x0_woreOf_4b
      rw [woreS_succ]
      simp only [eH, nI_ge (show b < H by omega) (show H < 2 ^ 31 by omega), if_false, x0_asSeen_eq hN lA lH eS lS e14 e15 hf ha (show b < H by omega), bnd_ok, b2i0, x0_woreOf_30, nx_ok, nI_1, ih (b + 1) k _ (by omega) (by omega)]
      cases seenB σ a b S 0 <;> simp
  unfold x0_woreOf
  exact key H 0 N 0 (by omega) (by omega)
theorem keepX_21 {ξ ξ' : XS} {f : Nat → Int32} (h : lkeq (sXC ξ 21 f) ξ') : keepX ξ ξ' := by
  refine keepX.trans ?_ (keepX_lk h)
  refine ⟨fun _ _ => rfl, fun k hk => ?_, ⟨rfl, rfl⟩, rfl, ext_rfl, id⟩
  rw [xR_sXC, if_neg (kRx_n hk rfl)]
theorem Cp_S {g : XG} {ξ : XS} {σ : MS} (hC : Cp g ξ σ) : ∃ S, S ≤ 6 ∧ xF ξ 18 = nI S ∧ gF σ 43 = nI S ∧ eqN 6 (xR ξ 14) (gR σ 44) ∧ eqN 6 (xR ξ 15) (gR σ 45) := by
  obtain ⟨H, A, D, S, B, T, F, R, wk, wi, hq, hr, hn, hs, hc, hrow, hby, hbw, hobj, hrw, hrd, hah, htx, hthe, htown, htr, htp, htd, him⟩ := id hC
  have eH : xF ξ 202 = nI H := hs.1.trans hn.1
  have eH2 : gF σ 0 = nI H := hn.1
  have eA : xF ξ 4 = nI A := hs.2.1.trans hn.2.1
  have eA2 : gF σ 1 = nI A := hn.2.1
  have eD : xF ξ 203 = nI D := hs.2.2.1.trans hn.2.2.1
  have eD2 : gF σ 2 = nI D := hn.2.2.1
  have eS : xF ξ 18 = nI S := hs.2.2.2.1.trans hn.2.2.2.1
  have eS2 : gF σ 43 = nI S := hn.2.2.2.1
  have eB : xF ξ 19 = nI B := hs.2.2.2.2.trans hn.2.2.2.2
  have eB2 : gF σ 47 = nI B := hn.2.2.2.2
  have lH : H ≤ 6 := hc.1
  have lA : A ≤ 6 := hc.2.1
  have lD : D ≤ 9999 := hc.2.2.1
  have lS : S ≤ 6 := hc.2.2.2.1
  have lB : B ≤ 8 := hc.2.2.2.2.1
  obtain ⟨lT, eT2, eT, lF, eF2, eF, htxt, hlet, hmu⟩ := id htx
  obtain ⟨lR, eR2, eR, hbod⟩ := id htr
  exact ⟨S, lS, eS, eS2, hrow.2.2.2.2.2.2.1, hrow.2.2.2.2.2.2.2.1⟩
theorem op_28 {N : Nat} (hN : 1000 ≤ N) (g : XG) : OP_28 N g (Cp g) := by
  intro a1 ξ σ hC
  obtain ⟨A, H, D, T, wk, hq, hr, hT, eA, eA2, hby, hin, lD, hus⟩ := Cp_all hC
  obtain ⟨S, lS, eS, eS2, e14, e15⟩ := Cp_S hC
  have lA : A ≤ 6 := hT.1.1
  have lH : H ≤ 6 := hT.1.2.1
  have eH : xF ξ 202 = nI H := hT.2.2.1
  unfold x0_wore m_wore
  simp only [x0_isHat_eq, m_isHat_eq, bnd_ok, b0, eA, eA2]
  by_cases h1 : 0 ≤ a1 ∧ a1 ≤ nI A - 1
  · obtain ⟨a, ha, rfl⟩ := isHat_k lA h1
    obtain ⟨p, e1⟩ := m_woreOn_eq hN hT eS2 lS ha (gR σ 32)
    rw [sP_self] at e1
    obtain ⟨f, ξ', e2, hl, hf⟩ := looks_eq hN hT eA
    have e3 := x0_woreOf_eq (N := N) hN (g := g) (ξ := ξ') (σ := σ) lA lH (by rw [hl.1 202 (by omega)]; exact eH) (by rw [hl.1 18 (by omega)]; exact eS) lS (by rw [hl.2.1]; exact e14) (by rw [hl.2.1]; exact e15) (fun a h ha hh => by rw [hl.2.1]; exact hf a h ha hh) ha
    simp only [h1, and_self, not_true, if_false, e1, e2, e3, bnd_ok, bnv_ok]
    exact ⟨_, _, _, rfl, rfl, Cp_keep hC (keepX_21 hl) (keepM_sP σ p)⟩
  · exact ⟨-1, ξ, σ, by simp [h1], by simp [h1], hC⟩
