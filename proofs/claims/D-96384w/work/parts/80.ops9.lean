/-! PURE: day -/
set_option maxRecDepth 100000
def sRw (σ : MS) (k : Nat) (f : Nat → Int32) : MS := (σ.1, va_up σ.2.1 k f, σ.2.2)
theorem gF_sRw (σ : MS) (k : Nat) (f : Nat → Int32) (j : Nat) : gF (sRw σ k f) j = gF σ j := rfl
theorem gR_sRw (σ : MS) (k : Nat) (f : Nat → Int32) (j : Nat) : gR (sRw σ k f) j = if j = k then f else gR σ j := rfl
theorem va_up2 {α : Type} (f : Nat → α) (k : Nat) (x y : α) : va_up (va_up f k x) k y = va_up f k y := by
  funext j
  simp only [va_up_at]
  split <;> rfl
theorem va_upS {α : Type} (f : Nat → α) (k : Nat) : va_up f k (f k) = f := by
  funext j
  simp only [va_up_at]
  split
  · rename_i h; rw [h]
  · rfl
theorem sR_sRw (σ : MS) (k : Nat) (f : Nat → Int32) (i : Nat) (v : Int32) : sR (sRw σ k f) k i v = sRw σ k (upd f i v) := by
  unfold sR sRw
  simp only [va_up2, va_up_at, if_true]
theorem sRw_self (σ : MS) (k : Nat) : sRw σ k (gR σ k) = σ := by
  unfold sRw gR
  rw [va_upS]
theorem sXR_sXC (ξ : XS) (k : Nat) (f : Nat → Int32) (i : Nat) (v : Int32) : sXR (sXC ξ k f) k i v = sXC ξ k (upd f i v) := by
  unfold sXR sXC
  simp only [va_up2, va_up_at, if_true]
theorem sXC_self (ξ : XS) (k : Nat) : sXC ξ k (xR ξ k) = ξ := by
  unfold sXC xR
  rw [va_upS]
theorem Cp_done {g : XG} {ξ : XS} {σ : MS} {t : Nat} {v : Int32} (hC : Cp g ξ σ) (hv : rg v 999999) : Cp g (sXR ξ 7 t v) (sR σ 13 t v) := by
  obtain ⟨H, A, D, S, B, T, F, R, wk, wi, hq, hr, hn, hs, hc, hrow, hby, hbw, hobj, hrw, hrd, hah, htx, hthe, htown, htr, htp, htd, him⟩ := id hC
  have eH : xF ξ 202 = nI H := hs.1.trans hn.1
  have eH2 : gF σ 0 = nI H := hn.1
  have eA : xF ξ 4 = nI A := hs.2.1.trans hn.2.1
  have eA2 : gF σ 1 = nI A := hn.2.1
  have eD : xF ξ 203 = nI D := hs.2.2.1.trans hn.2.2.1
  have eD2 : gF σ 2 = nI D := hn.2.2.1
  have eS : xF ξ 18 = nI S := hs.2.2.2.1.trans hn.2.2.2.1
  have eS2 : gF σ 43 = nI S := hn.2.2.2.1
  have eB : xF ξ 19 = nI B := hs.2.2.2.2.trans hn.2.2.2.2
  have eB2 : gF σ 47 = nI B := hn.2.2.2.2
  have lH : H ≤ 6 := hc.1
  have lA : A ≤ 6 := hc.2.1
  have lD : D ≤ 9999 := hc.2.2.1
  have lS : S ≤ 6 := hc.2.2.2.1
  have lB : B ≤ 8 := hc.2.2.2.2.1
  obtain ⟨lT, eT2, eT, lF, eF2, eF, htxt, hlet, hmu⟩ := id htx
  obtain ⟨lR, eR2, eR, hbod⟩ := id htr
  obtain ⟨c1, c2, c3, c4, c5, c6, c7, c8, c9, c10, c11⟩ := id hc
  obtain ⟨r1, r2, r3, r4, r5, r6, r7, r8, r9, r10⟩ := id hrow
  refine ⟨H, A, D, S, B, T, F, R, wk, wi, hq, hr, hn, hs, ⟨c1, c2, c3, c4, c5, c6, c7, c8, fun i hi => ?_, c10, c11⟩, ⟨r1, r2, r3, r4, r5, eqN_upd r6, r7, r8, r9, r10⟩, hby, hbw, hobj, hrw, hrd, hah, htx, hthe, htown, htr, htp, htd, him⟩
  show rg (upd (gR σ 13) t v i) 999999
  rw [upd_at]
  split
  · exact hv
  · exact c9 i hi
theorem cap_eq {x : Int32} : (if x < 999999 then x else (999999 : Int32)) = (if x ≤ 999999 then x else 999999) := by
  by_cases h : x ≤ 999999
  · rw [if_pos h]
    by_cases h2 : x < 999999
    · rw [if_pos h2]
    · rw [if_neg h2]
      exact Int32.le_antisymm (Int32.not_lt.mp h2) h
  · rw [if_neg h, if_neg (fun z => h (Int32.le_of_lt z))]
def relU (A U : Nat) (f fm : Nat → Int32) : Prop := ∀ a, a < 6 → (a < A → ∃ u, u ≤ U ∧ f a = nI u ∧ fm a = nI (min u 9999)) ∧ (A ≤ a → f a = fm a)
theorem relU_step {A U a u : Nat} {f fm : Nat → Int32} (h : relU A U f fm) (ha : a < A) (hu : f a = nI u) (hu2 : u ≤ U) : relU A (U + 1) (upd f a (nI (u + 1))) (upd fm a (nI (min (u + 1) 9999))) := by
  intro b hb
  obtain ⟨h1, h2⟩ := h b hb
  simp only [upd_at]
  by_cases e : b = a
  · subst e
    exact ⟨fun _ => ⟨u + 1, by omega, by simp, by simp⟩, fun z => by omega⟩
  · simp only [e, if_false]
    exact ⟨fun z => by obtain ⟨w, hw, e⟩ := h1 z; exact ⟨w, by omega, e⟩, h2⟩
theorem wears0 {N : Nat} {g : XG} {ξ : XS} {σ : MS} {A H D T wk : Nat} {hq hr : Nat → Nat} (hT : Tp g 0 ξ σ A H D T wk hq hr) (hD : D ≤ 9999) (h33 : gF σ 33 = 9999) : ∀ (n b k U : Nat) (f fm : Nat → Int32), n + b = H → n < k → U + n ≤ 20000 → relU A U f fm → ∃ f' fm', x1_wears_2 N g 0 k (nI b) (sXC ξ 201 f) = some (sXF (sXC ξ 201 f') 203 (nI (D + 1))) ∧ m_goDay_2 N k (nI b) (sRw σ 11 fm) = some (sF (sRw σ 11 fm') 2 (nI (D + 1))) ∧ relU A (U + n) f' fm' := by
  obtain ⟨⟨p1, p2, p3, p4, p5, p6, p7, p8, p9, p10, p11, p12, p13, p14, p15⟩, t2, t3, t4, t5⟩ := hT
  intro n
  induction n with
  | zero =>
    intro b k U f fm hb hk hU hr
    obtain ⟨k, rfl⟩ : ∃ k', k = k' + 1 := ⟨k - 1, by omega⟩
    refine ⟨f, fm, ?_, ?_, hr⟩
    · show x1_wears_2b N g 0 (x1_wears_2 N g 0 k) (nI b) (sXC ξ 201 f) = _
      unfold x1_wears_2b
      rw [show xF (sXC ξ 201 f) (202 + 10 * 0) = nI H from t3, if_pos (nI_le (by omega) (by omega)), show xF (sXC ξ 201 f) (203 + 10 * 0) = nI D from p6, nI_1]
      rfl
    · show m_goDay_2b N (m_goDay_2 N k) (nI b) (sRw σ 11 fm) = _
      unfold m_goDay_2b
      rw [gF_sRw, t2, if_pos (nI_le (by omega) (by omega)), gF_sRw, p5, nI_1]
      rfl
  | succ n ih =>
    intro b k U f fm hb hk hU hr
    obtain ⟨k, rfl⟩ : ∃ k', k = k' + 1 := ⟨k - 1, by omega⟩
    show ∃ f' fm', x1_wears_2b N g 0 (x1_wears_2 N g 0 k) (nI b) (sXC ξ 201 f) = _ ∧ m_goDay_2b N (m_goDay_2 N k) (nI b) (sRw σ 11 fm) = _ ∧ _
    unfold x1_wears_2b m_goDay_2b
    have hb6 : b < 6 := by omega
    have x1 : xF (sXC ξ 201 f) (202 + 10 * 0) = nI H := t3
    have x2 : xR (sXC ξ 201 f) (200 + 10 * 0) b = gR σ 5 b := t4 b hb6
    simp only [x1, x2, gF_sRw, t2, h33, nI_ge (show b < H by omega) (show H < 2 ^ 31 by omega), if_false, in6 hb6, cl6 hb6, if_true, gR_sRw, show ¬ (5 : Nat) = 11 by decide, nx_ok, x1_wears_35, m_goDay_68, m_goDay_67, nI_1]
    rcases t5 b (by omega) with hw | ⟨a, ha, hw⟩
    · simp only [hw, if_true, show (-1 : Int32) < 0 by decide]
      obtain ⟨f', fm', z1, z2, z3⟩ := ih (b + 1) k (U + 1) f fm (by omega) (by omega) (by omega) (fun a ha => ⟨fun z => by obtain ⟨w, hw, e⟩ := (hr a ha).1 z; exact ⟨w, by omega, e⟩, (hr a ha).2⟩)
      exact ⟨f', fm', z1, z2, by rw [show U + (n + 1) = U + 1 + n by omega]; exact z3⟩
    · have ha6 : a < 6 := by omega
      obtain ⟨u, hu, eu, em⟩ := (hr a ha6).1 ha
      have xf : xR (sXC ξ 201 f) (201 + 10 * 0) a = nI u := eu
      simp only [hw, nI_ne1 (show a < 2 ^ 31 by omega), nI_pos (show a < 2 ^ 31 by omega), if_false, in6 ha6, cl6 ha6, if_true, em, xf, nI_1, sR_sRw, show sXR (sXC ξ 201 f) (201 + 10 * 0) a (nI (u + 1)) = sXC ξ 201 (upd f a (nI (u + 1))) from sXR_sXC ξ 201 f a _]
      have hst := relU_step hr ha eu hu
      obtain ⟨f', fm', z1, z2, z3⟩ := ih (b + 1) k (U + 1) _ _ (by omega) (by omega) (by omega) hst
      refine ⟨f', fm', z1, ?_, by rw [show U + (n + 1) = U + 1 + n by omega]; exact z3⟩
      by_cases q : (9999 : Int32) ≤ nI (min u 9999)
      · simp only [q, if_true]
        have hu9 : 9999 ≤ u := by
          refine Nat.le_of_not_lt fun z => ?_
          exact absurd q (nI_ge (b := 9999) (by omega) (by omega))
        rw [show min (u + 1) 9999 = 9999 by omega] at z2
        exact z2
      · simp only [q, if_false]
        have hu9 : u < 9999 := by
          refine Nat.lt_of_not_le fun z => q ?_
          rw [show min u 9999 = 9999 by omega]
          decide
        rw [show min u 9999 + 1 = min (u + 1) 9999 by omega]
        exact z2
theorem cap0 {N : Nat} {g : XG} {ξ : XS} {A : Nat} (lA : A ≤ 6) (eA : xF ξ 4 = nI A) (v d : Int32) (fm : Nat → Int32) : ∀ (n c k : Nat) (f : Nat → Int32), n + c = A → n < k → relU A 20000 f fm ∨ True → (∀ a, a < 6 → (a < c ∨ A ≤ a → f a = fm a) ∧ (c ≤ a → a < A → ∃ u, u ≤ 20000 ∧ f a = nI u ∧ fm a = nI (min u 9999))) → ∃ f', x0_day_76 N g k v (nI c) (sXF (sXC ξ 201 f) 203 d) = some (v, sXF (sXC ξ 201 f') 203 d) ∧ eqN 6 f' fm := by
  intro n
  induction n with
  | zero =>
    intro c k f hc hk _ h
    obtain ⟨k, rfl⟩ : ∃ k', k = k' + 1 := ⟨k - 1, by omega⟩
    refine ⟨f, ?_, fun a ha => (h a ha).1 (by omega)⟩
    show x0_day_76b N g (x0_day_76 N g k) v (nI c) _ = _
    unfold x0_day_76b
    rw [show xF (sXF (sXC ξ 201 f) 203 d) 4 = nI A from eA, if_pos (nI_le (by omega) (by omega))]
  | succ n ih =>
    intro c k f hc hk _ h
    obtain ⟨k, rfl⟩ : ∃ k', k = k' + 1 := ⟨k - 1, by omega⟩
    show ∃ f', x0_day_76b N g (x0_day_76 N g k) v (nI c) _ = _ ∧ _
    unfold x0_day_76b
    have hc6 : c < 6 := by omega
    obtain ⟨u, hu, eu, em⟩ := (h c hc6).2 (by omega) (by omega)
    have xf : xR (sXF (sXC ξ 201 f) 203 d) 201 c = nI u := eu
    have hm : (if nI u < 9999 then nI u else 9999) = nI (min u 9999) := by
      by_cases q : u < 9999
      · rw [if_pos (show nI u < 9999 from nI_lt (b := 9999) q (by omega)), show min u 9999 = u by omega]
      · rw [if_neg (show ¬ nI u < 9999 from Int32.not_lt.mpr (nI_le (a := 9999) (by omega) (by omega))), show min u 9999 = 9999 by omega]
        rfl
    simp only [show xF (sXF (sXC ξ 201 f) 203 d) 4 = nI A from eA, nI_ge (show c < A by omega) (show A < 2 ^ 31 by omega), if_false, in6 hc6, cl6 hc6, if_true, xf, hm, nx_ok, nI_1]
    rw [show sXR (sXF (sXC ξ 201 f) 203 d) 201 c (nI (min u 9999)) = sXF (sXC ξ 201 (upd f c (nI (min u 9999)))) 203 d by
      rw [← sXR_sXC]; rfl]
    refine ih (c + 1) k _ (by omega) (by omega) (Or.inr trivial) (fun a ha => ?_)
    simp only [upd_at]
    by_cases e : a = c
    · subst e
      exact ⟨fun _ => by simp [em], fun z => by omega⟩
    · simp only [e, if_false]
      exact ⟨fun z => (h a ha).1 (by omega), fun z z2 => (h a ha).2 (by omega) z2⟩
theorem Cp_day {g : XG} {ξ : XS} {σ : MS} {f fm : Nat → Int32} {d : Nat} (hC : Cp g ξ σ) (hd : d ≤ 9999) (he : eqN 6 f fm) (hf : ∀ A, A ≤ 6 → xF ξ 4 = nI A → ∀ a, a < A → rg (fm a) 9999) : Cp g (sXF (sXC ξ 201 f) 203 (nI d)) (sF (sRw σ 11 fm) 2 (nI d)) := by
  obtain ⟨H, A, D, S, B, T, F, R, wk, wi, hq, hr, hn, hs, hc, hrow, hby, hbw, hobj, hrw, hrd, hah, htx, hthe, htown, htr, htp, htd, him⟩ := id hC
  have eH : xF ξ 202 = nI H := hs.1.trans hn.1
  have eH2 : gF σ 0 = nI H := hn.1
  have eA : xF ξ 4 = nI A := hs.2.1.trans hn.2.1
  have eA2 : gF σ 1 = nI A := hn.2.1
  have eD : xF ξ 203 = nI D := hs.2.2.1.trans hn.2.2.1
  have eD2 : gF σ 2 = nI D := hn.2.2.1
  have eS : xF ξ 18 = nI S := hs.2.2.2.1.trans hn.2.2.2.1
  have eS2 : gF σ 43 = nI S := hn.2.2.2.1
  have eB : xF ξ 19 = nI B := hs.2.2.2.2.trans hn.2.2.2.2
  have eB2 : gF σ 47 = nI B := hn.2.2.2.2
  have lH : H ≤ 6 := hc.1
  have lA : A ≤ 6 := hc.2.1
  have lD : D ≤ 9999 := hc.2.2.1
  have lS : S ≤ 6 := hc.2.2.2.1
  have lB : B ≤ 8 := hc.2.2.2.2.1
  obtain ⟨lT, eT2, eT, lF, eF2, eF, htxt, hlet, hmu⟩ := id htx
  obtain ⟨lR, eR2, eR, hbod⟩ := id htr
  obtain ⟨c1, c2, c3, c4, c5, c6, c7, c8, c9, c10, c11⟩ := id hc
  obtain ⟨r1, r2, r3, r4, r5, r6, r7, r8, r9, r10⟩ := id hrow
  refine ⟨H, A, d, S, B, T, F, R, wk, wi, hq, hr, ⟨hn.1, hn.2.1, rfl, hn.2.2.2⟩, ⟨hs.1, hs.2.1, rfl, hs.2.2.2⟩, ⟨c1, c2, hd, c4, c5, c6, c7, fun i hi => ?_, c9, c10, c11⟩, ⟨r1, r2, r3, r4, he, r6, r7, r8, r9, r10⟩, hby, hbw, hobj, hrw, hrd, hah, htx, hthe, htown, htr, htp, htd, him⟩
  obtain ⟨d1, d2, d3, d4, d5, d6, d7⟩ := c8 i hi
  exact ⟨d1, d2, d3, d4, d5, hf A lA eA i hi, d7⟩
theorem op_11 {N : Nat} (hN : 1000 ≤ N) (g : XG) : OP_11 N g (Cp g) := by
  intro ξ σ hC
  obtain ⟨A, H, D, T, wk, hq, hr, hT, eA, eA2, hby, hin, lD, hus⟩ := Cp_all hC
  unfold x0_day m_day
  have eD : xF ξ 203 = nI D := hT.1.2.2.2.2.2.1
  have eD2 : gF σ 2 = nI D := hT.1.2.2.2.2.1
  rw [eD, eD2]
  by_cases h9 : nI D = 9999
  · exact ⟨-3, ξ, σ, by rw [if_pos h9], by rw [if_pos h9], hC⟩
  · have hD9 : D < 9999 := by
      refine Nat.lt_of_le_of_ne lD fun z => h9 (by rw [z]; rfl)
    simp only [h9, if_false]
    have key : ∀ (v : Int32) (n b k : Nat) (ξ : XS) (σ : MS), Cp g ξ σ → xF ξ 203 = nI D → n + b = 5 → n < k → ∃ ξ1 σ1, x0_day_28 N g k v (nI b) ξ = some (v, ξ1) ∧ m_day_21 N k v (nI b) σ = some (v, σ1) ∧ Cp g ξ1 σ1 := by
      clear hT eA eA2 hby hin hus hC eD eD2
      intro v n
      induction n with
      | zero =>
        intro b k ξ σ hC eD hb hk
        obtain ⟨k, rfl⟩ : ∃ k', k = k' + 1 := ⟨k - 1, by omega⟩
        obtain ⟨A, H, D', T, wk, hq, hr, hT, eA, eA2, hby, hin, lD, hus⟩ := Cp_all hC
        obtain rfl : D' = D := nI_inj (by omega) (by omega) (hT.1.2.2.2.2.2.1.symm.trans eD)
        have lA : A ≤ 6 := hT.1.1
        have lH : H ≤ 6 := hT.1.2.1
        have p13 : eqN 6 (xR ξ 201) (gR σ 11) := hT.1.2.2.2.2.2.2.2.2.2.2.2.2.1
        obtain ⟨f', fm', w1, w2, w3⟩ := wears0 (N := N) hT (by omega) (Cp_33 hC) H 0 N 9999 (xR ξ 201) (gR σ 11) (by omega) (by omega) (by omega) (fun a ha => ⟨fun z => by
          obtain ⟨u, hu, eu⟩ := hus a z
          exact ⟨u, hu, (p13 a ha).trans eu, by rw [eu, show min u 9999 = u by omega]⟩, fun _ => p13 a ha⟩)
        rw [sXC_self] at w1
        rw [sRw_self] at w2
        obtain ⟨f2, y1, y2⟩ := cap0 (N := N) (g := g) (ξ := ξ) lA eA v (nI (D' + 1)) fm' A 0 N f' (by omega) (by omega) (Or.inr trivial) (fun a ha => ⟨fun z => (w3 a ha).2 (by omega), fun _ z => by
          obtain ⟨u, hu, eu⟩ := (w3 a ha).1 z
          exact ⟨u, by omega, eu⟩⟩)
        show ∃ ξ1 σ1, x0_day_28b N g (x0_day_28 N g k) v (nI b) ξ = some (v, ξ1) ∧ m_day_21b N (m_day_21 N k) v (nI b) σ = some (v, σ1) ∧ _
        unfold x0_day_28b m_day_21b
        rw [if_pos (show (5 : Int32) ≤ nI b from nI_le (a := 5) (by omega) (by omega)), if_pos (show (5 : Int32) ≤ nI b from nI_le (a := 5) (by omega) (by omega))]
        have w1' : x1_wears N g 0 ξ = some (sXF (sXC ξ 201 f') 203 (nI (D' + 1))) := w1
        have w2' : m_goDay N σ = some (sF (sRw σ 11 fm') 2 (nI (D' + 1))) := w2
        simp only [w1', w2', bnv_ok, nx_ok]
        refine ⟨_, _, y1, rfl, Cp_day hC (by omega) y2 (fun A2 lA2 eA3 a ha => ?_)⟩
        obtain rfl : A2 = A := nI_inj (by omega) (by omega) (eA3.symm.trans eA)
        obtain ⟨u, hu, eu, em⟩ := (w3 a (by omega)).1 ha
        exact ⟨min u 9999, by omega, em⟩
      | succ n ih =>
        intro b k ξ σ hC eD hb hk
        obtain ⟨k, rfl⟩ : ∃ k', k = k' + 1 := ⟨k - 1, by omega⟩
        obtain ⟨A, H, D', T, wk, hq, hr, hT, eA, eA2, hby, hin, lD, hus⟩ := Cp_all hC
        obtain ⟨p, e1⟩ := m_todayOf_eq hN (by omega) σ hT (t := nI b) (Or.inr (nI_pos' (by omega))) (gR σ 32)
        obtain ⟨ξ2, e2, hl⟩ := x0_todayOf_eq hN (by omega) σ hT (nI b) (lkeq_refl ξ)
        rw [sP_self] at e1
        have hC2 := Cp_lk hC hl p
        show ∃ ξ1 σ1, x0_day_28b N g (x0_day_28 N g k) v (nI b) ξ = some (v, ξ1) ∧ m_day_21b N (m_day_21 N k) v (nI b) σ = some (v, σ1) ∧ _
        unfold x0_day_28b m_day_21b
        have hb5 : ¬ (5 : Int32) ≤ nI b := nI_ge (b := 5) (by omega) (by omega)
        have i5 : inb (nI b) 5 = true := inN (by omega) (by omega)
        have cl : (nI b).toNatClampNeg = b := nI_clamp (by omega)
        have rd : rg (gR σ 13 b) 999999 ∧ xR ξ 7 b = gR σ 13 b := by
          obtain ⟨H, A, D, S, B, T, F, R, wk, wi, hq, hr, hn, hs, hc, hrow, -⟩ := hC
          exact ⟨hc.2.2.2.2.2.2.2.2.1 b (by omega), hrow.2.2.2.2.2.1 b (by omega)⟩
        have hrg := today_rg hT (fun a ha => by obtain ⟨u, hu, eu⟩ := hus a ha; exact ⟨u, by omega, eu⟩) (nI b)
        generalize todayM σ H (nI b) = w at *
        have hv : rg (if gR σ 13 b + w ≤ 999999 then gR σ 13 b + w else 999999) 999999 := by
          have h1 := rg_toInt (by omega) rd.1
          have h2 := rg_toInt (by omega) hrg
          have h3 := tadd (x := gR σ 13 b) (y := w) (by omega) (by omega)
          split
          · rename_i q
            have := Int32.le_iff_toInt_le.mp q
            rw [show (999999 : Int32).toInt = 999999 by decide] at this
            exact toInt_rg (by omega)
          · exact ⟨999999, by omega, rfl⟩
        simp only [hb5, if_false, i5, if_true, e1, e2, bnd_ok, cl, nx_ok, rd.2, cap_eq, m_day_58, nI_1]
        have hC3 := Cp_done (t := b) hC2 hv
        have nxt := ih (b + 1) k _ _ hC3 (show xF ξ2 203 = nI D by rw [hl.1 203 (by omega)]; exact eD) (by omega) (by omega)
        by_cases q : gR σ 13 b + w ≤ 999999
        · simp only [q, if_true] at nxt ⊢
          exact nxt
        · simp only [q, if_false] at nxt ⊢
          exact nxt
    obtain ⟨p, e1⟩ := m_todayOf_eq hN (by omega) σ hT (t := -1) (Or.inl rfl) (gR σ 32)
    obtain ⟨ξ2, e2, hl⟩ := x0_todayOf_eq hN (by omega) σ hT (-1) (lkeq_refl ξ)
    rw [sP_self] at e1
    simp only [e1, e2, bnd_ok, nx_ok]
    obtain ⟨ξ3, σ3, z1, z2, z3⟩ := key _ 5 0 N ξ2 (sP σ p) (Cp_lk hC hl p) (by rw [hl.1 203 (by omega)]; exact eD) (by omega) (by omega)
    exact ⟨_, ξ3, σ3, z1, z2, z3⟩
