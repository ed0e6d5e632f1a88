/-! PURE: tapes -/
set_option maxRecDepth 100000
def xcD (g : XG) : Prop := ∀ i j, i < 5 → j < 5 → xc g i = xc g j → i = j
theorem fitZ {v : Int32} (h : fits .boolean (.int v) = true) : v = 0 ∨ v = 1 := by simpa [fits] using h
theorem nar8 (x : Int32) : vp_nar .byte (x.toInt8.toInt32) = x.toInt8.toInt32 := by
  show (x.toInt8.toInt32).toInt8.toInt32 = _
  rw [Int8.toInt8_toInt32]
theorem nar16 (x : Int32) : vp_nar .short (x.toInt16.toInt32) = x.toInt16.toInt32 := by
  show (x.toInt16.toInt32).toInt16.toInt32 = _
  rw [Int16.toInt16_toInt32]
theorem fit8 (y : Int8) : fits .byte (.int y.toInt32) = true := by
  show (decide (-128 ≤ y.toInt32) && decide (y.toInt32 ≤ 127)) = true
  have h1 := Int8.toInt_lt y
  have h2 := Int8.le_toInt y
  simp only [Bool.and_eq_true, decide_eq_true_eq, Int32.le_iff_toInt_le, Int8.toInt_toInt32, show (-128 : Int32).toInt = -128 by decide, show (127 : Int32).toInt = 127 by decide]
  omega
theorem fit16 (y : Int16) : fits .short (.int y.toInt32) = true := by
  show (decide (-32768 ≤ y.toInt32) && decide (y.toInt32 ≤ 32767)) = true
  have h1 := Int16.toInt_lt y
  have h2 := Int16.le_toInt y
  simp only [Bool.and_eq_true, decide_eq_true_eq, Int32.le_iff_toInt_le, Int16.toInt_toInt32, show (-32768 : Int32).toInt = -32768 by decide, show (32767 : Int32).toInt = 32767 by decide]
  omega
theorem tEnt_x {g : XG} {s n : Nat} {it : Nat → Int64} {e : va_E} (h : tEnt g s n it e) : ∃ x, e = .inl (xc g (tCls s), n, x) := by
  rcases h with ⟨rfl, f, rfl, -⟩ | ⟨-, f, rfl, -⟩
  · exact ⟨_, rfl⟩
  · exact ⟨_, rfl⟩
theorem tEnt_pa {g : XG} {s n : Nat} {it : Nat → Int64} {e : va_E} (h : tEnt g s n it e) : isPA e := by
  rcases h with ⟨-, f, rfl, -⟩ | ⟨-, f, rfl, -⟩
  · exact Or.inr ⟨_, _, _, rfl⟩
  · exact Or.inl ⟨_, _, _, rfl⟩
theorem tCls5 {s : Nat} (h : s ≤ 4) : tCls s < 5 := by
  have h7 : s = 0 ∨ s = 1 ∨ s = 2 ∨ s = 3 ∨ s = 4 := by omega
  rcases h7 with rfl | rfl | rfl | rfl | rfl <;> decide
theorem t_ok {g : XG} (hd : xcD g) {ξ : XS} {s n r : Nat} {it : Nat → Int64} {e : va_E} (hs : s ≤ 4) (hE : dE ξ r = some e) (h : tEnt g s n it e) : okRow g ξ (some r) = true ∧ (∀ j, j < 5 → inA g ξ (some r) j = if tCls s = j then 1 else 0) ∧ (∀ j, j < 5 → dLen ξ r (xc g j) = if tCls s = j then some n else none) := by
  obtain ⟨x, rfl⟩ := tEnt_x h
  have h5 := tCls5 hs
  refine ⟨?_, fun j hj => ?_, fun j hj => ?_⟩
  · unfold okRow
    simp only [hE]
    have h7 : tCls s = 0 ∨ tCls s = 1 ∨ tCls s = 2 ∨ tCls s = 3 ∨ tCls s = 4 := by omega
    rcases h7 with h | h | h | h | h <;> rw [h] <;> simp
  · unfold inA
    simp only [hE]
    by_cases q : tCls s = j
    · rw [if_pos q, q, if_pos rfl]
    · rw [if_neg q, if_neg (fun z => q (hd _ _ h5 hj z))]
  · unfold dLen
    simp only [hE]
    by_cases q : tCls s = j
    · rw [if_pos q, q, if_pos rfl]
    · rw [if_neg q, if_neg (fun z => q (hd _ _ h5 hj z))]
theorem x5_size_eq {N : Nat} {g : XG} (hd : xcD g) {ξ : XS} {t s n r : Nat} {it : Nat → Int64} {e : va_E} (hs : s ≤ 4) (ho : xo ξ (100 + t) = some r) (hE : dE ξ r = some e) (h : tEnt g s n it e) : x5_size N g t ξ = some (nI n, ξ) := by
  obtain ⟨t1, t2, t3⟩ := t_ok hd hs hE h
  unfold x5_size
  simp only [ho, t1, if_true, t2 1 (by omega), t2 4 (by omega), t2 0 (by omega), t2 3 (by omega), bno_ok, t3 1 (by omega), t3 4 (by omega), t3 0 (by omega), t3 3 (by omega), t3 2 (by omega)]
  have h7 : s = 0 ∨ s = 1 ∨ s = 2 ∨ s = 3 ∨ s = 4 := by omega
  rcases h7 with rfl | rfl | rfl | rfl | rfl <;> simp [tCls, bno_ok] <;> rfl
theorem op_43 {N : Nat} (hN : 1000 ≤ N) (g : XG) (hd : xcD g) : OP_43 N g (Cp g) := by
  intro a1 a2 ξ σ hC
  obtain ⟨H, A, D, S, B, T, F, R, wk, wi, hq, hr, hn, hs, hc, hrow, hby, hbw, hobj, hrw, hrd, hah, htx, hthe, htown, htr, htp, htd, him⟩ := id hC
  have eH : xF ξ 202 = nI H := hs.1.trans hn.1
  have eH2 : gF σ 0 = nI H := hn.1
  have eA : xF ξ 4 = nI A := hs.2.1.trans hn.2.1
  have eA2 : gF σ 1 = nI A := hn.2.1
  have eD : xF ξ 203 = nI D := hs.2.2.1.trans hn.2.2.1
  have eD2 : gF σ 2 = nI D := hn.2.2.1
  have eS : xF ξ 18 = nI S := hs.2.2.2.1.trans hn.2.2.2.1
  have eS2 : gF σ 43 = nI S := hn.2.2.2.1
  have eB : xF ξ 19 = nI B := hs.2.2.2.2.trans hn.2.2.2.2
  have eB2 : gF σ 47 = nI B := hn.2.2.2.2
  have lH : H ≤ 6 := hc.1
  have lA : A ≤ 6 := hc.2.1
  have lD : D ≤ 9999 := hc.2.2.1
  have lS : S ≤ 6 := hc.2.2.2.1
  have lB : B ≤ 8 := hc.2.2.2.2.1
  obtain ⟨lT, eT2, eT, lF, eF2, eF, htxt, hlet, hmu⟩ := id htx
  obtain ⟨lR, eR2, eR, hbod⟩ := id htr
  unfold x0_read m_read
  simp only [x0_isTape_eq, m_isTape_eq, bnd_ok, b0]
  by_cases h1 : 0 ≤ a1 ∧ a1 ≤ 5
  · obtain ⟨t, ht, rfl⟩ := rg_of (n := 5) (by omega) h1.1 h1.2
    have ht6 : t < 6 := by omega
    simp only [h1, and_self, not_true, if_false, in6 ht6, cl6 ht6, if_true]
    rcases htp t ht6 with ⟨e1, e2⟩ | ⟨s, n, r, e, y1, y2, y3, y4, y5, y6, y7⟩
    · refine ⟨-9223372036854775808, ξ, σ, ?_, ?_, hC⟩
      · rw [e2]; rfl
      · rw [e1]; rfl
    · have hsz := x5_size_eq (N := N) hd y1 y5 y6 y7
      obtain ⟨t1, t2, t3⟩ := t_ok hd y1 y6 y7
      have hn : ¬ gR σ 74 t < 0 := by rw [y3]; exact nI_pos (by omega)
      simp only [y5, Option.isSome_some, if_true, hsz, bnd_ok, x0_in_eq, m_in_eq, b0, hn, if_false, y4]
      by_cases h2 : 0 ≤ a2 ∧ a2 ≤ nI n - 1
      · obtain ⟨i, hi, rfl⟩ := i32_nat (by omega) h2.1 ((i32_le_pred (by omega)).mp h2.2)
        have hix : (60 : Int32) * nI t + nI i = nI (60 * t + i) := by
          rw [show (60 : Int32) = nI 60 from rfl, nI_mul]; exact (Int32.ofNat_add _ _).symm
        refine ⟨gJ σ 76 (60 * t + i), ξ, σ, ?_, ?_, hC⟩
        · simp only [h2, and_self, not_true, if_false, t1, if_true, t2 1 (by omega), t2 4 (by omega), t2 0 (by omega), t2 3 (by omega), bno_ok, t3 1 (by omega), t3 4 (by omega), t3 0 (by omega), t3 3 (by omega), t3 2 (by omega)]
          have hin : inb (nI i) n = true := inN (by omega) hi
          rcases y7 with ⟨rfl, f, rfl, hf⟩ | ⟨hs3, f, rfl, hf⟩
          · have hA : dAl ξ r (xc g 3) = some (n, f) := by simp [dAl, y6]
            simp [tCls, hA, bnd_ok, hin, nI_clamp (show i < 2 ^ 31 by omega), hf i hi]
          · have hA : dA ξ r (xc g (tCls s)) = some (n, f) := by simp [dA, y6]
            have h7 : s = 0 ∨ s = 1 ∨ s = 2 ∨ s = 4 := by omega
            rcases h7 with rfl | rfl | rfl | rfl
            · simp only [tCls, if_true, show ¬ (1 : Nat) = 4 by decide, if_false] at hA ⊢
              simp [hA, bnd_ok, hin, nI_clamp (show i < 2 ^ 31 by omega), (hf i hi).1]
            · simp [tCls] at hA ⊢
              simp [hA, bnd_ok, hin, nI_clamp (show i < 2 ^ 31 by omega), (hf i hi).1]
            · simp [tCls] at hA ⊢
              simp [hA, bnd_ok, hin, nI_clamp (show i < 2 ^ 31 by omega), (hf i hi).1]
            · simp [tCls] at hA ⊢
              have hz := fitZ (hf i hi).2
              have hv : (f i).toInt64 = gJ σ 76 (60 * t + i) := (hf i hi).1
              simp only [hA, bnd_ok, hin, if_true, nI_clamp (show i < 2 ^ 31 by omega)]
              rcases hz with z | z
              · rw [z] at hv ⊢
                rw [if_pos rfl, ← hv]; rfl
              · rw [z] at hv ⊢
                rw [if_neg (by decide), ← hv]; rfl
        · simp only [h2, and_self, not_true, if_false, hix, inN (show 360 < 2 ^ 31 by omega) (show 60 * t + i < 360 by omega), if_true, nI_clamp (show 60 * t + i < 2 ^ 31 by omega)]
      · exact ⟨-9223372036854775808, ξ, σ, by simp [h2], by simp [h2], hC⟩
  · exact ⟨-9223372036854775808, ξ, σ, by simp [h1], by simp [h1], hC⟩
/-- only tapes change -/
theorem Cp_tp {g : XG} {ξ η : XS} {σ σ' : MS} (hC : Cp g ξ σ) (hF : xF η = xF ξ) (hR : xR η = xR ξ) (hQ : xQ η = xQ ξ) (ho : xo η 11 = xo ξ 11 ∧ xo η 39 = xo ξ 39) (hk : ∀ x, (∀ t, t < 6 → xo ξ (100 + t) ≠ some x) → ∀ e, dE ξ x = some e → dE η x = some e)
    (ht' : cTape g (dE η) (xo η) (gR σ' 74) (gR σ' 75) (gJ σ' 76)) (hd' : ∀ t, t < 6 → ∀ r, xo η (100 + t) = some r → (∀ u, u < 6 → xo η (100 + u) = some r → t = u) ∧ ((∃ u, u < 6 ∧ xo ξ (100 + u) = some r) ∨ r ∉ xL ξ)) (hf : ∀ k, gF σ' k = gF σ k) (hr' : ∀ k, k ≠ 74 → k ≠ 75 → gR σ' k = gR σ k) : Cp g η σ' := by
  obtain ⟨H, A, D, S, B, T, F, R, wk, wi, hq, hr, hn, hs, hc, hrow, hby, hbw, hobj, hrw, hrd, hah, htx, hthe, htown, htr, htp, htd, him⟩ := hC
  have kw : keepW (dE ξ) (dE η) := by
    intro a e he hp
    refine hk a (fun t ht z => hp ?_) e he
    rcases htp t ht with h | ⟨s, n, r, e2, y1, y2, y3, y4, y5, y6, y7⟩
    · rw [h.2] at z; cases z
    · rw [z] at y5
      cases y5
      rw [he] at y6
      cases y6
      exact tEnt_pa y7
  have kh : ∀ a, a < A → gR σ 6 a = 6 → ∀ t, t < 6 → xo ξ (100 + t) ≠ some (hr a) := fun a ha h6 t ht z => (htd t ht _ z).2.1 a ha h6 rfl
  have kwk : ∀ t, t < 6 → xo ξ (100 + t) ≠ some wk := fun t ht z => (htd t ht _ z).2.2.1 rfl
  have kwi : ∀ t, t < 6 → xo ξ (100 + t) ≠ some wi := fun t ht z => (htd t ht _ z).2.2.2 rfl
  have hrow' : cRow g (dE η) A (gR σ 6) (gR σ 12) hr := by
    intro a ha h6
    obtain ⟨f, z1, z2⟩ := hrw a ha h6
    exact ⟨f, hk _ (kh a ha h6) _ z1, z2⟩
  have htown' : cTown g (dE η) (xo η 11) (gF σ 15) (gR σ 20) (gR σ 21) (gR σ 22) (gR σ 23) (gR σ 24) (gR σ 25) (gR σ 26) wk := by
    rw [ho.1]
    exact cTown_keep kw (fun e => hk _ kwk e) htown
  have hwkin : wk ∈ xL ξ := by
    obtain ⟨w1, al, od, len, mo, many, f, fw, h1, h2, h3, -⟩ := htown
    exact dE_in h3
  refine ⟨H, A, D, S, B, T, F, R, wk, (if gF σ 50 = 0 then wk else wi), hq, hr, ?_, ?_, ?_, ?_, ?_, ?_, ?_, ?_, ?_, ?_, ?_, ?_, ?_, ?_, ht', ?_, ?_⟩
  · simp only [hf]; exact hn
  · simp only [hf, hF]; exact hs
  · rw [hr' 3 (by omega) (by omega), hr' 4 (by omega) (by omega), hr' 5 (by omega) (by omega), hr' 6 (by omega) (by omega), hr' 7 (by omega) (by omega), hr' 8 (by omega) (by omega), hr' 9 (by omega) (by omega), hr' 10 (by omega) (by omega), hr' 11 (by omega) (by omega), hr' 12 (by omega) (by omega), hr' 13 (by omega) (by omega), hr' 44 (by omega) (by omega), hr' 45 (by omega) (by omega), hr' 48 (by omega) (by omega), hr' 49 (by omega) (by omega)]; exact hc
  · rw [hr' 3 (by omega) (by omega), hr' 4 (by omega) (by omega), hr' 5 (by omega) (by omega), hr' 9 (by omega) (by omega), hr' 11 (by omega) (by omega), hr' 13 (by omega) (by omega), hr' 44 (by omega) (by omega), hr' 45 (by omega) (by omega), hr' 48 (by omega) (by omega), hr' 49 (by omega) (by omega), hR]; exact hrow
  · rw [hR]; exact hby
  · rw [hR]; exact hbw
  · rw [hr' 6 (by omega) (by omega), hr' 7 (by omega) (by omega), hr' 8 (by omega) (by omega), hr' 10 (by omega) (by omega), hQ]; exact cObj_keep kw hobj
  · rw [hr' 6 (by omega) (by omega), hr' 12 (by omega) (by omega)]; exact hrow'
  · rw [hr' 6 (by omega) (by omega)]; exact hrd
  · rw [hQ]; exact cAllH_keep kw hah
  · simp only [hf, hF, hR]; rw [hr' 19 (by omega) (by omega), hr' 31 (by omega) (by omega)]; exact htx
  · simp only [hf]; rw [hr' 20 (by omega) (by omega), hr' 21 (by omega) (by omega), hr' 22 (by omega) (by omega), hr' 23 (by omega) (by omega)]; exact hthe
  · simp only [hf]; rw [hr' 20 (by omega) (by omega), hr' 21 (by omega) (by omega), hr' 22 (by omega) (by omega), hr' 23 (by omega) (by omega), hr' 24 (by omega) (by omega), hr' 25 (by omega) (by omega), hr' 26 (by omega) (by omega)]; exact htown'
  · simp only [hf, hF, hR]; rw [hr' 73 (by omega) (by omega)]; exact htr
  · rw [hr' 6 (by omega) (by omega)]
    intro t ht r hr9
    obtain ⟨z1, z2⟩ := hd' t ht r hr9
    refine ⟨z1, fun a ha h6 => ?_, ?_, ?_⟩
    · rcases z2 with ⟨u, hu, e⟩ | h
      · exact fun z => kh a ha h6 u hu (z ▸ e)
      · obtain ⟨f, y1, -⟩ := hrw a ha h6
        exact fun z => h (z ▸ dE_in y1)
    · rcases z2 with ⟨u, hu, e⟩ | h
      · exact fun z => kwk u hu (z ▸ e)
      · exact fun z => h (z ▸ hwkin)
    · split
      · rcases z2 with ⟨u, hu, e⟩ | h
        · exact fun z => kwk u hu (z ▸ e)
        · exact fun z => h (z ▸ hwkin)
      · rename_i h50
        rcases z2 with ⟨u, hu, e⟩ | h
        · exact fun z => kwi u hu (z ▸ e)
        · rcases him with i | ⟨-, H', A', D', S', B', -, i⟩
          · exact absurd i.1 h50
          · obtain ⟨w1, al, od, len, mo, many, f, fw, h1, h2, h3, -⟩ := i.2.2.2.2.2.2.2.2.2
            exact fun z => h (z ▸ dE_in h3)
  · rw [hf, ho.2]
    rcases him with h | ⟨h, H', A', D', S', B', h2, h3⟩
    · exact Or.inl h
    · refine Or.inr ⟨h, H', A', D', S', B', h2, ?_⟩
      rw [if_neg (by rw [h]; decide)]
      obtain ⟨i1, i2, i3, i4, i5, i6, i7, i8, i9, i10⟩ := h3
      refine ⟨?_, ?_, ?_, ?_, ?_, ?_, ?_, ?_, ?_, ?_⟩
      · simp only [hf]; exact i1
      · simp only [hf, hF]; exact i2
      · rw [hr' 57 (by omega) (by omega), hr' 58 (by omega) (by omega), hr' 59 (by omega) (by omega), hr' 60 (by omega) (by omega), hr' 61 (by omega) (by omega), hr' 62 (by omega) (by omega), hr' 63 (by omega) (by omega), hr' 64 (by omega) (by omega), hr' 65 (by omega) (by omega), hr' 66 (by omega) (by omega), hr' 67 (by omega) (by omega), hr' 68 (by omega) (by omega), hr' 69 (by omega) (by omega), hr' 70 (by omega) (by omega), hr' 71 (by omega) (by omega)]; exact i3
      · rw [hr' 57 (by omega) (by omega), hr' 58 (by omega) (by omega), hr' 59 (by omega) (by omega), hr' 63 (by omega) (by omega), hr' 65 (by omega) (by omega), hr' 67 (by omega) (by omega), hr' 68 (by omega) (by omega), hr' 69 (by omega) (by omega), hr' 70 (by omega) (by omega), hr' 71 (by omega) (by omega), hR]; exact i4
      · rw [hQ, hr' 60 (by omega) (by omega), hr' 61 (by omega) (by omega), hr' 62 (by omega) (by omega), hr' 64 (by omega) (by omega), hr' 6 (by omega) (by omega), hr' 7 (by omega) (by omega), hr' 8 (by omega) (by omega), hr' 10 (by omega) (by omega)]; exact i5
      · rw [hr' 6 (by omega) (by omega), hR, hr' 66 (by omega) (by omega)]; exact i6
      · rw [hQ]; exact cAllH_keep kw i7
      · rw [hR]; exact i8
      · simp only [hf]; rw [hr' 20 (by omega) (by omega), hr' 21 (by omega) (by omega), hr' 22 (by omega) (by omega), hr' 23 (by omega) (by omega)]; exact i9
      · simp only [hf]; rw [hr' 20 (by omega) (by omega), hr' 21 (by omega) (by omega), hr' 22 (by omega) (by omega), hr' 23 (by omega) (by omega), hr' 24 (by omega) (by omega), hr' 25 (by omega) (by omega), hr' 26 (by omega) (by omega), ho.2]
        exact cTown_keep kw (fun e => hk _ kwi e) i10
