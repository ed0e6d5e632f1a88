/-! PURE: what Cp reads; scratch may change -/
set_option maxRecDepth 100000
def kFx (k : Nat) : Bool := [202, 4, 203, 18, 19, 10, 9, 311, 222, 36, 223, 37, 38].contains k
def kRx (k : Nat) : Bool := [0, 1, 200, 2, 201, 7, 14, 15, 16, 17, 8, 310, 28, 29, 220, 30, 221, 31, 32, 33, 34, 35, 27].contains k
def kFm (k : Nat) : Bool := [0, 1, 2, 43, 47, 14, 16, 33, 15, 72, 50, 51, 52, 53, 54, 55, 56].contains k
def kRm (k : Nat) : Bool := [3, 4, 6, 7, 8, 9, 10, 12, 13, 44, 45, 48, 49, 20, 21, 22, 23, 24, 25, 26, 19, 31, 73, 74, 75, 57, 58, 59, 60, 61, 62, 63, 64, 65, 66, 67, 68, 69, 70, 71].contains k
def keepX (ξ ξ' : XS) : Prop := (∀ k, kFx k = true → xF ξ' k = xF ξ k) ∧ (∀ k, kRx k = true → xR ξ' k = xR ξ k) ∧ (xQ ξ' 3 = xQ ξ 3 ∧ xQ ξ' 26 = xQ ξ 26) ∧ xo ξ' = xo ξ ∧ ext (dE ξ) (dE ξ') ∧ (cByte 6 (xR ξ 22) → cByte 6 (xR ξ' 22))
def keepM (σ σ' : MS) : Prop := (∀ k, kFm k = true → gF σ' k = gF σ k) ∧ (∀ k, kRm k = true → gR σ' k = gR σ k) ∧ eqN 6 (gR σ' 5) (gR σ 5) ∧ eqN 6 (gR σ' 11) (gR σ 11) ∧ gJ σ' 76 = gJ σ 76
theorem eqN_trans {n : Nat} {f g h : Nat → Int32} (a : eqN n f g) (b : eqN n g h) : eqN n f h := fun i hi => (a i hi).trans (b i hi)
theorem eqN_symm {n : Nat} {f g : Nat → Int32} (a : eqN n f g) : eqN n g f := fun i hi => (a i hi).symm
theorem keepX_refl (ξ : XS) : keepX ξ ξ := ⟨fun _ _ => rfl, fun _ _ => rfl, ⟨rfl, rfl⟩, rfl, ext_rfl, id⟩
theorem keepM_refl (σ : MS) : keepM σ σ := ⟨fun _ _ => rfl, fun _ _ => rfl, fun _ _ => rfl, fun _ _ => rfl, rfl⟩
theorem keepX.trans {a b c : XS} (h : keepX a b) (h2 : keepX b c) : keepX a c :=
  ⟨fun k hk => (h2.1 k hk).trans (h.1 k hk), fun k hk => (h2.2.1 k hk).trans (h.2.1 k hk), ⟨h2.2.2.1.1.trans h.2.2.1.1, h2.2.2.1.2.trans h.2.2.1.2⟩, h2.2.2.2.1.trans h.2.2.2.1, h.2.2.2.2.1.trans h2.2.2.2.2.1, fun z => h2.2.2.2.2.2 (h.2.2.2.2.2 z)⟩
theorem keepM.trans {a b c : MS} (h : keepM a b) (h2 : keepM b c) : keepM a c :=
  ⟨fun k hk => (h2.1 k hk).trans (h.1 k hk), fun k hk => (h2.2.1 k hk).trans (h.2.1 k hk), eqN_trans h2.2.2.1 h.2.2.1, eqN_trans h2.2.2.2.1 h.2.2.2.1, h2.2.2.2.2.trans h.2.2.2.2⟩
theorem kFx_lt {k : Nat} (h : kFx k = true) : k < 300 ∨ 305 < k := by
  unfold kFx at h
  have : k ∈ [202, 4, 203, 18, 19, 10, 9, 311, 222, 36, 223, 37, 38] := List.contains_iff_mem.mp h
  simp at this
  omega
theorem kRm_32 {k : Nat} (h : kRm k = true) : k ≠ 32 := by rintro rfl; exact absurd h (by decide)
theorem keepX_lk {ξ ξ' : XS} (h : lkeq ξ ξ') : keepX ξ ξ' := ⟨fun k hk => h.1 k (kFx_lt hk), fun k _ => by rw [h.2.1], ⟨by rw [h.2.2.1], by rw [h.2.2.1]⟩, h.2.2.2.1, fun a e h9 => by rw [h.2.2.2.2.1]; exact h9, fun z => by rw [h.2.1]; exact z⟩
theorem keepM_sP (σ : MS) (p : Nat → Int32) : keepM σ (sP σ p) := ⟨fun _ _ => rfl, fun k hk => by rw [gR_sP, if_neg (kRm_32 hk)], fun _ _ => rfl, fun _ _ => rfl, rfl⟩
theorem cHeads_eq {H A : Nat} {sz ow wo wo' : Nat → Int32} (lH : H ≤ 6) (e : eqN 6 wo' wo) (h : cHeads H A sz ow wo) : cHeads H A sz ow wo' := fun x hx => ⟨(h x hx).1, (h x hx).2.1, by rw [e x (by omega)]; exact (h x hx).2.2⟩
theorem cInj_eq {H : Nat} {wo wo' : Nat → Int32} (lH : H ≤ 6) (e : eqN 6 wo' wo) (h : cInj H wo) : cInj H wo' := fun x y hx hy he hne => h x y hx hy (by rw [← e x (by omega), ← e y (by omega)]; exact he) (by rw [← e x (by omega)]; exact hne)
theorem cHats_eq {A : Nat} {kd vv hs sk tr us us' rw : Nat → Int32} (lA : A ≤ 6) (e : eqN 6 us' us) (h : cHats A kd vv hs sk tr us rw) : cHats A kd vv hs sk tr us' rw := fun a ha => ⟨(h a ha).1, (h a ha).2.1, (h a ha).2.2.1, (h a ha).2.2.2.1, (h a ha).2.2.2.2.1, by rw [e a (by omega)]; exact (h a ha).2.2.2.2.2.1, (h a ha).2.2.2.2.2.2⟩
theorem core_eq {H A D S B : Nat} {sz ow wo wo' kd vv hs sk tr us us' rw dn sw sd bw bo : Nat → Int32} (e : eqN 6 wo' wo) (e2 : eqN 6 us' us) (h : core H A D S B sz ow wo kd vv hs sk tr us rw dn sw sd bw bo) : core H A D S B sz ow wo' kd vv hs sk tr us' rw dn sw sd bw bo := by
  obtain ⟨c1, c2, c3, c4, c5, c6, c7, c8, c9⟩ := h
  exact ⟨c1, c2, c3, c4, c5, cHeads_eq c1 e c6, cInj_eq c1 e c7, cHats_eq c2 e2 c8, c9⟩
theorem rows_eq {sz' ow' wo' sk' us' dn' sw' sd' bw' bo' sz ow wo wo2 sk us us2 dn sw sd bw bo : Nat → Int32} (e : eqN 6 wo2 wo) (e2 : eqN 6 us2 us) (h : rows sz' ow' wo' sk' us' dn' sw' sd' bw' bo' sz ow wo sk us dn sw sd bw bo) : rows sz' ow' wo' sk' us' dn' sw' sd' bw' bo' sz ow wo2 sk us2 dn sw sd bw bo := by
  obtain ⟨r1, r2, r3, r4, r5, r6⟩ := h
  exact ⟨r1, r2, eqN_trans r3 (eqN_symm e), r4, eqN_trans r5 (eqN_symm e2), r6⟩
theorem Cp_keep {g : XG} {ξ ξ' : XS} {σ σ' : MS} (hC : Cp g ξ σ) (kx : keepX ξ ξ') (km : keepM σ σ') : Cp g ξ' σ' := by
  obtain ⟨H, A, D, S, B, T, F, R, wk, wi, hq, hr, hn, hs, hc, hrow, hby, hbw, hobj, hrw, hrd, hah, htx, hthe, htown, htr, htp, htd, him⟩ := hC
  obtain ⟨x1, x2, ⟨x3, x3'⟩, x4, x5, x6⟩ := kx
  obtain ⟨m1, m2, m3, m4, m5⟩ := km
  refine ⟨H, A, D, S, B, T, F, R, wk, wi, hq, hr, ?_, ?_, ?_, ?_, ?_, x6 hbw, ?_, ?_, ?_, ?_, ?_, ?_, ?_, ?_, ?_, ?_, ?_⟩
  · rw [m1 0 rfl, m1 1 rfl, m1 2 rfl, m1 43 rfl, m1 47 rfl]; exact hn
  · rw [m1 0 rfl, m1 1 rfl, m1 2 rfl, m1 43 rfl, m1 47 rfl, x1 202 rfl, x1 4 rfl, x1 203 rfl, x1 18 rfl, x1 19 rfl]; exact hs
  · rw [m2 3 rfl, m2 4 rfl, m2 6 rfl, m2 7 rfl, m2 8 rfl, m2 9 rfl, m2 10 rfl, m2 12 rfl, m2 13 rfl, m2 44 rfl, m2 45 rfl, m2 48 rfl, m2 49 rfl]
    exact core_eq m3 m4 hc
  · rw [m2 3 rfl, m2 4 rfl, m2 9 rfl, m2 13 rfl, m2 44 rfl, m2 45 rfl, m2 48 rfl, m2 49 rfl, x2 0 rfl, x2 1 rfl, x2 200 rfl, x2 2 rfl, x2 201 rfl, x2 7 rfl, x2 14 rfl, x2 15 rfl, x2 16 rfl, x2 17 rfl]
    exact rows_eq m3 m4 hrow
  · rw [x2 200 rfl]; exact hby
  · rw [m2 6 rfl, m2 7 rfl, m2 8 rfl, m2 10 rfl, x3]; exact cObj_keep x5.w hobj
  · rw [m2 6 rfl, m2 12 rfl]; exact cRow_ext x5 hrw
  · rw [m2 6 rfl]; exact hrd
  · rw [x3]; exact cAllH_keep x5.w hah
  · rw [m1 14 rfl, m1 16 rfl, m1 33 rfl, x1 10 rfl, x1 9 rfl, x2 8 rfl, m2 19 rfl, m2 31 rfl]; exact htx
  · rw [m1 15 rfl, m2 20 rfl, m2 21 rfl, m2 22 rfl, m2 23 rfl]; exact hthe
  · rw [m1 15 rfl, m2 20 rfl, m2 21 rfl, m2 22 rfl, m2 23 rfl, m2 24 rfl, m2 25 rfl, m2 26 rfl, x4]; exact cTown_keep x5.w (fun e => x5 _ e) htown
  · rw [m1 72 rfl, x1 311 rfl, x2 310 rfl, m2 73 rfl]; exact htr
  · rw [m2 74 rfl, m2 75 rfl, m5, x4]; exact cTape_ext x5 htp
  · rw [m2 6 rfl, x4]; exact htd
  · rw [m1 50 rfl, x4]
    rcases him with h | ⟨h, H', A', D', S', B', h2, h3⟩
    · exact Or.inl h
    · refine Or.inr ⟨h, H', A', D', S', B', h2, ?_⟩
      obtain ⟨i1, i2, i3, i4, i5, i6, i7, i8, i9, i10⟩ := h3
      have i7' := cAllH_keep x5.w i7
      have i10' := cTown_keep x5.w (fun e => x5 _ e) i10
      unfold img
      rw [m1 51 rfl, m1 52 rfl, m1 53 rfl, m1 54 rfl, m1 55 rfl, m1 56 rfl, x1 222 rfl, x1 36 rfl, x1 223 rfl, x1 37 rfl, x1 38 rfl, x2 28 rfl, x2 29 rfl, x2 220 rfl, x2 30 rfl, x2 221 rfl, x2 31 rfl, x2 32 rfl, x2 33 rfl, x2 34 rfl, x2 35 rfl, x2 27 rfl, x3, x3', x4,
        m2 57 rfl, m2 58 rfl, m2 59 rfl, m2 60 rfl, m2 61 rfl, m2 62 rfl, m2 63 rfl, m2 64 rfl, m2 65 rfl, m2 66 rfl, m2 67 rfl, m2 68 rfl, m2 69 rfl, m2 70 rfl, m2 71 rfl, m2 6 rfl, m2 7 rfl, m2 8 rfl, m2 10 rfl, m2 20 rfl, m2 21 rfl, m2 22 rfl, m2 23 rfl, m2 24 rfl, m2 25 rfl, m2 26 rfl]
      exact ⟨i1, i2, i3, i4, i5, i6, i7', i8, i9, i10'⟩
theorem Cp_Tp {g : XG} {ξ : XS} {σ : MS} (hC : Cp g ξ σ) : ∃ A H D T wk hq hr, Tp g 0 ξ σ A H D T wk hq hr ∧ xF ξ 4 = nI A ∧ gF σ 1 = nI A := by
  obtain ⟨H, A, D, S, B, T, F, R, wk, wi, hq, hr, hn, hs, hc, hrow, hby, hbw, hobj, hrw, hrd, hah, htx, hthe, htown, htr, htp, htd, him⟩ := id hC
  have eH : xF ξ 202 = nI H := hs.1.trans hn.1
  have eH2 : gF σ 0 = nI H := hn.1
  have eA : xF ξ 4 = nI A := hs.2.1.trans hn.2.1
  have eA2 : gF σ 1 = nI A := hn.2.1
  have eD : xF ξ 203 = nI D := hs.2.2.1.trans hn.2.2.1
  have eD2 : gF σ 2 = nI D := hn.2.2.1
  have eS : xF ξ 18 = nI S := hs.2.2.2.1.trans hn.2.2.2.1
  have eS2 : gF σ 43 = nI S := hn.2.2.2.1
  have eB : xF ξ 19 = nI B := hs.2.2.2.2.trans hn.2.2.2.2
  have eB2 : gF σ 47 = nI B := hn.2.2.2.2
  have lH : H ≤ 6 := hc.1
  have lA : A ≤ 6 := hc.2.1
  have lD : D ≤ 9999 := hc.2.2.1
  have lS : S ≤ 6 := hc.2.2.2.1
  have lB : B ≤ 8 := hc.2.2.2.2.1
  obtain ⟨lT, eT2, eT, lF, eF2, eF, htxt, hlet, hmu⟩ := id htx
  obtain ⟨lR, eR2, eR, hbod⟩ := id htr
  obtain ⟨c1, c2, c3, c4, c5, c6, c7, c8, c9, c10, c11⟩ := id hc
  obtain ⟨r1, r2, r3, r4, r5, r6, r7, r8, r9, r10⟩ := id hrow
  exact ⟨A, H, D, T, wk, hq, hr, ⟨⟨lA, lH, by omega, lT, eD2, eD, fun a ha => ⟨(c8 a ha).1, (c8 a ha).2.1, (c8 a ha).2.2.1, (c8 a ha).2.2.2.1, (c8 a ha).2.2.2.2.1, ⟨0, by omega, rfl⟩, (c8 a ha).2.2.2.2.2.2⟩, fun h hh => (c6 h hh).1, hobj, hrw, r4, r1, r5, hthe, htown⟩, eH2, eH, r3, fun h hh => (c6 h hh).2.2⟩, eA, eA2⟩
theorem Cp_lk {g : XG} {ξ ξ' : XS} {σ : MS} (hC : Cp g ξ σ) (h : lkeq ξ ξ') (p : Nat → Int32) : Cp g ξ' (sP σ p) := Cp_keep hC (keepX_lk h) (keepM_sP σ p)
