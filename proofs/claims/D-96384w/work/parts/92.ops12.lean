/-! PURE: item, judge -/
set_option maxRecDepth 100000
theorem Cp_row {g : XG} {ξ : XS} {σ : MS} {t r : Nat} {it' : Nat → Int64} {e' : va_E} (hC : Cp g ξ σ) (ht : t < 6) (ho : xo ξ (100 + t) = some r) (hout : ∀ j, j < 60 * t ∨ 60 * t + 60 ≤ j → it' j = gJ σ 76 j) (he : ∀ s n, s ≤ 4 → n ≤ 60 → gR σ 74 t = nI s → gR σ 75 t = nI n → tEnt g s n (fun i => it' (60 * t + i)) e') : Cp g (sXd ξ r e') (sJw σ 76 it') := by
  have hC2 := hC
  obtain ⟨H, A, D, S, B, T, F, R, wk, wi, hq, hr, hn, hs, hc, hrow, hby, hbw, hobj, hrw, hrd, hah, htx, hthe, htown, htr, htp, htd, -⟩ := hC
  have hin : r ∈ xL ξ := by
    rcases htp t ht with h | ⟨s, n, r2, e2, y1, y2, y3, y4, y5, y6, y7⟩
    · rw [h.2] at ho; cases ho
    · rw [ho] at y5; cases y5; exact dE_in y6
  refine Cp_tp hC2 rfl rfl rfl ⟨rfl, rfl⟩ (fun x hx e hE => ?_) ?_ (fun u hu r' hr' => ⟨fun v hv hvr => (htd u hu r' hr').1 v hv hvr, Or.inl ⟨u, hu, hr'⟩⟩) (fun _ => rfl) (fun _ _ _ => rfl)
  · rw [dE_sXd_ne (show x ≠ r from fun z => hx t ht (by rw [z]; exact ho))]; exact hE
  · intro u hu
    by_cases e : u = t
    · subst e
      rcases htp u hu with h | ⟨s, n, r2, e2, y1, y2, y3, y4, y5, y6, y7⟩
      · rw [h.2] at ho; cases ho
      · rw [ho] at y5
        cases y5
        exact Or.inr ⟨s, n, r, e', y1, y2, y3, y4, ho, dE_sXd_eq y6, he s n y1 y2 y3 y4⟩
    · rcases htp u hu with h | ⟨s, n, r2, e2, y1, y2, y3, y4, y5, y6, y7⟩
      · exact Or.inl h
      · have hne : r2 ≠ r := fun z => e ((htd u hu r2 y5).1 t ht (z ▸ ho))
        refine Or.inr ⟨s, n, r2, e2, y1, y2, y3, y4, y5, by rw [dE_sXd_ne hne]; exact y6, ?_⟩
        have hout' : ∀ i, i < n → it' (60 * u + i) = gJ σ 76 (60 * u + i) := fun i hi => hout _ (by omega)
        rcases y7 with ⟨p1, f, p2, p3⟩ | ⟨p1, f, p2, p3⟩
        · exact Or.inl ⟨p1, f, p2, fun i hi => (p3 i hi).trans (hout' i hi).symm⟩
        · exact Or.inr ⟨p1, f, p2, fun i hi => ⟨(p3 i hi).1.trans (hout' i hi).symm, (p3 i hi).2⟩⟩
theorem off_dI {ξ : XS} {q : Nat} {fs : List Value} {x : Int32} (hl : fs.length = 7) (hv : vp_V fs 6 = .int x) : dI (pXd ξ q (.inr (16, fs))) q 16 16 6 = some x ∧ isC (pXd ξ q (.inr (16, fs))) q 16 16 = true := by
  have hd : dE (pXd ξ q (.inr (16, fs))) q = some (.inr (16, fs)) := by rw [dE_pXd, if_pos rfl]
  refine ⟨?_, by simp [isC, dCi, hd]⟩
  have h6 : fs[6]? = some (.int x) := by
    have hlt : 6 < fs.length := by omega
    rw [List.getElem?_eq_getElem hlt]
    have : vp_V fs 6 = fs[6] := by simp [vp_V, hlt]
    rw [← this, hv]
  simp [dI, hd, h6]
theorem Cp_off {g : XG} {ξ : XS} {σ : MS} {q : Nat} {e : va_E} (hC : Cp g ξ σ) (hq : q ∉ xL ξ) : Cp g (pXd ξ q e) σ := Cp_keep hC (keepX_pXd hq) (keepM_refl σ)
theorem y5_has_eq {N : Nat} {g : XG} (hd : xcD g) {ξ : XS} {t s n r : Nat} {it : Nat → Int64} {e : va_E} (hs : s ≤ 4) (hn : n ≤ 60) (ho : xo ξ (100 + t) = some r) (hE : dE ξ r = some e) (h : tEnt g s n it e) (x : Int32) {mc ms : Nat} (h1 : 1 ≤ mc) (h2 : 7 ≤ ms) {K : XS → Prop} {KX : String → Nat → XS → Prop} (hK : 0 ≤ x ∧ x ≤ nI n - 1 → K ξ) (hX : ¬ (0 ≤ x ∧ x ≤ nI n - 1) → ∀ q fs, q ∉ xL ξ → fs.length = 7 → vp_V fs 6 = .int (-13) → KX "HatsDecide$Off" q (pXd ξ q (.inr (16, fs)))) : y5_has N g t x ξ mc ms K KX := by
  unfold y5_has
  simp only [ho, Option.isSome_some, if_true, x5_size_eq hd hs ho hE h, bndp_ok, x0_in_eq, b0]
  by_cases q : 0 ≤ x ∧ x ≤ nI n - 1
  · simp only [q, and_self, not_true, if_false]
    exact hK q
  · simp only [q, not_false_iff, if_true]
    refine ⟨h1, h2, fun q9 fs hq hl hv => ?_⟩
    simp only [(off_dI hl hv).2, if_true]
    exact hX q q9 fs hq hl hv
set_option maxHeartbeats 2000000 in
theorem op_42 {N : Nat} (hN : 1000 ≤ N) (g : XG) (hd : xcD g) : OP_42 N g (Cp g) := by
  intro a1 a2 a3 ξ σ hC
  have htp : cTape g (dE ξ) (xo ξ) (gR σ 74) (gR σ 75) (gJ σ 76) := by
    obtain ⟨H, A, D, S, B, T, F, R, wk, wi, hq, hr, hn, hs, hc, hrow, hby, hbw, hobj, hrw, hrd, hah, htx, hthe, htown, htr, htp, -⟩ := hC
    exact htp
  unfold m_item y0_item
  simp only [x0_isTape_eq, m_isTape_eq, bnd_ok, bndp_ok, b0]
  by_cases h1 : 0 ≤ a1 ∧ a1 ≤ 5
  · obtain ⟨t, ht, rfl⟩ := rg_of (n := 5) (by omega) h1.1 h1.2
    have ht6 : t < 6 := by omega
    simp only [h1, and_self, not_true, if_false, in6 ht6, cl6 ht6, if_true]
    rcases htp t ht6 with ⟨e1, e2⟩ | ⟨s, n, r, e, y1, y2, y3, y4, y5, y6, y7⟩
    · refine ⟨-11, σ, by rw [e1]; rfl, 9000, 110000, by omega, by omega, ?_⟩
      unfold y5_has
      rw [e2]
      refine ⟨by omega, by omega, fun q fs hq hl hv => ?_⟩
      simp only [(off_dI hl hv).2, if_true, (off_dI hl hv).1, bnop_ok]
      exact ⟨trivial, trivial, Cp_off hC hq⟩
    · have hn0 : 0 ≤ gR σ 74 t := by rw [y3]; exact nI_pos' (by omega)
      simp only [hn0, if_true, y4, m_in_eq, bnd_ok, b0]
      by_cases h2 : 0 ≤ a2 ∧ a2 ≤ nI n - 1
      · obtain ⟨i, hi, rfl⟩ := i32_nat (by omega) h2.1 ((i32_le_pred (by omega)).mp h2.2)
        simp only [h2, and_self, not_true, if_false, ix60, inN (show 360 < 2 ^ 31 by omega) (show 60 * t + i < 360 by omega), if_true, nI_clamp (show 60 * t + i < 2 ^ 31 by omega), y3]
        obtain ⟨t1, t2, t3⟩ := t_ok hd y1 y6 y7
        have hin : inb (nI i) n = true := inN (by omega) hi
        have hcl : (nI i).toNatClampNeg = i := nI_clamp (by omega)
        -- the state behind
        have fin : ∀ (v : Int64) (e' : va_E), tEnt g s n (fun j => vp_updL (gJ σ 76) (60 * t + i) v (60 * t + j)) e' → Cp g (sXd ξ r e') (sJ σ 76 (60 * t + i) v) := by
          intro v e' he
          have := Cp_row (it' := vp_updL (gJ σ 76) (60 * t + i) v) (e' := e') hC ht6 y5 (fun j hj => by rw [updL_at, if_neg (by omega)]) (fun s' n' _ _ q3 q4 => by
            obtain rfl : s' = s := nI_inj (by omega) (by omega) (q3.symm.trans y3)
            obtain rfl : n' = n := nI_inj (by omega) (by omega) (q4.symm.trans y4)
            exact he)
          exact this
        have ent : ∀ (v : Int64) (v32 : Int32) (f : Nat → Int32), s ≠ 3 → (∀ j, j < n → (f j).toInt64 = gJ σ 76 (60 * t + j) ∧ fits (FTj (tCls s)) (.int (f j)) = true) → v32.toInt64 = v → fits (FTj (tCls s)) (.int v32) = true → tEnt g s n (fun j => vp_updL (gJ σ 76) (60 * t + i) v (60 * t + j)) (.inl (xc g (tCls s), n, .inl (upd f i v32))) := by
          intro v v32 f hs3 hf hv hfit
          refine Or.inr ⟨hs3, _, rfl, fun j hj => ?_⟩
          simp only [upd_at, updL_at]
          by_cases e : j = i
          · subst e
            simp [hv, hfit]
          · rw [if_neg e, if_neg (by omega)]; exact hf j hj
        have h7 : s = 0 ∨ s = 1 ∨ s = 2 ∨ s = 3 ∨ s = 4 := by omega
        rcases y7 with ⟨rfl, f, rfl, hf⟩ | ⟨hs3, f, rfl, hf⟩
        · have hA : dAl ξ r (xc g 3) = some (n, f) := by simp [dAl, y6]
          refine ⟨1, sJ σ 76 (60 * t + i) a3, ?_, 9000, 110000, by omega, by omega, y5_has_eq hd (by omega) y2 y5 y6 (Or.inl ⟨rfl, f, rfl, hf⟩) (nI i) (by omega) (by omega) (fun _ => ?_) (fun z => absurd h2 z)⟩
          · unfold m_narrow
            simp [show ¬ nI 3 = 0 by decide, show ¬ nI 3 = 1 by decide, show ¬ nI 3 = 2 by decide, show ¬ nI 3 = 4 by decide, bnd_ok, nx_ok]
          · simp only [y5, t1, if_true, t2 1 (by omega), t2 4 (by omega), t2 0 (by omega), t2 3 (by omega), t3 3 (by omega), show ¬ tCls 3 = 1 by decide, show ¬ tCls 3 = 4 by decide, show ¬ tCls 3 = 0 by decide, show tCls 3 = 3 by decide, if_false, show ¬ (3 : Nat) = 1 by decide, show ¬ (3 : Nat) = 4 by decide, show ¬ (3 : Nat) = 0 by decide, show ¬ (1 : Int32) = 0 by decide, bnop_ok, Option.isSome_some, hA, bndp_ok, hin, hcl, nx_ok]
            refine ⟨trivial, fin a3 _ (Or.inl ⟨rfl, _, rfl, fun j hj => ?_⟩)⟩
            simp only [updL_at]
            by_cases e : j = i
            · subst e; simp
            · rw [if_neg e, if_neg (by omega)]; exact hf j hj
        · have hA : dA ξ r (xc g (tCls s)) = some (n, f) := by simp [dA, y6]
          have h7 : s = 0 ∨ s = 1 ∨ s = 2 ∨ s = 4 := by omega
          rcases h7 with rfl | rfl | rfl | rfl
          · refine ⟨1, sJ σ 76 (60 * t + i) (((a3.toInt32).toInt8.toInt32).toInt64), ?_, 9000, 110000, by omega, by omega, y5_has_eq hd (by omega) y2 y5 y6 (Or.inr ⟨by decide, f, rfl, hf⟩) (nI i) (by omega) (by omega) (fun _ => ?_) (fun z => absurd h2 z)⟩
            · unfold m_narrow
              rw [if_pos (show nI 0 = 0 by decide), bnd_ok, nx_ok]
            · have hA1 : dA ξ r (xc g 1) = some (n, f) := hA
              simp only [y5, t1, if_true, t2 1 (by omega), t3 1 (by omega), show tCls 0 = 1 by decide, if_true, show ¬ (1 : Int32) = 0 by decide, if_false, bnop_ok, Option.isSome_some, hA1, bndp_ok, hin, hcl, nx_ok, nar8]
              exact ⟨trivial, fin _ _ (ent _ _ f (by decide) hf rfl (fit8 _))⟩
          · refine ⟨1, sJ σ 76 (60 * t + i) (((a3.toInt32).toInt16.toInt32).toInt64), ?_, 9000, 110000, by omega, by omega, y5_has_eq hd (by omega) y2 y5 y6 (Or.inr ⟨by decide, f, rfl, hf⟩) (nI i) (by omega) (by omega) (fun _ => ?_) (fun z => absurd h2 z)⟩
            · unfold m_narrow
              rw [if_neg (show ¬ nI 1 = 0 by decide), if_pos (show nI 1 = 1 by decide), bnd_ok, nx_ok]
            · have hA1 : dA ξ r (xc g 4) = some (n, f) := hA
              simp only [y5, t1, if_true, t2 1 (by omega), t2 4 (by omega), t3 4 (by omega), show tCls 1 = 4 by decide, show ¬ (4 : Nat) = 1 by decide, if_true, show ¬ (1 : Int32) = 0 by decide, if_false, bnop_ok, Option.isSome_some, hA1, bndp_ok, hin, hcl, nx_ok, nar16]
              exact ⟨trivial, fin _ _ (ent _ _ f (by decide) hf rfl (fit16 _))⟩
          · refine ⟨1, sJ σ 76 (60 * t + i) ((a3.toInt32).toInt64), ?_, 9000, 110000, by omega, by omega, y5_has_eq hd (by omega) y2 y5 y6 (Or.inr ⟨by decide, f, rfl, hf⟩) (nI i) (by omega) (by omega) (fun _ => ?_) (fun z => absurd h2 z)⟩
            · unfold m_narrow
              rw [if_neg (show ¬ nI 2 = 0 by decide), if_neg (show ¬ nI 2 = 1 by decide), if_pos (show nI 2 = 2 by decide), bnd_ok, nx_ok]
            · have hA1 : dA ξ r (xc g 0) = some (n, f) := hA
              simp only [y5, t1, if_true, t2 1 (by omega), t2 4 (by omega), t2 0 (by omega), t3 0 (by omega), show tCls 2 = 0 by decide, show ¬ (0 : Nat) = 1 by decide, show ¬ (0 : Nat) = 4 by decide, if_true, show ¬ (1 : Int32) = 0 by decide, if_false, bnop_ok, Option.isSome_some, hA1, bndp_ok, hin, hcl, nx_ok]
              exact ⟨trivial, fin _ _ (ent _ _ f (by decide) hf rfl rfl)⟩
          · have hA1 : dA ξ r (xc g 2) = some (n, f) := hA
            by_cases hz : lg_cmp a3 0 = 0
            · refine ⟨1, sJ σ 76 (60 * t + i) 0, ?_, 9000, 110000, by omega, by omega, y5_has_eq hd (by omega) y2 y5 y6 (Or.inr ⟨by decide, f, rfl, hf⟩) (nI i) (by omega) (by omega) (fun _ => ?_) (fun z => absurd h2 z)⟩
              · unfold m_narrow
                rw [if_neg (show ¬ nI 4 = 0 by decide), if_neg (show ¬ nI 4 = 1 by decide), if_neg (show ¬ nI 4 = 2 by decide), if_pos (show nI 4 = 4 by decide), if_pos hz, bnd_ok, nx_ok]
              · simp only [y5, t1, if_true, t2 1 (by omega), t2 4 (by omega), t2 0 (by omega), t2 3 (by omega), t3 2 (by omega), show tCls 4 = 2 by decide, show ¬ (2 : Nat) = 1 by decide, show ¬ (2 : Nat) = 4 by decide, show ¬ (2 : Nat) = 0 by decide, show ¬ (2 : Nat) = 3 by decide, if_true, if_false, bnop_ok, Option.isSome_some, hz, y0_item_179, hA1, bndp_ok, hin, hcl, nx_ok, narZ0]
                exact ⟨trivial, fin _ _ (ent _ _ f (by decide) hf rfl rfl)⟩
            · refine ⟨1, sJ σ 76 (60 * t + i) 1, ?_, 9000, 110000, by omega, by omega, y5_has_eq hd (by omega) y2 y5 y6 (Or.inr ⟨by decide, f, rfl, hf⟩) (nI i) (by omega) (by omega) (fun _ => ?_) (fun z => absurd h2 z)⟩
              · unfold m_narrow
                rw [if_neg (show ¬ nI 4 = 0 by decide), if_neg (show ¬ nI 4 = 1 by decide), if_neg (show ¬ nI 4 = 2 by decide), if_pos (show nI 4 = 4 by decide), if_neg hz, bnd_ok, nx_ok]
              · simp only [y5, t1, if_true, t2 1 (by omega), t2 4 (by omega), t2 0 (by omega), t2 3 (by omega), t3 2 (by omega), show tCls 4 = 2 by decide, show ¬ (2 : Nat) = 1 by decide, show ¬ (2 : Nat) = 4 by decide, show ¬ (2 : Nat) = 0 by decide, show ¬ (2 : Nat) = 3 by decide, if_true, if_false, bnop_ok, Option.isSome_some, hz, y0_item_179, hA1, bndp_ok, hin, hcl, nx_ok, narZ1]
                exact ⟨trivial, fin _ _ (ent _ _ f (by decide) hf rfl rfl)⟩
      · refine ⟨-13, σ, by simp [h2], 9000, 110000, by omega, by omega, y5_has_eq hd y1 y2 y5 y6 y7 a2 (by omega) (by omega) (fun z => absurd z h2) (fun _ q fs hq hl hv => ?_)⟩
        simp only [(off_dI hl hv).1, bnop_ok]
        exact ⟨trivial, trivial, Cp_off hC hq⟩
  · exact ⟨-1, σ, by simp [h1], by simp [h1, hC]⟩
