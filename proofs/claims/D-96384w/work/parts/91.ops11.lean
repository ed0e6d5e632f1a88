/-! PURE: tape, item -/
set_option maxRecDepth 100000
def sJw (σ : MS) (k : Nat) (f : Nat → Int64) : MS := (σ.1, σ.2.1, va_up σ.2.2 k f)
theorem gF_sJw (σ : MS) (k : Nat) (f : Nat → Int64) (j : Nat) : gF (sJw σ k f) j = gF σ j := rfl
theorem gR_sJw (σ : MS) (k : Nat) (f : Nat → Int64) (j : Nat) : gR (sJw σ k f) j = gR σ j := rfl
theorem gJ_sJw (σ : MS) (k : Nat) (f : Nat → Int64) (j : Nat) : gJ (sJw σ k f) j = if j = k then f else gJ σ j := rfl
theorem sJ_sJw (σ : MS) (k : Nat) (f : Nat → Int64) (i : Nat) (v : Int64) : sJ (sJw σ k f) k i v = sJw σ k (vp_updL f i v) := by
  unfold sJ sJw
  simp only [va_up2, va_up_at, if_true]
theorem sJw_self (σ : MS) (k : Nat) : sJw σ k (gJ σ k) = σ := by
  unfold sJw gJ
  rw [va_upS]
theorem ix60 {t i : Nat} : (60 : Int32) * nI t + nI i = nI (60 * t + i) := by
  rw [show (60 : Int32) = nI 60 from rfl, nI_mul]; exact (Int32.ofNat_add _ _).symm
theorem m_tape_69_eq {N : Nat} {σ : MS} {t : Nat} (ht : t < 6) : ∀ (n c k : Nat) (f : Nat → Int64), n + c = 60 → n < k → (∀ i, i < c → f (60 * t + i) = 0) → (∀ j, j < 60 * t ∨ 60 * t + 60 ≤ j → f j = gJ σ 76 j) → ∃ f', m_tape_69 N k (nI t) (nI c) (sJw σ 76 f) = some (1, sJw σ 76 f') ∧ (∀ i, i < 60 → f' (60 * t + i) = 0) ∧ (∀ j, j < 60 * t ∨ 60 * t + 60 ≤ j → f' j = gJ σ 76 j) := by
  intro n
  induction n with
  | zero =>
    intro c k f hc hk h1 h2
    obtain ⟨k, rfl⟩ : ∃ k', k = k' + 1 := ⟨k - 1, by omega⟩
    obtain rfl : c = 60 := by omega
    refine ⟨f, ?_, h1, h2⟩
    show m_tape_69b N (m_tape_69 N k) (nI t) (nI 60) (sJw σ 76 f) = _
    unfold m_tape_69b
    rw [if_pos (show (60 : Int32) ≤ nI 60 by decide)]
  | succ n ih =>
    intro c k f hc hk h1 h2
    obtain ⟨k, rfl⟩ : ∃ k', k = k' + 1 := ⟨k - 1, by omega⟩
    show ∃ f', m_tape_69b N (m_tape_69 N k) (nI t) (nI c) (sJw σ 76 f) = _ ∧ _
    unfold m_tape_69b
    have h9 : ¬ (60 : Int32) ≤ nI c := nI_ge (b := 60) (by omega) (by omega)
    simp only [h9, if_false, ix60, inN (show 360 < 2 ^ 31 by omega) (show 60 * t + c < 360 by omega), if_true, nI_clamp (show 60 * t + c < 2 ^ 31 by omega), nx_ok, nI_1, sJ_sJw]
    refine ih (c + 1) k _ (by omega) (by omega) (fun i hi => ?_) (fun j hj => ?_)
    · rw [updL_at]
      split
      · rfl
      · exact h1 i (by omega)
    · rw [updL_at, if_neg (by omega)]; exact h2 j hj
theorem rowOf_eq {N : Nat} {g : XG} {ξ : XS} {s n : Nat} (hs : s ≤ 4) (hn : n ≤ 60) {mc ms : Nat} (h1 : 1 ≤ mc) (h2 : 60 ≤ ms) {K : Nat → XS → Prop} {KX : String → Nat → XS → Prop} (hK : ∀ q e, q ∉ xL ξ → tEnt g s n (fun _ => 0) e → K q (pXd ξ q e)) : y0_rowOf N g (nI s) (nI n) ξ mc ms K KX := by
  have hn0 : ¬ nI n < 0 := nI_pos (by omega)
  have hcl : (nI n).toNatClampNeg = n := nI_clamp (by omega)
  have hc : ¬ nI n < 0 ∧ n ≤ 10000 := ⟨hn0, by omega⟩
  unfold y0_rowOf
  simp only [hcl, hn0, if_false, not_false_iff, true_and, show n ≤ 10000 by omega, if_true]
  have hz : ∀ j, fits (FTj j) (.int 0) = true ∨ j = 3 := by
    intro j
    unfold FTj
    by_cases e0 : j = 0
    · simp [e0, fits]
    by_cases e1 : j = 1
    · simp [e1, fits]
    by_cases e2 : j = 2
    · simp [e2, fits]
    by_cases e3 : j = 3
    · exact Or.inr e3
    · simp [e0, e1, e2, e3, fits]
  have h7 : s = 0 ∨ s = 1 ∨ s = 2 ∨ s = 3 ∨ s = 4 := by omega
  rcases h7 with rfl | rfl | rfl | rfl | rfl
  · rw [if_pos (show nI 0 = 0 by decide)]
    exact ⟨h1, by omega, fun q hq => hK q _ hq (Or.inr ⟨by decide, _, rfl, fun i hi => ⟨rfl, (hz 1).resolve_right (by decide)⟩⟩)⟩
  · rw [if_neg (show ¬ nI 1 = 0 by decide), if_pos (show nI 1 = 1 by decide)]
    exact ⟨h1, by omega, fun q hq => hK q _ hq (Or.inr ⟨by decide, _, rfl, fun i hi => ⟨rfl, (hz 4).resolve_right (by decide)⟩⟩)⟩
  · rw [if_neg (show ¬ nI 2 = 0 by decide), if_neg (show ¬ nI 2 = 1 by decide), if_pos (show nI 2 = 2 by decide)]
    exact ⟨h1, by omega, fun q hq => hK q _ hq (Or.inr ⟨by decide, _, rfl, fun i hi => ⟨rfl, (hz 0).resolve_right (by decide)⟩⟩)⟩
  · rw [if_neg (show ¬ nI 3 = 0 by decide), if_neg (show ¬ nI 3 = 1 by decide), if_neg (show ¬ nI 3 = 2 by decide), if_pos (show nI 3 = 3 by decide)]
    exact ⟨h1, by omega, fun q hq => hK q _ hq (Or.inl ⟨rfl, _, rfl, fun i hi => rfl⟩)⟩
  · rw [if_neg (show ¬ nI 4 = 0 by decide), if_neg (show ¬ nI 4 = 1 by decide), if_neg (show ¬ nI 4 = 2 by decide), if_neg (show ¬ nI 4 = 3 by decide)]
    exact ⟨h1, by omega, fun q hq => hK q _ hq (Or.inr ⟨by decide, _, rfl, fun i hi => ⟨rfl, (hz 2).resolve_right (by decide)⟩⟩)⟩
theorem rowOf_neg {N : Nat} {g : XG} {ξ : XS} {s : Nat} {x : Int32} (hx : x < 0) {mc ms : Nat} (h1 : 3 ≤ mc) (h2 : 54 ≤ ms) {K : Nat → XS → Prop} {KX : String → Nat → XS → Prop} (hK : ∀ q, KX "java/lang/NegativeArraySizeException" q ξ) : y0_rowOf N g (nI s) x ξ mc ms K KX := by
  unfold y0_rowOf
  simp only [hx, if_true]
  split
  · exact ⟨h1, h2, fun q => hK q⟩
  · split
    · exact ⟨h1, h2, fun q => hK q⟩
    · split
      · exact ⟨h1, h2, fun q => hK q⟩
      · split
        · exact ⟨h1, h2, fun q => hK q⟩
        · exact ⟨h1, h2, fun q => hK q⟩
theorem op_41 {N : Nat} (hN : 1000 ≤ N) (g : XG) : OP_41 N g (Cp g) := by
  intro a1 a2 a3 ξ σ hC
  have htp : cTape g (dE ξ) (xo ξ) (gR σ 74) (gR σ 75) (gJ σ 76) := by
    obtain ⟨H, A, D, S, B, T, F, R, wk, wi, hq, hr, hn, hs, hc, hrow, hby, hbw, hobj, hrw, hrd, hah, htx, hthe, htown, htr, htp, -⟩ := hC
    exact htp
  have htd : ∀ t, t < 6 → ∀ r, xo ξ (100 + t) = some r → ∀ u, u < 6 → xo ξ (100 + u) = some r → t = u := by
    obtain ⟨H, A, D, S, B, T, F, R, wk, wi, hq, hr, hn, hs, hc, hrow, hby, hbw, hobj, hrw, hrd, hah, htx, hthe, htown, htr, htp, htd, -⟩ := hC
    exact fun t ht r hr => (htd t ht r hr).1
  unfold m_tape y0_tape
  simp only [x0_isTape_eq, m_isTape_eq, x0_in_eq, m_in_eq, bnd_ok, bndp_ok, b0]
  by_cases h1 : 0 ≤ a1 ∧ a1 ≤ 5
  · by_cases h2 : -1 ≤ a2 ∧ a2 ≤ 4
    · obtain ⟨t, ht, rfl⟩ := rg_of (n := 5) (by omega) h1.1 h1.2
      have ht6 : t < 6 := by omega
      simp only [h1, h2, and_self, not_true, if_false]
      -- M's end, for a sort and a length
      have mend : ∀ (sv nv : Int32), ∃ f', m_tape_65 N (nI t) nv (nI t) (sR σ 74 t sv) = some (1, sJw (sR (sR σ 74 t sv) 75 t nv) 76 f') ∧ (∀ i, i < 60 → f' (60 * t + i) = 0) ∧ (∀ j, j < 60 * t ∨ 60 * t + 60 ≤ j → f' j = gJ σ 76 j) := by
        intro sv nv
        obtain ⟨f', e, z1, z2⟩ := m_tape_69_eq (N := N) (σ := sR (sR σ 74 t sv) 75 t nv) ht6 60 0 N (gJ σ 76) (by omega) (by omega) (fun i hi => by omega) (fun j _ => rfl)
        rw [show sJw (sR (sR σ 74 t sv) 75 t nv) 76 (gJ σ 76) = sR (sR σ 74 t sv) 75 t nv from sJw_self (sR (sR σ 74 t sv) 75 t nv) 76] at e
        refine ⟨f', ?_, z1, z2⟩
        unfold m_tape_65
        rw [if_pos (in6 ht6), cl6 ht6, nx_ok]
        exact e
      -- the tapes behind
      have tend : ∀ (η : XS) (sv nv : Int32) (f' : Nat → Int64) (nw : Option Nat), (∀ i, i < 60 → f' (60 * t + i) = 0) → (∀ j, j < 60 * t ∨ 60 * t + 60 ≤ j → f' j = gJ σ 76 j) → ext (dE ξ) (dE η) → (∀ u, u < 6 → u ≠ t → xo η (100 + u) = xo ξ (100 + u)) → xo η (100 + t) = nw → ((sv = -1 ∧ nw = none) ∨ ∃ s n r e, s ≤ 4 ∧ n ≤ 60 ∧ sv = nI s ∧ nv = nI n ∧ nw = some r ∧ dE η r = some e ∧ tEnt g s n (fun _ => 0) e) → cTape g (dE η) (xo η) (upd (gR σ 74) t sv) (upd (gR σ 75) t nv) f' := by
        intro η sv nv f' nw z1 z2 hx h3 h4 h5 u hu
        rw [upd_at, upd_at]
        by_cases e : u = t
        · subst e
          simp only [if_true]
          rcases h5 with ⟨q1, q2⟩ | ⟨s, n, r, e, q1, q2, q3, q4, q5, q6, q7⟩
          · exact Or.inl ⟨q1, h4.trans q2⟩
          · refine Or.inr ⟨s, n, r, e, q1, q2, q3, q4, h4.trans q5, q6, ?_⟩
            rcases q7 with ⟨p1, f, p2, p3⟩ | ⟨p1, f, p2, p3⟩
            · exact Or.inl ⟨p1, f, p2, fun i hi => (p3 i hi).trans (z1 i (by omega)).symm⟩
            · exact Or.inr ⟨p1, f, p2, fun i hi => ⟨(p3 i hi).1.trans (z1 i (by omega)).symm, (p3 i hi).2⟩⟩
        · simp only [e, if_false]
          rcases htp u hu with ⟨q1, q2⟩ | ⟨s, n, r, e9, q1, q2, q3, q4, q5, q6, q7⟩
          · exact Or.inl ⟨q1, (h3 u hu e).trans q2⟩
          · refine Or.inr ⟨s, n, r, e9, q1, q2, q3, q4, (h3 u hu e).trans q5, hx _ _ q6, ?_⟩
            have hout : ∀ i, i < n → f' (60 * u + i) = gJ σ 76 (60 * u + i) := fun i hi => z2 _ (by omega)
            rcases q7 with ⟨p1, f, p2, p3⟩ | ⟨p1, f, p2, p3⟩
            · exact Or.inl ⟨p1, f, p2, fun i hi => (p3 i hi).trans (hout i hi).symm⟩
            · exact Or.inr ⟨p1, f, p2, fun i hi => ⟨(p3 i hi).1.trans (hout i hi).symm, (p3 i hi).2⟩⟩
      have m44 : ∀ x2 x3, m_tape_44 N (nI t) x2 x3 σ = if 0 ≤ x2 then m_tape_65 N (nI t) x3 (nI t) (sR σ 74 t x2) else m_tape_65 N (nI t) 0 (nI t) (sR σ 74 t x2) := by
        intro x2 x3
        unfold m_tape_44
        rw [if_pos (in6 ht6), cl6 ht6, nx_ok]
      by_cases hm1 : a2 = -1
      · subst hm1
        obtain ⟨f', e, z1, z2⟩ := mend (-1) 0
        refine ⟨1, sJw (sR (sR σ 74 t (-1)) 75 t 0) 76 f', ?_, ?_⟩
        · simp only [show (-1 : Int32) < 0 by decide, if_true, m_tape_33, m44, show ¬ (0 : Int32) ≤ -1 by decide, if_false]
          exact e
        · simp only [if_true, y0_tape_32, in6 ht6, cl6 ht6, nx_ok]
          refine ⟨trivial, Cp_tp hC rfl rfl rfl ⟨?_, ?_⟩ (fun x _ e he => he) (tend (sXo ξ (100 + t) none) (-1) 0 f' none z1 z2 ext_rfl (fun u hu hne => ?_) ?_ (Or.inl ⟨rfl, rfl⟩)) (fun u hu r hr => ?_) (fun _ => rfl) (fun k k1 k2 => ?_)⟩
          · rw [xo_sXo, if_neg (by omega)]
          · rw [xo_sXo, if_neg (by omega)]
          · rw [xo_sXo, if_neg (by omega)]
          · rw [xo_sXo, if_pos rfl]
          · rw [xo_sXo] at hr
            by_cases e9 : 100 + u = 100 + t
            · rw [if_pos e9] at hr; cases hr
            · rw [if_neg e9] at hr
              refine ⟨fun v hv hvr => ?_, Or.inl ⟨u, hu, hr⟩⟩
              rw [xo_sXo] at hvr
              by_cases e8 : 100 + v = 100 + t
              · rw [if_pos e8] at hvr; cases hvr
              · rw [if_neg e8] at hvr; exact htd u hu r hr v hv hvr
          · rw [gR_sJw, gR_sR, if_neg k2, gR_sR, if_neg k1]
      · have h20 : 0 ≤ a2 := by
          have q := Int32.le_iff_toInt_le.mp h2.1
          rw [show (-1 : Int32).toInt = -1 by decide] at q
          rw [Int32.le_iff_toInt_le, show (0 : Int32).toInt = 0 by decide]
          have : a2.toInt ≠ -1 := fun z => hm1 (Int32.toInt_inj.mp (z.trans (by decide)))
          omega
        obtain ⟨s, hs, rfl⟩ := rg_of (n := 4) (by omega) h20 h2.2
        have hs0 : ¬ nI s < 0 := nI_pos (by omega)
        simp only [hm1, if_false, hs0]
        by_cases h60 : a3 ≤ 60
        · simp only [h60, if_true, m_tape_33, hs0, if_false, y0_tape_32, in6 ht6, cl6 ht6, hm1]
          by_cases h30 : 0 ≤ a3
          · obtain ⟨n, hn, rfl⟩ := rg_of (n := 60) (by omega) h30 h60
            obtain ⟨f', e, z1, z2⟩ := mend (nI s) (nI n)
            simp only [h30, if_true, m44, h20]
            refine ⟨1, _, e, 9000, 110000, by omega, by omega, rowOf_eq hs hn (by omega) (by omega) (fun q e9 hq he => ?_)⟩
            simp only [nx_ok]
            have hEq : dE (sXo (pXd ξ q e9) (100 + t) (some q)) q = some e9 := by rw [dE_sXo, dE_pXd, if_pos rfl]
            refine ⟨trivial, Cp_tp hC rfl rfl rfl ⟨?_, ?_⟩ (fun x _ e he => ext_pXd hq x e he) (tend (sXo (pXd ξ q e9) (100 + t) (some q)) (nI s) (nI n) f' (some q) z1 z2 (ext_pXd hq) (fun u hu hne => ?_) ?_ (Or.inr ⟨s, n, q, e9, hs, hn, rfl, rfl, rfl, hEq, he⟩)) (fun u hu r hr => ?_) (fun _ => rfl) (fun k k1 k2 => ?_)⟩
            · rw [xo_sXo, if_neg (by omega)]; rfl
            · rw [xo_sXo, if_neg (by omega)]; rfl
            · rw [xo_sXo, if_neg (by omega)]; rfl
            · rw [xo_sXo, if_pos rfl]
            · have hold : ∀ v, v < 6 → xo ξ (100 + v) ≠ some q := by
                intro v hv hvq
                rcases htp v hv with ⟨q1, q2⟩ | ⟨s, n, r, e9, q1, q2, q3, q4, q5, q6, q7⟩
                · rw [q2] at hvq; cases hvq
                · rw [hvq] at q5; cases q5; exact hq (dE_in q6)
              rw [xo_sXo] at hr
              by_cases e9 : 100 + u = 100 + t
              · rw [if_pos e9] at hr
                cases hr
                refine ⟨fun v hv hvr => ?_, Or.inr hq⟩
                rw [xo_sXo] at hvr
                by_cases e8 : 100 + v = 100 + t
                · omega
                · rw [if_neg e8] at hvr; exact absurd hvr (hold v hv)
              · rw [if_neg e9] at hr
                refine ⟨fun v hv hvr => ?_, Or.inl ⟨u, hu, hr⟩⟩
                rw [xo_sXo] at hvr
                by_cases e8 : 100 + v = 100 + t
                · rw [if_pos e8] at hvr; cases hvr; exact absurd hr (hold u hu)
                · rw [if_neg e8] at hvr; exact htd u hu r hr v hv hvr
            · rw [gR_sJw, gR_sR, if_neg k2, gR_sR, if_neg k1]
          · simp only [h30, if_false]
            exact ⟨-14, σ, rfl, 9000, 110000, by omega, by omega, rowOf_neg (Int32.not_le.mp h30) (by omega) (by omega) (fun q => ⟨rfl, rfl, hC⟩)⟩
        · exact ⟨-2, σ, by simp [h60], by simp [h60, hC]⟩
    · exact ⟨-2, σ, by simp [h1, h2], by simp [h1, h2, hC]⟩
  · exact ⟨-1, σ, by simp [h1], by simp [h1, hC]⟩
