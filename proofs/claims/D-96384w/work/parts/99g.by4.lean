/-! PURE: by: layBest (M) -/
set_option maxRecDepth 100000
theorem m_layBest_29_eq {N : Nat} (hN : 1000 ≤ N) {τ : MS} {A H K : Nat} (lH : H ≤ 6) (lK : K ≤ 6) (eH : gF τ 0 = nI H) (Dd : Nat → Nat → Nat) : ∀ (m u k : Nat) (f : Nat → Int32), m + u = 64 → m < k → (∀ v, v < u → f (64 * H + v) = optI (byB A K Dd 0 H v) (-1)) → ∃ f', m_layBest_29 N k (nI K) (nI u) (sRw τ 41 f) = m_layBest_76 N N (yN H) (sRw τ 41 f') ∧ Tb A K H Dd H f' := by
  intro m
  induction m with
  | zero =>
    intro u k f hu hk hf
    obtain ⟨k, rfl⟩ : ∃ k', k = k' + 1 := ⟨k - 1, by omega⟩
    refine ⟨f, ?_, fun h' h1 h2 v hv => ?_⟩
    · show m_layBest_29b N (m_layBest_29 N k) (nI K) (nI u) _ = _
      unfold m_layBest_29b
      rw [if_pos (show (64 : Int32) ≤ nI u from nI_le (a := 64) (by omega) (by omega)), nx_ok, gF_sRw, eH]
      have : nI H - 1 = yN H := by
        rw [← yN_m, Int32.sub_eq_add_neg]
      rw [this]
    · obtain rfl : h' = H := by omega
      rw [hf v (by omega), Nat.sub_self]
  | succ m ih =>
    intro u k f hu hk hf
    obtain ⟨k, rfl⟩ : ∃ k', k = k' + 1 := ⟨k - 1, by omega⟩
    show ∃ f', m_layBest_29b N (m_layBest_29 N k) (nI K) (nI u) (sRw τ 41 f) = _ ∧ _
    unfold m_layBest_29b m_layBest_62
    have h9 : ¬ (64 : Int32) ≤ nI u := nI_ge (b := 64) (by omega) (by omega)
    have hpc : pcN u ≤ 6 := by
      unfold pcN
      exact Nat.le_trans List.countP_le_length (by simp)
    simp only [h9, if_false, m_ones_eq hN (sRw τ 41 f) (show u < 64 by omega), bnd_ok, gF_sRw, eH, ix64, inN (show 448 < 2 ^ 31 by omega) (show 64 * H + u < 448 by omega), if_true, nI_clamp (show 64 * H + u < 2 ^ 31 by omega), nx_ok, nI_1, sR_sRw]
    have hnx : ∀ x : Int32, x = optI (byB A K Dd 0 H u) (-1) → ∃ f', m_layBest_29 N k (nI K) (nI (u + 1)) (sRw τ 41 (upd f (64 * H + u) x)) = m_layBest_76 N N (yN H) (sRw τ 41 f') ∧ Tb A K H Dd H f' := by
      intro x hx
      refine ih (u + 1) k _ (by omega) (by omega) (fun v hv => ?_)
      rw [upd_at]
      by_cases e : v = u
      · subst e; rw [if_pos rfl, hx]
      · rw [if_neg (by omega)]; exact hf v (by omega)
    by_cases q : pcN u = K
    · have q' : nI (pcN u) = nI K := by rw [q]
      simp only [q', if_true]
      exact hnx 0 (by unfold byB; rw [if_pos q]; rfl)
    · have q' : ¬ nI (pcN u) = nI K := fun z => q (nI_inj (by omega) (by omega) z)
      simp only [q', if_false]
      exact hnx (-1) (by unfold byB; rw [if_neg q]; rfl)
theorem m_layBest_eq {N : Nat} (hN : 1000 ≤ N) {g : XG} {ξ : XS} {σ : MS} {A H D T wk : Nat} {hq hr : Nat → Nat} (hT : Tp g 0 ξ σ A H D T wk hq hr) (eA : gF σ 1 = nI A) (hus : ∀ a, a < A → rg (gR σ 11 a) 9999) : ∃ fm p r f, m_layBest N σ = some (sRw (sRw (sF (sP (sRw σ 39 fm) p) 40 (optI (byB A (min A H) (fun a h => (deedM σ a h).toNatClampNeg) H 0 0) (-1))) 38 r) 41 f) ∧ ∀ i, i < H → r i = optI (byV A (min A H) (fun a h => (deedM σ a h).toNatClampNeg) H 0 0 i) (-1) := by
  have lA : A ≤ 6 := hT.1.1
  have lH : H ≤ 6 := hT.1.2.1
  have eH : gF σ 0 = nI H := hT.2.1
  obtain ⟨fm, p, em, hfm⟩ := lay_eq hN hT eA
  have hDb : ∀ a h, a < A → h < H → fm (6 * a + h) = nI (deedM σ a h).toNatClampNeg ∧ (deedM σ a h).toNatClampNeg ≤ 1058 := by
    intro a h ha hh
    obtain ⟨c, hc, ec⟩ := deed_rg hT.1 ha hh (by obtain ⟨u, hu, eu⟩ := hus a ha; exact ⟨u, by omega, eu⟩)
    rw [hfm a h ha hh, ec, nI_clamp (by omega)]
    exact ⟨rfl, hc⟩
  have eA' : gF (sP (sRw σ 39 fm) p) 1 = nI A := eA
  have eH' : gF (sP (sRw σ 39 fm) p) 0 = nI H := eH
  have hD' : ∀ c h, c < A → h < H → gR (sP (sRw σ 39 fm) p) 39 (6 * c + h) = nI (deedM σ c h).toNatClampNeg ∧ (deedM σ c h).toNatClampNeg ≤ 1058 := hDb
  unfold m_layBest
  rw [em, bnv_ok, eA', eH']
  have hK : (if nI A ≤ nI H then m_layBest_26 N (nI A) (sP (sRw σ 39 fm) p) else m_layBest_26 N (nI H) (sP (sRw σ 39 fm) p)) = m_layBest_26 N (nI (min A H)) (sP (sRw σ 39 fm) p) := by
    by_cases q : A ≤ H
    · rw [if_pos (nI_le q (by omega)), show min A H = A by omega]
    · rw [if_neg (nI_ge (by omega) (by omega)), show min A H = H by omega]
  rw [hK]
  generalize hτ : sP (sRw σ 39 fm) p = τ at *
  unfold m_layBest_26
  rw [nx_ok, nx_ok]
  obtain ⟨f1, x1, hT1⟩ := m_layBest_29_eq (N := N) (τ := τ) (A := A) (K := min A H) hN lH (by omega) eH' (fun a h => (deedM σ a h).toNatClampNeg) 64 0 N (gR τ 41) (by omega) (by omega) (fun v hv => by omega)
  rw [sRw_self] at x1
  have x1' : m_layBest_29 N N (nI (min A H)) 0 τ = m_layBest_76 N N (yN H) (sRw τ 41 f1) := x1
  rw [x1']
  obtain ⟨f2, x2, hT2⟩ := m_layBest_76_eq (N := N) (τ := τ) (K := min A H) hN lA lH eA' (fun a h => (deedM σ a h).toNatClampNeg) hD' H N f1 (by omega) (by omega) hT1
  rw [x2]
  obtain ⟨r', z1, -, z3⟩ := m_layBest_164_eq (N := N) (τ := sF τ 40 (optI (byB A (min A H) (fun a h => (deedM σ a h).toNatClampNeg) H 0 0) (-1))) (A := A) (K := min A H) hN lA lH eH' (fun a h => (deedM σ a h).toNatClampNeg) hD' f2 hT2 H 0 0 N (gR τ 38) (by omega) (by omega) (by omega)
  have hself : sRw (sF τ 40 (optI (byB A (min A H) (fun a h => (deedM σ a h).toNatClampNeg) H 0 0) (-1))) 38 (gR τ 38) = sF τ 40 (optI (byB A (min A H) (fun a h => (deedM σ a h).toNatClampNeg) H 0 0) (-1)) := sRw_self _ 38
  rw [hself] at z1
  exact ⟨fm, p, r', f2, by rw [hτ]; exact z1, fun i hi => z3 i (by omega) hi⟩
