/-! PURE: can, the end -/
set_option maxRecDepth 100000
theorem x0_most_eq {N : Nat} (hN : 1000 ≤ N) {g : XG} {ξ : XS} {A H : Nat} {kd vv hs tr : Nat → Int32} {hq hr : Nat → Nat} (lA : A ≤ 6) (lH : H ≤ 6) (eA : xF ξ 4 = nI A) (eH : xF ξ 202 = nI H) (hk : ∀ a, a < A → rg (kd a) 6) (ho : cObj g (dE ξ) (xQ ξ 3) A kd vv hs tr hq hr) (t : Int32) (D : Nat → Nat → Nat) (hD : ∀ a h, a < A → h < H → xR ξ 21 (6 * a + h) = nI (D a h) ∧ D a h ≤ 1058) : ∀ (n a u dp : Nat), n + a = A → n < dp → u < 64 → x0_mostFrom N g dp t (nI a) (nI u) ξ = some (nI (MFs (fun a => decide (tr a = t)) D H n a u), ξ) := by
  intro n
  induction n with
  | zero =>
    intro a u dp ha hdp hu
    obtain ⟨dp, rfl⟩ : ∃ k, dp = k + 1 := ⟨dp - 1, by omega⟩
    show x0_mostFrom_s N g (x0_mostFrom N g dp) t (nI a) (nI u) ξ = _
    unfold x0_mostFrom_s
    rw [eA, if_pos (by rw [show a = A by omega])]
    rfl
  | succ n ih =>
    intro a u dp ha hdp hu
    obtain ⟨dp, rfl⟩ : ∃ k, dp = k + 1 := ⟨dp - 1, by omega⟩
    show x0_mostFrom_s N g (x0_mostFrom N g dp) t (nI a) (nI u) ξ = _
    unfold x0_mostFrom_s
    have ha6 : a < 6 := by omega
    have hne : ¬ nI a = nI A := fun z => by have := nI_inj (by omega) (by omega) z; omega
    obtain ⟨q1, q2⟩ := ho a (by omega)
    obtain ⟨k6, hk6, -, ek6⟩ := kd6 (hk a (by omega))
    rw [ek6] at q2
    have t3 := (hat_at hk6 q2).2.2.2.1
    rw [eA, if_neg hne, nI_1, ih (a + 1) u dp (by omega) (by omega) hu, bnd_ok, nx_ok, if_pos (in6 ha6), cl6 ha6, q1, bno_ok, t3, bno_ok]
    have ew : MFs (fun a => decide (tr a = t)) D H (n + 1) a u = if decide (tr a = t) = true then mfS (D a) H (MFs (fun a => decide (tr a = t)) D H n (a + 1)) u else MFs (fun a => decide (tr a = t)) D H n (a + 1) u := rfl
    rw [ew]
    by_cases q : tr a = t
    · rw [if_pos q, if_pos (decide_eq_true q), nx_ok]
      have hb := MFs_b (tr := fun a => decide (tr a = t)) (D := D) (H := H) (A := A) (fun a h ha hh => (hD a h ha hh).2)
      have key : ∀ (m h k v : Nat), m + h = H → m < k → v ≤ 1058 * (n + 1) → x0_mostFrom_40 N g (x0_mostFrom N g dp) k t (nI a) (nI u) (nI v) (nI h) ξ = some (nI (fo (fun h v => if u.testBit h = false then max v (D a h + MFs (fun a => decide (tr a = t)) D H n (a + 1) (u ||| 2 ^ h)) else v) m h v), ξ) := by
        intro m
        induction m with
        | zero =>
          intro h k v hh hk hv
          obtain ⟨k, rfl⟩ : ∃ k', k = k' + 1 := ⟨k - 1, by omega⟩
          show x0_mostFrom_40b N g (x0_mostFrom N g dp) (x0_mostFrom_40 N g (x0_mostFrom N g dp) k) t (nI a) (nI u) (nI v) (nI h) ξ = _
          unfold x0_mostFrom_40b
          rw [eH, if_pos (nI_le (by omega) (by omega))]
          rfl
        | succ m ihm =>
          intro h k v hh hk hv
          obtain ⟨k, rfl⟩ : ∃ k', k = k' + 1 := ⟨k - 1, by omega⟩
          show x0_mostFrom_40b N g (x0_mostFrom N g dp) (x0_mostFrom_40 N g (x0_mostFrom N g dp) k) t (nI a) (nI u) (nI v) (nI h) ξ = _
          unfold x0_mostFrom_40b
          have hh6 : h < 6 := by omega
          obtain ⟨v1, v2⟩ := d2 hu hh6
          obtain ⟨w1, w2⟩ := hD a h (by omega) (by omega)
          have hbb := hb n (a + 1) (u ||| 2 ^ h) (by omega)
          simp only [eH, nI_ge (show h < H by omega) (show H < 2 ^ 31 by omega), if_false, d9 hu hh6, ix36, inN (show 36 < 2 ^ 31 by omega) (show 6 * a + h < 36 by omega), if_true, nI_clamp (show 6 * a + h < 2 ^ 31 by omega), v1, nI_1, ih (a + 1) (u ||| 2 ^ h) dp (by omega) (by omega) v2, bnd_ok, nx_ok, w1, nI_plus, x0_mostFrom_95]
          have es : ∀ (f : Nat → Nat → Nat), fo f (m + 1) h v = fo f m (h + 1) (f h v) := fun _ => rfl
          rw [es]
          by_cases qb : u.testBit h = false
          · simp only [qb, if_true]
            have hmx : (if nI v < nI (D a h + MFs (fun a => decide (tr a = t)) D H n (a + 1) (u ||| 2 ^ h)) then nI (D a h + MFs (fun a => decide (tr a = t)) D H n (a + 1) (u ||| 2 ^ h)) else nI v) = nI (max v (D a h + MFs (fun a => decide (tr a = t)) D H n (a + 1) (u ||| 2 ^ h))) := by
              have hw9 : D a h + MFs (fun a => decide (tr a = t)) D H n (a + 1) (u ||| 2 ^ h) ≤ 20000 := by omega
              generalize D a h + MFs (fun a => decide (tr a = t)) D H n (a + 1) (u ||| 2 ^ h) = w at *
              by_cases qq : v < w
              · rw [if_pos (nI_lt qq (by omega)), show max v w = w by omega]
              · rw [if_neg (Int32.not_lt.mpr (nI_le (by omega) (by omega))), show max v w = v by omega]
            rw [hmx]
            exact ihm (h + 1) k _ (by omega) (by omega) (by omega)
          · simp only [qb, if_false, Bool.true_eq_false]
            exact ihm (h + 1) k v (by omega) (by omega) hv
      have := hb n (a + 1) u (by omega)
      exact key H 0 N _ (by omega) (by omega) (by omega)
    · rw [if_neg q, if_neg (by simp [q])]
theorem op_20 {N : Nat} (hN : 1000 ≤ N) (g : XG) : OP_20 N g (Cp g) := by
  intro ξ σ hC
  obtain ⟨A, H, D, T, wk, hq, hr, hT, eA, eA2, hby, hin, lD, hus⟩ := Cp_all hC
  have lA : A ≤ 6 := hT.1.1
  have lH : H ≤ 6 := hT.1.2.1
  have eH2 := hT.2.1
  have eH : xF ξ 202 = nI H := hT.2.2.1
  obtain ⟨p1, p2, p3, p4, p5, p6, p7, p8, p9, p10, p11, p12, p13, p14, p15⟩ := hT.1
  obtain ⟨w0, al, od, len, mo, many, f9, fw, t1, t2, t3, t4, -⟩ := p15
  obtain ⟨f, ξ', e2, hl, hf⟩ := looks_eq hN hT eA
  obtain ⟨fm, p, em, hfm⟩ := lay_eq hN hT eA2
  have hDb : ∀ a h, a < A → h < H → deedM σ a h = nI (deedM σ a h).toNatClampNeg ∧ (deedM σ a h).toNatClampNeg ≤ 1058 := by
    intro a h ha hh
    obtain ⟨c, hc, ec⟩ := deed_rg hT.1 ha hh (by obtain ⟨u, hu, eu⟩ := hus a ha; exact ⟨u, by omega, eu⟩)
    rw [ec, nI_clamp (by omega)]
    exact ⟨rfl, hc⟩
  have hx : ∀ t, x0_mostFrom N g 8 t (nI 0) (nI 0) ξ' = some (nI (MFs (fun a => decide (gR σ 10 a = t)) (fun a h => (deedM σ a h).toNatClampNeg) H A 0 0), ξ') := fun t => x0_most_eq (N := N) hN (g := g) (ξ := ξ') (kd := gR σ 6) (vv := gR σ 7) (hs := gR σ 8) (tr := gR σ 10) (hq := hq) (hr := hr) lA lH (by rw [hl.1 4 (by omega)]; exact eA) (by rw [hl.1 202 (by omega)]; exact eH) (fun a ha => (p7 a ha).1) (by rw [hl.2.2.2.2.1, hl.2.2.1]; exact p9) t (fun a h => (deedM σ a h).toNatClampNeg) (fun a h ha hh => by
    rw [hl.2.1]
    show f (6 * a + h) = _ ∧ _
    rw [hf a h ha hh]
    exact hDb a h ha hh) A 0 0 8 (by omega) (by omega) (by omega)
  have hm : ∀ (t : Int32) (e : Nat → Int32), ∃ e', m_mostOf N t (sRw (sP (sRw σ 39 fm) p) 42 e) = some (nI (MFs (fun a => decide (gR σ 10 a = t)) (fun a h => (deedM σ a h).toNatClampNeg) H A 0 0), sRw (sP (sRw σ 39 fm) p) 42 e') := fun t e => m_mostOf_eq (N := N) hN (τ := sP (sRw σ 39 fm) p) lA lH eA2 eH2 t (fun a h => (deedM σ a h).toNatClampNeg) (fun a h ha hh => by
    show fm (6 * a + h) = _ ∧ _
    rw [hfm a h ha hh]
    exact hDb a h ha hh) e
  have hwk : ∀ (t : Int32) (e : Nat → Int32), m_work N t (sRw (sP (sRw σ 39 fm) p) 42 e) = some (workM σ t, sRw (sP (sRw σ 39 fm) p) 42 e) := fun t e => m_work_eq hN (sRw (sP (sRw σ 39 fm) p) 42 e) p4 (show cThe T (gF (sRw (sP (sRw σ 39 fm) p) 42 e) 15) (gR (sRw (sP (sRw σ 39 fm) p) 42 e) 20) (gR (sRw (sP (sRw σ 39 fm) p) 42 e) 21) (gR (sRw (sP (sRw σ 39 fm) p) 42 e) 22) (gR (sRw (sP (sRw σ 39 fm) p) 42 e) 23) from p14) t
  have hdR : dR ξ' w0 3 3 1 = some wk := by
    have z := t2
    rw [← show dE ξ' = dE ξ from hl.2.2.2.2.1] at z
    simp [dR, z]
  have hdA : dA ξ' wk (xc g 0) = some (5, fw) := by
    have z := t3
    rw [← show dE ξ' = dE ξ from hl.2.2.2.2.1] at z
    simp [dA, z]
  have ho : xo ξ' 11 = some w0 := by rw [hl.2.2.2.1]; exact t1
  have key : ∀ (n b k : Nat) (x : Int32) (e : Nat → Int32), n + b = 5 → n < k → ∃ v e', x0_can_8 N g k x (nI b) ξ' = some (v, ξ') ∧ m_can_8 N k x (nI b) (sRw (sP (sRw σ 39 fm) p) 42 e) = some (v, sRw (sP (sRw σ 39 fm) p) 42 e') := by
    intro n
    induction n with
    | zero =>
      intro b k x e hb hk
      obtain ⟨k, rfl⟩ : ∃ k', k = k' + 1 := ⟨k - 1, by omega⟩
      show ∃ v e', x0_can_8b N g (x0_can_8 N g k) x (nI b) ξ' = some (v, ξ') ∧ m_can_8b N (m_can_8 N k) x (nI b) _ = some (v, _)
      unfold x0_can_8b m_can_8b
      rw [if_pos (show (5 : Int32) ≤ nI b from nI_le (a := 5) (by omega) (by omega)), if_pos (show (5 : Int32) ≤ nI b from nI_le (a := 5) (by omega) (by omega))]
      exact ⟨_, e, rfl, rfl⟩
    | succ n ih =>
      intro b k x e hb hk
      obtain ⟨k, rfl⟩ : ∃ k', k = k' + 1 := ⟨k - 1, by omega⟩
      show ∃ v e', x0_can_8b N g (x0_can_8 N g k) x (nI b) ξ' = some (v, ξ') ∧ m_can_8b N (m_can_8 N k) x (nI b) _ = some (v, _)
      unfold x0_can_8b m_can_8b
      have h5 : ¬ (5 : Int32) ≤ nI b := nI_ge (b := 5) (by omega) (by omega)
      obtain ⟨e1, x1⟩ := hm (nI b) e
      have hx0 : x0_mostFrom N g 8 (nI b) 0 0 ξ' = some (nI (MFs (fun a => decide (gR σ 10 a = nI b)) (fun a h => (deedM σ a h).toNatClampNeg) H A 0 0), ξ') := hx (nI b)
      have hfw : fw b = workM σ (nI b) := t4 b (by omega)
      simp only [h5, if_false, hx0, x1, bnd_ok, hwk, ho, bno_ok, hdR, hdA, inN (show 5 < 2 ^ 31 by omega) (show b < 5 by omega), if_true, nI_clamp (show b < 2 ^ 31 by omega), hfw, nx_ok, x0_can_38, m_can_34, nI_1]
      generalize nI (MFs (fun a => decide (gR σ 10 a = nI b)) (fun a h => (deedM σ a h).toNatClampNeg) H A 0 0) = v
      by_cases q : v < workM σ (nI b)
      · simp only [q, if_true, Int32.or_zero]
        exact ih (b + 1) k x e1 (by omega) (by omega)
      · simp only [q, if_false]
        exact ih (b + 1) k _ e1 (by omega) (by omega)
  obtain ⟨v, e', z1, z2⟩ := key 5 0 N 0 (gR (sP (sRw σ 39 fm) p) 42) (by omega) (by omega)
  rw [sRw_self] at z2
  unfold x0_can m_can
  rw [e2, em, bnv_ok, bnv_ok]
  refine ⟨v, ξ', sRw (sP (sRw σ 39 fm) p) 42 e', z1, z2, Cp_keep hC (keepX_21 hl) ⟨fun _ _ => rfl, fun k hk => ?_, fun _ _ => rfl, fun _ _ => rfl, rfl⟩⟩
  rw [gR_sRw, if_neg (kRm_n hk rfl), gR_sP, if_neg (kRm_32 hk), gR_sRw, if_neg (kRm_n hk rfl)]
