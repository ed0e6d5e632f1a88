/-! PURE: day, mean -/
set_option maxRecDepth 100000
def nJ (k : Nat) : Int64 := Int64.ofNat k
theorem nJ_toInt {k : Nat} (h : k < 2 ^ 31) : (nJ k).toInt = k := by
  unfold nJ
  exact Int64.toInt_ofNat_of_lt (by omega)
theorem nI_nJ {k : Nat} (h : k < 2 ^ 31) : (nI k).toInt64 = nJ k := by
  apply Int64.toInt_inj.mp
  rw [Int32.toInt_toInt64, nI_toInt h, nJ_toInt h]
theorem nJ_add (a b : Nat) : nJ a + nJ b = nJ (a + b) := (Int64.ofNat_add a b).symm
theorem nJ_mul (a b : Nat) : nJ a * nJ b = nJ (a * b) := (Int64.ofNat_mul a b).symm
theorem nJ_div {a b : Nat} (ha : a < 2 ^ 31) (hb : b < 2 ^ 31) : nJ a / nJ b = nJ (a / b) := by
  apply Int64.toInt_inj.mp
  have h1 : a / b ≤ a := Nat.div_le_self a b
  rw [Int64.toInt_div, nJ_toInt ha, nJ_toInt hb, ← Int.ofNat_tdiv]
  generalize a / b = q at h1 ⊢
  rw [nJ_toInt (by omega), Int.bmod_eq_of_le (by omega) (by omega)]
theorem nJ_mod {a b : Nat} (ha : a < 2 ^ 31) (hb : b < 2 ^ 31) : nJ a - nJ a / nJ b * nJ b = nJ (a % b) := by
  rw [nJ_div ha hb, nJ_mul]
  have h := Nat.div_add_mod a b
  rw [Nat.mul_comm] at h
  generalize a / b * b = q at *
  generalize a % b = r at *
  subst h
  rw [← nJ_add, Int64.add_comm, Int64.add_sub_cancel]
theorem nI_mod {a b : Nat} (ha : a < 2 ^ 31) (hb : b < 2 ^ 31) : nI a - nI a / nI b * nI b = nI (a % b) := by
  rw [nI_div ha hb, nI_mul]
  have h := Nat.div_add_mod a b
  rw [Nat.mul_comm] at h
  generalize a / b * b = q at *
  generalize a % b = r at *
  subst h
  rw [show nI (q + r) = nI q + nI r from Int32.ofNat_add _ _, Int32.add_comm, Int32.add_sub_cancel]
theorem nI_zero {k : Nat} (h : k < 2 ^ 31) : nI k = 0 ↔ k = 0 := ⟨fun e => nI_inj h (by omega) e, fun e => by rw [e]; rfl⟩
theorem nJ_inj {a b : Nat} (ha : a < 2 ^ 31) (hb : b < 2 ^ 31) (h : nJ a = nJ b) : a = b := by
  have := congrArg Int64.toInt h
  rw [nJ_toInt ha, nJ_toInt hb] at this
  omega
theorem nJ_zero {k : Nat} (h : k < 2 ^ 31) : nJ k = 0 ↔ k = 0 := ⟨fun e => nJ_inj h (by omega) e, fun e => by rw [e]; rfl⟩
theorem m_divisor_eq (N : Nat) (σ : MS) : ∀ (k a b : Nat), a < 2 ^ 31 → b < 2 ^ 31 → b < k → m_divisor_5 N k (nI a) (nI b) σ = some (nI (Nat.gcd b a), σ) := by
  intro k
  induction k with
  | zero => intro a b _ _ h; omega
  | succ k ih =>
    intro a b ha hb hk
    show m_divisor_5b N (m_divisor_5 N k) (nI a) (nI b) σ = _
    unfold m_divisor_5b
    by_cases e : b = 0
    · subst e
      rw [if_pos (show nI 0 = 0 from rfl), Nat.gcd_zero_left]
    · have e' : ¬ nI b = 0 := fun z => e ((nI_zero hb).mp z)
      simp only [e', if_false, nx_ok, nI_mod ha hb]
      have hm : a % b < b := Nat.mod_lt _ (by omega)
      rw [ih b (a % b) hb (by omega) (by omega), Nat.gcd_rec b a]
theorem lg0 {x : Int64} : (lg_cmp x 0 = 0) ↔ x = 0 := by
  unfold lg_cmp
  by_cases h1 : x = 0
  · subst h1; simp
  · by_cases h2 : x > 0
    · simp [h1, h2]
    · simp [h1, h2]
theorem x0_divisor_eq (N : Nat) (g : XG) (ξ : XS) : ∀ (k a b : Nat), a < 2 ^ 31 → b < 2 ^ 31 → b < k → x0_divisor_3 N g k (nJ b) (nJ a) ξ = some (nJ (Nat.gcd b a), ξ) := by
  intro k
  induction k with
  | zero => intro a b _ _ h; omega
  | succ k ih =>
    intro a b ha hb hk
    show x0_divisor_3b N g (x0_divisor_3 N g k) (nJ b) (nJ a) ξ = _
    unfold x0_divisor_3b
    by_cases e : b = 0
    · subst e
      rw [if_pos (lg0.mpr (show nJ 0 = 0 from rfl)), Nat.gcd_zero_left]
    · have e' : ¬ nJ b = 0 := fun z => e ((nJ_zero hb).mp z)
      simp only [lg0, e', if_false, nx_ok, nJ_mod ha hb]
      have hm : a % b < b := Nat.mod_lt _ (by omega)
      rw [ih b (a % b) hb (by omega) (by omega), Nat.gcd_rec b a]
theorem lowest_both {N : Nat} (hN : 1000 ≤ N) (g : XG) (ξ : XS) (σ : MS) {a b : Nat} (ha : a < 1000000) (hb : b < 100) (hb0 : 0 < b) (t : Int32) : ∃ v, x0_lowest N g (nJ a) (nJ b) t ξ = some (v, ξ) ∧ m_lowest N (nI a) (nI b) t σ = some (v, σ) := by
  have e1 : m_divisor N (nI a) (nI b) σ = some (nI (Nat.gcd b a), σ) := m_divisor_eq N σ N a b (by omega) (by omega) (by omega)
  have e2 : x0_divisor N g (nJ a) (nJ b) ξ = some (nJ (Nat.gcd b a), ξ) := x0_divisor_eq N g ξ N a b (by omega) (by omega) (by omega)
  have hg : 0 < Nat.gcd b a := Nat.gcd_pos_of_pos_left _ hb0
  have hg2 : Nat.gcd b a ≤ b := Nat.gcd_le_left _ hb0
  unfold x0_lowest x0_lowest_10 m_lowest
  simp only [e1, e2, bnd_ok, nx_ok]
  generalize Nat.gcd b a = d at *
  have h1 : ¬ nI d = 0 := fun z => absurd ((nI_zero (by omega)).mp z) (by omega)
  have h2 : ¬ nJ d = 0 := fun z => absurd ((nJ_zero (by omega)).mp z) (by omega)
  have h3 : a / d ≤ a := Nat.div_le_self a d
  have h4 : b / d ≤ b := Nat.div_le_self b d
  simp only [h1, h2, if_false, nI_div (show a < 2 ^ 31 by omega) (show d < 2 ^ 31 by omega), nI_div (show b < 2 ^ 31 by omega) (show d < 2 ^ 31 by omega), nJ_div (show a < 2 ^ 31 by omega) (show d < 2 ^ 31 by omega), nJ_div (show b < 2 ^ 31 by omega) (show d < 2 ^ 31 by omega), nI_nJ (show a / d < 2 ^ 31 by omega), nI_nJ (show b / d < 2 ^ 31 by omega)]
  split <;> exact ⟨_, rfl, rfl⟩
theorem op_31 {N : Nat} (hN : 1000 ≤ N) (g : XG) : OP_31 N g (Cp g) := by
  intro a1 a2 ξ σ hC
  obtain ⟨A, H, D, T, wk, hq, hr, hT, eA, eA2, hby, hin, lD, hus⟩ := Cp_all hC
  have lA : A ≤ 6 := hT.1.1
  have lH : H ≤ 6 := hT.1.2.1
  have eH2 := hT.2.1
  have eH : xF ξ 202 = nI H := hT.2.2.1
  unfold x0_mean m_mean
  simp only [x0_isHat_eq, m_isHat_eq, x0_in_eq, m_in_eq, bnd_ok, bnv_ok, bno_ok, nx_ok, b0, eA, eA2, eH, eH2, nI_zero (show H < 2 ^ 31 by omega)]
  by_cases h1 : 0 ≤ a1 ∧ a1 ≤ nI A - 1
  · by_cases h2 : 0 ≤ a2 ∧ a2 ≤ 1
    · by_cases h3 : H = 0
      · exact ⟨-9223372036854775808, ξ, σ, by simp [h1, h2, h3], by simp [h1, h2, h3], hC⟩
      · simp only [h1, h2, h3, and_self, not_true, if_false]
        obtain ⟨a, ha, rfl⟩ := isHat_k lA h1
        have key : ∀ (n b k s : Nat) (ξ1 : XS) (p : Nat → Int32), lkeq ξ ξ1 → n + b = H → n < k → s ≤ 1058 * b → ∃ v ξ2 p2, x0_mean_36 N g k (nI a) a2 (nJ s) (nI b) ξ1 = some (v, ξ2) ∧ m_mean_34 N k (nI a) a2 (nI s) (nI b) (sP σ p) = some (v, sP σ p2) ∧ lkeq ξ ξ2 := by
          intro n
          induction n with
          | zero =>
            intro b k s ξ1 p hl hb hk hs
            obtain ⟨k, rfl⟩ : ∃ k', k = k' + 1 := ⟨k - 1, by omega⟩
            show ∃ v ξ2 p2, x0_mean_36b N g (x0_mean_36 N g k) (nI a) a2 (nJ s) (nI b) ξ1 = some (v, ξ2) ∧ m_mean_34b N (m_mean_34 N k) (nI a) a2 (nI s) (nI b) (sP σ p) = some (v, sP σ p2) ∧ lkeq ξ ξ2
            unfold x0_mean_36b m_mean_34b
            rw [hl.1 202 (by omega), eH, gF_sP, eH2, if_pos (nI_le (by omega) (by omega)), if_pos (nI_le (by omega) (by omega)), nI_nJ (by omega)]
            obtain ⟨v, z1, z2⟩ := lowest_both hN g ξ1 (sP σ p) (a := s) (b := H) (by omega) (by omega) (by omega) a2
            rw [z1, z2]
            exact ⟨_, _, _, rfl, rfl, hl⟩
          | succ n ih =>
            intro b k s ξ1 p hl hb hk hs
            obtain ⟨k, rfl⟩ : ∃ k', k = k' + 1 := ⟨k - 1, by omega⟩
            show ∃ v ξ2 p2, x0_mean_36b N g (x0_mean_36 N g k) (nI a) a2 (nJ s) (nI b) ξ1 = some (v, ξ2) ∧ m_mean_34b N (m_mean_34 N k) (nI a) a2 (nI s) (nI b) (sP σ p) = some (v, sP σ p2) ∧ lkeq ξ ξ2
            unfold x0_mean_36b m_mean_34b
            obtain ⟨ξ2, e2, hl2⟩ := x0_deed_at hN (by omega) σ hT.1 hl ha (show b < H by omega)
            obtain ⟨p1, e1⟩ := m_deed_at hN (by omega) σ hT.1 ha (show b < H by omega) p
            obtain ⟨c, hc, ec⟩ := deed_rg hT.1 ha (show b < H by omega) (by obtain ⟨u, hu, eu⟩ := hus a ha; exact ⟨u, by omega, eu⟩)
            simp only [hl.1 202 (by omega), eH, gF_sP, eH2, nI_ge (show b < H by omega) (show H < 2 ^ 31 by omega), if_false, e1, e2, bnd_ok, nx_ok, nI_1, ec, nI_nJ (show c < 2 ^ 31 by omega), nJ_add, show nI s + nI c = nI (s + c) from (Int32.ofNat_add _ _).symm]
            exact ih (b + 1) k (s + c) ξ2 p1 hl2 (by omega) (by omega) (by omega)
        obtain ⟨v, ξ2, p2, e1, e2, hl⟩ := key H 0 N 0 ξ (gR σ 32) (lkeq_refl ξ) (by omega) (by omega) (by omega)
        rw [sP_self] at e2
        exact ⟨v, ξ2, sP σ p2, e1, e2, Cp_lk hC hl p2⟩
    · exact ⟨-9223372036854775808, ξ, σ, by simp [h1, h2], by simp [h1, h2], hC⟩
  · exact ⟨-9223372036854775808, ξ, σ, by simp [h1], by simp [h1], hC⟩
