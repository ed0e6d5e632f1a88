/-! PURE: how large a deed is -/
set_option maxRecDepth 100000
theorem fo_inv {α : Type} (P : α → Prop) (f : Nat → α → α) : ∀ (n b : Nat) (x : α), P x → (∀ i y, b ≤ i → i < b + n → P y → P (f i y)) → P (fo f n b x) := by
  intro n
  induction n with
  | zero => intro b x hx _; exact hx
  | succ n ih => intro b x hx h; exact ih (b + 1) (f b x) (h b x (by omega) (by omega) hx) (fun i y h1 h2 => h i y (by omega) (by omega))
theorem moth_rg {T : Nat} {the : Int32} {cl wd nu as : Nat → Int32} (lT : T ≤ 6) (h : cThe T the cl wd nu as) : rg (mothS wd nu (mCnt the cl) (mBeg the)) 99 := by
  unfold mothS
  refine fo_inv (fun x => rg x 99) _ _ _ _ ⟨0, by omega, rfl⟩ (fun i y h1 h2 hy => ?_)
  obtain ⟨-, -, z⟩ := mCnt_of lT h
  show rg (if wd i = 2 then nu i else y) 99
  split
  · exact (z i h1 h2).2.1
  · exact hy
theorem work_rg {T : Nat} {the : Int32} {cl wd nu as : Nat → Int32} (lT : T ≤ 6) (h : cThe T the cl wd nu as) (t : Int32) : rg (workS wd nu as (mCnt the cl) (mBeg the) t) 99 := by
  unfold workS
  refine fo_inv (fun x => rg x 99) _ _ _ _ ⟨10, by omega, rfl⟩ (fun i y h1 h2 hy => ?_)
  obtain ⟨-, -, z⟩ := mCnt_of lT h
  show rg (if wd i = 3 ∧ nu i = t then as i else y) 99
  split
  · exact (z i h1 h2).2.2
  · exact hy
theorem tadd {x y : Int32} (h1 : -1000000000 ≤ x.toInt ∧ x.toInt ≤ 1000000000) (h2 : -1000000000 ≤ y.toInt ∧ y.toInt ≤ 1000000000) : (x + y).toInt = x.toInt + y.toInt := by
  rw [Int32.toInt_add, Int.bmod_eq_of_le (by omega) (by omega)]
theorem tsub {x y : Int32} (h1 : -1000000000 ≤ x.toInt ∧ x.toInt ≤ 1000000000) (h2 : -1000000000 ≤ y.toInt ∧ y.toInt ≤ 1000000000) : (x - y).toInt = x.toInt - y.toInt := by
  rw [Int32.toInt_sub, Int.bmod_eq_of_le (by omega) (by omega)]
theorem rg_toInt {x : Int32} {n : Nat} (hn : n < 2 ^ 31) (h : rg x n) : 0 ≤ x.toInt ∧ x.toInt ≤ n := by
  obtain ⟨k, hk, rfl⟩ := h
  rw [nI_toInt (by omega)]
  omega
theorem toInt_rg {x : Int32} {n : Nat} (h : 0 ≤ x.toInt ∧ x.toInt ≤ n) : rg x n := by
  refine ⟨x.toInt.toNat, by omega, ?_⟩
  apply Int32.toInt_inj.mp
  have := Int32.toInt_lt x
  rw [nI_toInt (by omega)]
  omega
theorem fitS_b {L : Nat → Int32} {wd nu fr to sg : Nat → Int32} : ∀ (l : List Nat) (x : Int32) (m : Nat), (∀ c ∈ l, rg (nu c) 99) → -(m : Int) ≤ x.toInt ∧ x.toInt ≤ m → m + 99 * l.length ≤ 2000 → -((m + 99 * l.length : Nat) : Int) ≤ (fitS L wd nu fr to sg l x).toInt ∧ (fitS L wd nu fr to sg l x).toInt ≤ (m + 99 * l.length : Nat) := by
  intro l
  induction l with
  | nil => intro x m _ h _; simpa [fitS] using h
  | cons c l ih =>
    intro x m hn h hm
    have hc := rg_toInt (by omega) (hn c (by simp))
    simp only [List.length_cons] at hm ⊢
    have hneg : (-nu c).toInt = -(nu c).toInt := by
      rw [Int32.toInt_neg, Int.bmod_eq_of_le (by omega) (by omega)]
    have hv : -99 ≤ (valS wd nu c).toInt ∧ (valS wd nu c).toInt ≤ 99 := by
      unfold valS
      split <;> omega
    have := ih (if hS L fr to sg c = true then x + valS wd nu c else x) (m + 99) (fun c' h' => hn c' (by simp [h'])) (by
      split
      · rw [tadd (by omega) (by omega)]; omega
      · omega) (by omega)
    have e : fitS L wd nu fr to sg (c :: l) x = fitS L wd nu fr to sg l (if hS L fr to sg c = true then x + valS wd nu c else x) := rfl
    rw [e]
    omega
theorem ft_b {g : XG} {τ : Nat} {ξ : XS} {σ : MS} {A H D T wk : Nat} {hq hr : Nat → Nat} (hp : Dp g τ ξ σ A H D T wk hq hr) (a : Nat) (h : Int32) : -990 ≤ (ftM σ a h).toInt ∧ (ftM σ a h).toInt ≤ 990 := by
  obtain ⟨p1, p2, p3, p4, p5, p6, p7, p8, p9, p10, p11, p12, p13, p14, p15⟩ := hp
  obtain ⟨z1, z2, z3⟩ := mCnt_of p4 p14
  have hl := Nat.le_trans (clsS_len (gR σ 21) (mCnt (gF σ 15) (gR σ 20)) (mBeg (gF σ 15))) z1
  have := fitS_b (L := lkM (nI a) h (gR σ 6 a) (gR σ 10 a) (gR σ 11 a) (gF σ 2)) (wd := gR σ 21) (nu := gR σ 22) (fr := gR σ 24) (to := gR σ 25) (sg := gR σ 26) (clsS (gR σ 21) (mCnt (gF σ 15) (gR σ 20)) (mBeg (gF σ 15))) 0 0 (fun c hc => (z3 c (clsS_mem hc).1 (clsS_mem hc).2.1).2.1) (by decide) (by omega)
  unfold ftM
  omega
theorem max0_b {x : Int32} {n : Nat} (h : x.toInt ≤ n) : 0 ≤ (max0 x).toInt ∧ (max0 x).toInt ≤ n ∧ ((max0 x).toInt = x.toInt ∨ (max0 x).toInt = 0) := by
  unfold max0
  by_cases q : 0 < x
  · rw [if_pos q]
    have := Int32.lt_iff_toInt_lt.mp q
    rw [show (0 : Int32).toInt = 0 by decide] at this
    omega
  · rw [if_neg q, show (0 : Int32).toInt = 0 by decide]
    omega
theorem apV_b {x y : Int32} (h1 : rg x 9) (h2 : rg y 9) : 0 ≤ (apV x y).toInt ∧ (apV x y).toInt ≤ 9 := by
  obtain ⟨a, ha, rfl⟩ := h1
  obtain ⟨b, hb, rfl⟩ := h2
  have h9 : ∀ (a b : Fin 10), 0 ≤ (apV (nI a) (nI b)).toInt ∧ (apV (nI a) (nI b)).toInt ≤ 9 := by decide +kernel
  exact h9 ⟨a, by omega⟩ ⟨b, by omega⟩
theorem mu4 {x y : Int32} {n m : Nat} (hn : n ≤ 99) (hm : m ≤ 100000) (h1 : rg x n) (h2 : rg y m) : 0 ≤ (x * y / 4).toInt ∧ (x * y / 4).toInt ≤ 10000000 := by
  obtain ⟨a, ha, rfl⟩ := h1
  obtain ⟨b, hb, rfl⟩ := h2
  have hab : a * b ≤ 99 * 100000 := Nat.mul_le_mul (by omega) (by omega)
  rw [nI_mul, show (4 : Int32) = nI 4 from rfl]
  generalize a * b = q at *
  rw [nI_div (by omega) (by omega), nI_toInt (by omega)]
  omega
theorem deed_rg {g : XG} {τ : Nat} {ξ : XS} {σ : MS} {A H D T wk : Nat} {hq hr : Nat → Nat} (hp : Dp g τ ξ σ A H D T wk hq hr) {a h : Nat} (ha : a < A) (hh : h < H) (hu : rg (gR σ 11 a) 100000) : rg (deedM σ a h) 1058 := by
  have hf := ft_b hp a (nI h)
  obtain ⟨p1, p2, p3, p4, p5, p6, p7, p8, p9, p10, p11, p12, p13, p14, p15⟩ := hp
  obtain ⟨k1, k2, k3, k4, k5, k6, k7⟩ := p7 a ha
  have hmo := moth_rg p4 p14
  have hD : rwDM σ a = gR σ 12 (4 * a + D % 4) := by unfold rwDM; rw [p5, nI_clamp (by omega)]
  have hw := rg_toInt (by omega) (k7 (D % 4) (by omega))
  rw [← hD] at hw
  have hv := rg_toInt (by omega) k2
  have hk := rg_toInt (by omega) k4
  have hap := apV_b k3 (p8 h hh)
  have hm4 := mu4 (by omega) (by omega) hmo hu
  unfold deedM
  generalize ftM σ a (nI h) = fit at *
  generalize rwDM σ a = rwd at *
  generalize apV (gR σ 8 a) (gR σ 3 h) = ap at hap
  generalize mothS (gR σ 21) (gR σ 22) (mCnt (gF σ 15) (gR σ 20)) (mBeg (gF σ 15)) = mo at *
  apply toInt_rg
  have hsum : (gR σ 9 a + fit).toInt = (gR σ 9 a).toInt + fit.toInt := tadd (by omega) (by omega)
  have hb := max0_b (x := gR σ 9 a + fit) (n := 1040) (by omega)
  obtain ⟨k, hk6, ek, -⟩ := kd6 k1
  rw [ek]
  have h7 : k = 0 ∨ k = 1 ∨ k = 2 ∨ k = 3 ∨ k = 4 ∨ k = 5 ∨ k = 6 := by omega
  rcases h7 with rfl | rfl | rfl | rfl | rfl | rfl | rfl
  · rw [dV0]; omega
  · rw [dV1]
    have hap := apV_b k3 (p8 h hh)
    have h2 : (2 * apV (gR σ 8 a) (gR σ 3 h)).toInt = 2 * (apV (gR σ 8 a) (gR σ 3 h)).toInt := by
      rw [Int32.toInt_mul, show (2 : Int32).toInt = 2 by decide, Int.bmod_eq_of_le (by omega) (by omega)]
    have h3 := tsub (x := max0 (gR σ 9 a + fit)) (y := 2 * apV (gR σ 8 a) (gR σ 3 h)) (by omega) (by omega)
    have := max0_b (x := max0 (gR σ 9 a + fit) - 2 * apV (gR σ 8 a) (gR σ 3 h)) (n := 1040) (by omega)
    omega
  · rw [dV2]
    have h3 := tsub (x := max0 (gR σ 9 a + fit)) (y := mo * gR σ 11 a / 4) (by omega) (by omega)
    have := max0_b (x := max0 (gR σ 9 a + fit) - mo * gR σ 11 a / 4) (n := 1040) (by omega)
    omega
  · rw [dV3]
    have h3 := tadd (x := max0 (gR σ 9 a + fit)) (y := gR σ 7 a) (by omega) (by omega)
    omega
  · rw [dV4]
    split
    · omega
    · decide
  · rw [dV5]
    have h3 := tsub (x := max0 (gR σ 9 a + fit)) (y := mo * gR σ 11 a / 4) (by omega) (by omega)
    have h4 := max0_b (x := max0 (gR σ 9 a + fit) - mo * gR σ 11 a / 4) (n := 1040) (by omega)
    have h5 := tsub (x := max0 (max0 (gR σ 9 a + fit) - mo * gR σ 11 a / 4)) (y := gR σ 7 a) (by omega) (by omega)
    have := max0_b (x := max0 (max0 (gR σ 9 a + fit) - mo * gR σ 11 a / 4) - gR σ 7 a) (n := 1040) (by omega)
    omega
  · rw [dV6]
    have h3 := tadd (x := max0 (gR σ 9 a + fit)) (y := gR σ 7 a) (by omega) (by omega)
    have h4 := tadd (x := max0 (gR σ 9 a + fit) + gR σ 7 a) (y := rwd) (by omega) (by omega)
    omega
theorem today_rg {g : XG} {τ : Nat} {ξ : XS} {σ : MS} {A H D T wk : Nat} {hq hr : Nat → Nat} (hp : Tp g τ ξ σ A H D T wk hq hr) (hu : ∀ a, a < A → rg (gR σ 11 a) 100000) (t : Int32) : rg (todayM σ H t) 6348 := by
  obtain ⟨hd, e1, e2, e3, e4⟩ := hp
  have lA : A ≤ 6 := hd.1
  have lH : H ≤ 6 := hd.2.1
  have key : ∀ (n b : Nat) (x : Int32), n + b = H → 0 ≤ x.toInt ∧ x.toInt ≤ (1058 * b : Nat) → 0 ≤ (todayS σ t n b x).toInt ∧ (todayS σ t n b x).toInt ≤ (1058 * H : Nat) := by
    intro n
    induction n with
    | zero => intro b x hb h; obtain rfl : b = H := by omega
              exact h
    | succ n ih =>
      intro b x hb h
      rw [todayS_succ]
      apply ih (b + 1) _ (by omega)
      rcases e4 b (by omega) with hw | ⟨a, ha, hw⟩
      · simp only [hw, if_true]; omega
      · simp only [hw, nI_ne1 (show a < 2 ^ 31 by omega), if_false, cl6 (show a < 6 by omega)]
        have := rg_toInt (by omega) (deed_rg hd ha (show b < H by omega) (hu a ha))
        split
        · rw [tadd (by omega) (by omega)]; omega
        · omega
  have := key H 0 0 (by omega) (by decide)
  exact toInt_rg ⟨this.1, by unfold todayM; omega⟩
