/-! PURE: by: the table of bests (M) -/
set_option maxRecDepth 100000
def pcN (u : Nat) : Nat := (List.range 6).countP (fun h => u.testBit h)
theorem dA1 {u : Nat} (hu : u < 64) (h0 : u ≠ 0) : nI u &&& (nI u - 1) = nI (u &&& (u - 1)) ∧ u &&& (u - 1) < u ∧ pcN u = pcN (u &&& (u - 1)) + 1 := by
  have h9 : ∀ u : Fin 64, u.1 ≠ 0 → nI u &&& (nI u - 1) = nI (u.1 &&& (u.1 - 1)) ∧ u.1 &&& (u.1 - 1) < u.1 ∧ pcN u.1 = pcN (u.1 &&& (u.1 - 1)) + 1 := by decide +kernel
  exact h9 ⟨u, hu⟩ h0
theorem dA2 {u c : Nat} (hu : u < 64) (hc : c < 6) (hb : u.testBit c = false) : pcN (u ||| 2 ^ c) = pcN u + 1 := by
  have h9 : ∀ (u : Fin 64) (c : Fin 6), u.1.testBit c.1 = false → pcN (u.1 ||| 2 ^ c.1) = pcN u.1 + 1 := by decide +kernel
  exact h9 ⟨u, hu⟩ ⟨c, hc⟩ hb
theorem m_ones_eq {N : Nat} (hN : 1000 ≤ N) (σ : MS) {u : Nat} (hu : u < 64) : m_ones N (nI u) σ = some (nI (pcN u), σ) := by
  have key : ∀ (k u x : Nat), u < 64 → u < k → m_ones_4 N k (nI x) (nI u) σ = some (nI (x + pcN u), σ) := by
    intro k
    induction k with
    | zero => intro u x _ h; omega
    | succ k ih =>
      intro u x hu hk
      show m_ones_4b N (m_ones_4 N k) (nI x) (nI u) σ = _
      unfold m_ones_4b
      by_cases h0 : u = 0
      · subst h0
        rw [if_pos (show nI 0 = 0 from rfl)]
        rfl
      · obtain ⟨z1, z2, z3⟩ := dA1 hu h0
        rw [if_neg (fun z => h0 ((nI_zero (by omega)).mp z)), nx_ok, nx_ok, nI_1, z1, ih _ _ (by omega) (by omega), z3, show x + 1 + pcN (u &&& (u - 1)) = x + (pcN (u &&& (u - 1)) + 1) by omega]
  unfold m_ones
  have := key N u 0 hu (by omega)
  rw [Nat.zero_add] at this
  exact this
/-- the best from head h on, hats u taken; n heads are left -/
def byB (A K : Nat) (Dd : Nat → Nat → Nat) : Nat → Nat → Nat → Option Nat
  | 0, _, u => if pcN u = K then some 0 else none
  | n + 1, h, u => fo (fun c x => if u.testBit c = true then x else omx x (oAdd (byB A K Dd n (h + 1) (u ||| 2 ^ c)) (Dd c h))) A 0 (byB A K Dd n (h + 1) u)
def onw (A K : Nat) (Dd : Nat → Nat → Nat) (n h u : Nat) (c : Option Nat) : Option Nat := match c with
  | none => byB A K Dd n (h + 1) u
  | some c => if u.testBit c = true then none else oAdd (byB A K Dd n (h + 1) (u ||| 2 ^ c)) (Dd c h)
theorem omx_none (x : Option Nat) : omx x none = x := by cases x <;> rfl
theorem byB_succ (A K : Nat) (Dd : Nat → Nat → Nat) (n h u : Nat) : byB A K Dd (n + 1) h u = fo (fun c x => omx x (onw A K Dd n h u (some c))) A 0 (onw A K Dd n h u none) := by
  show fo _ A 0 _ = fo _ A 0 _
  have : (fun c x => if u.testBit c = true then x else omx x (oAdd (byB A K Dd n (h + 1) (u ||| 2 ^ c)) (Dd c h))) = (fun c x => omx x (onw A K Dd n h u (some c))) := by
    funext c x
    show _ = omx x (if u.testBit c = true then none else _)
    split
    · rw [omx_none]
    · rfl
  rw [this]
  rfl
theorem byB_b {A K : Nat} {Dd : Nat → Nat → Nat} {H : Nat} (hD : ∀ c h, c < A → h < H → Dd c h ≤ 1058) : ∀ (n h u y : Nat), n + h ≤ H → byB A K Dd n h u = some y → y ≤ 1058 * n := by
  intro n
  induction n with
  | zero =>
    intro h u y _ e
    unfold byB at e
    split at e
    · cases e; omega
    · cases e
  | succ n ih =>
    intro h u y hh e
    rw [byB_succ] at e
    have : ∀ z, fo (fun c x => omx x (onw A K Dd n h u (some c))) A 0 (onw A K Dd n h u none) = some z → z ≤ 1058 * (n + 1) := by
      refine fo_inv (fun x => ∀ z, x = some z → z ≤ 1058 * (n + 1)) _ _ _ _ (fun z hz => ?_) (fun c x _ hc hx z hz => ?_)
      · have := ih (h + 1) u z (by omega) hz
        omega
      · have hv : ∀ w, onw A K Dd n h u (some c) = some w → w ≤ 1058 * (n + 1) := by
          intro w hw
          unfold onw at hw
          simp only at hw
          split at hw
          · cases hw
          · cases hb : byB A K Dd n (h + 1) (u ||| 2 ^ c) with
            | none => rw [hb] at hw; cases hw
            | some v =>
              rw [hb] at hw
              have := ih (h + 1) (u ||| 2 ^ c) v (by omega) hb
              have := hD c h (by omega) (by omega)
              have hw : some (v + Dd c h) = some w := hw
              cases hw
              omega
        have hz : omx x (onw A K Dd n h u (some c)) = some z := hz
        cases x with
        | none => exact hv z hz
        | some w =>
          have hw := hx w rfl
          cases ho : onw A K Dd n h u (some c) with
          | none => rw [ho] at hz; cases hz; exact hw
          | some v =>
            have hv' := hv v ho
            rw [ho] at hz
            have hz : some (max w v) = some z := hz
            cases hz
            omega
    exact this y e
theorem ix64 {h u : Nat} : (64 : Int32) * nI h + nI u = nI (64 * h + u) := by
  rw [show (64 : Int32) = nI 64 from rfl, nI_mul]; exact (Int32.ofNat_add _ _).symm
/-- M's way onward, off the table -/
theorem m_onwardBy_eq {N : Nat} {τ : MS} {A H K h n u : Nat} (lA : A ≤ 6) (lH : H ≤ 6) (hh : h < H) (hn : n + (h + 1) = H) (hu : u < 64) (Dd : Nat → Nat → Nat) (hD : ∀ c h, c < A → h < H → gR τ 39 (6 * c + h) = nI (Dd c h) ∧ Dd c h ≤ 1058) (f : Nat → Int32) (hf : ∀ v, v < 64 → f (64 * (h + 1) + v) = optI (byB A K Dd n (h + 1) v) (-1)) (c : Option Nat) (hc : ∀ z, c = some z → z < A) : m_onwardBy N (nI h) (nI u) (optI c (-1)) (sRw τ 41 f) = some (optI (onw A K Dd n h u c) (-1), sRw τ 41 f) := by
  have hb := byB_b (A := A) (K := K) (Dd := Dd) (H := H) (fun c h hc hh => (hD c h hc hh).2)
  unfold m_onwardBy
  cases c with
  | none =>
    have eo : onw A K Dd n h u none = byB A K Dd n (h + 1) u := rfl
    have hm1 : optI none (-1) = (-1 : Int32) := rfl
    rw [eo, hm1, if_pos (show (-1 : Int32) < 0 by decide)]
    unfold m_onwardBy_15 m_onwardBy_38
    have hr : gR (sRw τ 41 f) 41 (64 * (h + 1) + u) = optI (byB A K Dd n (h + 1) u) (-1) := hf u hu
    rw [if_neg (show ¬ (0 : Int32) ≤ -1 by decide), nI_1, ix64, if_pos (inN (by omega) (show 64 * (h + 1) + u < 448 by omega)), nI_clamp (by omega), nx_ok, hr]
    cases hbb : byB A K Dd n (h + 1) u with
    | none => rw [hm1, if_neg (show ¬ (0 : Int32) ≤ -1 by decide)]
    | some y =>
      have := hb n (h + 1) u y (by omega) hbb
      rw [show optI (some y) (-1) = nI y from rfl, if_pos (nI_pos' (by omega)), if_neg (show ¬ (0 : Int32) ≤ -1 by decide), Int32.add_zero]
  | some c =>
    have hcA := hc c rfl
    have hc6 : c < 6 := by omega
    have eo : onw A K Dd n h u (some c) = if u.testBit c = true then none else oAdd (byB A K Dd n (h + 1) (u ||| 2 ^ c)) (Dd c h) := rfl
    have hm1 : optI none (-1) = (-1 : Int32) := rfl
    rw [eo, show optI (some c) (-1) = nI c from rfl, if_neg (nI_pos (by omega)), m_has_eq, bnd_ok]
    simp only [b0, d1 hu hc6]
    by_cases q : u.testBit c = true
    · simp only [q, not_true, if_false, if_true, hm1]
    · obtain ⟨v1, v2⟩ := d2 hu hc6
      have q' := eq_false_of_ne_true q
      simp only [q', Bool.false_eq_true, not_false_iff, if_true, if_false]
      unfold m_onwardBy_15 m_onwardBy_38
      have hr : gR (sRw τ 41 f) 41 (64 * (h + 1) + (u ||| 2 ^ c)) = optI (byB A K Dd n (h + 1) (u ||| 2 ^ c)) (-1) := hf _ v2
      have h39 : gR (sRw τ 41 f) 39 (6 * c + h) = nI (Dd c h) := (hD c h hcA hh).1
      rw [if_pos (nI_pos' (by omega)), v1, nI_1, ix64, if_pos (inN (by omega) (show 64 * (h + 1) + (u ||| 2 ^ c) < 448 by omega)), nI_clamp (by omega), nx_ok, hr]
      cases hbb : byB A K Dd n (h + 1) (u ||| 2 ^ c) with
      | none => rw [hm1, if_neg (show ¬ (0 : Int32) ≤ -1 by decide), show oAdd none (Dd c h) = none from rfl, hm1]
      | some y =>
        have := hb n (h + 1) _ y (by omega) hbb
        rw [show optI (some y) (-1) = nI y from rfl, if_pos (nI_pos' (by omega)), if_pos (nI_pos' (by omega)), ix36, if_pos (inN (by omega) (show 6 * c + h < 36 by omega)), nI_clamp (by omega), h39, nI_plus, show oAdd (some y) (Dd c h) = some (y + Dd c h) from rfl, show optI (some (y + Dd c h)) (-1) = nI (y + Dd c h) from rfl]
