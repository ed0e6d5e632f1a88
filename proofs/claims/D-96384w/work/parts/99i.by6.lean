/-! PURE: by: X's ways -/
set_option maxRecDepth 100000
def wS (ξ : XS) (r q : Nat → Int32) (b : Option Nat) : XS := sXF (sXC (sXC ξ 22 r) 23 q) 24 (optI b (-1))
theorem wS_22 (ξ : XS) (r q : Nat → Int32) (b : Option Nat) (i : Nat) (v : Int32) : sXR (wS ξ r q b) 22 i v = wS ξ (upd r i v) q b := by
  unfold sXR wS sXF sXC
  simp only
  congr 2
  funext k
  simp only [va_up_at]
  by_cases e : k = 22
  · subst e; simp
  · simp [e]
theorem wS_23 (ξ : XS) (r q q' : Nat → Int32) (b b' : Option Nat) : sXC (sXF (wS ξ r q b) 24 (optI b' (-1))) 23 q' = wS ξ r q' b' := by
  unfold wS sXF sXC
  simp only [va_up2]
theorem imp_add (b o : Option Nat) (d s : Nat) : imp b (oAdd o d) s = imp b o (s + d) := by
  cases o with
  | none => cases b <;> rfl
  | some v =>
    cases b with
    | none => rfl
    | some w =>
      show decide (w < s + (v + d)) = decide (w < s + d + v)
      rw [show s + (v + d) = s + d + v by omega]
theorem oAdd_add (o : Option Nat) (d s : Nat) : oAdd (oAdd o d) s = oAdd o (s + d) := by
  cases o with
  | none => rfl
  | some v => show some (v + d + s) = some (v + (s + d)); rw [show v + d + s = v + (s + d) by omega]
theorem fo_none {o : Nat → Option Nat} {n : Nat} (h : ∀ c, c < n → o c = none) (x : Option Nat) : fo (fun c x => omx x (o c)) n 0 x = x := by
  refine fo_inv (fun y => y = x) _ _ _ _ rfl (fun c y _ hc hy => ?_)
  have hy : y = x := hy
  subst hy
  show omx y (o c) = y
  rw [h c (by omega), omx_none]
theorem byB_none1 {A K : Nat} {Dd : Nat → Nat → Nat} (lA : A ≤ 6) : ∀ (n h u : Nat), u < 64 → pcN u + n < K → byB A K Dd n h u = none := by
  intro n
  induction n with
  | zero => intro h u _ hk; unfold byB; rw [if_neg (by omega)]
  | succ n ih =>
    intro h u hu hk
    rw [byB_succ, fo_none (o := fun c => onw A K Dd n h u (some c)) (fun c hc => ?_)]
    · exact ih (h + 1) u hu (by omega)
    · show (if u.testBit c = true then none else oAdd (byB A K Dd n (h + 1) (u ||| 2 ^ c)) (Dd c h)) = none
      by_cases q : u.testBit c = true
      · rw [if_pos q]
      · rw [if_neg q, ih (h + 1) _ (d2 hu (show c < 6 by omega)).2 (by rw [dA2 hu (by omega) (eq_false_of_ne_true q)]; omega)]
        rfl
theorem byB_none2 {A K : Nat} {Dd : Nat → Nat → Nat} (lA : A ≤ 6) : ∀ (n h u : Nat), u < 64 → K < pcN u → byB A K Dd n h u = none := by
  intro n
  induction n with
  | zero => intro h u _ hk; unfold byB; rw [if_neg (by omega)]
  | succ n ih =>
    intro h u hu hk
    rw [byB_succ, fo_none (o := fun c => onw A K Dd n h u (some c)) (fun c hc => ?_)]
    · exact ih (h + 1) u hu hk
    · show (if u.testBit c = true then none else oAdd (byB A K Dd n (h + 1) (u ||| 2 ^ c)) (Dd c h)) = none
      by_cases q : u.testBit c = true
      · rw [if_pos q]
      · rw [if_neg q, ih (h + 1) _ (d2 hu (show c < 6 by omega)).2 (by rw [dA2 hu (by omega) (eq_false_of_ne_true q)]; omega)]
        rfl
theorem dB1 {u c c' : Nat} (hu : u < 64) (hc : c < 6) (hc' : c' < 6) : (u ||| 2 ^ c).testBit c' = (u.testBit c' || decide (c' = c)) := by
  have h9 : ∀ (u : Fin 64) (c c' : Fin 6), (u.1 ||| 2 ^ c.1).testBit c'.1 = (u.1.testBit c'.1 || decide (c'.1 = c.1)) := by decide +kernel
  exact h9 ⟨u, hu⟩ ⟨c, hc⟩ ⟨c', hc'⟩
theorem dB2 {w c c' : Nat} (hw : w < 64) (hc : c < 6) (hc' : c' < 6) (hb : w.testBit c = true) : (w ^^^ 2 ^ c).testBit c' = (w.testBit c' && !decide (c' = c)) := by
  have h9 : ∀ (w : Fin 64) (c c' : Fin 6), w.1.testBit c.1 = true → (w.1 ^^^ 2 ^ c.1).testBit c'.1 = (w.1.testBit c'.1 && !decide (c'.1 = c.1)) := by decide +kernel
  exact h9 ⟨w, hw⟩ ⟨c, hc⟩ ⟨c', hc'⟩ hb
theorem imp_lt {b : Option Nat} {s : Nat} (hb : ∀ z, b = some z → z < 2 ^ 30) (hs : s < 2 ^ 30) : (optI b (-1) < nI s) ↔ imp b (some 0) s = true := by
  cases b with
  | none =>
    refine ⟨fun _ => rfl, fun _ => ?_⟩
    exact Int32.lt_of_lt_of_le (show (-1 : Int32) < 0 by decide) (nI_pos' (by omega))
  | some z =>
    have hz := hb z rfl
    show (nI z < nI s) ↔ decide (z < s + 0) = true
    rw [decide_eq_true_iff]
    refine ⟨fun h => ?_, fun h => nI_lt (by omega) (by omega)⟩
    refine Nat.lt_of_not_le fun q => ?_
    exact absurd h (Int32.not_lt.mpr (nI_le (by omega) (by omega)))
