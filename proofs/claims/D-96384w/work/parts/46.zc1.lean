/-! HatsDecide, group c1: rows, functions, walks -/
set_option maxRecDepth 100000
section XC
variable {p : Program} {l : Launch} {e : Env} {R : Room} {s : State} {m : MethodId} {args : Array Value} {below : List Frame} {meth : Method} {c : Code} {nL cells slots : Nat} {A : Nat → Prop} {g : XG} {ξ : XS} {Q : State → Prop} {pc n : Nat} {lv : List (Nat × Value)} {st : List Value} {cc : ByteArray} {ρ : Type} {res : ρ}
theorem bp_36 : (Int8.ofInt 36).toInt32 = 36 := by decide +kernel
theorem xdqX1_9 (E : EV p s m args c cc nL RX1) {a : Nat} {v : Nat} {kk : XS → Prop} (hmn : meth.name = "<init>") (d : decode cc pc = .ok (.putfield 9, 3)) (h : bndp (dO ξ a) (fun ci fs => (if (ci = 2 ∧ 0 < fs.length) then nx (sXd ξ a (.inr (ci, fs.set 0 (.ref v)))) kk else False))) (hn : pc + 3 = n) (k : ∀ ξ1 : XS, kk ξ1 → CF p l e R s m args below meth c nL cells slots (XB_0 g A s ξ1) Q n lv st) : CF p l e R s m args below meth c nL cells slots (XB_0 g A s ξ) Q pc lv (.ref v :: .ref a :: st) := by
  obtain ⟨ci, fs, hO, h⟩ := h
  by_cases hi : (ci = 2 ∧ 0 < fs.length)
  · have h : (if (ci = 2 ∧ 0 < fs.length) then nx (sXd ξ a (.inr (ci, fs.set 0 (.ref v)))) kk else False) := h
    rw [if_pos hi] at h
    have he := dO_at hO
    obtain ⟨rfl, hi⟩ : ci = 2 ∧ _ := hi
    have hi : True ∧ _ := ⟨trivial, hi⟩
    exact xdpF_0 (C9 := RX1) (T := TX1) (N := 4) (ci := 2) (j := 0) (ty := .array .byte) E in_X1 (fun D9 hK9 => va_apart (own := RX1) E.2.2.2.2 in_X1 tyX1 tyX1_ok nmX1 hK9 rfl) rfl he (by decide) q154 (fun _ h9 => h9) rfl hmn rfl (by decide +kernel) rfl rfl hi.2 d hn (k _ h)
  · have h : (if (ci = 2 ∧ 0 < fs.length) then nx (sXd ξ a (.inr (ci, fs.set 0 (.ref v)))) kk else False) := h
    rw [if_neg hi] at h; cases h
theorem xdqX1_15 (E : EV p s m args c cc nL RX1) {a : Nat} {v : Nat} {kk : XS → Prop} (hmn : meth.name = "<init>") (d : decode cc pc = .ok (.putfield 15, 3)) (h : bndp (dO ξ a) (fun ci fs => (if (ci = 2 ∧ 1 < fs.length) then nx (sXd ξ a (.inr (ci, fs.set 1 (.ref v)))) kk else False))) (hn : pc + 3 = n) (k : ∀ ξ1 : XS, kk ξ1 → CF p l e R s m args below meth c nL cells slots (XB_0 g A s ξ1) Q n lv st) : CF p l e R s m args below meth c nL cells slots (XB_0 g A s ξ) Q pc lv (.ref v :: .ref a :: st) := by
  obtain ⟨ci, fs, hO, h⟩ := h
  by_cases hi : (ci = 2 ∧ 1 < fs.length)
  · have h : (if (ci = 2 ∧ 1 < fs.length) then nx (sXd ξ a (.inr (ci, fs.set 1 (.ref v)))) kk else False) := h
    rw [if_pos hi] at h
    have he := dO_at hO
    obtain ⟨rfl, hi⟩ : ci = 2 ∧ _ := hi
    have hi : True ∧ _ := ⟨trivial, hi⟩
    exact xdpF_0 (C9 := RX1) (T := TX1) (N := 4) (ci := 2) (j := 1) (ty := .array .int) E in_X1 (fun D9 hK9 => va_apart (own := RX1) E.2.2.2.2 in_X1 tyX1 tyX1_ok nmX1 hK9 rfl) rfl he (by decide) q156 (fun _ h9 => h9) rfl hmn rfl (by decide +kernel) rfl rfl hi.2 d hn (k _ h)
  · have h : (if (ci = 2 ∧ 1 < fs.length) then nx (sXd ξ a (.inr (ci, fs.set 1 (.ref v)))) kk else False) := h
    rw [if_neg hi] at h; cases h
theorem xdqX4_9 (E : EV p s m args c cc nL RX4) {a : Nat} {v : Nat} {kk : XS → Prop} (hmn : meth.name = "<init>") (d : decode cc pc = .ok (.putfield 9, 3)) (h : bndp (dO ξ a) (fun ci fs => (if (ci = 6 ∧ 0 < fs.length) then nx (sXd ξ a (.inr (ci, fs.set 0 (.ref v)))) kk else False))) (hn : pc + 3 = n) (k : ∀ ξ1 : XS, kk ξ1 → CF p l e R s m args below meth c nL cells slots (XB_0 g A s ξ1) Q n lv st) : CF p l e R s m args below meth c nL cells slots (XB_0 g A s ξ) Q pc lv (.ref v :: .ref a :: st) := by
  obtain ⟨ci, fs, hO, h⟩ := h
  by_cases hi : (ci = 6 ∧ 0 < fs.length)
  · have h : (if (ci = 6 ∧ 0 < fs.length) then nx (sXd ξ a (.inr (ci, fs.set 0 (.ref v)))) kk else False) := h
    rw [if_pos hi] at h
    have he := dO_at hO
    obtain ⟨rfl, hi⟩ : ci = 6 ∧ _ := hi
    have hi : True ∧ _ := ⟨trivial, hi⟩
    exact xdpF_0 (C9 := RX4) (T := TX4) (N := 2) (ci := 6) (j := 0) (ty := .array .int) E in_X4 (fun D9 hK9 => va_apart (own := RX4) E.2.2.2.2 in_X4 tyX4 tyX4_ok nmX4 hK9 rfl) rfl he (by decide) q260 (fun _ h9 => h9) rfl hmn rfl (by decide +kernel) rfl rfl hi.2 d hn (k _ h)
  · have h : (if (ci = 6 ∧ 0 < fs.length) then nx (sXd ξ a (.inr (ci, fs.set 0 (.ref v)))) kk else False) := h
    rw [if_neg hi] at h; cases h
theorem xdgX0_79 (E : EV p s m args c cc nL RX0) {a : Nat} {kk : Nat → Option ρ} (d : decode cc pc = .ok (.getfield 79, 3)) (h : bno (dR ξ a 1 1 20) kk = some res) (hn : pc + 3 = n) (k : ∀ v : Nat, kk v = some res → CF p l e R s m args below meth c nL cells slots (XB_0 g A s ξ) Q n lv (.ref v :: st)) : CF p l e R s m args below meth c nL cells slots (XB_0 g A s ξ) Q pc lv (.ref a :: st) := by
  subst hn
  obtain ⟨v, hi, h⟩ := bno_some h
  obtain ⟨ci, fs, he, h1, h2, hv⟩ := dR_at hi
  obtain ⟨q0, hq⟩ := dE_at_0 (g := g) he
  intro H locs ls hB hl
  have hci : ci = 1 := by omega
  subst hci
  exact va_get (D := g.1) (ci := 1) (C := RX0) (T := TX0) (N := 40) E.1 E.2.1 E.2.2.2.2 in_X0 E.2.2.2.1 hB.2.2.2.1 hB.1 q0 hq rfl 20 (Nat.le_of_ble_eq_true rfl) (E.2.2.2.2 _ q310) (fun _ h9 => h9) hv d (k v h H locs ls hB hl)
theorem xnwX0_77 (E : EV p s m args c cc nL RX0) {mc ms : Nat} (hb : cells + mc ≤ R.cells ∧ slots + ms ≤ R.slots) {kk : Nat → Prop} (d : decode cc pc = .ok (.new 77, 3)) (h : mkc ξ 1 mc ms kk) (hn : pc + 3 = n) (k : ∀ q, (cells + 1 + (mc - 1) ≤ R.cells ∧ slots + 1 + (ms - 1) ≤ R.slots) → kk q → CF p l e R s m args below meth c nL (cells + 1) (slots + 1) (XB_0 g A s (pXd ξ q (.inr (7, [.null])))) Q n lv (.ref q :: st)) : CF p l e R s m args below meth c nL cells slots (XB_0 g A s ξ) Q pc lv st :=
  xnew_0 (C9 := RX5) (T := TX5) E in_X5 tyX5 tyX5_ok q269 q271 q104 rfl (fun j hj => by rcases (show j = 0 by omega) with rfl <;> rfl) hb d h hn k
theorem xdgX0_79p (E : EV p s m args c cc nL RX0) {a : Nat} {kk : Nat → Prop} (d : decode cc pc = .ok (.getfield 79, 3)) (h : bnop (dR ξ a 1 1 20) kk) (hn : pc + 3 = n) (k : ∀ v : Nat, kk v → CF p l e R s m args below meth c nL cells slots (XB_0 g A s ξ) Q n lv (.ref v :: st)) : CF p l e R s m args below meth c nL cells slots (XB_0 g A s ξ) Q pc lv (.ref a :: st) := by
  subst hn
  obtain ⟨v, hi, h⟩ := h
  obtain ⟨ci, fs, he, h1, h2, hv⟩ := dR_at hi
  obtain ⟨q0, hq⟩ := dE_at_0 (g := g) he
  intro H locs ls hB hl
  have hci : ci = 1 := by omega
  subst hci
  exact va_get (D := g.1) (ci := 1) (C := RX0) (T := TX0) (N := 40) E.1 E.2.1 E.2.2.2.2 in_X0 E.2.2.2.1 hB.2.2.2.1 hB.1 q0 hq rfl 20 (Nat.le_of_ble_eq_true rfl) (E.2.2.2.2 _ q310) (fun _ h9 => h9) hv d (k v h H locs ls hB hl)
theorem xdqX0_11 (E : EV p s m args c cc nL RX0) {a : Nat} {v : Nat} {kk : XS → Prop} (hmn : meth.name = "<init>") (d : decode cc pc = .ok (.putfield 11, 3)) (h : bndp (dO ξ a) (fun ci fs => (if (ci = 1 ∧ 0 < fs.length) then nx (sXd ξ a (.inr (ci, fs.set 0 (.ref v)))) kk else False))) (hn : pc + 3 = n) (k : ∀ ξ1 : XS, kk ξ1 → CF p l e R s m args below meth c nL cells slots (XB_0 g A s ξ1) Q n lv st) : CF p l e R s m args below meth c nL cells slots (XB_0 g A s ξ) Q pc lv (.ref v :: .ref a :: st) := by
  obtain ⟨ci, fs, hO, h⟩ := h
  by_cases hi : (ci = 1 ∧ 0 < fs.length)
  · have h : (if (ci = 1 ∧ 0 < fs.length) then nx (sXd ξ a (.inr (ci, fs.set 0 (.ref v)))) kk else False) := h
    rw [if_pos hi] at h
    have he := dO_at hO
    obtain ⟨rfl, hi⟩ : ci = 1 ∧ _ := hi
    have hi : True ∧ _ := ⟨trivial, hi⟩
    exact xdpF_0 (C9 := RX0) (T := TX0) (N := 40) (ci := 1) (j := 0) (ty := .array .int) E in_X0 (fun D9 hK9 => va_apart (own := RX0) E.2.2.2.2 in_X0 tyX0 tyX0_ok nmX0 hK9 rfl) rfl he (by decide) q281 (fun _ h9 => h9) rfl hmn rfl (by decide +kernel) rfl rfl hi.2 d hn (k _ h)
  · have h : (if (ci = 1 ∧ 0 < fs.length) then nx (sXd ξ a (.inr (ci, fs.set 0 (.ref v)))) kk else False) := h
    rw [if_neg hi] at h; cases h
theorem xdqX0_15 (E : EV p s m args c cc nL RX0) {a : Nat} {v : Nat} {kk : XS → Prop} (hmn : meth.name = "<init>") (d : decode cc pc = .ok (.putfield 15, 3)) (h : bndp (dO ξ a) (fun ci fs => (if (ci = 1 ∧ 1 < fs.length) then nx (sXd ξ a (.inr (ci, fs.set 1 (.ref v)))) kk else False))) (hn : pc + 3 = n) (k : ∀ ξ1 : XS, kk ξ1 → CF p l e R s m args below meth c nL cells slots (XB_0 g A s ξ1) Q n lv st) : CF p l e R s m args below meth c nL cells slots (XB_0 g A s ξ) Q pc lv (.ref v :: .ref a :: st) := by
  obtain ⟨ci, fs, hO, h⟩ := h
  by_cases hi : (ci = 1 ∧ 1 < fs.length)
  · have h : (if (ci = 1 ∧ 1 < fs.length) then nx (sXd ξ a (.inr (ci, fs.set 1 (.ref v)))) kk else False) := h
    rw [if_pos hi] at h
    have he := dO_at hO
    obtain ⟨rfl, hi⟩ : ci = 1 ∧ _ := hi
    have hi : True ∧ _ := ⟨trivial, hi⟩
    exact xdpF_0 (C9 := RX0) (T := TX0) (N := 40) (ci := 1) (j := 1) (ty := .array .int) E in_X0 (fun D9 hK9 => va_apart (own := RX0) E.2.2.2.2 in_X0 tyX0 tyX0_ok nmX0 hK9 rfl) rfl he (by decide) q282 (fun _ h9 => h9) rfl hmn rfl (by decide +kernel) rfl rfl hi.2 d hn (k _ h)
  · have h : (if (ci = 1 ∧ 1 < fs.length) then nx (sXd ξ a (.inr (ci, fs.set 1 (.ref v)))) kk else False) := h
    rw [if_neg hi] at h; cases h
theorem xdqX0_18 (E : EV p s m args c cc nL RX0) {a : Nat} {v : Nat} {kk : XS → Prop} (hmn : meth.name = "<init>") (d : decode cc pc = .ok (.putfield 18, 3)) (h : bndp (dO ξ a) (fun ci fs => (if (ci = 1 ∧ 2 < fs.length) then nx (sXd ξ a (.inr (ci, fs.set 2 (.ref v)))) kk else False))) (hn : pc + 3 = n) (k : ∀ ξ1 : XS, kk ξ1 → CF p l e R s m args below meth c nL cells slots (XB_0 g A s ξ1) Q n lv st) : CF p l e R s m args below meth c nL cells slots (XB_0 g A s ξ) Q pc lv (.ref v :: .ref a :: st) := by
  obtain ⟨ci, fs, hO, h⟩ := h
  by_cases hi : (ci = 1 ∧ 2 < fs.length)
  · have h : (if (ci = 1 ∧ 2 < fs.length) then nx (sXd ξ a (.inr (ci, fs.set 2 (.ref v)))) kk else False) := h
    rw [if_pos hi] at h
    have he := dO_at hO
    obtain ⟨rfl, hi⟩ : ci = 1 ∧ _ := hi
    have hi : True ∧ _ := ⟨trivial, hi⟩
    exact xdpF_0 (C9 := RX0) (T := TX0) (N := 40) (ci := 1) (j := 2) (ty := .array .int) E in_X0 (fun D9 hK9 => va_apart (own := RX0) E.2.2.2.2 in_X0 tyX0 tyX0_ok nmX0 hK9 rfl) rfl he (by decide) q284 (fun _ h9 => h9) rfl hmn rfl (by decide +kernel) rfl rfl hi.2 d hn (k _ h)
  · have h : (if (ci = 1 ∧ 2 < fs.length) then nx (sXd ξ a (.inr (ci, fs.set 2 (.ref v)))) kk else False) := h
    rw [if_neg hi] at h; cases h
theorem xdqX0_23 (E : EV p s m args c cc nL RX0) {a : Nat} {v : Nat} {kk : XS → Prop} (hmn : meth.name = "<init>") (d : decode cc pc = .ok (.putfield 23, 3)) (h : bndp (dO ξ a) (fun ci fs => (if (ci = 1 ∧ 3 < fs.length) then nx (sXd ξ a (.inr (ci, fs.set 3 (.ref v)))) kk else False))) (hn : pc + 3 = n) (k : ∀ ξ1 : XS, kk ξ1 → CF p l e R s m args below meth c nL cells slots (XB_0 g A s ξ1) Q n lv st) : CF p l e R s m args below meth c nL cells slots (XB_0 g A s ξ) Q pc lv (.ref v :: .ref a :: st) := by
  obtain ⟨ci, fs, hO, h⟩ := h
  by_cases hi : (ci = 1 ∧ 3 < fs.length)
  · have h : (if (ci = 1 ∧ 3 < fs.length) then nx (sXd ξ a (.inr (ci, fs.set 3 (.ref v)))) kk else False) := h
    rw [if_pos hi] at h
    have he := dO_at hO
    obtain ⟨rfl, hi⟩ : ci = 1 ∧ _ := hi
    have hi : True ∧ _ := ⟨trivial, hi⟩
    exact xdpF_0 (C9 := RX0) (T := TX0) (N := 40) (ci := 1) (j := 3) (ty := .array (.object "HatsDecide$Hat")) E in_X0 (fun D9 hK9 => va_apart (own := RX0) E.2.2.2.2 in_X0 tyX0 tyX0_ok nmX0 hK9 rfl) rfl he (by decide) q285 (fun _ h9 => h9) rfl hmn rfl (by decide +kernel) rfl rfl hi.2 d hn (k _ h)
  · have h : (if (ci = 1 ∧ 3 < fs.length) then nx (sXd ξ a (.inr (ci, fs.set 3 (.ref v)))) kk else False) := h
    rw [if_neg hi] at h; cases h
theorem xnwX0_27 (E : EV p s m args c cc nL RX0) {mc ms : Nat} (hb : cells + mc ≤ R.cells ∧ slots + ms ≤ R.slots) {kk : Nat → Prop} (d : decode cc pc = .ok (.new 27, 3)) (h : mkc ξ 4 mc ms kk) (hn : pc + 3 = n) (k : ∀ q, (cells + 1 + (mc - 1) ≤ R.cells ∧ slots + 4 + (ms - 4) ≤ R.slots) → kk q → CF p l e R s m args below meth c nL (cells + 1) (slots + 4) (XB_0 g A s (pXd ξ q (.inr (2, [.null, .null, .int 0, .int 0])))) Q n lv (.ref q :: st)) : CF p l e R s m args below meth c nL cells slots (XB_0 g A s ξ) Q pc lv st :=
  xnew_0 (C9 := RX1) (T := TX1) E in_X1 tyX1 tyX1_ok q148 q149 q97 rfl (fun j hj => by rcases (show j = 0 ∨ j = 1 ∨ j = 2 ∨ j = 3 by omega) with rfl | rfl | rfl | rfl <;> rfl) hb d h hn k
theorem xdqX0_30 (E : EV p s m args c cc nL RX0) {a : Nat} {v : Nat} {kk : XS → Prop} (hmn : meth.name = "<init>") (d : decode cc pc = .ok (.putfield 30, 3)) (h : bndp (dO ξ a) (fun ci fs => (if (ci = 1 ∧ 5 < fs.length) then nx (sXd ξ a (.inr (ci, fs.set 5 (.ref v)))) kk else False))) (hn : pc + 3 = n) (k : ∀ ξ1 : XS, kk ξ1 → CF p l e R s m args below meth c nL cells slots (XB_0 g A s ξ1) Q n lv st) : CF p l e R s m args below meth c nL cells slots (XB_0 g A s ξ) Q pc lv (.ref v :: .ref a :: st) := by
  obtain ⟨ci, fs, hO, h⟩ := h
  by_cases hi : (ci = 1 ∧ 5 < fs.length)
  · have h : (if (ci = 1 ∧ 5 < fs.length) then nx (sXd ξ a (.inr (ci, fs.set 5 (.ref v)))) kk else False) := h
    rw [if_pos hi] at h
    have he := dO_at hO
    obtain ⟨rfl, hi⟩ : ci = 1 ∧ _ := hi
    have hi : True ∧ _ := ⟨trivial, hi⟩
    exact xdpF_0 (C9 := RX0) (T := TX0) (N := 40) (ci := 1) (j := 5) (ty := .object "HatsDecide$Time") E in_X0 (fun D9 hK9 => va_apart (own := RX0) E.2.2.2.2 in_X0 tyX0 tyX0_ok nmX0 hK9 rfl) rfl he (by decide) q287 (fun _ h9 => h9) rfl hmn rfl (by decide +kernel) rfl rfl hi.2 d hn (k _ h)
  · have h : (if (ci = 1 ∧ 5 < fs.length) then nx (sXd ξ a (.inr (ci, fs.set 5 (.ref v)))) kk else False) := h
    rw [if_neg hi] at h; cases h
theorem xdqX0_34 (E : EV p s m args c cc nL RX0) {a : Nat} {v : Nat} {kk : XS → Prop} (hmn : meth.name = "<init>") (d : decode cc pc = .ok (.putfield 34, 3)) (h : bndp (dO ξ a) (fun ci fs => (if (ci = 1 ∧ 6 < fs.length) then nx (sXd ξ a (.inr (ci, fs.set 6 (.ref v)))) kk else False))) (hn : pc + 3 = n) (k : ∀ ξ1 : XS, kk ξ1 → CF p l e R s m args below meth c nL cells slots (XB_0 g A s ξ1) Q n lv st) : CF p l e R s m args below meth c nL cells slots (XB_0 g A s ξ) Q pc lv (.ref v :: .ref a :: st) := by
  obtain ⟨ci, fs, hO, h⟩ := h
  by_cases hi : (ci = 1 ∧ 6 < fs.length)
  · have h : (if (ci = 1 ∧ 6 < fs.length) then nx (sXd ξ a (.inr (ci, fs.set 6 (.ref v)))) kk else False) := h
    rw [if_pos hi] at h
    have he := dO_at hO
    obtain ⟨rfl, hi⟩ : ci = 1 ∧ _ := hi
    have hi : True ∧ _ := ⟨trivial, hi⟩
    exact xdpF_0 (C9 := RX0) (T := TX0) (N := 40) (ci := 1) (j := 6) (ty := .object "HatsDecide$Time") E in_X0 (fun D9 hK9 => va_apart (own := RX0) E.2.2.2.2 in_X0 tyX0 tyX0_ok nmX0 hK9 rfl) rfl he (by decide) q288 (fun _ h9 => h9) rfl hmn rfl (by decide +kernel) rfl rfl hi.2 d hn (k _ h)
  · have h : (if (ci = 1 ∧ 6 < fs.length) then nx (sXd ξ a (.inr (ci, fs.set 6 (.ref v)))) kk else False) := h
    rw [if_neg hi] at h; cases h
theorem xdqX0_37 (E : EV p s m args c cc nL RX0) {a : Nat} {v : Nat} {kk : XS → Prop} (hmn : meth.name = "<init>") (d : decode cc pc = .ok (.putfield 37, 3)) (h : bndp (dO ξ a) (fun ci fs => (if (ci = 1 ∧ 7 < fs.length) then nx (sXd ξ a (.inr (ci, fs.set 7 (.ref v)))) kk else False))) (hn : pc + 3 = n) (k : ∀ ξ1 : XS, kk ξ1 → CF p l e R s m args below meth c nL cells slots (XB_0 g A s ξ1) Q n lv st) : CF p l e R s m args below meth c nL cells slots (XB_0 g A s ξ) Q pc lv (.ref v :: .ref a :: st) := by
  obtain ⟨ci, fs, hO, h⟩ := h
  by_cases hi : (ci = 1 ∧ 7 < fs.length)
  · have h : (if (ci = 1 ∧ 7 < fs.length) then nx (sXd ξ a (.inr (ci, fs.set 7 (.ref v)))) kk else False) := h
    rw [if_pos hi] at h
    have he := dO_at hO
    obtain ⟨rfl, hi⟩ : ci = 1 ∧ _ := hi
    have hi : True ∧ _ := ⟨trivial, hi⟩
    exact xdpF_0 (C9 := RX0) (T := TX0) (N := 40) (ci := 1) (j := 7) (ty := .array .int) E in_X0 (fun D9 hK9 => va_apart (own := RX0) E.2.2.2.2 in_X0 tyX0 tyX0_ok nmX0 hK9 rfl) rfl he (by decide) q289 (fun _ h9 => h9) rfl hmn rfl (by decide +kernel) rfl rfl hi.2 d hn (k _ h)
  · have h : (if (ci = 1 ∧ 7 < fs.length) then nx (sXd ξ a (.inr (ci, fs.set 7 (.ref v)))) kk else False) := h
    rw [if_neg hi] at h; cases h
theorem xdqX0_40 (E : EV p s m args c cc nL RX0) {a : Nat} {v : Nat} {kk : XS → Prop} (hmn : meth.name = "<init>") (d : decode cc pc = .ok (.putfield 40, 3)) (h : bndp (dO ξ a) (fun ci fs => (if (ci = 1 ∧ 8 < fs.length) then nx (sXd ξ a (.inr (ci, fs.set 8 (.ref v)))) kk else False))) (hn : pc + 3 = n) (k : ∀ ξ1 : XS, kk ξ1 → CF p l e R s m args below meth c nL cells slots (XB_0 g A s ξ1) Q n lv st) : CF p l e R s m args below meth c nL cells slots (XB_0 g A s ξ) Q pc lv (.ref v :: .ref a :: st) := by
  obtain ⟨ci, fs, hO, h⟩ := h
  by_cases hi : (ci = 1 ∧ 8 < fs.length)
  · have h : (if (ci = 1 ∧ 8 < fs.length) then nx (sXd ξ a (.inr (ci, fs.set 8 (.ref v)))) kk else False) := h
    rw [if_pos hi] at h
    have he := dO_at hO
    obtain ⟨rfl, hi⟩ : ci = 1 ∧ _ := hi
    have hi : True ∧ _ := ⟨trivial, hi⟩
    exact xdpF_0 (C9 := RX0) (T := TX0) (N := 40) (ci := 1) (j := 8) (ty := .array .byte) E in_X0 (fun D9 hK9 => va_apart (own := RX0) E.2.2.2.2 in_X0 tyX0 tyX0_ok nmX0 hK9 rfl) rfl he (by decide) q290 (fun _ h9 => h9) rfl hmn rfl (by decide +kernel) rfl rfl hi.2 d hn (k _ h)
  · have h : (if (ci = 1 ∧ 8 < fs.length) then nx (sXd ξ a (.inr (ci, fs.set 8 (.ref v)))) kk else False) := h
    rw [if_neg hi] at h; cases h
theorem xnwX0_44 (E : EV p s m args c cc nL RX0) {mc ms : Nat} (hb : cells + mc ≤ R.cells ∧ slots + ms ≤ R.slots) {kk : Nat → Prop} (d : decode cc pc = .ok (.new 44, 3)) (h : mkc ξ 4 mc ms kk) (hn : pc + 3 = n) (k : ∀ q, (cells + 1 + (mc - 1) ≤ R.cells ∧ slots + 4 + (ms - 4) ≤ R.slots) → kk q → CF p l e R s m args below meth c nL (cells + 1) (slots + 4) (XB_0 g A s (pXd ξ q (.inr (3, [.null, .null, .int 0, .int 0])))) Q n lv (.ref q :: st)) : CF p l e R s m args below meth c nL cells slots (XB_0 g A s ξ) Q pc lv st :=
  xnew_0 (C9 := RX2) (T := TX2) E in_X2 tyX2 tyX2_ok q173 q174 q98 rfl (fun j hj => by rcases (show j = 0 ∨ j = 1 ∨ j = 2 ∨ j = 3 by omega) with rfl | rfl | rfl | rfl <;> rfl) hb d h hn k
theorem xdqX0_47 (E : EV p s m args c cc nL RX0) {a : Nat} {v : Nat} {kk : XS → Prop} (d : decode cc pc = .ok (.putfield 47, 3)) (h : bndp (dO ξ a) (fun ci fs => (if (ci = 1 ∧ 11 < fs.length) then nx (sXd ξ a (.inr (ci, fs.set 11 (.ref v)))) kk else False))) (hn : pc + 3 = n) (k : ∀ ξ1 : XS, kk ξ1 → CF p l e R s m args below meth c nL cells slots (XB_0 g A s ξ1) Q n lv st) : CF p l e R s m args below meth c nL cells slots (XB_0 g A s ξ) Q pc lv (.ref v :: .ref a :: st) := by
  obtain ⟨ci, fs, hO, h⟩ := h
  by_cases hi : (ci = 1 ∧ 11 < fs.length)
  · have h : (if (ci = 1 ∧ 11 < fs.length) then nx (sXd ξ a (.inr (ci, fs.set 11 (.ref v)))) kk else False) := h
    rw [if_pos hi] at h
    have he := dO_at hO
    obtain ⟨rfl, hi⟩ : ci = 1 ∧ _ := hi
    have hi : True ∧ _ := ⟨trivial, hi⟩
    exact xdp_0 (C9 := RX0) (T := TX0) (N := 40) (ci := 1) (j := 11) (ty := .object "HatsDecide$Town") E in_X0 tyX0 tyX0_ok nmX0 rfl he (by decide) q294 (fun _ h9 => h9) rfl (by decide +kernel) rfl rfl hi.2 d hn (k _ h)
  · have h : (if (ci = 1 ∧ 11 < fs.length) then nx (sXd ξ a (.inr (ci, fs.set 11 (.ref v)))) kk else False) := h
    rw [if_neg hi] at h; cases h
theorem xnwX0_51 (E : EV p s m args c cc nL RX0) {mc ms : Nat} (hb : cells + mc ≤ R.cells ∧ slots + ms ≤ R.slots) {kk : Nat → Prop} (d : decode cc pc = .ok (.new 51, 3)) (h : mkc ξ 6 mc ms kk) (hn : pc + 3 = n) (k : ∀ q, (cells + 1 + (mc - 1) ≤ R.cells ∧ slots + 6 + (ms - 6) ≤ R.slots) → kk q → CF p l e R s m args below meth c nL (cells + 1) (slots + 6) (XB_0 g A s (pXd ξ q (.inr (5, [.int 0, .int 0, .int 0, .int 0, .int 0, .int 0])))) Q n lv (.ref q :: st)) : CF p l e R s m args below meth c nL cells slots (XB_0 g A s ξ) Q pc lv st :=
  xnew_0 (C9 := RX3) (T := TX3) E in_X3 tyX3 tyX3_ok q223 q224 q102 rfl (fun j hj => by rcases (show j = 0 ∨ j = 1 ∨ j = 2 ∨ j = 3 ∨ j = 4 ∨ j = 5 by omega) with rfl | rfl | rfl | rfl | rfl | rfl <;> rfl) hb d h hn k
theorem xdqX0_54 (E : EV p s m args c cc nL RX0) {a : Nat} {v : Nat} {kk : XS → Prop} (hmn : meth.name = "<init>") (d : decode cc pc = .ok (.putfield 54, 3)) (h : bndp (dO ξ a) (fun ci fs => (if (ci = 1 ∧ 12 < fs.length) then nx (sXd ξ a (.inr (ci, fs.set 12 (.ref v)))) kk else False))) (hn : pc + 3 = n) (k : ∀ ξ1 : XS, kk ξ1 → CF p l e R s m args below meth c nL cells slots (XB_0 g A s ξ1) Q n lv st) : CF p l e R s m args below meth c nL cells slots (XB_0 g A s ξ) Q pc lv (.ref v :: .ref a :: st) := by
  obtain ⟨ci, fs, hO, h⟩ := h
  by_cases hi : (ci = 1 ∧ 12 < fs.length)
  · have h : (if (ci = 1 ∧ 12 < fs.length) then nx (sXd ξ a (.inr (ci, fs.set 12 (.ref v)))) kk else False) := h
    rw [if_pos hi] at h
    have he := dO_at hO
    obtain ⟨rfl, hi⟩ : ci = 1 ∧ _ := hi
    have hi : True ∧ _ := ⟨trivial, hi⟩
    exact xdpF_0 (C9 := RX0) (T := TX0) (N := 40) (ci := 1) (j := 12) (ty := .object "HatsDecide$Look") E in_X0 (fun D9 hK9 => va_apart (own := RX0) E.2.2.2.2 in_X0 tyX0 tyX0_ok nmX0 hK9 rfl) rfl he (by decide) q295 (fun _ h9 => h9) rfl hmn rfl (by decide +kernel) rfl rfl hi.2 d hn (k _ h)
  · have h : (if (ci = 1 ∧ 12 < fs.length) then nx (sXd ξ a (.inr (ci, fs.set 12 (.ref v)))) kk else False) := h
    rw [if_neg hi] at h; cases h
theorem xnwX0_58 (E : EV p s m args c cc nL RX0) {mc ms : Nat} (hb : cells + mc ≤ R.cells ∧ slots + ms ≤ R.slots) {kk : Nat → Prop} (d : decode cc pc = .ok (.new 58, 3)) (h : mkc ξ 2 mc ms kk) (hn : pc + 3 = n) (k : ∀ q, (cells + 1 + (mc - 1) ≤ R.cells ∧ slots + 2 + (ms - 2) ≤ R.slots) → kk q → CF p l e R s m args below meth c nL (cells + 1) (slots + 2) (XB_0 g A s (pXd ξ q (.inr (6, [.null, .int 0])))) Q n lv (.ref q :: st)) : CF p l e R s m args below meth c nL cells slots (XB_0 g A s ξ) Q pc lv st :=
  xnew_0 (C9 := RX4) (T := TX4) E in_X4 tyX4 tyX4_ok q254 q255 q103 rfl (fun j hj => by rcases (show j = 0 ∨ j = 1 by omega) with rfl | rfl <;> rfl) hb d h hn k
theorem xdqX0_61 (E : EV p s m args c cc nL RX0) {a : Nat} {v : Nat} {kk : XS → Prop} (hmn : meth.name = "<init>") (d : decode cc pc = .ok (.putfield 61, 3)) (h : bndp (dO ξ a) (fun ci fs => (if (ci = 1 ∧ 13 < fs.length) then nx (sXd ξ a (.inr (ci, fs.set 13 (.ref v)))) kk else False))) (hn : pc + 3 = n) (k : ∀ ξ1 : XS, kk ξ1 → CF p l e R s m args below meth c nL cells slots (XB_0 g A s ξ1) Q n lv st) : CF p l e R s m args below meth c nL cells slots (XB_0 g A s ξ) Q pc lv (.ref v :: .ref a :: st) := by
  obtain ⟨ci, fs, hO, h⟩ := h
  by_cases hi : (ci = 1 ∧ 13 < fs.length)
  · have h : (if (ci = 1 ∧ 13 < fs.length) then nx (sXd ξ a (.inr (ci, fs.set 13 (.ref v)))) kk else False) := h
    rw [if_pos hi] at h
    have he := dO_at hO
    obtain ⟨rfl, hi⟩ : ci = 1 ∧ _ := hi
    have hi : True ∧ _ := ⟨trivial, hi⟩
    exact xdpF_0 (C9 := RX0) (T := TX0) (N := 40) (ci := 1) (j := 13) (ty := .object "HatsDecide$Trace") E in_X0 (fun D9 hK9 => va_apart (own := RX0) E.2.2.2.2 in_X0 tyX0 tyX0_ok nmX0 hK9 rfl) rfl he (by decide) q296 (fun _ h9 => h9) rfl hmn rfl (by decide +kernel) rfl rfl hi.2 d hn (k _ h)
  · have h : (if (ci = 1 ∧ 13 < fs.length) then nx (sXd ξ a (.inr (ci, fs.set 13 (.ref v)))) kk else False) := h
    rw [if_neg hi] at h; cases h
theorem xdqX0_65 (E : EV p s m args c cc nL RX0) {a : Nat} {v : Nat} {kk : XS → Prop} (hmn : meth.name = "<init>") (d : decode cc pc = .ok (.putfield 65, 3)) (h : bndp (dO ξ a) (fun ci fs => (if (ci = 1 ∧ 14 < fs.length) then nx (sXd ξ a (.inr (ci, fs.set 14 (.ref v)))) kk else False))) (hn : pc + 3 = n) (k : ∀ ξ1 : XS, kk ξ1 → CF p l e R s m args below meth c nL cells slots (XB_0 g A s ξ1) Q n lv st) : CF p l e R s m args below meth c nL cells slots (XB_0 g A s ξ) Q pc lv (.ref v :: .ref a :: st) := by
  obtain ⟨ci, fs, hO, h⟩ := h
  by_cases hi : (ci = 1 ∧ 14 < fs.length)
  · have h : (if (ci = 1 ∧ 14 < fs.length) then nx (sXd ξ a (.inr (ci, fs.set 14 (.ref v)))) kk else False) := h
    rw [if_pos hi] at h
    have he := dO_at hO
    obtain ⟨rfl, hi⟩ : ci = 1 ∧ _ := hi
    have hi : True ∧ _ := ⟨trivial, hi⟩
    exact xdpF_0 (C9 := RX0) (T := TX0) (N := 40) (ci := 1) (j := 14) (ty := .array .int) E in_X0 (fun D9 hK9 => va_apart (own := RX0) E.2.2.2.2 in_X0 tyX0 tyX0_ok nmX0 hK9 rfl) rfl he (by decide) q304 (fun _ h9 => h9) rfl hmn rfl (by decide +kernel) rfl rfl hi.2 d hn (k _ h)
  · have h : (if (ci = 1 ∧ 14 < fs.length) then nx (sXd ξ a (.inr (ci, fs.set 14 (.ref v)))) kk else False) := h
    rw [if_neg hi] at h; cases h
theorem xdqX0_68 (E : EV p s m args c cc nL RX0) {a : Nat} {v : Nat} {kk : XS → Prop} (hmn : meth.name = "<init>") (d : decode cc pc = .ok (.putfield 68, 3)) (h : bndp (dO ξ a) (fun ci fs => (if (ci = 1 ∧ 15 < fs.length) then nx (sXd ξ a (.inr (ci, fs.set 15 (.ref v)))) kk else False))) (hn : pc + 3 = n) (k : ∀ ξ1 : XS, kk ξ1 → CF p l e R s m args below meth c nL cells slots (XB_0 g A s ξ1) Q n lv st) : CF p l e R s m args below meth c nL cells slots (XB_0 g A s ξ) Q pc lv (.ref v :: .ref a :: st) := by
  obtain ⟨ci, fs, hO, h⟩ := h
  by_cases hi : (ci = 1 ∧ 15 < fs.length)
  · have h : (if (ci = 1 ∧ 15 < fs.length) then nx (sXd ξ a (.inr (ci, fs.set 15 (.ref v)))) kk else False) := h
    rw [if_pos hi] at h
    have he := dO_at hO
    obtain ⟨rfl, hi⟩ : ci = 1 ∧ _ := hi
    have hi : True ∧ _ := ⟨trivial, hi⟩
    exact xdpF_0 (C9 := RX0) (T := TX0) (N := 40) (ci := 1) (j := 15) (ty := .array .int) E in_X0 (fun D9 hK9 => va_apart (own := RX0) E.2.2.2.2 in_X0 tyX0 tyX0_ok nmX0 hK9 rfl) rfl he (by decide) q305 (fun _ h9 => h9) rfl hmn rfl (by decide +kernel) rfl rfl hi.2 d hn (k _ h)
  · have h : (if (ci = 1 ∧ 15 < fs.length) then nx (sXd ξ a (.inr (ci, fs.set 15 (.ref v)))) kk else False) := h
    rw [if_neg hi] at h; cases h
theorem xdqX0_71 (E : EV p s m args c cc nL RX0) {a : Nat} {v : Nat} {kk : XS → Prop} (hmn : meth.name = "<init>") (d : decode cc pc = .ok (.putfield 71, 3)) (h : bndp (dO ξ a) (fun ci fs => (if (ci = 1 ∧ 16 < fs.length) then nx (sXd ξ a (.inr (ci, fs.set 16 (.ref v)))) kk else False))) (hn : pc + 3 = n) (k : ∀ ξ1 : XS, kk ξ1 → CF p l e R s m args below meth c nL cells slots (XB_0 g A s ξ1) Q n lv st) : CF p l e R s m args below meth c nL cells slots (XB_0 g A s ξ) Q pc lv (.ref v :: .ref a :: st) := by
  obtain ⟨ci, fs, hO, h⟩ := h
  by_cases hi : (ci = 1 ∧ 16 < fs.length)
  · have h : (if (ci = 1 ∧ 16 < fs.length) then nx (sXd ξ a (.inr (ci, fs.set 16 (.ref v)))) kk else False) := h
    rw [if_pos hi] at h
    have he := dO_at hO
    obtain ⟨rfl, hi⟩ : ci = 1 ∧ _ := hi
    have hi : True ∧ _ := ⟨trivial, hi⟩
    exact xdpF_0 (C9 := RX0) (T := TX0) (N := 40) (ci := 1) (j := 16) (ty := .array .int) E in_X0 (fun D9 hK9 => va_apart (own := RX0) E.2.2.2.2 in_X0 tyX0 tyX0_ok nmX0 hK9 rfl) rfl he (by decide) q306 (fun _ h9 => h9) rfl hmn rfl (by decide +kernel) rfl rfl hi.2 d hn (k _ h)
  · have h : (if (ci = 1 ∧ 16 < fs.length) then nx (sXd ξ a (.inr (ci, fs.set 16 (.ref v)))) kk else False) := h
    rw [if_neg hi] at h; cases h
theorem xdqX0_74 (E : EV p s m args c cc nL RX0) {a : Nat} {v : Nat} {kk : XS → Prop} (hmn : meth.name = "<init>") (d : decode cc pc = .ok (.putfield 74, 3)) (h : bndp (dO ξ a) (fun ci fs => (if (ci = 1 ∧ 17 < fs.length) then nx (sXd ξ a (.inr (ci, fs.set 17 (.ref v)))) kk else False))) (hn : pc + 3 = n) (k : ∀ ξ1 : XS, kk ξ1 → CF p l e R s m args below meth c nL cells slots (XB_0 g A s ξ1) Q n lv st) : CF p l e R s m args below meth c nL cells slots (XB_0 g A s ξ) Q pc lv (.ref v :: .ref a :: st) := by
  obtain ⟨ci, fs, hO, h⟩ := h
  by_cases hi : (ci = 1 ∧ 17 < fs.length)
  · have h : (if (ci = 1 ∧ 17 < fs.length) then nx (sXd ξ a (.inr (ci, fs.set 17 (.ref v)))) kk else False) := h
    rw [if_pos hi] at h
    have he := dO_at hO
    obtain ⟨rfl, hi⟩ : ci = 1 ∧ _ := hi
    have hi : True ∧ _ := ⟨trivial, hi⟩
    exact xdpF_0 (C9 := RX0) (T := TX0) (N := 40) (ci := 1) (j := 17) (ty := .array .int) E in_X0 (fun D9 hK9 => va_apart (own := RX0) E.2.2.2.2 in_X0 tyX0 tyX0_ok nmX0 hK9 rfl) rfl he (by decide) q307 (fun _ h9 => h9) rfl hmn rfl (by decide +kernel) rfl rfl hi.2 d hn (k _ h)
  · have h : (if (ci = 1 ∧ 17 < fs.length) then nx (sXd ξ a (.inr (ci, fs.set 17 (.ref v)))) kk else False) := h
    rw [if_neg hi] at h; cases h
theorem xdqX0_79 (E : EV p s m args c cc nL RX0) {a : Nat} {v : Nat} {kk : XS → Prop} (hmn : meth.name = "<init>") (d : decode cc pc = .ok (.putfield 79, 3)) (h : bndp (dO ξ a) (fun ci fs => (if (ci = 1 ∧ 20 < fs.length) then nx (sXd ξ a (.inr (ci, fs.set 20 (.ref v)))) kk else False))) (hn : pc + 3 = n) (k : ∀ ξ1 : XS, kk ξ1 → CF p l e R s m args below meth c nL cells slots (XB_0 g A s ξ1) Q n lv st) : CF p l e R s m args below meth c nL cells slots (XB_0 g A s ξ) Q pc lv (.ref v :: .ref a :: st) := by
  obtain ⟨ci, fs, hO, h⟩ := h
  by_cases hi : (ci = 1 ∧ 20 < fs.length)
  · have h : (if (ci = 1 ∧ 20 < fs.length) then nx (sXd ξ a (.inr (ci, fs.set 20 (.ref v)))) kk else False) := h
    rw [if_pos hi] at h
    have he := dO_at hO
    obtain ⟨rfl, hi⟩ : ci = 1 ∧ _ := hi
    have hi : True ∧ _ := ⟨trivial, hi⟩
    exact xdpF_0 (C9 := RX0) (T := TX0) (N := 40) (ci := 1) (j := 20) (ty := .array (.object "HatsDecide$Tape")) E in_X0 (fun D9 hK9 => va_apart (own := RX0) E.2.2.2.2 in_X0 tyX0 tyX0_ok nmX0 hK9 rfl) rfl he (by decide) q310 (fun _ h9 => h9) rfl hmn rfl (by decide +kernel) rfl rfl hi.2 d hn (k _ h)
  · have h : (if (ci = 1 ∧ 20 < fs.length) then nx (sXd ξ a (.inr (ci, fs.set 20 (.ref v)))) kk else False) := h
    rw [if_neg hi] at h; cases h
theorem xdqX0_83 (E : EV p s m args c cc nL RX0) {a : Nat} {v : Nat} {kk : XS → Prop} (hmn : meth.name = "<init>") (d : decode cc pc = .ok (.putfield 83, 3)) (h : bndp (dO ξ a) (fun ci fs => (if (ci = 1 ∧ 21 < fs.length) then nx (sXd ξ a (.inr (ci, fs.set 21 (.ref v)))) kk else False))) (hn : pc + 3 = n) (k : ∀ ξ1 : XS, kk ξ1 → CF p l e R s m args below meth c nL cells slots (XB_0 g A s ξ1) Q n lv st) : CF p l e R s m args below meth c nL cells slots (XB_0 g A s ξ) Q pc lv (.ref v :: .ref a :: st) := by
  obtain ⟨ci, fs, hO, h⟩ := h
  by_cases hi : (ci = 1 ∧ 21 < fs.length)
  · have h : (if (ci = 1 ∧ 21 < fs.length) then nx (sXd ξ a (.inr (ci, fs.set 21 (.ref v)))) kk else False) := h
    rw [if_pos hi] at h
    have he := dO_at hO
    obtain ⟨rfl, hi⟩ : ci = 1 ∧ _ := hi
    have hi : True ∧ _ := ⟨trivial, hi⟩
    exact xdpF_0 (C9 := RX0) (T := TX0) (N := 40) (ci := 1) (j := 21) (ty := .array .int) E in_X0 (fun D9 hK9 => va_apart (own := RX0) E.2.2.2.2 in_X0 tyX0 tyX0_ok nmX0 hK9 rfl) rfl he (by decide) q311 (fun _ h9 => h9) rfl hmn rfl (by decide +kernel) rfl rfl hi.2 d hn (k _ h)
  · have h : (if (ci = 1 ∧ 21 < fs.length) then nx (sXd ξ a (.inr (ci, fs.set 21 (.ref v)))) kk else False) := h
    rw [if_neg hi] at h; cases h
theorem xdqX0_86 (E : EV p s m args c cc nL RX0) {a : Nat} {v : Nat} {kk : XS → Prop} (hmn : meth.name = "<init>") (d : decode cc pc = .ok (.putfield 86, 3)) (h : bndp (dO ξ a) (fun ci fs => (if (ci = 1 ∧ 22 < fs.length) then nx (sXd ξ a (.inr (ci, fs.set 22 (.ref v)))) kk else False))) (hn : pc + 3 = n) (k : ∀ ξ1 : XS, kk ξ1 → CF p l e R s m args below meth c nL cells slots (XB_0 g A s ξ1) Q n lv st) : CF p l e R s m args below meth c nL cells slots (XB_0 g A s ξ) Q pc lv (.ref v :: .ref a :: st) := by
  obtain ⟨ci, fs, hO, h⟩ := h
  by_cases hi : (ci = 1 ∧ 22 < fs.length)
  · have h : (if (ci = 1 ∧ 22 < fs.length) then nx (sXd ξ a (.inr (ci, fs.set 22 (.ref v)))) kk else False) := h
    rw [if_pos hi] at h
    have he := dO_at hO
    obtain ⟨rfl, hi⟩ : ci = 1 ∧ _ := hi
    have hi : True ∧ _ := ⟨trivial, hi⟩
    exact xdpF_0 (C9 := RX0) (T := TX0) (N := 40) (ci := 1) (j := 22) (ty := .array .byte) E in_X0 (fun D9 hK9 => va_apart (own := RX0) E.2.2.2.2 in_X0 tyX0 tyX0_ok nmX0 hK9 rfl) rfl he (by decide) q312 (fun _ h9 => h9) rfl hmn rfl (by decide +kernel) rfl rfl hi.2 d hn (k _ h)
  · have h : (if (ci = 1 ∧ 22 < fs.length) then nx (sXd ξ a (.inr (ci, fs.set 22 (.ref v)))) kk else False) := h
    rw [if_neg hi] at h; cases h
theorem xdqX0_89 (E : EV p s m args c cc nL RX0) {a : Nat} {v : Nat} {kk : XS → Prop} (hmn : meth.name = "<init>") (d : decode cc pc = .ok (.putfield 89, 3)) (h : bndp (dO ξ a) (fun ci fs => (if (ci = 1 ∧ 23 < fs.length) then nx (sXd ξ a (.inr (ci, fs.set 23 (.ref v)))) kk else False))) (hn : pc + 3 = n) (k : ∀ ξ1 : XS, kk ξ1 → CF p l e R s m args below meth c nL cells slots (XB_0 g A s ξ1) Q n lv st) : CF p l e R s m args below meth c nL cells slots (XB_0 g A s ξ) Q pc lv (.ref v :: .ref a :: st) := by
  obtain ⟨ci, fs, hO, h⟩ := h
  by_cases hi : (ci = 1 ∧ 23 < fs.length)
  · have h : (if (ci = 1 ∧ 23 < fs.length) then nx (sXd ξ a (.inr (ci, fs.set 23 (.ref v)))) kk else False) := h
    rw [if_pos hi] at h
    have he := dO_at hO
    obtain ⟨rfl, hi⟩ : ci = 1 ∧ _ := hi
    have hi : True ∧ _ := ⟨trivial, hi⟩
    exact xdpF_0 (C9 := RX0) (T := TX0) (N := 40) (ci := 1) (j := 23) (ty := .array .byte) E in_X0 (fun D9 hK9 => va_apart (own := RX0) E.2.2.2.2 in_X0 tyX0 tyX0_ok nmX0 hK9 rfl) rfl he (by decide) q313 (fun _ h9 => h9) rfl hmn rfl (by decide +kernel) rfl rfl hi.2 d hn (k _ h)
  · have h : (if (ci = 1 ∧ 23 < fs.length) then nx (sXd ξ a (.inr (ci, fs.set 23 (.ref v)))) kk else False) := h
    rw [if_neg hi] at h; cases h
theorem xdqX0_92 (E : EV p s m args c cc nL RX0) {a : Nat} {v : Nat} {kk : XS → Prop} (hmn : meth.name = "<init>") (d : decode cc pc = .ok (.putfield 92, 3)) (h : bndp (dO ξ a) (fun ci fs => (if (ci = 1 ∧ 25 < fs.length) then nx (sXd ξ a (.inr (ci, fs.set 25 (.ref v)))) kk else False))) (hn : pc + 3 = n) (k : ∀ ξ1 : XS, kk ξ1 → CF p l e R s m args below meth c nL cells slots (XB_0 g A s ξ1) Q n lv st) : CF p l e R s m args below meth c nL cells slots (XB_0 g A s ξ) Q pc lv (.ref v :: .ref a :: st) := by
  obtain ⟨ci, fs, hO, h⟩ := h
  by_cases hi : (ci = 1 ∧ 25 < fs.length)
  · have h : (if (ci = 1 ∧ 25 < fs.length) then nx (sXd ξ a (.inr (ci, fs.set 25 (.ref v)))) kk else False) := h
    rw [if_pos hi] at h
    have he := dO_at hO
    obtain ⟨rfl, hi⟩ : ci = 1 ∧ _ := hi
    have hi : True ∧ _ := ⟨trivial, hi⟩
    exact xdpF_0 (C9 := RX0) (T := TX0) (N := 40) (ci := 1) (j := 25) (ty := .object "HatsDecide$Time") E in_X0 (fun D9 hK9 => va_apart (own := RX0) E.2.2.2.2 in_X0 tyX0 tyX0_ok nmX0 hK9 rfl) rfl he (by decide) q315 (fun _ h9 => h9) rfl hmn rfl (by decide +kernel) rfl rfl hi.2 d hn (k _ h)
  · have h : (if (ci = 1 ∧ 25 < fs.length) then nx (sXd ξ a (.inr (ci, fs.set 25 (.ref v)))) kk else False) := h
    rw [if_neg hi] at h; cases h
theorem xdqX0_95 (E : EV p s m args c cc nL RX0) {a : Nat} {v : Nat} {kk : XS → Prop} (hmn : meth.name = "<init>") (d : decode cc pc = .ok (.putfield 95, 3)) (h : bndp (dO ξ a) (fun ci fs => (if (ci = 1 ∧ 26 < fs.length) then nx (sXd ξ a (.inr (ci, fs.set 26 (.ref v)))) kk else False))) (hn : pc + 3 = n) (k : ∀ ξ1 : XS, kk ξ1 → CF p l e R s m args below meth c nL cells slots (XB_0 g A s ξ1) Q n lv st) : CF p l e R s m args below meth c nL cells slots (XB_0 g A s ξ) Q pc lv (.ref v :: .ref a :: st) := by
  obtain ⟨ci, fs, hO, h⟩ := h
  by_cases hi : (ci = 1 ∧ 26 < fs.length)
  · have h : (if (ci = 1 ∧ 26 < fs.length) then nx (sXd ξ a (.inr (ci, fs.set 26 (.ref v)))) kk else False) := h
    rw [if_pos hi] at h
    have he := dO_at hO
    obtain ⟨rfl, hi⟩ : ci = 1 ∧ _ := hi
    have hi : True ∧ _ := ⟨trivial, hi⟩
    exact xdpF_0 (C9 := RX0) (T := TX0) (N := 40) (ci := 1) (j := 26) (ty := .array (.object "HatsDecide$Hat")) E in_X0 (fun D9 hK9 => va_apart (own := RX0) E.2.2.2.2 in_X0 tyX0 tyX0_ok nmX0 hK9 rfl) rfl he (by decide) q316 (fun _ h9 => h9) rfl hmn rfl (by decide +kernel) rfl rfl hi.2 d hn (k _ h)
  · have h : (if (ci = 1 ∧ 26 < fs.length) then nx (sXd ξ a (.inr (ci, fs.set 26 (.ref v)))) kk else False) := h
    rw [if_neg hi] at h; cases h
theorem xdqX0_98 (E : EV p s m args c cc nL RX0) {a : Nat} {v : Nat} {kk : XS → Prop} (hmn : meth.name = "<init>") (d : decode cc pc = .ok (.putfield 98, 3)) (h : bndp (dO ξ a) (fun ci fs => (if (ci = 1 ∧ 27 < fs.length) then nx (sXd ξ a (.inr (ci, fs.set 27 (.ref v)))) kk else False))) (hn : pc + 3 = n) (k : ∀ ξ1 : XS, kk ξ1 → CF p l e R s m args below meth c nL cells slots (XB_0 g A s ξ1) Q n lv st) : CF p l e R s m args below meth c nL cells slots (XB_0 g A s ξ) Q pc lv (.ref v :: .ref a :: st) := by
  obtain ⟨ci, fs, hO, h⟩ := h
  by_cases hi : (ci = 1 ∧ 27 < fs.length)
  · have h : (if (ci = 1 ∧ 27 < fs.length) then nx (sXd ξ a (.inr (ci, fs.set 27 (.ref v)))) kk else False) := h
    rw [if_pos hi] at h
    have he := dO_at hO
    obtain ⟨rfl, hi⟩ : ci = 1 ∧ _ := hi
    have hi : True ∧ _ := ⟨trivial, hi⟩
    exact xdpF_0 (C9 := RX0) (T := TX0) (N := 40) (ci := 1) (j := 27) (ty := .array .byte) E in_X0 (fun D9 hK9 => va_apart (own := RX0) E.2.2.2.2 in_X0 tyX0 tyX0_ok nmX0 hK9 rfl) rfl he (by decide) q317 (fun _ h9 => h9) rfl hmn rfl (by decide +kernel) rfl rfl hi.2 d hn (k _ h)
  · have h : (if (ci = 1 ∧ 27 < fs.length) then nx (sXd ξ a (.inr (ci, fs.set 27 (.ref v)))) kk else False) := h
    rw [if_neg hi] at h; cases h
theorem xdqX0_101 (E : EV p s m args c cc nL RX0) {a : Nat} {v : Nat} {kk : XS → Prop} (hmn : meth.name = "<init>") (d : decode cc pc = .ok (.putfield 101, 3)) (h : bndp (dO ξ a) (fun ci fs => (if (ci = 1 ∧ 28 < fs.length) then nx (sXd ξ a (.inr (ci, fs.set 28 (.ref v)))) kk else False))) (hn : pc + 3 = n) (k : ∀ ξ1 : XS, kk ξ1 → CF p l e R s m args below meth c nL cells slots (XB_0 g A s ξ1) Q n lv st) : CF p l e R s m args below meth c nL cells slots (XB_0 g A s ξ) Q pc lv (.ref v :: .ref a :: st) := by
  obtain ⟨ci, fs, hO, h⟩ := h
  by_cases hi : (ci = 1 ∧ 28 < fs.length)
  · have h : (if (ci = 1 ∧ 28 < fs.length) then nx (sXd ξ a (.inr (ci, fs.set 28 (.ref v)))) kk else False) := h
    rw [if_pos hi] at h
    have he := dO_at hO
    obtain ⟨rfl, hi⟩ : ci = 1 ∧ _ := hi
    have hi : True ∧ _ := ⟨trivial, hi⟩
    exact xdpF_0 (C9 := RX0) (T := TX0) (N := 40) (ci := 1) (j := 28) (ty := .array .int) E in_X0 (fun D9 hK9 => va_apart (own := RX0) E.2.2.2.2 in_X0 tyX0 tyX0_ok nmX0 hK9 rfl) rfl he (by decide) q318 (fun _ h9 => h9) rfl hmn rfl (by decide +kernel) rfl rfl hi.2 d hn (k _ h)
  · have h : (if (ci = 1 ∧ 28 < fs.length) then nx (sXd ξ a (.inr (ci, fs.set 28 (.ref v)))) kk else False) := h
    rw [if_neg hi] at h; cases h
theorem xdqX0_104 (E : EV p s m args c cc nL RX0) {a : Nat} {v : Nat} {kk : XS → Prop} (hmn : meth.name = "<init>") (d : decode cc pc = .ok (.putfield 104, 3)) (h : bndp (dO ξ a) (fun ci fs => (if (ci = 1 ∧ 29 < fs.length) then nx (sXd ξ a (.inr (ci, fs.set 29 (.ref v)))) kk else False))) (hn : pc + 3 = n) (k : ∀ ξ1 : XS, kk ξ1 → CF p l e R s m args below meth c nL cells slots (XB_0 g A s ξ1) Q n lv st) : CF p l e R s m args below meth c nL cells slots (XB_0 g A s ξ) Q pc lv (.ref v :: .ref a :: st) := by
  obtain ⟨ci, fs, hO, h⟩ := h
  by_cases hi : (ci = 1 ∧ 29 < fs.length)
  · have h : (if (ci = 1 ∧ 29 < fs.length) then nx (sXd ξ a (.inr (ci, fs.set 29 (.ref v)))) kk else False) := h
    rw [if_pos hi] at h
    have he := dO_at hO
    obtain ⟨rfl, hi⟩ : ci = 1 ∧ _ := hi
    have hi : True ∧ _ := ⟨trivial, hi⟩
    exact xdpF_0 (C9 := RX0) (T := TX0) (N := 40) (ci := 1) (j := 29) (ty := .array .int) E in_X0 (fun D9 hK9 => va_apart (own := RX0) E.2.2.2.2 in_X0 tyX0 tyX0_ok nmX0 hK9 rfl) rfl he (by decide) q319 (fun _ h9 => h9) rfl hmn rfl (by decide +kernel) rfl rfl hi.2 d hn (k _ h)
  · have h : (if (ci = 1 ∧ 29 < fs.length) then nx (sXd ξ a (.inr (ci, fs.set 29 (.ref v)))) kk else False) := h
    rw [if_neg hi] at h; cases h
theorem xdqX0_107 (E : EV p s m args c cc nL RX0) {a : Nat} {v : Nat} {kk : XS → Prop} (hmn : meth.name = "<init>") (d : decode cc pc = .ok (.putfield 107, 3)) (h : bndp (dO ξ a) (fun ci fs => (if (ci = 1 ∧ 30 < fs.length) then nx (sXd ξ a (.inr (ci, fs.set 30 (.ref v)))) kk else False))) (hn : pc + 3 = n) (k : ∀ ξ1 : XS, kk ξ1 → CF p l e R s m args below meth c nL cells slots (XB_0 g A s ξ1) Q n lv st) : CF p l e R s m args below meth c nL cells slots (XB_0 g A s ξ) Q pc lv (.ref v :: .ref a :: st) := by
  obtain ⟨ci, fs, hO, h⟩ := h
  by_cases hi : (ci = 1 ∧ 30 < fs.length)
  · have h : (if (ci = 1 ∧ 30 < fs.length) then nx (sXd ξ a (.inr (ci, fs.set 30 (.ref v)))) kk else False) := h
    rw [if_pos hi] at h
    have he := dO_at hO
    obtain ⟨rfl, hi⟩ : ci = 1 ∧ _ := hi
    have hi : True ∧ _ := ⟨trivial, hi⟩
    exact xdpF_0 (C9 := RX0) (T := TX0) (N := 40) (ci := 1) (j := 30) (ty := .array .int) E in_X0 (fun D9 hK9 => va_apart (own := RX0) E.2.2.2.2 in_X0 tyX0 tyX0_ok nmX0 hK9 rfl) rfl he (by decide) q320 (fun _ h9 => h9) rfl hmn rfl (by decide +kernel) rfl rfl hi.2 d hn (k _ h)
  · have h : (if (ci = 1 ∧ 30 < fs.length) then nx (sXd ξ a (.inr (ci, fs.set 30 (.ref v)))) kk else False) := h
    rw [if_neg hi] at h; cases h
theorem xdqX0_110 (E : EV p s m args c cc nL RX0) {a : Nat} {v : Nat} {kk : XS → Prop} (hmn : meth.name = "<init>") (d : decode cc pc = .ok (.putfield 110, 3)) (h : bndp (dO ξ a) (fun ci fs => (if (ci = 1 ∧ 31 < fs.length) then nx (sXd ξ a (.inr (ci, fs.set 31 (.ref v)))) kk else False))) (hn : pc + 3 = n) (k : ∀ ξ1 : XS, kk ξ1 → CF p l e R s m args below meth c nL cells slots (XB_0 g A s ξ1) Q n lv st) : CF p l e R s m args below meth c nL cells slots (XB_0 g A s ξ) Q pc lv (.ref v :: .ref a :: st) := by
  obtain ⟨ci, fs, hO, h⟩ := h
  by_cases hi : (ci = 1 ∧ 31 < fs.length)
  · have h : (if (ci = 1 ∧ 31 < fs.length) then nx (sXd ξ a (.inr (ci, fs.set 31 (.ref v)))) kk else False) := h
    rw [if_pos hi] at h
    have he := dO_at hO
    obtain ⟨rfl, hi⟩ : ci = 1 ∧ _ := hi
    have hi : True ∧ _ := ⟨trivial, hi⟩
    exact xdpF_0 (C9 := RX0) (T := TX0) (N := 40) (ci := 1) (j := 31) (ty := .array .int) E in_X0 (fun D9 hK9 => va_apart (own := RX0) E.2.2.2.2 in_X0 tyX0 tyX0_ok nmX0 hK9 rfl) rfl he (by decide) q321 (fun _ h9 => h9) rfl hmn rfl (by decide +kernel) rfl rfl hi.2 d hn (k _ h)
  · have h : (if (ci = 1 ∧ 31 < fs.length) then nx (sXd ξ a (.inr (ci, fs.set 31 (.ref v)))) kk else False) := h
    rw [if_neg hi] at h; cases h
theorem xdqX0_113 (E : EV p s m args c cc nL RX0) {a : Nat} {v : Nat} {kk : XS → Prop} (hmn : meth.name = "<init>") (d : decode cc pc = .ok (.putfield 113, 3)) (h : bndp (dO ξ a) (fun ci fs => (if (ci = 1 ∧ 32 < fs.length) then nx (sXd ξ a (.inr (ci, fs.set 32 (.ref v)))) kk else False))) (hn : pc + 3 = n) (k : ∀ ξ1 : XS, kk ξ1 → CF p l e R s m args below meth c nL cells slots (XB_0 g A s ξ1) Q n lv st) : CF p l e R s m args below meth c nL cells slots (XB_0 g A s ξ) Q pc lv (.ref v :: .ref a :: st) := by
  obtain ⟨ci, fs, hO, h⟩ := h
  by_cases hi : (ci = 1 ∧ 32 < fs.length)
  · have h : (if (ci = 1 ∧ 32 < fs.length) then nx (sXd ξ a (.inr (ci, fs.set 32 (.ref v)))) kk else False) := h
    rw [if_pos hi] at h
    have he := dO_at hO
    obtain ⟨rfl, hi⟩ : ci = 1 ∧ _ := hi
    have hi : True ∧ _ := ⟨trivial, hi⟩
    exact xdpF_0 (C9 := RX0) (T := TX0) (N := 40) (ci := 1) (j := 32) (ty := .array .int) E in_X0 (fun D9 hK9 => va_apart (own := RX0) E.2.2.2.2 in_X0 tyX0 tyX0_ok nmX0 hK9 rfl) rfl he (by decide) q322 (fun _ h9 => h9) rfl hmn rfl (by decide +kernel) rfl rfl hi.2 d hn (k _ h)
  · have h : (if (ci = 1 ∧ 32 < fs.length) then nx (sXd ξ a (.inr (ci, fs.set 32 (.ref v)))) kk else False) := h
    rw [if_neg hi] at h; cases h
theorem xdqX0_116 (E : EV p s m args c cc nL RX0) {a : Nat} {v : Nat} {kk : XS → Prop} (hmn : meth.name = "<init>") (d : decode cc pc = .ok (.putfield 116, 3)) (h : bndp (dO ξ a) (fun ci fs => (if (ci = 1 ∧ 33 < fs.length) then nx (sXd ξ a (.inr (ci, fs.set 33 (.ref v)))) kk else False))) (hn : pc + 3 = n) (k : ∀ ξ1 : XS, kk ξ1 → CF p l e R s m args below meth c nL cells slots (XB_0 g A s ξ1) Q n lv st) : CF p l e R s m args below meth c nL cells slots (XB_0 g A s ξ) Q pc lv (.ref v :: .ref a :: st) := by
  obtain ⟨ci, fs, hO, h⟩ := h
  by_cases hi : (ci = 1 ∧ 33 < fs.length)
  · have h : (if (ci = 1 ∧ 33 < fs.length) then nx (sXd ξ a (.inr (ci, fs.set 33 (.ref v)))) kk else False) := h
    rw [if_pos hi] at h
    have he := dO_at hO
    obtain ⟨rfl, hi⟩ : ci = 1 ∧ _ := hi
    have hi : True ∧ _ := ⟨trivial, hi⟩
    exact xdpF_0 (C9 := RX0) (T := TX0) (N := 40) (ci := 1) (j := 33) (ty := .array .int) E in_X0 (fun D9 hK9 => va_apart (own := RX0) E.2.2.2.2 in_X0 tyX0 tyX0_ok nmX0 hK9 rfl) rfl he (by decide) q323 (fun _ h9 => h9) rfl hmn rfl (by decide +kernel) rfl rfl hi.2 d hn (k _ h)
  · have h : (if (ci = 1 ∧ 33 < fs.length) then nx (sXd ξ a (.inr (ci, fs.set 33 (.ref v)))) kk else False) := h
    rw [if_neg hi] at h; cases h
theorem xdqX0_119 (E : EV p s m args c cc nL RX0) {a : Nat} {v : Nat} {kk : XS → Prop} (hmn : meth.name = "<init>") (d : decode cc pc = .ok (.putfield 119, 3)) (h : bndp (dO ξ a) (fun ci fs => (if (ci = 1 ∧ 34 < fs.length) then nx (sXd ξ a (.inr (ci, fs.set 34 (.ref v)))) kk else False))) (hn : pc + 3 = n) (k : ∀ ξ1 : XS, kk ξ1 → CF p l e R s m args below meth c nL cells slots (XB_0 g A s ξ1) Q n lv st) : CF p l e R s m args below meth c nL cells slots (XB_0 g A s ξ) Q pc lv (.ref v :: .ref a :: st) := by
  obtain ⟨ci, fs, hO, h⟩ := h
  by_cases hi : (ci = 1 ∧ 34 < fs.length)
  · have h : (if (ci = 1 ∧ 34 < fs.length) then nx (sXd ξ a (.inr (ci, fs.set 34 (.ref v)))) kk else False) := h
    rw [if_pos hi] at h
    have he := dO_at hO
    obtain ⟨rfl, hi⟩ : ci = 1 ∧ _ := hi
    have hi : True ∧ _ := ⟨trivial, hi⟩
    exact xdpF_0 (C9 := RX0) (T := TX0) (N := 40) (ci := 1) (j := 34) (ty := .array .int) E in_X0 (fun D9 hK9 => va_apart (own := RX0) E.2.2.2.2 in_X0 tyX0 tyX0_ok nmX0 hK9 rfl) rfl he (by decide) q324 (fun _ h9 => h9) rfl hmn rfl (by decide +kernel) rfl rfl hi.2 d hn (k _ h)
  · have h : (if (ci = 1 ∧ 34 < fs.length) then nx (sXd ξ a (.inr (ci, fs.set 34 (.ref v)))) kk else False) := h
    rw [if_neg hi] at h; cases h
theorem xdqX0_122 (E : EV p s m args c cc nL RX0) {a : Nat} {v : Nat} {kk : XS → Prop} (hmn : meth.name = "<init>") (d : decode cc pc = .ok (.putfield 122, 3)) (h : bndp (dO ξ a) (fun ci fs => (if (ci = 1 ∧ 35 < fs.length) then nx (sXd ξ a (.inr (ci, fs.set 35 (.ref v)))) kk else False))) (hn : pc + 3 = n) (k : ∀ ξ1 : XS, kk ξ1 → CF p l e R s m args below meth c nL cells slots (XB_0 g A s ξ1) Q n lv st) : CF p l e R s m args below meth c nL cells slots (XB_0 g A s ξ) Q pc lv (.ref v :: .ref a :: st) := by
  obtain ⟨ci, fs, hO, h⟩ := h
  by_cases hi : (ci = 1 ∧ 35 < fs.length)
  · have h : (if (ci = 1 ∧ 35 < fs.length) then nx (sXd ξ a (.inr (ci, fs.set 35 (.ref v)))) kk else False) := h
    rw [if_pos hi] at h
    have he := dO_at hO
    obtain ⟨rfl, hi⟩ : ci = 1 ∧ _ := hi
    have hi : True ∧ _ := ⟨trivial, hi⟩
    exact xdpF_0 (C9 := RX0) (T := TX0) (N := 40) (ci := 1) (j := 35) (ty := .array .int) E in_X0 (fun D9 hK9 => va_apart (own := RX0) E.2.2.2.2 in_X0 tyX0 tyX0_ok nmX0 hK9 rfl) rfl he (by decide) q325 (fun _ h9 => h9) rfl hmn rfl (by decide +kernel) rfl rfl hi.2 d hn (k _ h)
  · have h : (if (ci = 1 ∧ 35 < fs.length) then nx (sXd ξ a (.inr (ci, fs.set 35 (.ref v)))) kk else False) := h
    rw [if_neg hi] at h; cases h
end XC
def y1_init (N : Nat) (g : XG) (a0 : Nat)  (ξ : XS) (mc ms : Nat) (K : XS → Prop) : Prop :=
  if (¬ (6 : Int32) < 0 ∧ (6 : Int32).toNatClampNeg ≤ 10000) then mkc ξ (6 : Int32).toNatClampNeg mc ms (fun q_1 =>
  bndp (dO (pXd ξ q_1 (.inl (xc g 1, (6 : Int32).toNatClampNeg, .inl (fun _ => 0)))) a0) fun ci_3 fs_4 => if (ci_3 = 2 ∧ 0 < fs_4.length) then nx (sXd (pXd ξ q_1 (.inl (xc g 1, (6 : Int32).toNatClampNeg, .inl (fun _ => 0)))) a0 (.inr (ci_3, fs_4.set 0 (.ref q_1)))) (fun s_2 =>
  if (¬ (6 : Int32) < 0 ∧ (6 : Int32).toNatClampNeg ≤ 10000) then mkc s_2 (6 : Int32).toNatClampNeg (mc - 1) (ms - (6 : Int32).toNatClampNeg) (fun q_5 =>
  bndp (dO (pXd s_2 q_5 (.inl (xc g 0, (6 : Int32).toNatClampNeg, .inl (fun _ => 0)))) a0) fun ci_7 fs_8 => if (ci_7 = 2 ∧ 1 < fs_8.length) then nx (sXd (pXd s_2 q_5 (.inl (xc g 0, (6 : Int32).toNatClampNeg, .inl (fun _ => 0)))) a0 (.inr (ci_7, fs_8.set 1 (.ref q_5)))) (fun s_6 =>
  K s_6) else False) else False) else False) else False
set_option maxHeartbeats 4000000 in
theorem met_y1_init (l : Launch) (g : XG) (N : Nat) (a0 : Nat)   (ξ : XS) (mc ms : Nat) (K : XS → Prop) (h : y1_init N g a0  ξ mc ms K) : MetYv_0 l g yX1_init (ws_ yX1_init cX1_init 1 none) 1 40 [.ref a0] ξ mc ms K := by
  refine met_yv_0 (lv0 := [(0, .ref a0)]) (own := RX1) (by decide) rfl (Nat.le_of_ble_eq_true rfl) rfl ?_
  intro p e s m below meth c A Q E hmn hq
  have hmn : meth.name = "<init>" := hmn
  have hR : 1 ≤ ({ frames := 1, cells := mc, slots := ms, locals := 40 } : Room).frames ∧ 40 ≤ ({ frames := 1, cells := mc, slots := ms, locals := 40 } : Room).locals := ⟨Nat.le_refl _, Nat.le_refl _⟩
  have hb : 0 + mc ≤ ({ frames := 1, cells := mc, slots := ms, locals := 40 } : Room).cells ∧ 0 + ms ≤ ({ frames := 1, cells := mc, slots := ms, locals := 40 } : Room).slots := ⟨Nat.le_of_eq (Nat.zero_add _), Nat.le_of_eq (Nat.zero_add _)⟩
  unfold y1_init at h
  refine cf_aload_n E dX1_init_0 0 rfl rfl ?_
  refine xoi_0 E q153 q144 q145 (rmle hR rfl rfl) (Nat.le_of_ble_eq_true rfl) dX1_init_1 rfl ?_
  refine cf_aload_n E dX1_init_4 0 rfl rfl ?_
  refine cf_bipush E dX1_init_5 bp_6 rfl ?_
  refine xnewa_1_0 E hb dX1_init_7 h rfl (fun q_1 hb h => ?_)
  refine xdqX1_9 E hmn dX1_init_9 h rfl (fun s_2 h => ?_)
  refine cf_aload_n E dX1_init_12 0 rfl rfl ?_
  refine cf_bipush E dX1_init_13 bp_6 rfl ?_
  refine xnewa_0_0 E hb dX1_init_15 h rfl (fun q_5 hb h => ?_)
  refine xdqX1_15 E hmn dX1_init_17 h rfl (fun s_6 h => ?_)
  exact hq _ _ _ _ _ (hb0 hb).1 (hb0 hb).2 dX1_init_20 h
def y3_init (N : Nat) (g : XG) (a0 : Nat)  (ξ : XS) (mc ms : Nat) (K : XS → Prop) : Prop :=
  K ξ
set_option maxHeartbeats 4000000 in
theorem met_y3_init (l : Launch) (g : XG) (N : Nat) (a0 : Nat)   (ξ : XS) (mc ms : Nat) (K : XS → Prop) (h : y3_init N g a0  ξ mc ms K) : MetYv_0 l g yX3_init (ws_ yX3_init cX3_init 1 none) 1 40 [.ref a0] ξ mc ms K := by
  refine met_yv_0 (lv0 := [(0, .ref a0)]) (own := RX3) (by decide) rfl (Nat.le_of_ble_eq_true rfl) rfl ?_
  intro p e s m below meth c A Q E hmn hq
  have hmn : meth.name = "<init>" := hmn
  have hR : 1 ≤ ({ frames := 1, cells := mc, slots := ms, locals := 40 } : Room).frames ∧ 40 ≤ ({ frames := 1, cells := mc, slots := ms, locals := 40 } : Room).locals := ⟨Nat.le_refl _, Nat.le_refl _⟩
  have hb : 0 + mc ≤ ({ frames := 1, cells := mc, slots := ms, locals := 40 } : Room).cells ∧ 0 + ms ≤ ({ frames := 1, cells := mc, slots := ms, locals := 40 } : Room).slots := ⟨Nat.le_of_eq (Nat.zero_add _), Nat.le_of_eq (Nat.zero_add _)⟩
  unfold y3_init at h
  refine cf_aload_n E dX3_init_0 0 rfl rfl ?_
  refine xoi_0 E q228 q144 q145 (rmle hR rfl rfl) (Nat.le_of_ble_eq_true rfl) dX3_init_1 rfl ?_
  exact hq _ _ _ _ _ (hb0 hb).1 (hb0 hb).2 dX3_init_4 h
def y4_init (N : Nat) (g : XG) (a0 : Nat)  (ξ : XS) (mc ms : Nat) (K : XS → Prop) : Prop :=
  if (¬ (20 : Int32) < 0 ∧ (20 : Int32).toNatClampNeg ≤ 10000) then mkc ξ (20 : Int32).toNatClampNeg mc ms (fun q_1 =>
  bndp (dO (pXd ξ q_1 (.inl (xc g 0, (20 : Int32).toNatClampNeg, .inl (fun _ => 0)))) a0) fun ci_3 fs_4 => if (ci_3 = 6 ∧ 0 < fs_4.length) then nx (sXd (pXd ξ q_1 (.inl (xc g 0, (20 : Int32).toNatClampNeg, .inl (fun _ => 0)))) a0 (.inr (ci_3, fs_4.set 0 (.ref q_1)))) (fun s_2 =>
  K s_2) else False) else False
set_option maxHeartbeats 4000000 in
theorem met_y4_init (l : Launch) (g : XG) (N : Nat) (a0 : Nat)   (ξ : XS) (mc ms : Nat) (K : XS → Prop) (h : y4_init N g a0  ξ mc ms K) : MetYv_0 l g yX4_init (ws_ yX4_init cX4_init 1 none) 1 40 [.ref a0] ξ mc ms K := by
  refine met_yv_0 (lv0 := [(0, .ref a0)]) (own := RX4) (by decide) rfl (Nat.le_of_ble_eq_true rfl) rfl ?_
  intro p e s m below meth c A Q E hmn hq
  have hmn : meth.name = "<init>" := hmn
  have hR : 1 ≤ ({ frames := 1, cells := mc, slots := ms, locals := 40 } : Room).frames ∧ 40 ≤ ({ frames := 1, cells := mc, slots := ms, locals := 40 } : Room).locals := ⟨Nat.le_refl _, Nat.le_refl _⟩
  have hb : 0 + mc ≤ ({ frames := 1, cells := mc, slots := ms, locals := 40 } : Room).cells ∧ 0 + ms ≤ ({ frames := 1, cells := mc, slots := ms, locals := 40 } : Room).slots := ⟨Nat.le_of_eq (Nat.zero_add _), Nat.le_of_eq (Nat.zero_add _)⟩
  unfold y4_init at h
  refine cf_aload_n E dX4_init_0 0 rfl rfl ?_
  refine xoi_0 E q259 q144 q145 (rmle hR rfl rfl) (Nat.le_of_ble_eq_true rfl) dX4_init_1 rfl ?_
  refine cf_aload_n E dX4_init_4 0 rfl rfl ?_
  refine cf_bipush E dX4_init_5 bp_20 rfl ?_
  refine xnewa_0_0 E hb dX4_init_7 h rfl (fun q_1 hb h => ?_)
  refine xdqX4_9 E hmn dX4_init_9 h rfl (fun s_2 h => ?_)
  exact hq _ _ _ _ _ (hb0 hb).1 (hb0 hb).2 dX4_init_12 h
def y5_init (N : Nat) (g : XG) (a0 : Nat)  (ξ : XS) (mc ms : Nat) (K : XS → Prop) : Prop :=
  K ξ
set_option maxHeartbeats 4000000 in
theorem met_y5_init (l : Launch) (g : XG) (N : Nat) (a0 : Nat)   (ξ : XS) (mc ms : Nat) (K : XS → Prop) (h : y5_init N g a0  ξ mc ms K) : MetYv_0 l g yX5_init (ws_ yX5_init cX5_init 1 none) 1 40 [.ref a0] ξ mc ms K := by
  refine met_yv_0 (lv0 := [(0, .ref a0)]) (own := RX5) (by decide) rfl (Nat.le_of_ble_eq_true rfl) rfl ?_
  intro p e s m below meth c A Q E hmn hq
  have hmn : meth.name = "<init>" := hmn
  have hR : 1 ≤ ({ frames := 1, cells := mc, slots := ms, locals := 40 } : Room).frames ∧ 40 ≤ ({ frames := 1, cells := mc, slots := ms, locals := 40 } : Room).locals := ⟨Nat.le_refl _, Nat.le_refl _⟩
  have hb : 0 + mc ≤ ({ frames := 1, cells := mc, slots := ms, locals := 40 } : Room).cells ∧ 0 + ms ≤ ({ frames := 1, cells := mc, slots := ms, locals := 40 } : Room).slots := ⟨Nat.le_of_eq (Nat.zero_add _), Nat.le_of_eq (Nat.zero_add _)⟩
  unfold y5_init at h
  refine cf_aload_n E dX5_init_0 0 rfl rfl ?_
  refine xoi_0 E q275 q144 q145 (rmle hR rfl rfl) (Nat.le_of_ble_eq_true rfl) dX5_init_1 rfl ?_
  exact hq _ _ _ _ _ (hb0 hb).1 (hb0 hb).2 dX5_init_4 h
def y0_init_265b (N : Nat) (g : XG) (a0 : Nat) (K : XS → Prop)  (rec265 : Int32 → XS → Nat → Nat → Prop) (x1 : Int32) (ξ : XS) (mc ms : Nat) : Prop :=
  if (6 : Int32) ≤ x1 then (
    K ξ)
  else (
    bnop (dR ξ a0 1 1 20) fun b_1 =>
    mkc ξ 1 mc ms fun q_2 =>
    bnyv (y5_init N g q_2 (pXd ξ q_2 (.inr (7, [.null])))) (mc - 1) (ms - 1) fun m_3 n_4 s_5 =>
    bndp (dAq s_5 b_1 (xc g 6)) fun n_8 f_9 => if inb x1 n_8 = true ∧ isC s_5 q_2 7 7 = true then nx (sXd s_5 b_1 (.inl (xc g 6, n_8, .inr (.inr (.inr (.inr (va_up f_9 x1.toNatClampNeg (some q_2)))))))) (fun s_7 =>
    nx (x1 + (1 : Int32)) fun x1_10 =>
    rec265 x1_10 s_7 ((mc - 1) - m_3) ((ms - 1) - n_4)) else False)
def y0_init_265 (N : Nat) (g : XG) (a0 : Nat) (K : XS → Prop)  : Nat → Int32 → XS → Nat → Nat → Prop
  | 0 => fun _ _ _ _ => False
  | k + 1 => fun x1 ξ mc ms => y0_init_265b N g a0 K  (y0_init_265 N g a0 K  k) x1 ξ mc ms
def y0_init (N : Nat) (g : XG) (a0 : Nat)  (ξ : XS) (mc ms : Nat) (K : XS → Prop) : Prop :=
  if (¬ (6 : Int32) < 0 ∧ (6 : Int32).toNatClampNeg ≤ 10000) then mkc ξ (6 : Int32).toNatClampNeg mc ms (fun q_1 =>
  bndp (dO (pXd ξ q_1 (.inl (xc g 0, (6 : Int32).toNatClampNeg, .inl (fun _ => 0)))) a0) fun ci_3 fs_4 => if (ci_3 = 1 ∧ 0 < fs_4.length) then nx (sXd (pXd ξ q_1 (.inl (xc g 0, (6 : Int32).toNatClampNeg, .inl (fun _ => 0)))) a0 (.inr (ci_3, fs_4.set 0 (.ref q_1)))) (fun s_2 =>
  if (¬ (6 : Int32) < 0 ∧ (6 : Int32).toNatClampNeg ≤ 10000) then mkc s_2 (6 : Int32).toNatClampNeg (mc - 1) (ms - (6 : Int32).toNatClampNeg) (fun q_5 =>
  bndp (dO (pXd s_2 q_5 (.inl (xc g 0, (6 : Int32).toNatClampNeg, .inl (fun _ => 0)))) a0) fun ci_7 fs_8 => if (ci_7 = 1 ∧ 1 < fs_8.length) then nx (sXd (pXd s_2 q_5 (.inl (xc g 0, (6 : Int32).toNatClampNeg, .inl (fun _ => 0)))) a0 (.inr (ci_7, fs_8.set 1 (.ref q_5)))) (fun s_6 =>
  if (¬ (6 : Int32) < 0 ∧ (6 : Int32).toNatClampNeg ≤ 10000) then mkc s_6 (6 : Int32).toNatClampNeg ((mc - 1) - 1) ((ms - (6 : Int32).toNatClampNeg) - (6 : Int32).toNatClampNeg) (fun q_9 =>
  bndp (dO (pXd s_6 q_9 (.inl (xc g 0, (6 : Int32).toNatClampNeg, .inl (fun _ => 0)))) a0) fun ci_11 fs_12 => if (ci_11 = 1 ∧ 2 < fs_12.length) then nx (sXd (pXd s_6 q_9 (.inl (xc g 0, (6 : Int32).toNatClampNeg, .inl (fun _ => 0)))) a0 (.inr (ci_11, fs_12.set 2 (.ref q_9)))) (fun s_10 =>
  if (¬ (6 : Int32) < 0 ∧ (6 : Int32).toNatClampNeg ≤ 10000) then mkc s_10 (6 : Int32).toNatClampNeg (((mc - 1) - 1) - 1) (((ms - (6 : Int32).toNatClampNeg) - (6 : Int32).toNatClampNeg) - (6 : Int32).toNatClampNeg) (fun q_13 =>
  bndp (dO (pXd s_10 q_13 (.inl (xc g 5, (6 : Int32).toNatClampNeg, .inr (.inr (.inr (.inr (fun _ => none))))))) a0) fun ci_15 fs_16 => if (ci_15 = 1 ∧ 3 < fs_16.length) then nx (sXd (pXd s_10 q_13 (.inl (xc g 5, (6 : Int32).toNatClampNeg, .inr (.inr (.inr (.inr (fun _ => none))))))) a0 (.inr (ci_15, fs_16.set 3 (.ref q_13)))) (fun s_14 =>
  mkc s_14 4 ((((mc - 1) - 1) - 1) - 1) ((((ms - (6 : Int32).toNatClampNeg) - (6 : Int32).toNatClampNeg) - (6 : Int32).toNatClampNeg) - (6 : Int32).toNatClampNeg) fun q_17 =>
  bnyv (y1_init N g q_17 (pXd s_14 q_17 (.inr (2, [.null, .null, .int 0, .int 0])))) (((((mc - 1) - 1) - 1) - 1) - 1) (((((ms - (6 : Int32).toNatClampNeg) - (6 : Int32).toNatClampNeg) - (6 : Int32).toNatClampNeg) - (6 : Int32).toNatClampNeg) - 4) fun m_18 n_19 s_20 =>
  bndp (dO s_20 a0) fun ci_23 fs_24 => if (ci_23 = 1 ∧ 5 < fs_24.length) then nx (sXd s_20 a0 (.inr (ci_23, fs_24.set 5 (.ref q_17)))) (fun s_22 =>
  mkc s_22 4 ((((((mc - 1) - 1) - 1) - 1) - 1) - m_18) ((((((ms - (6 : Int32).toNatClampNeg) - (6 : Int32).toNatClampNeg) - (6 : Int32).toNatClampNeg) - (6 : Int32).toNatClampNeg) - 4) - n_19) fun q_25 =>
  bnyv (y1_init N g q_25 (pXd s_22 q_25 (.inr (2, [.null, .null, .int 0, .int 0])))) (((((((mc - 1) - 1) - 1) - 1) - 1) - m_18) - 1) (((((((ms - (6 : Int32).toNatClampNeg) - (6 : Int32).toNatClampNeg) - (6 : Int32).toNatClampNeg) - (6 : Int32).toNatClampNeg) - 4) - n_19) - 4) fun m_26 n_27 s_28 =>
  bndp (dO s_28 a0) fun ci_31 fs_32 => if (ci_31 = 1 ∧ 6 < fs_32.length) then nx (sXd s_28 a0 (.inr (ci_31, fs_32.set 6 (.ref q_25)))) (fun s_30 =>
  if (¬ (5 : Int32) < 0 ∧ (5 : Int32).toNatClampNeg ≤ 10000) then mkc s_30 (5 : Int32).toNatClampNeg ((((((((mc - 1) - 1) - 1) - 1) - 1) - m_18) - 1) - m_26) ((((((((ms - (6 : Int32).toNatClampNeg) - (6 : Int32).toNatClampNeg) - (6 : Int32).toNatClampNeg) - (6 : Int32).toNatClampNeg) - 4) - n_19) - 4) - n_27) (fun q_33 =>
  bndp (dO (pXd s_30 q_33 (.inl (xc g 0, (5 : Int32).toNatClampNeg, .inl (fun _ => 0)))) a0) fun ci_35 fs_36 => if (ci_35 = 1 ∧ 7 < fs_36.length) then nx (sXd (pXd s_30 q_33 (.inl (xc g 0, (5 : Int32).toNatClampNeg, .inl (fun _ => 0)))) a0 (.inr (ci_35, fs_36.set 7 (.ref q_33)))) (fun s_34 =>
  if (¬ (100 : Int32) < 0 ∧ (100 : Int32).toNatClampNeg ≤ 10000) then mkc s_34 (100 : Int32).toNatClampNeg (((((((((mc - 1) - 1) - 1) - 1) - 1) - m_18) - 1) - m_26) - 1) (((((((((ms - (6 : Int32).toNatClampNeg) - (6 : Int32).toNatClampNeg) - (6 : Int32).toNatClampNeg) - (6 : Int32).toNatClampNeg) - 4) - n_19) - 4) - n_27) - (5 : Int32).toNatClampNeg) (fun q_37 =>
  bndp (dO (pXd s_34 q_37 (.inl (xc g 1, (100 : Int32).toNatClampNeg, .inl (fun _ => 0)))) a0) fun ci_39 fs_40 => if (ci_39 = 1 ∧ 8 < fs_40.length) then nx (sXd (pXd s_34 q_37 (.inl (xc g 1, (100 : Int32).toNatClampNeg, .inl (fun _ => 0)))) a0 (.inr (ci_39, fs_40.set 8 (.ref q_37)))) (fun s_38 =>
  mkc s_38 4 ((((((((((mc - 1) - 1) - 1) - 1) - 1) - m_18) - 1) - m_26) - 1) - 1) ((((((((((ms - (6 : Int32).toNatClampNeg) - (6 : Int32).toNatClampNeg) - (6 : Int32).toNatClampNeg) - (6 : Int32).toNatClampNeg) - 4) - n_19) - 4) - n_27) - (5 : Int32).toNatClampNeg) - (100 : Int32).toNatClampNeg) fun q_41 =>
  bnyv (y2_init N g q_41 (pXd s_38 q_41 (.inr (3, [.null, .null, .int 0, .int 0])))) (((((((((((mc - 1) - 1) - 1) - 1) - 1) - m_18) - 1) - m_26) - 1) - 1) - 1) (((((((((((ms - (6 : Int32).toNatClampNeg) - (6 : Int32).toNatClampNeg) - (6 : Int32).toNatClampNeg) - (6 : Int32).toNatClampNeg) - 4) - n_19) - 4) - n_27) - (5 : Int32).toNatClampNeg) - (100 : Int32).toNatClampNeg) - 4) fun m_42 n_43 s_44 =>
  bndp (dO s_44 a0) fun ci_47 fs_48 => if (ci_47 = 1 ∧ 11 < fs_48.length) then nx (sXd s_44 a0 (.inr (ci_47, fs_48.set 11 (.ref q_41)))) (fun s_46 =>
  mkc s_46 6 ((((((((((((mc - 1) - 1) - 1) - 1) - 1) - m_18) - 1) - m_26) - 1) - 1) - 1) - m_42) ((((((((((((ms - (6 : Int32).toNatClampNeg) - (6 : Int32).toNatClampNeg) - (6 : Int32).toNatClampNeg) - (6 : Int32).toNatClampNeg) - 4) - n_19) - 4) - n_27) - (5 : Int32).toNatClampNeg) - (100 : Int32).toNatClampNeg) - 4) - n_43) fun q_49 =>
  bnyv (y3_init N g q_49 (pXd s_46 q_49 (.inr (5, [.int 0, .int 0, .int 0, .int 0, .int 0, .int 0])))) (((((((((((((mc - 1) - 1) - 1) - 1) - 1) - m_18) - 1) - m_26) - 1) - 1) - 1) - m_42) - 1) (((((((((((((ms - (6 : Int32).toNatClampNeg) - (6 : Int32).toNatClampNeg) - (6 : Int32).toNatClampNeg) - (6 : Int32).toNatClampNeg) - 4) - n_19) - 4) - n_27) - (5 : Int32).toNatClampNeg) - (100 : Int32).toNatClampNeg) - 4) - n_43) - 6) fun m_50 n_51 s_52 =>
  bndp (dO s_52 a0) fun ci_55 fs_56 => if (ci_55 = 1 ∧ 12 < fs_56.length) then nx (sXd s_52 a0 (.inr (ci_55, fs_56.set 12 (.ref q_49)))) (fun s_54 =>
  mkc s_54 2 ((((((((((((((mc - 1) - 1) - 1) - 1) - 1) - m_18) - 1) - m_26) - 1) - 1) - 1) - m_42) - 1) - m_50) ((((((((((((((ms - (6 : Int32).toNatClampNeg) - (6 : Int32).toNatClampNeg) - (6 : Int32).toNatClampNeg) - (6 : Int32).toNatClampNeg) - 4) - n_19) - 4) - n_27) - (5 : Int32).toNatClampNeg) - (100 : Int32).toNatClampNeg) - 4) - n_43) - 6) - n_51) fun q_57 =>
  bnyv (y4_init N g q_57 (pXd s_54 q_57 (.inr (6, [.null, .int 0])))) (((((((((((((((mc - 1) - 1) - 1) - 1) - 1) - m_18) - 1) - m_26) - 1) - 1) - 1) - m_42) - 1) - m_50) - 1) (((((((((((((((ms - (6 : Int32).toNatClampNeg) - (6 : Int32).toNatClampNeg) - (6 : Int32).toNatClampNeg) - (6 : Int32).toNatClampNeg) - 4) - n_19) - 4) - n_27) - (5 : Int32).toNatClampNeg) - (100 : Int32).toNatClampNeg) - 4) - n_43) - 6) - n_51) - 2) fun m_58 n_59 s_60 =>
  bndp (dO s_60 a0) fun ci_63 fs_64 => if (ci_63 = 1 ∧ 13 < fs_64.length) then nx (sXd s_60 a0 (.inr (ci_63, fs_64.set 13 (.ref q_57)))) (fun s_62 =>
  if (¬ (6 : Int32) < 0 ∧ (6 : Int32).toNatClampNeg ≤ 10000) then mkc s_62 (6 : Int32).toNatClampNeg ((((((((((((((((mc - 1) - 1) - 1) - 1) - 1) - m_18) - 1) - m_26) - 1) - 1) - 1) - m_42) - 1) - m_50) - 1) - m_58) ((((((((((((((((ms - (6 : Int32).toNatClampNeg) - (6 : Int32).toNatClampNeg) - (6 : Int32).toNatClampNeg) - (6 : Int32).toNatClampNeg) - 4) - n_19) - 4) - n_27) - (5 : Int32).toNatClampNeg) - (100 : Int32).toNatClampNeg) - 4) - n_43) - 6) - n_51) - 2) - n_59) (fun q_65 =>
  bndp (dO (pXd s_62 q_65 (.inl (xc g 0, (6 : Int32).toNatClampNeg, .inl (fun _ => 0)))) a0) fun ci_67 fs_68 => if (ci_67 = 1 ∧ 14 < fs_68.length) then nx (sXd (pXd s_62 q_65 (.inl (xc g 0, (6 : Int32).toNatClampNeg, .inl (fun _ => 0)))) a0 (.inr (ci_67, fs_68.set 14 (.ref q_65)))) (fun s_66 =>
  if (¬ (6 : Int32) < 0 ∧ (6 : Int32).toNatClampNeg ≤ 10000) then mkc s_66 (6 : Int32).toNatClampNeg (((((((((((((((((mc - 1) - 1) - 1) - 1) - 1) - m_18) - 1) - m_26) - 1) - 1) - 1) - m_42) - 1) - m_50) - 1) - m_58) - 1) (((((((((((((((((ms - (6 : Int32).toNatClampNeg) - (6 : Int32).toNatClampNeg) - (6 : Int32).toNatClampNeg) - (6 : Int32).toNatClampNeg) - 4) - n_19) - 4) - n_27) - (5 : Int32).toNatClampNeg) - (100 : Int32).toNatClampNeg) - 4) - n_43) - 6) - n_51) - 2) - n_59) - (6 : Int32).toNatClampNeg) (fun q_69 =>
  bndp (dO (pXd s_66 q_69 (.inl (xc g 0, (6 : Int32).toNatClampNeg, .inl (fun _ => 0)))) a0) fun ci_71 fs_72 => if (ci_71 = 1 ∧ 15 < fs_72.length) then nx (sXd (pXd s_66 q_69 (.inl (xc g 0, (6 : Int32).toNatClampNeg, .inl (fun _ => 0)))) a0 (.inr (ci_71, fs_72.set 15 (.ref q_69)))) (fun s_70 =>
  if (¬ (8 : Int32) < 0 ∧ (8 : Int32).toNatClampNeg ≤ 10000) then mkc s_70 (8 : Int32).toNatClampNeg ((((((((((((((((((mc - 1) - 1) - 1) - 1) - 1) - m_18) - 1) - m_26) - 1) - 1) - 1) - m_42) - 1) - m_50) - 1) - m_58) - 1) - 1) ((((((((((((((((((ms - (6 : Int32).toNatClampNeg) - (6 : Int32).toNatClampNeg) - (6 : Int32).toNatClampNeg) - (6 : Int32).toNatClampNeg) - 4) - n_19) - 4) - n_27) - (5 : Int32).toNatClampNeg) - (100 : Int32).toNatClampNeg) - 4) - n_43) - 6) - n_51) - 2) - n_59) - (6 : Int32).toNatClampNeg) - (6 : Int32).toNatClampNeg) (fun q_73 =>
  bndp (dO (pXd s_70 q_73 (.inl (xc g 0, (8 : Int32).toNatClampNeg, .inl (fun _ => 0)))) a0) fun ci_75 fs_76 => if (ci_75 = 1 ∧ 16 < fs_76.length) then nx (sXd (pXd s_70 q_73 (.inl (xc g 0, (8 : Int32).toNatClampNeg, .inl (fun _ => 0)))) a0 (.inr (ci_75, fs_76.set 16 (.ref q_73)))) (fun s_74 =>
  if (¬ (8 : Int32) < 0 ∧ (8 : Int32).toNatClampNeg ≤ 10000) then mkc s_74 (8 : Int32).toNatClampNeg (((((((((((((((((((mc - 1) - 1) - 1) - 1) - 1) - m_18) - 1) - m_26) - 1) - 1) - 1) - m_42) - 1) - m_50) - 1) - m_58) - 1) - 1) - 1) (((((((((((((((((((ms - (6 : Int32).toNatClampNeg) - (6 : Int32).toNatClampNeg) - (6 : Int32).toNatClampNeg) - (6 : Int32).toNatClampNeg) - 4) - n_19) - 4) - n_27) - (5 : Int32).toNatClampNeg) - (100 : Int32).toNatClampNeg) - 4) - n_43) - 6) - n_51) - 2) - n_59) - (6 : Int32).toNatClampNeg) - (6 : Int32).toNatClampNeg) - (8 : Int32).toNatClampNeg) (fun q_77 =>
  bndp (dO (pXd s_74 q_77 (.inl (xc g 0, (8 : Int32).toNatClampNeg, .inl (fun _ => 0)))) a0) fun ci_79 fs_80 => if (ci_79 = 1 ∧ 17 < fs_80.length) then nx (sXd (pXd s_74 q_77 (.inl (xc g 0, (8 : Int32).toNatClampNeg, .inl (fun _ => 0)))) a0 (.inr (ci_79, fs_80.set 17 (.ref q_77)))) (fun s_78 =>
  if (¬ (6 : Int32) < 0 ∧ (6 : Int32).toNatClampNeg ≤ 10000) then mkc s_78 (6 : Int32).toNatClampNeg ((((((((((((((((((((mc - 1) - 1) - 1) - 1) - 1) - m_18) - 1) - m_26) - 1) - 1) - 1) - m_42) - 1) - m_50) - 1) - m_58) - 1) - 1) - 1) - 1) ((((((((((((((((((((ms - (6 : Int32).toNatClampNeg) - (6 : Int32).toNatClampNeg) - (6 : Int32).toNatClampNeg) - (6 : Int32).toNatClampNeg) - 4) - n_19) - 4) - n_27) - (5 : Int32).toNatClampNeg) - (100 : Int32).toNatClampNeg) - 4) - n_43) - 6) - n_51) - 2) - n_59) - (6 : Int32).toNatClampNeg) - (6 : Int32).toNatClampNeg) - (8 : Int32).toNatClampNeg) - (8 : Int32).toNatClampNeg) (fun q_81 =>
  bndp (dO (pXd s_78 q_81 (.inl (xc g 6, (6 : Int32).toNatClampNeg, .inr (.inr (.inr (.inr (fun _ => none))))))) a0) fun ci_83 fs_84 => if (ci_83 = 1 ∧ 20 < fs_84.length) then nx (sXd (pXd s_78 q_81 (.inl (xc g 6, (6 : Int32).toNatClampNeg, .inr (.inr (.inr (.inr (fun _ => none))))))) a0 (.inr (ci_83, fs_84.set 20 (.ref q_81)))) (fun s_82 =>
  if (¬ (36 : Int32) < 0 ∧ (36 : Int32).toNatClampNeg ≤ 10000) then mkc s_82 (36 : Int32).toNatClampNeg (((((((((((((((((((((mc - 1) - 1) - 1) - 1) - 1) - m_18) - 1) - m_26) - 1) - 1) - 1) - m_42) - 1) - m_50) - 1) - m_58) - 1) - 1) - 1) - 1) - 1) (((((((((((((((((((((ms - (6 : Int32).toNatClampNeg) - (6 : Int32).toNatClampNeg) - (6 : Int32).toNatClampNeg) - (6 : Int32).toNatClampNeg) - 4) - n_19) - 4) - n_27) - (5 : Int32).toNatClampNeg) - (100 : Int32).toNatClampNeg) - 4) - n_43) - 6) - n_51) - 2) - n_59) - (6 : Int32).toNatClampNeg) - (6 : Int32).toNatClampNeg) - (8 : Int32).toNatClampNeg) - (8 : Int32).toNatClampNeg) - (6 : Int32).toNatClampNeg) (fun q_85 =>
  bndp (dO (pXd s_82 q_85 (.inl (xc g 0, (36 : Int32).toNatClampNeg, .inl (fun _ => 0)))) a0) fun ci_87 fs_88 => if (ci_87 = 1 ∧ 21 < fs_88.length) then nx (sXd (pXd s_82 q_85 (.inl (xc g 0, (36 : Int32).toNatClampNeg, .inl (fun _ => 0)))) a0 (.inr (ci_87, fs_88.set 21 (.ref q_85)))) (fun s_86 =>
  if (¬ (6 : Int32) < 0 ∧ (6 : Int32).toNatClampNeg ≤ 10000) then mkc s_86 (6 : Int32).toNatClampNeg ((((((((((((((((((((((mc - 1) - 1) - 1) - 1) - 1) - m_18) - 1) - m_26) - 1) - 1) - 1) - m_42) - 1) - m_50) - 1) - m_58) - 1) - 1) - 1) - 1) - 1) - 1) ((((((((((((((((((((((ms - (6 : Int32).toNatClampNeg) - (6 : Int32).toNatClampNeg) - (6 : Int32).toNatClampNeg) - (6 : Int32).toNatClampNeg) - 4) - n_19) - 4) - n_27) - (5 : Int32).toNatClampNeg) - (100 : Int32).toNatClampNeg) - 4) - n_43) - 6) - n_51) - 2) - n_59) - (6 : Int32).toNatClampNeg) - (6 : Int32).toNatClampNeg) - (8 : Int32).toNatClampNeg) - (8 : Int32).toNatClampNeg) - (6 : Int32).toNatClampNeg) - (36 : Int32).toNatClampNeg) (fun q_89 =>
  bndp (dO (pXd s_86 q_89 (.inl (xc g 1, (6 : Int32).toNatClampNeg, .inl (fun _ => 0)))) a0) fun ci_91 fs_92 => if (ci_91 = 1 ∧ 22 < fs_92.length) then nx (sXd (pXd s_86 q_89 (.inl (xc g 1, (6 : Int32).toNatClampNeg, .inl (fun _ => 0)))) a0 (.inr (ci_91, fs_92.set 22 (.ref q_89)))) (fun s_90 =>
  if (¬ (6 : Int32) < 0 ∧ (6 : Int32).toNatClampNeg ≤ 10000) then mkc s_90 (6 : Int32).toNatClampNeg (((((((((((((((((((((((mc - 1) - 1) - 1) - 1) - 1) - m_18) - 1) - m_26) - 1) - 1) - 1) - m_42) - 1) - m_50) - 1) - m_58) - 1) - 1) - 1) - 1) - 1) - 1) - 1) (((((((((((((((((((((((ms - (6 : Int32).toNatClampNeg) - (6 : Int32).toNatClampNeg) - (6 : Int32).toNatClampNeg) - (6 : Int32).toNatClampNeg) - 4) - n_19) - 4) - n_27) - (5 : Int32).toNatClampNeg) - (100 : Int32).toNatClampNeg) - 4) - n_43) - 6) - n_51) - 2) - n_59) - (6 : Int32).toNatClampNeg) - (6 : Int32).toNatClampNeg) - (8 : Int32).toNatClampNeg) - (8 : Int32).toNatClampNeg) - (6 : Int32).toNatClampNeg) - (36 : Int32).toNatClampNeg) - (6 : Int32).toNatClampNeg) (fun q_93 =>
  bndp (dO (pXd s_90 q_93 (.inl (xc g 1, (6 : Int32).toNatClampNeg, .inl (fun _ => 0)))) a0) fun ci_95 fs_96 => if (ci_95 = 1 ∧ 23 < fs_96.length) then nx (sXd (pXd s_90 q_93 (.inl (xc g 1, (6 : Int32).toNatClampNeg, .inl (fun _ => 0)))) a0 (.inr (ci_95, fs_96.set 23 (.ref q_93)))) (fun s_94 =>
  mkc s_94 4 ((((((((((((((((((((((((mc - 1) - 1) - 1) - 1) - 1) - m_18) - 1) - m_26) - 1) - 1) - 1) - m_42) - 1) - m_50) - 1) - m_58) - 1) - 1) - 1) - 1) - 1) - 1) - 1) - 1) ((((((((((((((((((((((((ms - (6 : Int32).toNatClampNeg) - (6 : Int32).toNatClampNeg) - (6 : Int32).toNatClampNeg) - (6 : Int32).toNatClampNeg) - 4) - n_19) - 4) - n_27) - (5 : Int32).toNatClampNeg) - (100 : Int32).toNatClampNeg) - 4) - n_43) - 6) - n_51) - 2) - n_59) - (6 : Int32).toNatClampNeg) - (6 : Int32).toNatClampNeg) - (8 : Int32).toNatClampNeg) - (8 : Int32).toNatClampNeg) - (6 : Int32).toNatClampNeg) - (36 : Int32).toNatClampNeg) - (6 : Int32).toNatClampNeg) - (6 : Int32).toNatClampNeg) fun q_97 =>
  bnyv (y1_init N g q_97 (pXd s_94 q_97 (.inr (2, [.null, .null, .int 0, .int 0])))) (((((((((((((((((((((((((mc - 1) - 1) - 1) - 1) - 1) - m_18) - 1) - m_26) - 1) - 1) - 1) - m_42) - 1) - m_50) - 1) - m_58) - 1) - 1) - 1) - 1) - 1) - 1) - 1) - 1) - 1) (((((((((((((((((((((((((ms - (6 : Int32).toNatClampNeg) - (6 : Int32).toNatClampNeg) - (6 : Int32).toNatClampNeg) - (6 : Int32).toNatClampNeg) - 4) - n_19) - 4) - n_27) - (5 : Int32).toNatClampNeg) - (100 : Int32).toNatClampNeg) - 4) - n_43) - 6) - n_51) - 2) - n_59) - (6 : Int32).toNatClampNeg) - (6 : Int32).toNatClampNeg) - (8 : Int32).toNatClampNeg) - (8 : Int32).toNatClampNeg) - (6 : Int32).toNatClampNeg) - (36 : Int32).toNatClampNeg) - (6 : Int32).toNatClampNeg) - (6 : Int32).toNatClampNeg) - 4) fun m_98 n_99 s_100 =>
  bndp (dO s_100 a0) fun ci_103 fs_104 => if (ci_103 = 1 ∧ 25 < fs_104.length) then nx (sXd s_100 a0 (.inr (ci_103, fs_104.set 25 (.ref q_97)))) (fun s_102 =>
  if (¬ (6 : Int32) < 0 ∧ (6 : Int32).toNatClampNeg ≤ 10000) then mkc s_102 (6 : Int32).toNatClampNeg ((((((((((((((((((((((((((mc - 1) - 1) - 1) - 1) - 1) - m_18) - 1) - m_26) - 1) - 1) - 1) - m_42) - 1) - m_50) - 1) - m_58) - 1) - 1) - 1) - 1) - 1) - 1) - 1) - 1) - 1) - m_98) ((((((((((((((((((((((((((ms - (6 : Int32).toNatClampNeg) - (6 : Int32).toNatClampNeg) - (6 : Int32).toNatClampNeg) - (6 : Int32).toNatClampNeg) - 4) - n_19) - 4) - n_27) - (5 : Int32).toNatClampNeg) - (100 : Int32).toNatClampNeg) - 4) - n_43) - 6) - n_51) - 2) - n_59) - (6 : Int32).toNatClampNeg) - (6 : Int32).toNatClampNeg) - (8 : Int32).toNatClampNeg) - (8 : Int32).toNatClampNeg) - (6 : Int32).toNatClampNeg) - (36 : Int32).toNatClampNeg) - (6 : Int32).toNatClampNeg) - (6 : Int32).toNatClampNeg) - 4) - n_99) (fun q_105 =>
  bndp (dO (pXd s_102 q_105 (.inl (xc g 5, (6 : Int32).toNatClampNeg, .inr (.inr (.inr (.inr (fun _ => none))))))) a0) fun ci_107 fs_108 => if (ci_107 = 1 ∧ 26 < fs_108.length) then nx (sXd (pXd s_102 q_105 (.inl (xc g 5, (6 : Int32).toNatClampNeg, .inr (.inr (.inr (.inr (fun _ => none))))))) a0 (.inr (ci_107, fs_108.set 26 (.ref q_105)))) (fun s_106 =>
  if (¬ (24 : Int32) < 0 ∧ (24 : Int32).toNatClampNeg ≤ 10000) then mkc s_106 (24 : Int32).toNatClampNeg (((((((((((((((((((((((((((mc - 1) - 1) - 1) - 1) - 1) - m_18) - 1) - m_26) - 1) - 1) - 1) - m_42) - 1) - m_50) - 1) - m_58) - 1) - 1) - 1) - 1) - 1) - 1) - 1) - 1) - 1) - m_98) - 1) (((((((((((((((((((((((((((ms - (6 : Int32).toNatClampNeg) - (6 : Int32).toNatClampNeg) - (6 : Int32).toNatClampNeg) - (6 : Int32).toNatClampNeg) - 4) - n_19) - 4) - n_27) - (5 : Int32).toNatClampNeg) - (100 : Int32).toNatClampNeg) - 4) - n_43) - 6) - n_51) - 2) - n_59) - (6 : Int32).toNatClampNeg) - (6 : Int32).toNatClampNeg) - (8 : Int32).toNatClampNeg) - (8 : Int32).toNatClampNeg) - (6 : Int32).toNatClampNeg) - (36 : Int32).toNatClampNeg) - (6 : Int32).toNatClampNeg) - (6 : Int32).toNatClampNeg) - 4) - n_99) - (6 : Int32).toNatClampNeg) (fun q_109 =>
  bndp (dO (pXd s_106 q_109 (.inl (xc g 1, (24 : Int32).toNatClampNeg, .inl (fun _ => 0)))) a0) fun ci_111 fs_112 => if (ci_111 = 1 ∧ 27 < fs_112.length) then nx (sXd (pXd s_106 q_109 (.inl (xc g 1, (24 : Int32).toNatClampNeg, .inl (fun _ => 0)))) a0 (.inr (ci_111, fs_112.set 27 (.ref q_109)))) (fun s_110 =>
  if (¬ (6 : Int32) < 0 ∧ (6 : Int32).toNatClampNeg ≤ 10000) then mkc s_110 (6 : Int32).toNatClampNeg ((((((((((((((((((((((((((((mc - 1) - 1) - 1) - 1) - 1) - m_18) - 1) - m_26) - 1) - 1) - 1) - m_42) - 1) - m_50) - 1) - m_58) - 1) - 1) - 1) - 1) - 1) - 1) - 1) - 1) - 1) - m_98) - 1) - 1) ((((((((((((((((((((((((((((ms - (6 : Int32).toNatClampNeg) - (6 : Int32).toNatClampNeg) - (6 : Int32).toNatClampNeg) - (6 : Int32).toNatClampNeg) - 4) - n_19) - 4) - n_27) - (5 : Int32).toNatClampNeg) - (100 : Int32).toNatClampNeg) - 4) - n_43) - 6) - n_51) - 2) - n_59) - (6 : Int32).toNatClampNeg) - (6 : Int32).toNatClampNeg) - (8 : Int32).toNatClampNeg) - (8 : Int32).toNatClampNeg) - (6 : Int32).toNatClampNeg) - (36 : Int32).toNatClampNeg) - (6 : Int32).toNatClampNeg) - (6 : Int32).toNatClampNeg) - 4) - n_99) - (6 : Int32).toNatClampNeg) - (24 : Int32).toNatClampNeg) (fun q_113 =>
  bndp (dO (pXd s_110 q_113 (.inl (xc g 0, (6 : Int32).toNatClampNeg, .inl (fun _ => 0)))) a0) fun ci_115 fs_116 => if (ci_115 = 1 ∧ 28 < fs_116.length) then nx (sXd (pXd s_110 q_113 (.inl (xc g 0, (6 : Int32).toNatClampNeg, .inl (fun _ => 0)))) a0 (.inr (ci_115, fs_116.set 28 (.ref q_113)))) (fun s_114 =>
  if (¬ (6 : Int32) < 0 ∧ (6 : Int32).toNatClampNeg ≤ 10000) then mkc s_114 (6 : Int32).toNatClampNeg (((((((((((((((((((((((((((((mc - 1) - 1) - 1) - 1) - 1) - m_18) - 1) - m_26) - 1) - 1) - 1) - m_42) - 1) - m_50) - 1) - m_58) - 1) - 1) - 1) - 1) - 1) - 1) - 1) - 1) - 1) - m_98) - 1) - 1) - 1) (((((((((((((((((((((((((((((ms - (6 : Int32).toNatClampNeg) - (6 : Int32).toNatClampNeg) - (6 : Int32).toNatClampNeg) - (6 : Int32).toNatClampNeg) - 4) - n_19) - 4) - n_27) - (5 : Int32).toNatClampNeg) - (100 : Int32).toNatClampNeg) - 4) - n_43) - 6) - n_51) - 2) - n_59) - (6 : Int32).toNatClampNeg) - (6 : Int32).toNatClampNeg) - (8 : Int32).toNatClampNeg) - (8 : Int32).toNatClampNeg) - (6 : Int32).toNatClampNeg) - (36 : Int32).toNatClampNeg) - (6 : Int32).toNatClampNeg) - (6 : Int32).toNatClampNeg) - 4) - n_99) - (6 : Int32).toNatClampNeg) - (24 : Int32).toNatClampNeg) - (6 : Int32).toNatClampNeg) (fun q_117 =>
  bndp (dO (pXd s_114 q_117 (.inl (xc g 0, (6 : Int32).toNatClampNeg, .inl (fun _ => 0)))) a0) fun ci_119 fs_120 => if (ci_119 = 1 ∧ 29 < fs_120.length) then nx (sXd (pXd s_114 q_117 (.inl (xc g 0, (6 : Int32).toNatClampNeg, .inl (fun _ => 0)))) a0 (.inr (ci_119, fs_120.set 29 (.ref q_117)))) (fun s_118 =>
  if (¬ (6 : Int32) < 0 ∧ (6 : Int32).toNatClampNeg ≤ 10000) then mkc s_118 (6 : Int32).toNatClampNeg ((((((((((((((((((((((((((((((mc - 1) - 1) - 1) - 1) - 1) - m_18) - 1) - m_26) - 1) - 1) - 1) - m_42) - 1) - m_50) - 1) - m_58) - 1) - 1) - 1) - 1) - 1) - 1) - 1) - 1) - 1) - m_98) - 1) - 1) - 1) - 1) ((((((((((((((((((((((((((((((ms - (6 : Int32).toNatClampNeg) - (6 : Int32).toNatClampNeg) - (6 : Int32).toNatClampNeg) - (6 : Int32).toNatClampNeg) - 4) - n_19) - 4) - n_27) - (5 : Int32).toNatClampNeg) - (100 : Int32).toNatClampNeg) - 4) - n_43) - 6) - n_51) - 2) - n_59) - (6 : Int32).toNatClampNeg) - (6 : Int32).toNatClampNeg) - (8 : Int32).toNatClampNeg) - (8 : Int32).toNatClampNeg) - (6 : Int32).toNatClampNeg) - (36 : Int32).toNatClampNeg) - (6 : Int32).toNatClampNeg) - (6 : Int32).toNatClampNeg) - 4) - n_99) - (6 : Int32).toNatClampNeg) - (24 : Int32).toNatClampNeg) - (6 : Int32).toNatClampNeg) - (6 : Int32).toNatClampNeg) (fun q_121 =>
  bndp (dO (pXd s_118 q_121 (.inl (xc g 0, (6 : Int32).toNatClampNeg, .inl (fun _ => 0)))) a0) fun ci_123 fs_124 => if (ci_123 = 1 ∧ 30 < fs_124.length) then nx (sXd (pXd s_118 q_121 (.inl (xc g 0, (6 : Int32).toNatClampNeg, .inl (fun _ => 0)))) a0 (.inr (ci_123, fs_124.set 30 (.ref q_121)))) (fun s_122 =>
  if (¬ (5 : Int32) < 0 ∧ (5 : Int32).toNatClampNeg ≤ 10000) then mkc s_122 (5 : Int32).toNatClampNeg (((((((((((((((((((((((((((((((mc - 1) - 1) - 1) - 1) - 1) - m_18) - 1) - m_26) - 1) - 1) - 1) - m_42) - 1) - m_50) - 1) - m_58) - 1) - 1) - 1) - 1) - 1) - 1) - 1) - 1) - 1) - m_98) - 1) - 1) - 1) - 1) - 1) (((((((((((((((((((((((((((((((ms - (6 : Int32).toNatClampNeg) - (6 : Int32).toNatClampNeg) - (6 : Int32).toNatClampNeg) - (6 : Int32).toNatClampNeg) - 4) - n_19) - 4) - n_27) - (5 : Int32).toNatClampNeg) - (100 : Int32).toNatClampNeg) - 4) - n_43) - 6) - n_51) - 2) - n_59) - (6 : Int32).toNatClampNeg) - (6 : Int32).toNatClampNeg) - (8 : Int32).toNatClampNeg) - (8 : Int32).toNatClampNeg) - (6 : Int32).toNatClampNeg) - (36 : Int32).toNatClampNeg) - (6 : Int32).toNatClampNeg) - (6 : Int32).toNatClampNeg) - 4) - n_99) - (6 : Int32).toNatClampNeg) - (24 : Int32).toNatClampNeg) - (6 : Int32).toNatClampNeg) - (6 : Int32).toNatClampNeg) - (6 : Int32).toNatClampNeg) (fun q_125 =>
  bndp (dO (pXd s_122 q_125 (.inl (xc g 0, (5 : Int32).toNatClampNeg, .inl (fun _ => 0)))) a0) fun ci_127 fs_128 => if (ci_127 = 1 ∧ 31 < fs_128.length) then nx (sXd (pXd s_122 q_125 (.inl (xc g 0, (5 : Int32).toNatClampNeg, .inl (fun _ => 0)))) a0 (.inr (ci_127, fs_128.set 31 (.ref q_125)))) (fun s_126 =>
  if (¬ (6 : Int32) < 0 ∧ (6 : Int32).toNatClampNeg ≤ 10000) then mkc s_126 (6 : Int32).toNatClampNeg ((((((((((((((((((((((((((((((((mc - 1) - 1) - 1) - 1) - 1) - m_18) - 1) - m_26) - 1) - 1) - 1) - m_42) - 1) - m_50) - 1) - m_58) - 1) - 1) - 1) - 1) - 1) - 1) - 1) - 1) - 1) - m_98) - 1) - 1) - 1) - 1) - 1) - 1) ((((((((((((((((((((((((((((((((ms - (6 : Int32).toNatClampNeg) - (6 : Int32).toNatClampNeg) - (6 : Int32).toNatClampNeg) - (6 : Int32).toNatClampNeg) - 4) - n_19) - 4) - n_27) - (5 : Int32).toNatClampNeg) - (100 : Int32).toNatClampNeg) - 4) - n_43) - 6) - n_51) - 2) - n_59) - (6 : Int32).toNatClampNeg) - (6 : Int32).toNatClampNeg) - (8 : Int32).toNatClampNeg) - (8 : Int32).toNatClampNeg) - (6 : Int32).toNatClampNeg) - (36 : Int32).toNatClampNeg) - (6 : Int32).toNatClampNeg) - (6 : Int32).toNatClampNeg) - 4) - n_99) - (6 : Int32).toNatClampNeg) - (24 : Int32).toNatClampNeg) - (6 : Int32).toNatClampNeg) - (6 : Int32).toNatClampNeg) - (6 : Int32).toNatClampNeg) - (5 : Int32).toNatClampNeg) (fun q_129 =>
  bndp (dO (pXd s_126 q_129 (.inl (xc g 0, (6 : Int32).toNatClampNeg, .inl (fun _ => 0)))) a0) fun ci_131 fs_132 => if (ci_131 = 1 ∧ 32 < fs_132.length) then nx (sXd (pXd s_126 q_129 (.inl (xc g 0, (6 : Int32).toNatClampNeg, .inl (fun _ => 0)))) a0 (.inr (ci_131, fs_132.set 32 (.ref q_129)))) (fun s_130 =>
  if (¬ (6 : Int32) < 0 ∧ (6 : Int32).toNatClampNeg ≤ 10000) then mkc s_130 (6 : Int32).toNatClampNeg (((((((((((((((((((((((((((((((((mc - 1) - 1) - 1) - 1) - 1) - m_18) - 1) - m_26) - 1) - 1) - 1) - m_42) - 1) - m_50) - 1) - m_58) - 1) - 1) - 1) - 1) - 1) - 1) - 1) - 1) - 1) - m_98) - 1) - 1) - 1) - 1) - 1) - 1) - 1) (((((((((((((((((((((((((((((((((ms - (6 : Int32).toNatClampNeg) - (6 : Int32).toNatClampNeg) - (6 : Int32).toNatClampNeg) - (6 : Int32).toNatClampNeg) - 4) - n_19) - 4) - n_27) - (5 : Int32).toNatClampNeg) - (100 : Int32).toNatClampNeg) - 4) - n_43) - 6) - n_51) - 2) - n_59) - (6 : Int32).toNatClampNeg) - (6 : Int32).toNatClampNeg) - (8 : Int32).toNatClampNeg) - (8 : Int32).toNatClampNeg) - (6 : Int32).toNatClampNeg) - (36 : Int32).toNatClampNeg) - (6 : Int32).toNatClampNeg) - (6 : Int32).toNatClampNeg) - 4) - n_99) - (6 : Int32).toNatClampNeg) - (24 : Int32).toNatClampNeg) - (6 : Int32).toNatClampNeg) - (6 : Int32).toNatClampNeg) - (6 : Int32).toNatClampNeg) - (5 : Int32).toNatClampNeg) - (6 : Int32).toNatClampNeg) (fun q_133 =>
  bndp (dO (pXd s_130 q_133 (.inl (xc g 0, (6 : Int32).toNatClampNeg, .inl (fun _ => 0)))) a0) fun ci_135 fs_136 => if (ci_135 = 1 ∧ 33 < fs_136.length) then nx (sXd (pXd s_130 q_133 (.inl (xc g 0, (6 : Int32).toNatClampNeg, .inl (fun _ => 0)))) a0 (.inr (ci_135, fs_136.set 33 (.ref q_133)))) (fun s_134 =>
  if (¬ (8 : Int32) < 0 ∧ (8 : Int32).toNatClampNeg ≤ 10000) then mkc s_134 (8 : Int32).toNatClampNeg ((((((((((((((((((((((((((((((((((mc - 1) - 1) - 1) - 1) - 1) - m_18) - 1) - m_26) - 1) - 1) - 1) - m_42) - 1) - m_50) - 1) - m_58) - 1) - 1) - 1) - 1) - 1) - 1) - 1) - 1) - 1) - m_98) - 1) - 1) - 1) - 1) - 1) - 1) - 1) - 1) ((((((((((((((((((((((((((((((((((ms - (6 : Int32).toNatClampNeg) - (6 : Int32).toNatClampNeg) - (6 : Int32).toNatClampNeg) - (6 : Int32).toNatClampNeg) - 4) - n_19) - 4) - n_27) - (5 : Int32).toNatClampNeg) - (100 : Int32).toNatClampNeg) - 4) - n_43) - 6) - n_51) - 2) - n_59) - (6 : Int32).toNatClampNeg) - (6 : Int32).toNatClampNeg) - (8 : Int32).toNatClampNeg) - (8 : Int32).toNatClampNeg) - (6 : Int32).toNatClampNeg) - (36 : Int32).toNatClampNeg) - (6 : Int32).toNatClampNeg) - (6 : Int32).toNatClampNeg) - 4) - n_99) - (6 : Int32).toNatClampNeg) - (24 : Int32).toNatClampNeg) - (6 : Int32).toNatClampNeg) - (6 : Int32).toNatClampNeg) - (6 : Int32).toNatClampNeg) - (5 : Int32).toNatClampNeg) - (6 : Int32).toNatClampNeg) - (6 : Int32).toNatClampNeg) (fun q_137 =>
  bndp (dO (pXd s_134 q_137 (.inl (xc g 0, (8 : Int32).toNatClampNeg, .inl (fun _ => 0)))) a0) fun ci_139 fs_140 => if (ci_139 = 1 ∧ 34 < fs_140.length) then nx (sXd (pXd s_134 q_137 (.inl (xc g 0, (8 : Int32).toNatClampNeg, .inl (fun _ => 0)))) a0 (.inr (ci_139, fs_140.set 34 (.ref q_137)))) (fun s_138 =>
  if (¬ (8 : Int32) < 0 ∧ (8 : Int32).toNatClampNeg ≤ 10000) then mkc s_138 (8 : Int32).toNatClampNeg (((((((((((((((((((((((((((((((((((mc - 1) - 1) - 1) - 1) - 1) - m_18) - 1) - m_26) - 1) - 1) - 1) - m_42) - 1) - m_50) - 1) - m_58) - 1) - 1) - 1) - 1) - 1) - 1) - 1) - 1) - 1) - m_98) - 1) - 1) - 1) - 1) - 1) - 1) - 1) - 1) - 1) (((((((((((((((((((((((((((((((((((ms - (6 : Int32).toNatClampNeg) - (6 : Int32).toNatClampNeg) - (6 : Int32).toNatClampNeg) - (6 : Int32).toNatClampNeg) - 4) - n_19) - 4) - n_27) - (5 : Int32).toNatClampNeg) - (100 : Int32).toNatClampNeg) - 4) - n_43) - 6) - n_51) - 2) - n_59) - (6 : Int32).toNatClampNeg) - (6 : Int32).toNatClampNeg) - (8 : Int32).toNatClampNeg) - (8 : Int32).toNatClampNeg) - (6 : Int32).toNatClampNeg) - (36 : Int32).toNatClampNeg) - (6 : Int32).toNatClampNeg) - (6 : Int32).toNatClampNeg) - 4) - n_99) - (6 : Int32).toNatClampNeg) - (24 : Int32).toNatClampNeg) - (6 : Int32).toNatClampNeg) - (6 : Int32).toNatClampNeg) - (6 : Int32).toNatClampNeg) - (5 : Int32).toNatClampNeg) - (6 : Int32).toNatClampNeg) - (6 : Int32).toNatClampNeg) - (8 : Int32).toNatClampNeg) (fun q_141 =>
  bndp (dO (pXd s_138 q_141 (.inl (xc g 0, (8 : Int32).toNatClampNeg, .inl (fun _ => 0)))) a0) fun ci_143 fs_144 => if (ci_143 = 1 ∧ 35 < fs_144.length) then nx (sXd (pXd s_138 q_141 (.inl (xc g 0, (8 : Int32).toNatClampNeg, .inl (fun _ => 0)))) a0 (.inr (ci_143, fs_144.set 35 (.ref q_141)))) (fun s_142 =>
  nx ((0 : Int32) : Int32) fun x1_145 =>
  y0_init_265 N g a0 K N x1_145 s_142 ((((((((((((((((((((((((((((((((((((mc - 1) - 1) - 1) - 1) - 1) - m_18) - 1) - m_26) - 1) - 1) - 1) - m_42) - 1) - m_50) - 1) - m_58) - 1) - 1) - 1) - 1) - 1) - 1) - 1) - 1) - 1) - m_98) - 1) - 1) - 1) - 1) - 1) - 1) - 1) - 1) - 1) - 1) ((((((((((((((((((((((((((((((((((((ms - (6 : Int32).toNatClampNeg) - (6 : Int32).toNatClampNeg) - (6 : Int32).toNatClampNeg) - (6 : Int32).toNatClampNeg) - 4) - n_19) - 4) - n_27) - (5 : Int32).toNatClampNeg) - (100 : Int32).toNatClampNeg) - 4) - n_43) - 6) - n_51) - 2) - n_59) - (6 : Int32).toNatClampNeg) - (6 : Int32).toNatClampNeg) - (8 : Int32).toNatClampNeg) - (8 : Int32).toNatClampNeg) - (6 : Int32).toNatClampNeg) - (36 : Int32).toNatClampNeg) - (6 : Int32).toNatClampNeg) - (6 : Int32).toNatClampNeg) - 4) - n_99) - (6 : Int32).toNatClampNeg) - (24 : Int32).toNatClampNeg) - (6 : Int32).toNatClampNeg) - (6 : Int32).toNatClampNeg) - (6 : Int32).toNatClampNeg) - (5 : Int32).toNatClampNeg) - (6 : Int32).toNatClampNeg) - (6 : Int32).toNatClampNeg) - (8 : Int32).toNatClampNeg) - (8 : Int32).toNatClampNeg)) else False) else False) else False) else False) else False) else False) else False) else False) else False) else False) else False) else False) else False) else False) else False) else False) else False) else False) else False) else False) else False) else False) else False) else False) else False) else False) else False) else False) else False) else False) else False) else False) else False) else False) else False) else False) else False) else False) else False) else False) else False) else False) else False) else False) else False) else False) else False) else False) else False) else False) else False) else False) else False) else False
section XC
variable {p : Program} {l : Launch} {e : Env} {R : Room} {s : State} {m : MethodId} {args : Array Value} {below : List Frame} {meth : Method} {c : Code} {nL cells slots : Nat} {A : Nat → Prop} {g : XG} {ξ : XS} {Q : State → Prop} {pc n : Nat} {lv : List (Nat × Value)} {st : List Value} {cc : ByteArray} {ρ : Type} {res : ρ}
theorem yclX0_125 (E : EV p s m args c cc nL RX0) {N mc ms : Nat} {a0 : Nat}   {kk : Nat → Nat → XS → Prop} (hR : 2 ≤ R.frames ∧ 60 ≤ R.locals) (hcat : (st.map fun v => v.category).sum ≤ 8) (hb : cells + mc ≤ R.cells ∧ slots + ms ≤ R.slots) (d : decode cc pc = .ok (.invokespecial 125, 3)) (h : bnyv (y5_init N g a0  ξ) mc ms kk) (hn : pc + 3 = n) (k : ∀ (m1 n1 : Nat) (ξ1 : XS), (cells + m1 + (mc - m1) ≤ R.cells ∧ slots + n1 + (ms - n1) ≤ R.slots) → kk m1 n1 ξ1 → CF p l e R s m args below meth c nL (cells + m1) (slots + n1) (XB_0 g A s ξ1) Q n lv st) : CF p l e R s m args below meth c nL cells slots (XB_0 g A s ξ) Q pc lv (.ref a0 :: st) := by
  obtain ⟨m1, n1, h1, h2, h⟩ := h
  exact ycallP_v_0 (na := 0) E [] (met_y5_init l g N a0   ξ m1 n1 _ h) (lw_meth q274) q104 q272 q273 (by decide +kernel) hR rfl rfl hcat ⟨by omega, by omega⟩ d hn (fun ξ1 hk => k m1 n1 ξ1 ⟨by omega, by omega⟩ hk)
theorem yclX0_29 (E : EV p s m args c cc nL RX0) {N mc ms : Nat} {a0 : Nat}   {kk : Nat → Nat → XS → Prop} (hR : 2 ≤ R.frames ∧ 60 ≤ R.locals) (hcat : (st.map fun v => v.category).sum ≤ 8) (hb : cells + mc ≤ R.cells ∧ slots + ms ≤ R.slots) (d : decode cc pc = .ok (.invokespecial 29, 3)) (h : bnyv (y1_init N g a0  ξ) mc ms kk) (hn : pc + 3 = n) (k : ∀ (m1 n1 : Nat) (ξ1 : XS), (cells + m1 + (mc - m1) ≤ R.cells ∧ slots + n1 + (ms - n1) ≤ R.slots) → kk m1 n1 ξ1 → CF p l e R s m args below meth c nL (cells + m1) (slots + n1) (XB_0 g A s ξ1) Q n lv st) : CF p l e R s m args below meth c nL cells slots (XB_0 g A s ξ) Q pc lv (.ref a0 :: st) := by
  obtain ⟨m1, n1, h1, h2, h⟩ := h
  exact ycallP_v_0 (na := 0) E [] (met_y1_init l g N a0   ξ m1 n1 _ h) (lw_meth q152) q97 q150 q151 (by decide +kernel) hR rfl rfl hcat ⟨by omega, by omega⟩ d hn (fun ξ1 hk => k m1 n1 ξ1 ⟨by omega, by omega⟩ hk)
theorem yclX0_46 (E : EV p s m args c cc nL RX0) {N mc ms : Nat} {a0 : Nat}   {kk : Nat → Nat → XS → Prop} (hR : 5 ≤ R.frames ∧ 120 ≤ R.locals) (hcat : (st.map fun v => v.category).sum ≤ 8) (hb : cells + mc ≤ R.cells ∧ slots + ms ≤ R.slots) (d : decode cc pc = .ok (.invokespecial 46, 3)) (h : bnyv (y2_init N g a0  ξ) mc ms kk) (hn : pc + 3 = n) (k : ∀ (m1 n1 : Nat) (ξ1 : XS), (cells + m1 + (mc - m1) ≤ R.cells ∧ slots + n1 + (ms - n1) ≤ R.slots) → kk m1 n1 ξ1 → CF p l e R s m args below meth c nL (cells + m1) (slots + n1) (XB_0 g A s ξ1) Q n lv st) : CF p l e R s m args below meth c nL cells slots (XB_0 g A s ξ) Q pc lv (.ref a0 :: st) := by
  obtain ⟨m1, n1, h1, h2, h⟩ := h
  exact ycallP_v_0 (na := 0) E [] (met_y2_init_0 l g N a0   ξ m1 n1 _ h) (lw_meth q177) q98 q175 q176 (by decide +kernel) hR rfl rfl hcat ⟨by omega, by omega⟩ d hn (fun ξ1 hk => k m1 n1 ξ1 ⟨by omega, by omega⟩ hk)
theorem yclX0_53 (E : EV p s m args c cc nL RX0) {N mc ms : Nat} {a0 : Nat}   {kk : Nat → Nat → XS → Prop} (hR : 2 ≤ R.frames ∧ 60 ≤ R.locals) (hcat : (st.map fun v => v.category).sum ≤ 8) (hb : cells + mc ≤ R.cells ∧ slots + ms ≤ R.slots) (d : decode cc pc = .ok (.invokespecial 53, 3)) (h : bnyv (y3_init N g a0  ξ) mc ms kk) (hn : pc + 3 = n) (k : ∀ (m1 n1 : Nat) (ξ1 : XS), (cells + m1 + (mc - m1) ≤ R.cells ∧ slots + n1 + (ms - n1) ≤ R.slots) → kk m1 n1 ξ1 → CF p l e R s m args below meth c nL (cells + m1) (slots + n1) (XB_0 g A s ξ1) Q n lv st) : CF p l e R s m args below meth c nL cells slots (XB_0 g A s ξ) Q pc lv (.ref a0 :: st) := by
  obtain ⟨m1, n1, h1, h2, h⟩ := h
  exact ycallP_v_0 (na := 0) E [] (met_y3_init l g N a0   ξ m1 n1 _ h) (lw_meth q227) q102 q225 q226 (by decide +kernel) hR rfl rfl hcat ⟨by omega, by omega⟩ d hn (fun ξ1 hk => k m1 n1 ξ1 ⟨by omega, by omega⟩ hk)
theorem yclX0_60 (E : EV p s m args c cc nL RX0) {N mc ms : Nat} {a0 : Nat}   {kk : Nat → Nat → XS → Prop} (hR : 2 ≤ R.frames ∧ 60 ≤ R.locals) (hcat : (st.map fun v => v.category).sum ≤ 8) (hb : cells + mc ≤ R.cells ∧ slots + ms ≤ R.slots) (d : decode cc pc = .ok (.invokespecial 60, 3)) (h : bnyv (y4_init N g a0  ξ) mc ms kk) (hn : pc + 3 = n) (k : ∀ (m1 n1 : Nat) (ξ1 : XS), (cells + m1 + (mc - m1) ≤ R.cells ∧ slots + n1 + (ms - n1) ≤ R.slots) → kk m1 n1 ξ1 → CF p l e R s m args below meth c nL (cells + m1) (slots + n1) (XB_0 g A s ξ1) Q n lv st) : CF p l e R s m args below meth c nL cells slots (XB_0 g A s ξ) Q pc lv (.ref a0 :: st) := by
  obtain ⟨m1, n1, h1, h2, h⟩ := h
  exact ycallP_v_0 (na := 0) E [] (met_y4_init l g N a0   ξ m1 n1 _ h) (lw_meth q258) q103 q256 q257 (by decide +kernel) hR rfl rfl hcat ⟨by omega, by omega⟩ d hn (fun ξ1 hk => k m1 n1 ξ1 ⟨by omega, by omega⟩ hk)
end XC
set_option maxHeartbeats 4000000 in
theorem wy0_init_265b {p : Program} {l : Launch} {e : Env} {R : Room} {s : State} {m : MethodId} {args : Array Value} {below : List Frame} {meth : Method} {c : Code} {A : Nat → Prop} {g : XG} {Q : State → Prop} {K : XS → Prop} (E : EV p s m args c cX0_init 2 RX0) (hR : 5 ≤ R.frames ∧ 120 ≤ R.locals) (hq : YTv_0 p l e R s m args below meth c cX0_init 2 A g Q K) (N : Nat) (a0 : Nat)   {rec265 : Int32 → XS → Nat → Nat → Prop} (ih265 : ∀ (x1 : Int32) (ξ : XS) (mc ms cells slots : Nat), (cells + mc ≤ R.cells ∧ slots + ms ≤ R.slots) → rec265 x1 ξ mc ms → CF p l e R s m args below meth c 2 cells slots (XB_0 g A s ξ) Q 265 [(0, .ref a0), (1, .int x1)] []) (x1 : Int32) (ξ : XS) (mc ms cells slots : Nat) (hb : cells + mc ≤ R.cells ∧ slots + ms ≤ R.slots) (h : y0_init_265b N g a0 K  rec265 x1 ξ mc ms) : CF p l e R s m args below meth c 2 cells slots (XB_0 g A s ξ) Q 265 [(0, .ref a0), (1, .int x1)] [] := by
  unfold y0_init_265b at h
  refine cf_iload_n E dX0_init_265 1 rfl rfl ?_
  refine cf_bipush E dX0_init_266 bp_6 rfl ?_
  refine cf_icmp_gep E dX0_init_268 h rfl rfl (fun h => ?_) (fun h => ?_)
  · exact hq _ _ _ _ _ (hb0 hb).1 (hb0 hb).2 dX0_init_290 h
  · refine cf_aload_n E dX0_init_271 0 rfl rfl ?_
    refine xdgX0_79p E dX0_init_272 h rfl (fun b_1 h => ?_)
    refine cf_iload_n E dX0_init_275 1 rfl rfl ?_
    refine xnwX0_77 E hb dX0_init_276 h rfl (fun q_2 hb h => ?_)
    refine cf_dup E dX0_init_279 rfl rfl ?_
    refine yclX0_125 E (rmle hR rfl rfl) (Nat.le_of_ble_eq_true rfl) hb dX0_init_280 h rfl (fun m_3 n_4 s_5 hb h => ?_)
    refine xastTPp E dX0_init_283 h rfl (fun s_7 h => ?_)
    refine cf_iincp E dX0_init_284 ic_1 h 1 rfl (fun x1_10 => [(1, .int x1_10), (0, .ref a0)]) (Nat.le_of_ble_eq_true rfl) (fun _ => rfl) rfl (fun x1_10 h => ?_)
    refine cf_goto E dX0_init_287 rfl ?_
    exact CF.sub [1, 0] rfl (ih265 x1_10 s_7 ((mc - 1) - m_3) ((ms - 1) - n_4) _ _ hb h)
set_option maxHeartbeats 4000000 in
theorem wy0_init_265 {p : Program} {l : Launch} {e : Env} {R : Room} {s : State} {m : MethodId} {args : Array Value} {below : List Frame} {meth : Method} {c : Code} {A : Nat → Prop} {g : XG} {Q : State → Prop} {K : XS → Prop} (E : EV p s m args c cX0_init 2 RX0) (hR : 5 ≤ R.frames ∧ 120 ≤ R.locals) (hq : YTv_0 p l e R s m args below meth c cX0_init 2 A g Q K) (N : Nat) (a0 : Nat)   : ∀ (k : Nat) (x1 : Int32) (ξ : XS) (mc ms cells slots : Nat), (cells + mc ≤ R.cells ∧ slots + ms ≤ R.slots) → y0_init_265 N g a0 K  k x1 ξ mc ms → CF p l e R s m args below meth c 2 cells slots (XB_0 g A s ξ) Q 265 [(0, .ref a0), (1, .int x1)] [] := by
  intro k
  induction k with
  | zero => intro x1 ξ mc ms cells slots hb h; have h : False := h; cases h
  | succ k ih => intro x1 ξ mc ms cells slots hb h; exact wy0_init_265b E hR hq N a0   ih x1 ξ mc ms cells slots hb h
set_option maxHeartbeats 4000000 in
theorem met_y0_init (l : Launch) (g : XG) (N : Nat) (a0 : Nat)   (ξ : XS) (mc ms : Nat) (K : XS → Prop) (h : y0_init N g a0  ξ mc ms K) : MetYv_0 l g yX0_init (ws_ yX0_init cX0_init 2 none) 5 120 [.ref a0] ξ mc ms K := by
  refine met_yv_0 (lv0 := [(0, .ref a0)]) (own := RX0) (by decide) rfl (Nat.le_of_ble_eq_true rfl) rfl ?_
  intro p e s m below meth c A Q E hmn hq
  have hmn : meth.name = "<init>" := hmn
  have hR : 5 ≤ ({ frames := 5, cells := mc, slots := ms, locals := 120 } : Room).frames ∧ 120 ≤ ({ frames := 5, cells := mc, slots := ms, locals := 120 } : Room).locals := ⟨Nat.le_refl _, Nat.le_refl _⟩
  have hb : 0 + mc ≤ ({ frames := 5, cells := mc, slots := ms, locals := 120 } : Room).cells ∧ 0 + ms ≤ ({ frames := 5, cells := mc, slots := ms, locals := 120 } : Room).slots := ⟨Nat.le_of_eq (Nat.zero_add _), Nat.le_of_eq (Nat.zero_add _)⟩
  unfold y0_init at h
  refine cf_aload_n E dX0_init_0 0 rfl rfl ?_
  refine xoi_0 E q143 q144 q145 (rmle hR rfl rfl) (Nat.le_of_ble_eq_true rfl) dX0_init_1 rfl ?_
  refine cf_aload_n E dX0_init_4 0 rfl rfl ?_
  refine cf_bipush E dX0_init_5 bp_6 rfl ?_
  refine xnewa_0_0 E hb dX0_init_7 h rfl (fun q_1 hb h => ?_)
  refine xdqX0_11 E hmn dX0_init_9 h rfl (fun s_2 h => ?_)
  refine cf_aload_n E dX0_init_12 0 rfl rfl ?_
  refine cf_bipush E dX0_init_13 bp_6 rfl ?_
  refine xnewa_0_0 E hb dX0_init_15 h rfl (fun q_5 hb h => ?_)
  refine xdqX0_15 E hmn dX0_init_17 h rfl (fun s_6 h => ?_)
  refine cf_aload_n E dX0_init_20 0 rfl rfl ?_
  refine cf_bipush E dX0_init_21 bp_6 rfl ?_
  refine xnewa_0_0 E hb dX0_init_23 h rfl (fun q_9 hb h => ?_)
  refine xdqX0_18 E hmn dX0_init_25 h rfl (fun s_10 h => ?_)
  refine cf_aload_n E dX0_init_28 0 rfl rfl ?_
  refine cf_bipush E dX0_init_29 bp_6 rfl ?_
  refine xnewqHA E q146 hb dX0_init_31 h rfl (fun q_13 hb h => ?_)
  refine xdqX0_23 E hmn dX0_init_34 h rfl (fun s_14 h => ?_)
  refine cf_aload_n E dX0_init_37 0 rfl rfl ?_
  refine xnwX0_27 E hb dX0_init_38 h rfl (fun q_17 hb h => ?_)
  refine cf_dup E dX0_init_41 rfl rfl ?_
  refine yclX0_29 E (rmle hR rfl rfl) (Nat.le_of_ble_eq_true rfl) hb dX0_init_42 h rfl (fun m_18 n_19 s_20 hb h => ?_)
  refine xdqX0_30 E hmn dX0_init_45 h rfl (fun s_22 h => ?_)
  refine cf_aload_n E dX0_init_48 0 rfl rfl ?_
  refine xnwX0_27 E hb dX0_init_49 h rfl (fun q_25 hb h => ?_)
  refine cf_dup E dX0_init_52 rfl rfl ?_
  refine yclX0_29 E (rmle hR rfl rfl) (Nat.le_of_ble_eq_true rfl) hb dX0_init_53 h rfl (fun m_26 n_27 s_28 hb h => ?_)
  refine xdqX0_34 E hmn dX0_init_56 h rfl (fun s_30 h => ?_)
  refine cf_aload_n E dX0_init_59 0 rfl rfl ?_
  refine cf_iconst E dX0_init_60 ic_5 rfl ?_
  refine xnewa_0_0 E hb dX0_init_61 h rfl (fun q_33 hb h => ?_)
  refine xdqX0_37 E hmn dX0_init_63 h rfl (fun s_34 h => ?_)
  refine cf_aload_n E dX0_init_66 0 rfl rfl ?_
  refine cf_bipush E dX0_init_67 bp_100 rfl ?_
  refine xnewa_1_0 E hb dX0_init_69 h rfl (fun q_37 hb h => ?_)
  refine xdqX0_40 E hmn dX0_init_71 h rfl (fun s_38 h => ?_)
  refine cf_aload_n E dX0_init_74 0 rfl rfl ?_
  refine xnwX0_44 E hb dX0_init_75 h rfl (fun q_41 hb h => ?_)
  refine cf_dup E dX0_init_78 rfl rfl ?_
  refine yclX0_46 E (rmle hR rfl rfl) (Nat.le_of_ble_eq_true rfl) hb dX0_init_79 h rfl (fun m_42 n_43 s_44 hb h => ?_)
  refine xdqX0_47 E dX0_init_82 h rfl (fun s_46 h => ?_)
  refine cf_aload_n E dX0_init_85 0 rfl rfl ?_
  refine xnwX0_51 E hb dX0_init_86 h rfl (fun q_49 hb h => ?_)
  refine cf_dup E dX0_init_89 rfl rfl ?_
  refine yclX0_53 E (rmle hR rfl rfl) (Nat.le_of_ble_eq_true rfl) hb dX0_init_90 h rfl (fun m_50 n_51 s_52 hb h => ?_)
  refine xdqX0_54 E hmn dX0_init_93 h rfl (fun s_54 h => ?_)
  refine cf_aload_n E dX0_init_96 0 rfl rfl ?_
  refine xnwX0_58 E hb dX0_init_97 h rfl (fun q_57 hb h => ?_)
  refine cf_dup E dX0_init_100 rfl rfl ?_
  refine yclX0_60 E (rmle hR rfl rfl) (Nat.le_of_ble_eq_true rfl) hb dX0_init_101 h rfl (fun m_58 n_59 s_60 hb h => ?_)
  refine xdqX0_61 E hmn dX0_init_104 h rfl (fun s_62 h => ?_)
  refine cf_aload_n E dX0_init_107 0 rfl rfl ?_
  refine cf_bipush E dX0_init_108 bp_6 rfl ?_
  refine xnewa_0_0 E hb dX0_init_110 h rfl (fun q_65 hb h => ?_)
  refine xdqX0_65 E hmn dX0_init_112 h rfl (fun s_66 h => ?_)
  refine cf_aload_n E dX0_init_115 0 rfl rfl ?_
  refine cf_bipush E dX0_init_116 bp_6 rfl ?_
  refine xnewa_0_0 E hb dX0_init_118 h rfl (fun q_69 hb h => ?_)
  refine xdqX0_68 E hmn dX0_init_120 h rfl (fun s_70 h => ?_)
  refine cf_aload_n E dX0_init_123 0 rfl rfl ?_
  refine cf_bipush E dX0_init_124 bp_8 rfl ?_
  refine xnewa_0_0 E hb dX0_init_126 h rfl (fun q_73 hb h => ?_)
  refine xdqX0_71 E hmn dX0_init_128 h rfl (fun s_74 h => ?_)
  refine cf_aload_n E dX0_init_131 0 rfl rfl ?_
  refine cf_bipush E dX0_init_132 bp_8 rfl ?_
  refine xnewa_0_0 E hb dX0_init_134 h rfl (fun q_77 hb h => ?_)
  refine xdqX0_74 E hmn dX0_init_136 h rfl (fun s_78 h => ?_)
  refine cf_aload_n E dX0_init_139 0 rfl rfl ?_
  refine cf_bipush E dX0_init_140 bp_6 rfl ?_
  refine xnewqTP E q269 hb dX0_init_142 h rfl (fun q_81 hb h => ?_)
  refine xdqX0_79 E hmn dX0_init_145 h rfl (fun s_82 h => ?_)
  refine cf_aload_n E dX0_init_148 0 rfl rfl ?_
  refine cf_bipush E dX0_init_149 bp_36 rfl ?_
  refine xnewa_0_0 E hb dX0_init_151 h rfl (fun q_85 hb h => ?_)
  refine xdqX0_83 E hmn dX0_init_153 h rfl (fun s_86 h => ?_)
  refine cf_aload_n E dX0_init_156 0 rfl rfl ?_
  refine cf_bipush E dX0_init_157 bp_6 rfl ?_
  refine xnewa_1_0 E hb dX0_init_159 h rfl (fun q_89 hb h => ?_)
  refine xdqX0_86 E hmn dX0_init_161 h rfl (fun s_90 h => ?_)
  refine cf_aload_n E dX0_init_164 0 rfl rfl ?_
  refine cf_bipush E dX0_init_165 bp_6 rfl ?_
  refine xnewa_1_0 E hb dX0_init_167 h rfl (fun q_93 hb h => ?_)
  refine xdqX0_89 E hmn dX0_init_169 h rfl (fun s_94 h => ?_)
  refine cf_aload_n E dX0_init_172 0 rfl rfl ?_
  refine xnwX0_27 E hb dX0_init_173 h rfl (fun q_97 hb h => ?_)
  refine cf_dup E dX0_init_176 rfl rfl ?_
  refine yclX0_29 E (rmle hR rfl rfl) (Nat.le_of_ble_eq_true rfl) hb dX0_init_177 h rfl (fun m_98 n_99 s_100 hb h => ?_)
  refine xdqX0_92 E hmn dX0_init_180 h rfl (fun s_102 h => ?_)
  refine cf_aload_n E dX0_init_183 0 rfl rfl ?_
  refine cf_bipush E dX0_init_184 bp_6 rfl ?_
  refine xnewqHA E q146 hb dX0_init_186 h rfl (fun q_105 hb h => ?_)
  refine xdqX0_95 E hmn dX0_init_189 h rfl (fun s_106 h => ?_)
  refine cf_aload_n E dX0_init_192 0 rfl rfl ?_
  refine cf_bipush E dX0_init_193 bp_24 rfl ?_
  refine xnewa_1_0 E hb dX0_init_195 h rfl (fun q_109 hb h => ?_)
  refine xdqX0_98 E hmn dX0_init_197 h rfl (fun s_110 h => ?_)
  refine cf_aload_n E dX0_init_200 0 rfl rfl ?_
  refine cf_bipush E dX0_init_201 bp_6 rfl ?_
  refine xnewa_0_0 E hb dX0_init_203 h rfl (fun q_113 hb h => ?_)
  refine xdqX0_101 E hmn dX0_init_205 h rfl (fun s_114 h => ?_)
  refine cf_aload_n E dX0_init_208 0 rfl rfl ?_
  refine cf_bipush E dX0_init_209 bp_6 rfl ?_
  refine xnewa_0_0 E hb dX0_init_211 h rfl (fun q_117 hb h => ?_)
  refine xdqX0_104 E hmn dX0_init_213 h rfl (fun s_118 h => ?_)
  refine cf_aload_n E dX0_init_216 0 rfl rfl ?_
  refine cf_bipush E dX0_init_217 bp_6 rfl ?_
  refine xnewa_0_0 E hb dX0_init_219 h rfl (fun q_121 hb h => ?_)
  refine xdqX0_107 E hmn dX0_init_221 h rfl (fun s_122 h => ?_)
  refine cf_aload_n E dX0_init_224 0 rfl rfl ?_
  refine cf_iconst E dX0_init_225 ic_5 rfl ?_
  refine xnewa_0_0 E hb dX0_init_226 h rfl (fun q_125 hb h => ?_)
  refine xdqX0_110 E hmn dX0_init_228 h rfl (fun s_126 h => ?_)
  refine cf_aload_n E dX0_init_231 0 rfl rfl ?_
  refine cf_bipush E dX0_init_232 bp_6 rfl ?_
  refine xnewa_0_0 E hb dX0_init_234 h rfl (fun q_129 hb h => ?_)
  refine xdqX0_113 E hmn dX0_init_236 h rfl (fun s_130 h => ?_)
  refine cf_aload_n E dX0_init_239 0 rfl rfl ?_
  refine cf_bipush E dX0_init_240 bp_6 rfl ?_
  refine xnewa_0_0 E hb dX0_init_242 h rfl (fun q_133 hb h => ?_)
  refine xdqX0_116 E hmn dX0_init_244 h rfl (fun s_134 h => ?_)
  refine cf_aload_n E dX0_init_247 0 rfl rfl ?_
  refine cf_bipush E dX0_init_248 bp_8 rfl ?_
  refine xnewa_0_0 E hb dX0_init_250 h rfl (fun q_137 hb h => ?_)
  refine xdqX0_119 E hmn dX0_init_252 h rfl (fun s_138 h => ?_)
  refine cf_aload_n E dX0_init_255 0 rfl rfl ?_
  refine cf_bipush E dX0_init_256 bp_8 rfl ?_
  refine xnewa_0_0 E hb dX0_init_258 h rfl (fun q_141 hb h => ?_)
  refine xdqX0_122 E hmn dX0_init_260 h rfl (fun s_142 h => ?_)
  refine cf_iconst E dX0_init_263 ic_0 rfl ?_
  refine cf_istore_np E dX0_init_264 h (fun x1_145 => [(1, .int x1_145), (0, .ref a0)]) (Nat.le_of_ble_eq_true rfl) (fun _ => rfl) rfl (fun x1_145 h => ?_)
  exact CF.sub [1, 0] rfl (wy0_init_265 E hR hq N a0 N x1_145 s_142 ((((((((((((((((((((((((((((((((((((mc - 1) - 1) - 1) - 1) - 1) - m_18) - 1) - m_26) - 1) - 1) - 1) - m_42) - 1) - m_50) - 1) - m_58) - 1) - 1) - 1) - 1) - 1) - 1) - 1) - 1) - 1) - m_98) - 1) - 1) - 1) - 1) - 1) - 1) - 1) - 1) - 1) - 1) ((((((((((((((((((((((((((((((((((((ms - (6 : Int32).toNatClampNeg) - (6 : Int32).toNatClampNeg) - (6 : Int32).toNatClampNeg) - (6 : Int32).toNatClampNeg) - 4) - n_19) - 4) - n_27) - (5 : Int32).toNatClampNeg) - (100 : Int32).toNatClampNeg) - 4) - n_43) - 6) - n_51) - 2) - n_59) - (6 : Int32).toNatClampNeg) - (6 : Int32).toNatClampNeg) - (8 : Int32).toNatClampNeg) - (8 : Int32).toNatClampNeg) - (6 : Int32).toNatClampNeg) - (36 : Int32).toNatClampNeg) - (6 : Int32).toNatClampNeg) - (6 : Int32).toNatClampNeg) - 4) - n_99) - (6 : Int32).toNatClampNeg) - (24 : Int32).toNatClampNeg) - (6 : Int32).toNatClampNeg) - (6 : Int32).toNatClampNeg) - (6 : Int32).toNatClampNeg) - (5 : Int32).toNatClampNeg) - (6 : Int32).toNatClampNeg) - (6 : Int32).toNatClampNeg) - (8 : Int32).toNatClampNeg) - (8 : Int32).toNatClampNeg) _ _ hb h)
