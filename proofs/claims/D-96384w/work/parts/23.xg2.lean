/-! HatsDecide, group g2: rows, functions, walks -/
set_option maxRecDepth 100000
section XC
variable {p : Program} {l : Launch} {e : Env} {R : Room} {s : State} {m : MethodId} {args : Array Value} {below : List Frame} {meth : Method} {c : Code} {nL cells slots : Nat} {A : Nat → Prop} {g : XG} {ξ : XS} {Q : State → Prop} {pc n : Nat} {lv : List (Nat × Value)} {st : List Value} {cc : ByteArray} {ρ : Type} {res : ρ}
theorem bp_61 : (Int8.ofInt 61).toInt32 = 61 := by decide +kernel
theorem xdgJ2_48 (E : EV p s m args c cc nL RJ2) {a : Nat} {kk : Int32 → Option ρ} (d : decode cc pc = .ok (.getfield 48, 3)) (h : bno (dI ξ a 4 4 2) kk = some res) (hn : pc + 3 = n) (k : ∀ v : Int32, kk v = some res → CF p l e R s m args below meth c nL cells slots (XB g A s ξ) Q n lv (.int v :: st)) : CF p l e R s m args below meth c nL cells slots (XB g A s ξ) Q pc lv (.ref a :: st) := by
  subst hn
  obtain ⟨v, hi, h⟩ := bno_some h
  obtain ⟨ci, fs, he, h1, h2, hv⟩ := dI_at hi
  obtain ⟨q0, hq⟩ := dE_at (g := g) he
  intro H locs ls hB hl
  have hci : ci = 4 := by omega
  subst hci
  exact va_get (D := g.1) (ci := 4) (C := RJ2) (T := TJ2) (N := 3) E.1 E.2.1 E.2.2.2.2 in_J2 E.2.2.2.1 hB.2.2.2.1 hB.1 q0 hq rfl 2 (Nat.le_of_ble_eq_true rfl) (E.2.2.2.2 _ q194) (fun _ h9 => h9) hv d (k v h H locs ls hB hl)
theorem xdgJ2_9 (E : EV p s m args c cc nL RJ2) {a : Nat} {kk : Nat → Option ρ} (d : decode cc pc = .ok (.getfield 9, 3)) (h : bno (dR ξ a 4 4 1) kk = some res) (hn : pc + 3 = n) (k : ∀ v : Nat, kk v = some res → CF p l e R s m args below meth c nL cells slots (XB g A s ξ) Q n lv (.ref v :: st)) : CF p l e R s m args below meth c nL cells slots (XB g A s ξ) Q pc lv (.ref a :: st) := by
  subst hn
  obtain ⟨v, hi, h⟩ := bno_some h
  obtain ⟨ci, fs, he, h1, h2, hv⟩ := dR_at hi
  obtain ⟨q0, hq⟩ := dE_at (g := g) he
  intro H locs ls hB hl
  have hci : ci = 4 := by omega
  subst hci
  exact va_get (D := g.1) (ci := 4) (C := RJ2) (T := TJ2) (N := 3) E.1 E.2.1 E.2.2.2.2 in_J2 E.2.2.2.1 hB.2.2.2.1 hB.1 q0 hq rfl 1 (Nat.le_of_ble_eq_true rfl) (E.2.2.2.2 _ q193) (fun _ h9 => h9) hv d (k v h H locs ls hB hl)
theorem xdgX20_13 (E : EV p s m args c cc nL RX20) {a : Nat} {kk : Int32 → Option ρ} (d : decode cc pc = .ok (.getfield 13, 3)) (h : bno (dI ξ a 20 20 1) kk = some res) (hn : pc + 3 = n) (k : ∀ v : Int32, kk v = some res → CF p l e R s m args below meth c nL cells slots (XB g A s ξ) Q n lv (.int v :: st)) : CF p l e R s m args below meth c nL cells slots (XB g A s ξ) Q pc lv (.ref a :: st) := by
  subst hn
  obtain ⟨v, hi, h⟩ := bno_some h
  obtain ⟨ci, fs, he, h1, h2, hv⟩ := dI_at hi
  obtain ⟨q0, hq⟩ := dE_at (g := g) he
  intro H locs ls hB hl
  have hci : ci = 20 := by omega
  subst hci
  exact va_get (D := g.1) (ci := 20) (C := RX20) (T := TX20) (N := 3) E.1 E.2.1 E.2.2.2.2 in_X20 E.2.2.2.1 hB.2.2.2.1 hB.1 q0 hq rfl 1 (Nat.le_of_ble_eq_true rfl) (E.2.2.2.2 _ q961) (fun _ h9 => h9) hv d (k v h H locs ls hB hl)
theorem xdgX20_7 (E : EV p s m args c cc nL RX20) {a : Nat} {kk : Int32 → Option ρ} (d : decode cc pc = .ok (.getfield 7, 3)) (h : bno (dI ξ a 20 20 0) kk = some res) (hn : pc + 3 = n) (k : ∀ v : Int32, kk v = some res → CF p l e R s m args below meth c nL cells slots (XB g A s ξ) Q n lv (.int v :: st)) : CF p l e R s m args below meth c nL cells slots (XB g A s ξ) Q pc lv (.ref a :: st) := by
  subst hn
  obtain ⟨v, hi, h⟩ := bno_some h
  obtain ⟨ci, fs, he, h1, h2, hv⟩ := dI_at hi
  obtain ⟨q0, hq⟩ := dE_at (g := g) he
  intro H locs ls hB hl
  have hci : ci = 20 := by omega
  subst hci
  exact va_get (D := g.1) (ci := 20) (C := RX20) (T := TX20) (N := 3) E.1 E.2.1 E.2.2.2.2 in_X20 E.2.2.2.1 hB.2.2.2.1 hB.1 q0 hq rfl 0 (Nat.le_of_ble_eq_true rfl) (E.2.2.2.2 _ q960) (fun _ h9 => h9) hv d (k v h H locs ls hB hl)
theorem xdgX20_16 (E : EV p s m args c cc nL RX20) {a : Nat} {kk : Int32 → Option ρ} (d : decode cc pc = .ok (.getfield 16, 3)) (h : bno (dI ξ a 20 20 2) kk = some res) (hn : pc + 3 = n) (k : ∀ v : Int32, kk v = some res → CF p l e R s m args below meth c nL cells slots (XB g A s ξ) Q n lv (.int v :: st)) : CF p l e R s m args below meth c nL cells slots (XB g A s ξ) Q pc lv (.ref a :: st) := by
  subst hn
  obtain ⟨v, hi, h⟩ := bno_some h
  obtain ⟨ci, fs, he, h1, h2, hv⟩ := dI_at hi
  obtain ⟨q0, hq⟩ := dE_at (g := g) he
  intro H locs ls hB hl
  have hci : ci = 20 := by omega
  subst hci
  exact va_get (D := g.1) (ci := 20) (C := RX20) (T := TX20) (N := 3) E.1 E.2.1 E.2.2.2.2 in_X20 E.2.2.2.1 hB.2.2.2.1 hB.1 q0 hq rfl 2 (Nat.le_of_ble_eq_true rfl) (E.2.2.2.2 _ q962) (fun _ h9 => h9) hv d (k v h H locs ls hB hl)
theorem xdgX19_7 (E : EV p s m args c cc nL RX19) {a : Nat} {kk : Nat → Option ρ} (d : decode cc pc = .ok (.getfield 7, 3)) (h : bno (dR ξ a 19 19 0) kk = some res) (hn : pc + 3 = n) (k : ∀ v : Nat, kk v = some res → CF p l e R s m args below meth c nL cells slots (XB g A s ξ) Q n lv (.ref v :: st)) : CF p l e R s m args below meth c nL cells slots (XB g A s ξ) Q pc lv (.ref a :: st) := by
  subst hn
  obtain ⟨v, hi, h⟩ := bno_some h
  obtain ⟨ci, fs, he, h1, h2, hv⟩ := dR_at hi
  obtain ⟨q0, hq⟩ := dE_at (g := g) he
  intro H locs ls hB hl
  have hci : ci = 19 := by omega
  subst hci
  exact va_get (D := g.1) (ci := 19) (C := RX19) (T := TX19) (N := 1) E.1 E.2.1 E.2.2.2.2 in_X19 E.2.2.2.1 hB.2.2.2.1 hB.1 q0 hq rfl 0 (Nat.le_of_ble_eq_true rfl) (E.2.2.2.2 _ q950) (fun _ h9 => h9) hv d (k v h H locs ls hB hl)
theorem xdgX18_10 (E : EV p s m args c cc nL RX18) {a : Nat} {kk : Nat → Option ρ} (d : decode cc pc = .ok (.getfield 10, 3)) (h : bno (dR ξ a 18 18 1) kk = some res) (hn : pc + 3 = n) (k : ∀ v : Nat, kk v = some res → CF p l e R s m args below meth c nL cells slots (XB g A s ξ) Q n lv (.ref v :: st)) : CF p l e R s m args below meth c nL cells slots (XB g A s ξ) Q pc lv (.ref a :: st) := by
  subst hn
  obtain ⟨v, hi, h⟩ := bno_some h
  obtain ⟨ci, fs, he, h1, h2, hv⟩ := dR_at hi
  obtain ⟨q0, hq⟩ := dE_at (g := g) he
  intro H locs ls hB hl
  have hci : ci = 18 := by omega
  subst hci
  exact va_get (D := g.1) (ci := 18) (C := RX18) (T := TX18) (N := 2) E.1 E.2.1 E.2.2.2.2 in_X18 E.2.2.2.1 hB.2.2.2.1 hB.1 q0 hq rfl 1 (Nat.le_of_ble_eq_true rfl) (E.2.2.2.2 _ q925) (fun _ h9 => h9) hv d (k v h H locs ls hB hl)
theorem xdgX18_16 (E : EV p s m args c cc nL RX18) {a : Nat} {kk : Int32 → Option ρ} (d : decode cc pc = .ok (.getfield 16, 3)) (h : bno (dI ξ a 18 18 0) kk = some res) (hn : pc + 3 = n) (k : ∀ v : Int32, kk v = some res → CF p l e R s m args below meth c nL cells slots (XB g A s ξ) Q n lv (.int v :: st)) : CF p l e R s m args below meth c nL cells slots (XB g A s ξ) Q pc lv (.ref a :: st) := by
  subst hn
  obtain ⟨v, hi, h⟩ := bno_some h
  obtain ⟨ci, fs, he, h1, h2, hv⟩ := dI_at hi
  obtain ⟨q0, hq⟩ := dE_at (g := g) he
  intro H locs ls hB hl
  have hci : ci = 18 := by omega
  subst hci
  exact va_get (D := g.1) (ci := 18) (C := RX18) (T := TX18) (N := 2) E.1 E.2.1 E.2.2.2.2 in_X18 E.2.2.2.1 hB.2.2.2.1 hB.1 q0 hq rfl 0 (Nat.le_of_ble_eq_true rfl) (E.2.2.2.2 _ q924) (fun _ h9 => h9) hv d (k v h H locs ls hB hl)
theorem xckX18_2 (E : EV p s m args c cc nL RX18) {a : Nat} {A9 : Option ρ} (d : decode cc pc = .ok (.checkcast 2, 3)) (h : (if isC ξ a 18 20 = true then A9 else none) = some res) (hn : pc + 3 = n) (k : A9 = some res → CF p l e R s m args below meth c nL cells slots (XB g A s ξ) Q n lv (.ref a :: st)) : CF p l e R s m args below meth c nL cells slots (XB g A s ξ) Q pc lv (.ref a :: st) := by
  by_cases hi : isC ξ a 18 20 = true
  · rw [if_pos hi] at h
    obtain ⟨ci, hci, h1, h2⟩ := isC_at hi
    have e9 : ci = 18 ∨ ci = 19 ∨ ci = 20 := by omega
    rcases e9 with rfl | rfl | rfl
    · exact xcast (C := "") E (nm := "HatsDecide$Test") q649 (ci := 18) (q9 := (RX18, TX18, 2)) hci rfl q2164 d hn (k h)
    · exact xcast (C := "") E (nm := "HatsDecide$Test") q649 (ci := 19) (q9 := (RX19, TX19, 1)) hci rfl q2163 d hn (k h)
    · exact xcast (C := "") E (nm := "HatsDecide$Test") q649 (ci := 20) (q9 := (RX20, TX20, 3)) hci rfl q2162 d hn (k h)
  · rw [if_neg hi] at h; cases h
theorem xdgX2_12 (E : EV p s m args c cc nL RX2) {a : Nat} {kk : Nat → Option ρ} (d : decode cc pc = .ok (.getfield 12, 3)) (h : bno (dR ξ a 3 3 0) kk = some res) (hn : pc + 3 = n) (k : ∀ v : Nat, kk v = some res → CF p l e R s m args below meth c nL cells slots (XB g A s ξ) Q n lv (.ref v :: st)) : CF p l e R s m args below meth c nL cells slots (XB g A s ξ) Q pc lv (.ref a :: st) := by
  subst hn
  obtain ⟨v, hi, h⟩ := bno_some h
  obtain ⟨ci, fs, he, h1, h2, hv⟩ := dR_at hi
  obtain ⟨q0, hq⟩ := dE_at (g := g) he
  intro H locs ls hB hl
  have hci : ci = 3 := by omega
  subst hci
  exact va_get (D := g.1) (ci := 3) (C := RX2) (T := TX2) (N := 4) E.1 E.2.1 E.2.2.2.2 in_X2 E.2.2.2.1 hB.2.2.2.1 hB.1 q0 hq rfl 0 (Nat.le_of_ble_eq_true rfl) (E.2.2.2.2 _ q205) (fun _ h9 => h9) hv d (k v h H locs ls hB hl)
theorem xckX2_30 (E : EV p s m args c cc nL RX2) {a : Nat} {A9 : Option ρ} (d : decode cc pc = .ok (.checkcast 30, 3)) (h : (if isC ξ a 17 17 = true then A9 else none) = some res) (hn : pc + 3 = n) (k : A9 = some res → CF p l e R s m args below meth c nL cells slots (XB g A s ξ) Q n lv (.ref a :: st)) : CF p l e R s m args below meth c nL cells slots (XB g A s ξ) Q pc lv (.ref a :: st) := by
  by_cases hi : isC ξ a 17 17 = true
  · rw [if_pos hi] at h
    obtain ⟨ci, hci, h1, h2⟩ := isC_at hi
    have e9 : ci = 17 := by omega
    subst e9
    exact xcastS E (ci := 17) (q9 := (RX16, TX16, 2)) rfl q630 hci d hn (k h)
  · rw [if_neg hi] at h; cases h
theorem xdgX2_32 (E : EV p s m args c cc nL RX2) {a : Nat} {kk : Nat → Option ρ} (d : decode cc pc = .ok (.getfield 32, 3)) (h : bno (dR ξ a 17 17 1) kk = some res) (hn : pc + 3 = n) (k : ∀ v : Nat, kk v = some res → CF p l e R s m args below meth c nL cells slots (XB g A s ξ) Q n lv (.ref v :: st)) : CF p l e R s m args below meth c nL cells slots (XB g A s ξ) Q pc lv (.ref a :: st) := by
  subst hn
  obtain ⟨v, hi, h⟩ := bno_some h
  obtain ⟨ci, fs, he, h1, h2, hv⟩ := dR_at hi
  obtain ⟨q0, hq⟩ := dE_at (g := g) he
  intro H locs ls hB hl
  have hci : ci = 17 := by omega
  subst hci
  exact va_getN (D := g.1) (ci := 17) (C := RX16) (T := TX16) (N := 2) E.1 E.2.1 E.2.2.2.2 in_X16 E.2.2.2.1 hB.2.2.2.1 hB.1 q0 hq rfl 1 (Nat.le_of_ble_eq_true rfl) (va_Nw.use rfl (hB.2.2.2.2.2.1 _ q1048 rfl)) (fun _ h9 => h9) hv d (k v h H locs ls hB hl)
theorem xdgX2_42 (E : EV p s m args c cc nL RX2) {a : Nat} {kk : Int32 → Option ρ} (d : decode cc pc = .ok (.getfield 42, 3)) (h : bno (dI ξ a 17 17 0) kk = some res) (hn : pc + 3 = n) (k : ∀ v : Int32, kk v = some res → CF p l e R s m args below meth c nL cells slots (XB g A s ξ) Q n lv (.int v :: st)) : CF p l e R s m args below meth c nL cells slots (XB g A s ξ) Q pc lv (.ref a :: st) := by
  subst hn
  obtain ⟨v, hi, h⟩ := bno_some h
  obtain ⟨ci, fs, he, h1, h2, hv⟩ := dI_at hi
  obtain ⟨q0, hq⟩ := dE_at (g := g) he
  intro H locs ls hB hl
  have hci : ci = 17 := by omega
  subst hci
  exact va_getN (D := g.1) (ci := 17) (C := RX16) (T := TX16) (N := 2) E.1 E.2.1 E.2.2.2.2 in_X16 E.2.2.2.1 hB.2.2.2.1 hB.1 q0 hq rfl 0 (Nat.le_of_ble_eq_true rfl) (va_Nw.use rfl (hB.2.2.2.2.2.1 _ q1046 rfl)) (fun _ h9 => h9) hv d (k v h H locs ls hB hl)
theorem xdgX7_1 (E : EV p s m args c cc nL RX7) {a : Nat} {A9 : Option ρ} (d : decode cc pc = .ok (.getfield 1, 3)) (h : (if dRs ξ a [8, 9, 10, 11, 12, 13, 14] 4 = some (xa g 0) then A9 else none) = some res) (hn : pc + 3 = n) (k : A9 = some res → CF p l e R s m args below meth c nL cells slots (XB g A s ξ) Q n lv (.ref (xa g 0) :: st)) : CF p l e R s m args below meth c nL cells slots (XB g A s ξ) Q pc lv (.ref a :: st) := by
  subst hn
  by_cases hi : dRs ξ a [8, 9, 10, 11, 12, 13, 14] 4 = some (xa g 0)
  · rw [if_pos hi] at h
    obtain ⟨ci, fs, he, h1, hv⟩ := dRs_at hi
    obtain ⟨q0, hq⟩ := dE_at (g := g) he
    intro H locs ls hB hl
    have hci : ci = 8 ∨ ci = 9 ∨ ci = 10 ∨ ci = 11 ∨ ci = 12 ∨ ci = 13 ∨ ci = 14 := by simpa using h1
    rcases hci with rfl | rfl | rfl | rfl | rfl | rfl | rfl
    · exact va_get (D := g.1) (ci := 8) (C := RX7) (T := TX7) (N := 5) E.1 E.2.1 E.2.2.2.2 in_X7 E.2.2.2.1 hB.2.2.2.1 hB.1 q0 hq rfl 4 (Nat.le_of_ble_eq_true rfl) (E.2.2.2.2 _ q458) (fun _ h9 => h9) hv d (k h H locs ls hB hl)
    · exact va_get (D := g.1) (ci := 9) (C := RX8) (T := TX8) (N := 6) E.1 E.2.1 E.2.2.2.2 in_X8 E.2.2.2.1 hB.2.2.2.1 hB.1 q0 hq rfl 4 (Nat.le_of_ble_eq_true rfl) (E.2.2.2.2 _ q458) (fun _ h9 => h9) hv d (k h H locs ls hB hl)
    · exact va_get (D := g.1) (ci := 10) (C := RX9) (T := TX9) (N := 6) E.1 E.2.1 E.2.2.2.2 in_X9 E.2.2.2.1 hB.2.2.2.1 hB.1 q0 hq rfl 4 (Nat.le_of_ble_eq_true rfl) (E.2.2.2.2 _ q458) (fun _ h9 => h9) hv d (k h H locs ls hB hl)
    · exact va_get (D := g.1) (ci := 11) (C := RX10) (T := TX10) (N := 6) E.1 E.2.1 E.2.2.2.2 in_X10 E.2.2.2.1 hB.2.2.2.1 hB.1 q0 hq rfl 4 (Nat.le_of_ble_eq_true rfl) (E.2.2.2.2 _ q458) (fun _ h9 => h9) hv d (k h H locs ls hB hl)
    · exact va_get (D := g.1) (ci := 12) (C := RX11) (T := TX11) (N := 7) E.1 E.2.1 E.2.2.2.2 in_X11 E.2.2.2.1 hB.2.2.2.1 hB.1 q0 hq rfl 4 (Nat.le_of_ble_eq_true rfl) (E.2.2.2.2 _ q458) (fun _ h9 => h9) hv d (k h H locs ls hB hl)
    · exact va_get (D := g.1) (ci := 13) (C := RX12) (T := TX12) (N := 7) E.1 E.2.1 E.2.2.2.2 in_X12 E.2.2.2.1 hB.2.2.2.1 hB.1 q0 hq rfl 4 (Nat.le_of_ble_eq_true rfl) (E.2.2.2.2 _ q458) (fun _ h9 => h9) hv d (k h H locs ls hB hl)
    · exact va_get (D := g.1) (ci := 14) (C := RX13) (T := TX13) (N := 8) E.1 E.2.1 E.2.2.2.2 in_X13 E.2.2.2.1 hB.2.2.2.1 hB.1 q0 hq rfl 4 (Nat.le_of_ble_eq_true rfl) (E.2.2.2.2 _ q458) (fun _ h9 => h9) hv d (k h H locs ls hB hl)
  · rw [if_neg hi] at h; cases h
theorem xgX7_26 (E : EV p s m args c cc nL RX7) (d : decode cc pc = .ok (.getfield 26, 3)) (hn : pc + 3 = n) (k : CF p l e R s m args below meth c nL cells slots (XB g A s ξ) Q n lv (.ref (xa g 102) :: st)) : CF p l e R s m args below meth c nL cells slots (XB g A s ξ) Q pc lv (.ref (xa g 0) :: st) := by
  subst hn
  intro H locs ls hB hl
  exact va_getN (D := g.1) (ci := 1) (C := RX0) (T := TX0) (N := 40) E.1 E.2.1 E.2.2.2.2 in_X0 E.2.2.2.1 hB.2.2.2.1 hB.1 0 rfl rfl 2 (Nat.le_of_ble_eq_true rfl) (va_Nw.use rfl (hB.2.2.2.2.2.1 _ q283 rfl)) (fun _ h9 => h9) rfl d (k H locs ls hB hl)
theorem xdgX7_13 (E : EV p s m args c cc nL RX7) {a : Nat} {kk : Int32 → Option ρ} (d : decode cc pc = .ok (.getfield 13, 3)) (h : bno (dI ξ a 8 14 0) kk = some res) (hn : pc + 3 = n) (k : ∀ v : Int32, kk v = some res → CF p l e R s m args below meth c nL cells slots (XB g A s ξ) Q n lv (.int v :: st)) : CF p l e R s m args below meth c nL cells slots (XB g A s ξ) Q pc lv (.ref a :: st) := by
  subst hn
  obtain ⟨v, hi, h⟩ := bno_some h
  obtain ⟨ci, fs, he, h1, h2, hv⟩ := dI_at hi
  obtain ⟨q0, hq⟩ := dE_at (g := g) he
  intro H locs ls hB hl
  have hci : ci = 8 ∨ ci = 9 ∨ ci = 10 ∨ ci = 11 ∨ ci = 12 ∨ ci = 13 ∨ ci = 14 := by omega
  rcases hci with rfl | rfl | rfl | rfl | rfl | rfl | rfl
  · exact va_get (D := g.1) (ci := 8) (C := RX7) (T := TX7) (N := 5) E.1 E.2.1 E.2.2.2.2 in_X7 E.2.2.2.1 hB.2.2.2.1 hB.1 q0 hq rfl 0 (Nat.le_of_ble_eq_true rfl) (E.2.2.2.2 _ q439) (fun _ h9 => h9) hv d (k v h H locs ls hB hl)
  · exact va_get (D := g.1) (ci := 9) (C := RX8) (T := TX8) (N := 6) E.1 E.2.1 E.2.2.2.2 in_X8 E.2.2.2.1 hB.2.2.2.1 hB.1 q0 hq rfl 0 (Nat.le_of_ble_eq_true rfl) (E.2.2.2.2 _ q439) (fun _ h9 => h9) hv d (k v h H locs ls hB hl)
  · exact va_get (D := g.1) (ci := 10) (C := RX9) (T := TX9) (N := 6) E.1 E.2.1 E.2.2.2.2 in_X9 E.2.2.2.1 hB.2.2.2.1 hB.1 q0 hq rfl 0 (Nat.le_of_ble_eq_true rfl) (E.2.2.2.2 _ q439) (fun _ h9 => h9) hv d (k v h H locs ls hB hl)
  · exact va_get (D := g.1) (ci := 11) (C := RX10) (T := TX10) (N := 6) E.1 E.2.1 E.2.2.2.2 in_X10 E.2.2.2.1 hB.2.2.2.1 hB.1 q0 hq rfl 0 (Nat.le_of_ble_eq_true rfl) (E.2.2.2.2 _ q439) (fun _ h9 => h9) hv d (k v h H locs ls hB hl)
  · exact va_get (D := g.1) (ci := 12) (C := RX11) (T := TX11) (N := 7) E.1 E.2.1 E.2.2.2.2 in_X11 E.2.2.2.1 hB.2.2.2.1 hB.1 q0 hq rfl 0 (Nat.le_of_ble_eq_true rfl) (E.2.2.2.2 _ q439) (fun _ h9 => h9) hv d (k v h H locs ls hB hl)
  · exact va_get (D := g.1) (ci := 13) (C := RX12) (T := TX12) (N := 7) E.1 E.2.1 E.2.2.2.2 in_X12 E.2.2.2.1 hB.2.2.2.1 hB.1 q0 hq rfl 0 (Nat.le_of_ble_eq_true rfl) (E.2.2.2.2 _ q439) (fun _ h9 => h9) hv d (k v h H locs ls hB hl)
  · exact va_get (D := g.1) (ci := 14) (C := RX13) (T := TX13) (N := 8) E.1 E.2.1 E.2.2.2.2 in_X13 E.2.2.2.1 hB.2.2.2.1 hB.1 q0 hq rfl 0 (Nat.le_of_ble_eq_true rfl) (E.2.2.2.2 _ q439) (fun _ h9 => h9) hv d (k v h H locs ls hB hl)
theorem xmX7_max (E : EV p s m args c cc nL RX7) {x y : Int32} (hR : 1 ≤ R.frames ∧ 40 ≤ R.locals) (hcat : (st.map fun v => v.category).sum ≤ 8) (hf : cells ≤ R.cells ∧ slots ≤ R.slots) (d : decode cc pc = .ok (.invokestatic 32, 3)) (hn : pc + 3 = n) (k : CF p l e R s m args below meth c nL cells slots (XB g A s ξ) Q n lv (.int (if x < y then y else x) :: st)) : CF p l e R s m args below meth c nL cells slots (XB g A s ξ) Q pc lv (.int y :: .int x :: st) := by
  subst hn
  intro H locs ls hB hl
  exact va_mmax E.1 E.2.1 (E.2.2.1.trans hl.1.symm) E.2.2.2.1 (E.2.2.2.2 _ q689) (E.2.2.2.2 _ q668) (E.2.2.2.2 _ q115) (E.2.2.2.2 _ q669) hR.1 (by have := hR.2; omega) hf.1 hf.2 d (k H locs ls hB hl)
theorem xdgX8_19 (E : EV p s m args c cc nL RX8) {a : Nat} {kk : Int32 → Option ρ} (d : decode cc pc = .ok (.getfield 19, 3)) (h : bno (dI ξ a 8 14 2) kk = some res) (hn : pc + 3 = n) (k : ∀ v : Int32, kk v = some res → CF p l e R s m args below meth c nL cells slots (XB g A s ξ) Q n lv (.int v :: st)) : CF p l e R s m args below meth c nL cells slots (XB g A s ξ) Q pc lv (.ref a :: st) := by
  subst hn
  obtain ⟨v, hi, h⟩ := bno_some h
  obtain ⟨ci, fs, he, h1, h2, hv⟩ := dI_at hi
  obtain ⟨q0, hq⟩ := dE_at (g := g) he
  intro H locs ls hB hl
  have hci : ci = 8 ∨ ci = 9 ∨ ci = 10 ∨ ci = 11 ∨ ci = 12 ∨ ci = 13 ∨ ci = 14 := by omega
  rcases hci with rfl | rfl | rfl | rfl | rfl | rfl | rfl
  · exact va_get (D := g.1) (ci := 8) (C := RX7) (T := TX7) (N := 5) E.1 E.2.1 E.2.2.2.2 in_X7 E.2.2.2.1 hB.2.2.2.1 hB.1 q0 hq rfl 2 (Nat.le_of_ble_eq_true rfl) (E.2.2.2.2 _ q453) (u_same (E.2.2.2.2 _ q454)) hv d (k v h H locs ls hB hl)
  · exact va_get (D := g.1) (ci := 9) (C := RX8) (T := TX8) (N := 6) E.1 E.2.1 E.2.2.2.2 in_X8 E.2.2.2.1 hB.2.2.2.1 hB.1 q0 hq rfl 2 (Nat.le_of_ble_eq_true rfl) (E.2.2.2.2 _ q453) (u_same (E.2.2.2.2 _ q454)) hv d (k v h H locs ls hB hl)
  · exact va_get (D := g.1) (ci := 10) (C := RX9) (T := TX9) (N := 6) E.1 E.2.1 E.2.2.2.2 in_X9 E.2.2.2.1 hB.2.2.2.1 hB.1 q0 hq rfl 2 (Nat.le_of_ble_eq_true rfl) (E.2.2.2.2 _ q453) (u_same (E.2.2.2.2 _ q454)) hv d (k v h H locs ls hB hl)
  · exact va_get (D := g.1) (ci := 11) (C := RX10) (T := TX10) (N := 6) E.1 E.2.1 E.2.2.2.2 in_X10 E.2.2.2.1 hB.2.2.2.1 hB.1 q0 hq rfl 2 (Nat.le_of_ble_eq_true rfl) (E.2.2.2.2 _ q453) (u_same (E.2.2.2.2 _ q454)) hv d (k v h H locs ls hB hl)
  · exact va_get (D := g.1) (ci := 12) (C := RX11) (T := TX11) (N := 7) E.1 E.2.1 E.2.2.2.2 in_X11 E.2.2.2.1 hB.2.2.2.1 hB.1 q0 hq rfl 2 (Nat.le_of_ble_eq_true rfl) (E.2.2.2.2 _ q453) (u_same (E.2.2.2.2 _ q454)) hv d (k v h H locs ls hB hl)
  · exact va_get (D := g.1) (ci := 13) (C := RX12) (T := TX12) (N := 7) E.1 E.2.1 E.2.2.2.2 in_X12 E.2.2.2.1 hB.2.2.2.1 hB.1 q0 hq rfl 2 (Nat.le_of_ble_eq_true rfl) (E.2.2.2.2 _ q453) (u_same (E.2.2.2.2 _ q454)) hv d (k v h H locs ls hB hl)
  · exact va_get (D := g.1) (ci := 14) (C := RX13) (T := TX13) (N := 8) E.1 E.2.1 E.2.2.2.2 in_X13 E.2.2.2.1 hB.2.2.2.1 hB.1 q0 hq rfl 2 (Nat.le_of_ble_eq_true rfl) (E.2.2.2.2 _ q453) (u_same (E.2.2.2.2 _ q454)) hv d (k v h H locs ls hB hl)
theorem xmX8_abs (E : EV p s m args c cc nL RX8) {x : Int32} (hR : 1 ≤ R.frames ∧ 40 ≤ R.locals) (hcat : (st.map fun v => v.category).sum ≤ 8) (hf : cells ≤ R.cells ∧ slots ≤ R.slots) (d : decode cc pc = .ok (.invokestatic 23, 3)) (hn : pc + 3 = n) (k : CF p l e R s m args below meth c nL cells slots (XB g A s ξ) Q n lv (.int (if 0 ≤ x then x else 0 - x) :: st)) : CF p l e R s m args below meth c nL cells slots (XB g A s ξ) Q pc lv (.int x :: st) := by
  subst hn
  intro H locs ls hB hl
  exact va_mabs E.1 E.2.1 (E.2.2.1.trans hl.1.symm) E.2.2.2.1 (E.2.2.2.2 _ q678) (E.2.2.2.2 _ q679) (E.2.2.2.2 _ q115) (E.2.2.2.2 _ q680) hR.1 (by have := hR.2; omega) hf.1 hf.2 d (k H locs ls hB hl)
theorem xmX8_max (E : EV p s m args c cc nL RX8) {x y : Int32} (hR : 1 ≤ R.frames ∧ 40 ≤ R.locals) (hcat : (st.map fun v => v.category).sum ≤ 8) (hf : cells ≤ R.cells ∧ slots ≤ R.slots) (d : decode cc pc = .ok (.invokestatic 29, 3)) (hn : pc + 3 = n) (k : CF p l e R s m args below meth c nL cells slots (XB g A s ξ) Q n lv (.int (if x < y then y else x) :: st)) : CF p l e R s m args below meth c nL cells slots (XB g A s ξ) Q pc lv (.int y :: .int x :: st) := by
  subst hn
  intro H locs ls hB hl
  exact va_mmax E.1 E.2.1 (E.2.2.1.trans hl.1.symm) E.2.2.2.1 (E.2.2.2.2 _ q681) (E.2.2.2.2 _ q668) (E.2.2.2.2 _ q115) (E.2.2.2.2 _ q669) hR.1 (by have := hR.2; omega) hf.1 hf.2 d (k H locs ls hB hl)
theorem xdgX9_3 (E : EV p s m args c cc nL RX9) {a : Nat} {A9 : Option ρ} (d : decode cc pc = .ok (.getfield 3, 3)) (h : (if dRs ξ a [10, 13] 5 = some (xa g 0) then A9 else none) = some res) (hn : pc + 3 = n) (k : A9 = some res → CF p l e R s m args below meth c nL cells slots (XB g A s ξ) Q n lv (.ref (xa g 0) :: st)) : CF p l e R s m args below meth c nL cells slots (XB g A s ξ) Q pc lv (.ref a :: st) := by
  subst hn
  by_cases hi : dRs ξ a [10, 13] 5 = some (xa g 0)
  · rw [if_pos hi] at h
    obtain ⟨ci, fs, he, h1, hv⟩ := dRs_at hi
    obtain ⟨q0, hq⟩ := dE_at (g := g) he
    intro H locs ls hB hl
    have hci : ci = 10 ∨ ci = 13 := by simpa using h1
    rcases hci with rfl | rfl
    · exact va_get (D := g.1) (ci := 10) (C := RX9) (T := TX9) (N := 6) E.1 E.2.1 E.2.2.2.2 in_X9 E.2.2.2.1 hB.2.2.2.1 hB.1 q0 hq rfl 5 (Nat.le_of_ble_eq_true rfl) (E.2.2.2.2 _ q478) (fun _ h9 => h9) hv d (k h H locs ls hB hl)
    · exact va_get (D := g.1) (ci := 13) (C := RX12) (T := TX12) (N := 7) E.1 E.2.1 E.2.2.2.2 in_X12 E.2.2.2.1 hB.2.2.2.1 hB.1 q0 hq rfl 5 (Nat.le_of_ble_eq_true rfl) (E.2.2.2.2 _ q478) (fun _ h9 => h9) hv d (k h H locs ls hB hl)
  · rw [if_neg hi] at h; cases h
theorem xgX9_19 (E : EV p s m args c cc nL RX9) (d : decode cc pc = .ok (.getfield 19, 3)) (hn : pc + 3 = n) (k : CF p l e R s m args below meth c nL cells slots (XB g A s ξ) Q n lv (va_rf (xo ξ 11) :: st)) : CF p l e R s m args below meth c nL cells slots (XB g A s ξ) Q pc lv (.ref (xa g 0) :: st) := by
  subst hn
  intro H locs ls hB hl
  exact va_getN (D := g.1) (ci := 1) (C := RX0) (T := TX0) (N := 40) E.1 E.2.1 E.2.2.2.2 in_X0 E.2.2.2.1 hB.2.2.2.1 hB.1 0 rfl rfl 11 (Nat.le_of_ble_eq_true rfl) (va_Nw.use rfl (hB.2.2.2.2.2.1 _ q293 rfl)) (fun _ h9 => h9) rfl d (k H locs ls hB hl)
theorem xdgX9_23 (E : EV p s m args c cc nL RX9) {a : Nat} {kk : Int32 → Option ρ} (d : decode cc pc = .ok (.getfield 23, 3)) (h : bno (dI ξ a 3 3 3) kk = some res) (hn : pc + 3 = n) (k : ∀ v : Int32, kk v = some res → CF p l e R s m args below meth c nL cells slots (XB g A s ξ) Q n lv (.int v :: st)) : CF p l e R s m args below meth c nL cells slots (XB g A s ξ) Q pc lv (.ref a :: st) := by
  subst hn
  obtain ⟨v, hi, h⟩ := bno_some h
  obtain ⟨ci, fs, he, h1, h2, hv⟩ := dI_at hi
  obtain ⟨q0, hq⟩ := dE_at (g := g) he
  intro H locs ls hB hl
  have hci : ci = 3 := by omega
  subst hci
  exact va_getN (D := g.1) (ci := 3) (C := RX2) (T := TX2) (N := 4) E.1 E.2.1 E.2.2.2.2 in_X2 E.2.2.2.1 hB.2.2.2.1 hB.1 q0 hq rfl 3 (Nat.le_of_ble_eq_true rfl) (va_Nw.use rfl (hB.2.2.2.2.2.1 _ q211 rfl)) (fun _ h9 => h9) hv d (k v h H locs ls hB hl)
theorem xmX9_max (E : EV p s m args c cc nL RX9) {x y : Int32} (hR : 1 ≤ R.frames ∧ 40 ≤ R.locals) (hcat : (st.map fun v => v.category).sum ≤ 8) (hf : cells ≤ R.cells ∧ slots ≤ R.slots) (d : decode cc pc = .ok (.invokestatic 29, 3)) (hn : pc + 3 = n) (k : CF p l e R s m args below meth c nL cells slots (XB g A s ξ) Q n lv (.int (if x < y then y else x) :: st)) : CF p l e R s m args below meth c nL cells slots (XB g A s ξ) Q pc lv (.int y :: .int x :: st) := by
  subst hn
  intro H locs ls hB hl
  exact va_mmax E.1 E.2.1 (E.2.2.1.trans hl.1.symm) E.2.2.2.1 (E.2.2.2.2 _ q667) (E.2.2.2.2 _ q668) (E.2.2.2.2 _ q115) (E.2.2.2.2 _ q669) hR.1 (by have := hR.2; omega) hf.1 hf.2 d (k H locs ls hB hl)
theorem xdgX10_19 (E : EV p s m args c cc nL RX10) {a : Nat} {kk : Int32 → Option ρ} (d : decode cc pc = .ok (.getfield 19, 3)) (h : bno (dI ξ a 8 14 1) kk = some res) (hn : pc + 3 = n) (k : ∀ v : Int32, kk v = some res → CF p l e R s m args below meth c nL cells slots (XB g A s ξ) Q n lv (.int v :: st)) : CF p l e R s m args below meth c nL cells slots (XB g A s ξ) Q pc lv (.ref a :: st) := by
  subst hn
  obtain ⟨v, hi, h⟩ := bno_some h
  obtain ⟨ci, fs, he, h1, h2, hv⟩ := dI_at hi
  obtain ⟨q0, hq⟩ := dE_at (g := g) he
  intro H locs ls hB hl
  have hci : ci = 8 ∨ ci = 9 ∨ ci = 10 ∨ ci = 11 ∨ ci = 12 ∨ ci = 13 ∨ ci = 14 := by omega
  rcases hci with rfl | rfl | rfl | rfl | rfl | rfl | rfl
  · exact va_get (D := g.1) (ci := 8) (C := RX7) (T := TX7) (N := 5) E.1 E.2.1 E.2.2.2.2 in_X7 E.2.2.2.1 hB.2.2.2.1 hB.1 q0 hq rfl 1 (Nat.le_of_ble_eq_true rfl) (E.2.2.2.2 _ q443) (u_same (E.2.2.2.2 _ q444)) hv d (k v h H locs ls hB hl)
  · exact va_get (D := g.1) (ci := 9) (C := RX8) (T := TX8) (N := 6) E.1 E.2.1 E.2.2.2.2 in_X8 E.2.2.2.1 hB.2.2.2.1 hB.1 q0 hq rfl 1 (Nat.le_of_ble_eq_true rfl) (E.2.2.2.2 _ q443) (u_same (E.2.2.2.2 _ q444)) hv d (k v h H locs ls hB hl)
  · exact va_get (D := g.1) (ci := 10) (C := RX9) (T := TX9) (N := 6) E.1 E.2.1 E.2.2.2.2 in_X9 E.2.2.2.1 hB.2.2.2.1 hB.1 q0 hq rfl 1 (Nat.le_of_ble_eq_true rfl) (E.2.2.2.2 _ q443) (u_same (E.2.2.2.2 _ q444)) hv d (k v h H locs ls hB hl)
  · exact va_get (D := g.1) (ci := 11) (C := RX10) (T := TX10) (N := 6) E.1 E.2.1 E.2.2.2.2 in_X10 E.2.2.2.1 hB.2.2.2.1 hB.1 q0 hq rfl 1 (Nat.le_of_ble_eq_true rfl) (E.2.2.2.2 _ q443) (u_same (E.2.2.2.2 _ q444)) hv d (k v h H locs ls hB hl)
  · exact va_get (D := g.1) (ci := 12) (C := RX11) (T := TX11) (N := 7) E.1 E.2.1 E.2.2.2.2 in_X11 E.2.2.2.1 hB.2.2.2.1 hB.1 q0 hq rfl 1 (Nat.le_of_ble_eq_true rfl) (E.2.2.2.2 _ q443) (u_same (E.2.2.2.2 _ q444)) hv d (k v h H locs ls hB hl)
  · exact va_get (D := g.1) (ci := 13) (C := RX12) (T := TX12) (N := 7) E.1 E.2.1 E.2.2.2.2 in_X12 E.2.2.2.1 hB.2.2.2.1 hB.1 q0 hq rfl 1 (Nat.le_of_ble_eq_true rfl) (E.2.2.2.2 _ q443) (u_same (E.2.2.2.2 _ q444)) hv d (k v h H locs ls hB hl)
  · exact va_get (D := g.1) (ci := 14) (C := RX13) (T := TX13) (N := 8) E.1 E.2.1 E.2.2.2.2 in_X13 E.2.2.2.1 hB.2.2.2.1 hB.1 q0 hq rfl 1 (Nat.le_of_ble_eq_true rfl) (E.2.2.2.2 _ q443) (u_same (E.2.2.2.2 _ q444)) hv d (k v h H locs ls hB hl)
theorem xdgX11_15 (E : EV p s m args c cc nL RX11) {a : Nat} {kk : Int32 → Option ρ} (d : decode cc pc = .ok (.getfield 15, 3)) (h : bno (dI ξ a 8 14 2) kk = some res) (hn : pc + 3 = n) (k : ∀ v : Int32, kk v = some res → CF p l e R s m args below meth c nL cells slots (XB g A s ξ) Q n lv (.int v :: st)) : CF p l e R s m args below meth c nL cells slots (XB g A s ξ) Q pc lv (.ref a :: st) := by
  subst hn
  obtain ⟨v, hi, h⟩ := bno_some h
  obtain ⟨ci, fs, he, h1, h2, hv⟩ := dI_at hi
  obtain ⟨q0, hq⟩ := dE_at (g := g) he
  intro H locs ls hB hl
  have hci : ci = 8 ∨ ci = 9 ∨ ci = 10 ∨ ci = 11 ∨ ci = 12 ∨ ci = 13 ∨ ci = 14 := by omega
  rcases hci with rfl | rfl | rfl | rfl | rfl | rfl | rfl
  · exact va_get (D := g.1) (ci := 8) (C := RX7) (T := TX7) (N := 5) E.1 E.2.1 E.2.2.2.2 in_X7 E.2.2.2.1 hB.2.2.2.1 hB.1 q0 hq rfl 2 (Nat.le_of_ble_eq_true rfl) (E.2.2.2.2 _ q451) (u_same (E.2.2.2.2 _ q452)) hv d (k v h H locs ls hB hl)
  · exact va_get (D := g.1) (ci := 9) (C := RX8) (T := TX8) (N := 6) E.1 E.2.1 E.2.2.2.2 in_X8 E.2.2.2.1 hB.2.2.2.1 hB.1 q0 hq rfl 2 (Nat.le_of_ble_eq_true rfl) (E.2.2.2.2 _ q451) (u_same (E.2.2.2.2 _ q452)) hv d (k v h H locs ls hB hl)
  · exact va_get (D := g.1) (ci := 10) (C := RX9) (T := TX9) (N := 6) E.1 E.2.1 E.2.2.2.2 in_X9 E.2.2.2.1 hB.2.2.2.1 hB.1 q0 hq rfl 2 (Nat.le_of_ble_eq_true rfl) (E.2.2.2.2 _ q451) (u_same (E.2.2.2.2 _ q452)) hv d (k v h H locs ls hB hl)
  · exact va_get (D := g.1) (ci := 11) (C := RX10) (T := TX10) (N := 6) E.1 E.2.1 E.2.2.2.2 in_X10 E.2.2.2.1 hB.2.2.2.1 hB.1 q0 hq rfl 2 (Nat.le_of_ble_eq_true rfl) (E.2.2.2.2 _ q451) (u_same (E.2.2.2.2 _ q452)) hv d (k v h H locs ls hB hl)
  · exact va_get (D := g.1) (ci := 12) (C := RX11) (T := TX11) (N := 7) E.1 E.2.1 E.2.2.2.2 in_X11 E.2.2.2.1 hB.2.2.2.1 hB.1 q0 hq rfl 2 (Nat.le_of_ble_eq_true rfl) (E.2.2.2.2 _ q451) (u_same (E.2.2.2.2 _ q452)) hv d (k v h H locs ls hB hl)
  · exact va_get (D := g.1) (ci := 13) (C := RX12) (T := TX12) (N := 7) E.1 E.2.1 E.2.2.2.2 in_X12 E.2.2.2.1 hB.2.2.2.1 hB.1 q0 hq rfl 2 (Nat.le_of_ble_eq_true rfl) (E.2.2.2.2 _ q451) (u_same (E.2.2.2.2 _ q452)) hv d (k v h H locs ls hB hl)
  · exact va_get (D := g.1) (ci := 14) (C := RX13) (T := TX13) (N := 8) E.1 E.2.1 E.2.2.2.2 in_X13 E.2.2.2.1 hB.2.2.2.1 hB.1 q0 hq rfl 2 (Nat.le_of_ble_eq_true rfl) (E.2.2.2.2 _ q451) (u_same (E.2.2.2.2 _ q452)) hv d (k v h H locs ls hB hl)
theorem xdgX12_19 (E : EV p s m args c cc nL RX12) {a : Nat} {kk : Int32 → Option ρ} (d : decode cc pc = .ok (.getfield 19, 3)) (h : bno (dI ξ a 8 14 1) kk = some res) (hn : pc + 3 = n) (k : ∀ v : Int32, kk v = some res → CF p l e R s m args below meth c nL cells slots (XB g A s ξ) Q n lv (.int v :: st)) : CF p l e R s m args below meth c nL cells slots (XB g A s ξ) Q pc lv (.ref a :: st) := by
  subst hn
  obtain ⟨v, hi, h⟩ := bno_some h
  obtain ⟨ci, fs, he, h1, h2, hv⟩ := dI_at hi
  obtain ⟨q0, hq⟩ := dE_at (g := g) he
  intro H locs ls hB hl
  have hci : ci = 8 ∨ ci = 9 ∨ ci = 10 ∨ ci = 11 ∨ ci = 12 ∨ ci = 13 ∨ ci = 14 := by omega
  rcases hci with rfl | rfl | rfl | rfl | rfl | rfl | rfl
  · exact va_get (D := g.1) (ci := 8) (C := RX7) (T := TX7) (N := 5) E.1 E.2.1 E.2.2.2.2 in_X7 E.2.2.2.1 hB.2.2.2.1 hB.1 q0 hq rfl 1 (Nat.le_of_ble_eq_true rfl) (E.2.2.2.2 _ q445) (u_same (E.2.2.2.2 _ q446)) hv d (k v h H locs ls hB hl)
  · exact va_get (D := g.1) (ci := 9) (C := RX8) (T := TX8) (N := 6) E.1 E.2.1 E.2.2.2.2 in_X8 E.2.2.2.1 hB.2.2.2.1 hB.1 q0 hq rfl 1 (Nat.le_of_ble_eq_true rfl) (E.2.2.2.2 _ q445) (u_same (E.2.2.2.2 _ q446)) hv d (k v h H locs ls hB hl)
  · exact va_get (D := g.1) (ci := 10) (C := RX9) (T := TX9) (N := 6) E.1 E.2.1 E.2.2.2.2 in_X9 E.2.2.2.1 hB.2.2.2.1 hB.1 q0 hq rfl 1 (Nat.le_of_ble_eq_true rfl) (E.2.2.2.2 _ q445) (u_same (E.2.2.2.2 _ q446)) hv d (k v h H locs ls hB hl)
  · exact va_get (D := g.1) (ci := 11) (C := RX10) (T := TX10) (N := 6) E.1 E.2.1 E.2.2.2.2 in_X10 E.2.2.2.1 hB.2.2.2.1 hB.1 q0 hq rfl 1 (Nat.le_of_ble_eq_true rfl) (E.2.2.2.2 _ q445) (u_same (E.2.2.2.2 _ q446)) hv d (k v h H locs ls hB hl)
  · exact va_get (D := g.1) (ci := 12) (C := RX11) (T := TX11) (N := 7) E.1 E.2.1 E.2.2.2.2 in_X11 E.2.2.2.1 hB.2.2.2.1 hB.1 q0 hq rfl 1 (Nat.le_of_ble_eq_true rfl) (E.2.2.2.2 _ q445) (u_same (E.2.2.2.2 _ q446)) hv d (k v h H locs ls hB hl)
  · exact va_get (D := g.1) (ci := 13) (C := RX12) (T := TX12) (N := 7) E.1 E.2.1 E.2.2.2.2 in_X12 E.2.2.2.1 hB.2.2.2.1 hB.1 q0 hq rfl 1 (Nat.le_of_ble_eq_true rfl) (E.2.2.2.2 _ q445) (u_same (E.2.2.2.2 _ q446)) hv d (k v h H locs ls hB hl)
  · exact va_get (D := g.1) (ci := 14) (C := RX13) (T := TX13) (N := 8) E.1 E.2.1 E.2.2.2.2 in_X13 E.2.2.2.1 hB.2.2.2.1 hB.1 q0 hq rfl 1 (Nat.le_of_ble_eq_true rfl) (E.2.2.2.2 _ q445) (u_same (E.2.2.2.2 _ q446)) hv d (k v h H locs ls hB hl)
theorem xmX12_max (E : EV p s m args c cc nL RX12) {x y : Int32} (hR : 1 ≤ R.frames ∧ 40 ≤ R.locals) (hcat : (st.map fun v => v.category).sum ≤ 8) (hf : cells ≤ R.cells ∧ slots ≤ R.slots) (d : decode cc pc = .ok (.invokestatic 23, 3)) (hn : pc + 3 = n) (k : CF p l e R s m args below meth c nL cells slots (XB g A s ξ) Q n lv (.int (if x < y then y else x) :: st)) : CF p l e R s m args below meth c nL cells slots (XB g A s ξ) Q pc lv (.int y :: .int x :: st) := by
  subst hn
  intro H locs ls hB hl
  exact va_mmax E.1 E.2.1 (E.2.2.1.trans hl.1.symm) E.2.2.2.1 (E.2.2.2.2 _ q670) (E.2.2.2.2 _ q668) (E.2.2.2.2 _ q115) (E.2.2.2.2 _ q669) hR.1 (by have := hR.2; omega) hf.1 hf.2 d (k H locs ls hB hl)
theorem xdgX13_15 (E : EV p s m args c cc nL RX13) {a : Nat} {kk : Nat → Option ρ} (d : decode cc pc = .ok (.getfield 15, 3)) (h : bno (dR ξ a 14 14 6) kk = some res) (hn : pc + 3 = n) (k : ∀ v : Nat, kk v = some res → CF p l e R s m args below meth c nL cells slots (XB g A s ξ) Q n lv (.ref v :: st)) : CF p l e R s m args below meth c nL cells slots (XB g A s ξ) Q pc lv (.ref a :: st) := by
  subst hn
  obtain ⟨v, hi, h⟩ := bno_some h
  obtain ⟨ci, fs, he, h1, h2, hv⟩ := dR_at hi
  obtain ⟨q0, hq⟩ := dE_at (g := g) he
  intro H locs ls hB hl
  have hci : ci = 14 := by omega
  subst hci
  exact va_get (D := g.1) (ci := 14) (C := RX13) (T := TX13) (N := 8) E.1 E.2.1 E.2.2.2.2 in_X13 E.2.2.2.1 hB.2.2.2.1 hB.1 q0 hq rfl 6 (Nat.le_of_ble_eq_true rfl) (E.2.2.2.2 _ q540) (fun _ h9 => h9) hv d (k v h H locs ls hB hl)
theorem xgX0_54 (E : EV p s m args c cc nL RX0) (d : decode cc pc = .ok (.getfield 54, 3)) (hn : pc + 3 = n) (k : CF p l e R s m args below meth c nL cells slots (XB g A s ξ) Q n lv (.ref (xa g 300) :: st)) : CF p l e R s m args below meth c nL cells slots (XB g A s ξ) Q pc lv (.ref (xa g 0) :: st) := by
  subst hn
  intro H locs ls hB hl
  exact va_get (D := g.1) (ci := 1) (C := RX0) (T := TX0) (N := 40) E.1 E.2.1 E.2.2.2.2 in_X0 E.2.2.2.1 hB.2.2.2.1 hB.1 0 rfl rfl 12 (Nat.le_of_ble_eq_true rfl) (E.2.2.2.2 _ q295) (fun _ h9 => h9) rfl d (k H locs ls hB hl)
theorem xpX0_172 (E : EV p s m args c cc nL RX0) {v : Int32} {kk : XS → Option ρ} (d : decode cc pc = .ok (.putfield 172, 3)) (h : nx (sXF ξ 300 v) kk = some res) (hn : pc + 3 = n) (k : ∀ ξ1 : XS, kk ξ1 = some res → CF p l e R s m args below meth c nL cells slots (XB g A s ξ1) Q n lv st) : CF p l e R s m args below meth c nL cells slots (XB g A s ξ) Q pc lv (.int v :: .ref (xa g 300) :: st) := by
  subst hn
  intro H locs ls hB hl
  exact va_putN (D := g.1) (ci := 5) (v := .int v) (ty := .int) (C := RX3) (T := TX3) (N := 6) E.1 E.2.1 E.2.2.2.2 in_X3 tyX3 tyX3_ok nmX3 E.2.2.2.1 hB.2.2.2.1 hB.1 hB.2.1 hB.2.2.1 34 rfl rfl 0 (Nat.le_of_ble_eq_true rfl) (va_Nw.use rfl (hB.2.2.2.2.2.1 _ q230 rfl)) (fun _ h9 => h9) rfl (by decide +kernel) rfl rfl (Nat.le_of_ble_eq_true rfl) d (fun H1 locs1 hP hD hS => k _ h H1 locs1 ls ⟨hP, hD, hS, hB.2.2.2⟩ hl)
theorem xpX0_175 (E : EV p s m args c cc nL RX0) {v : Int32} {kk : XS → Option ρ} (d : decode cc pc = .ok (.putfield 175, 3)) (h : nx (sXF ξ 301 v) kk = some res) (hn : pc + 3 = n) (k : ∀ ξ1 : XS, kk ξ1 = some res → CF p l e R s m args below meth c nL cells slots (XB g A s ξ1) Q n lv st) : CF p l e R s m args below meth c nL cells slots (XB g A s ξ) Q pc lv (.int v :: .ref (xa g 300) :: st) := by
  subst hn
  intro H locs ls hB hl
  exact va_putN (D := g.1) (ci := 5) (v := .int v) (ty := .int) (C := RX3) (T := TX3) (N := 6) E.1 E.2.1 E.2.2.2.2 in_X3 tyX3 tyX3_ok nmX3 E.2.2.2.1 hB.2.2.2.1 hB.1 hB.2.1 hB.2.2.1 34 rfl rfl 1 (Nat.le_of_ble_eq_true rfl) (va_Nw.use rfl (hB.2.2.2.2.2.1 _ q232 rfl)) (fun _ h9 => h9) rfl (by decide +kernel) rfl rfl (Nat.le_of_ble_eq_true rfl) d (fun H1 locs1 hP hD hS => k _ h H1 locs1 ls ⟨hP, hD, hS, hB.2.2.2⟩ hl)
theorem xpX0_182 (E : EV p s m args c cc nL RX0) {v : Int32} {kk : XS → Option ρ} (d : decode cc pc = .ok (.putfield 182, 3)) (h : nx (sXF ξ 302 v) kk = some res) (hn : pc + 3 = n) (k : ∀ ξ1 : XS, kk ξ1 = some res → CF p l e R s m args below meth c nL cells slots (XB g A s ξ1) Q n lv st) : CF p l e R s m args below meth c nL cells slots (XB g A s ξ) Q pc lv (.int v :: .ref (xa g 300) :: st) := by
  subst hn
  intro H locs ls hB hl
  exact va_putN (D := g.1) (ci := 5) (v := .int v) (ty := .int) (C := RX3) (T := TX3) (N := 6) E.1 E.2.1 E.2.2.2.2 in_X3 tyX3 tyX3_ok nmX3 E.2.2.2.1 hB.2.2.2.1 hB.1 hB.2.1 hB.2.2.1 34 rfl rfl 2 (Nat.le_of_ble_eq_true rfl) (va_Nw.use rfl (hB.2.2.2.2.2.1 _ q234 rfl)) (fun _ h9 => h9) rfl (by decide +kernel) rfl rfl (Nat.le_of_ble_eq_true rfl) d (fun H1 locs1 hP hD hS => k _ h H1 locs1 ls ⟨hP, hD, hS, hB.2.2.2⟩ hl)
theorem xpX0_187 (E : EV p s m args c cc nL RX0) {v : Int32} {kk : XS → Option ρ} (d : decode cc pc = .ok (.putfield 187, 3)) (h : nx (sXF ξ 303 v) kk = some res) (hn : pc + 3 = n) (k : ∀ ξ1 : XS, kk ξ1 = some res → CF p l e R s m args below meth c nL cells slots (XB g A s ξ1) Q n lv st) : CF p l e R s m args below meth c nL cells slots (XB g A s ξ) Q pc lv (.int v :: .ref (xa g 300) :: st) := by
  subst hn
  intro H locs ls hB hl
  exact va_putN (D := g.1) (ci := 5) (v := .int v) (ty := .int) (C := RX3) (T := TX3) (N := 6) E.1 E.2.1 E.2.2.2.2 in_X3 tyX3 tyX3_ok nmX3 E.2.2.2.1 hB.2.2.2.1 hB.1 hB.2.1 hB.2.2.1 34 rfl rfl 3 (Nat.le_of_ble_eq_true rfl) (va_Nw.use rfl (hB.2.2.2.2.2.1 _ q236 rfl)) (fun _ h9 => h9) rfl (by decide +kernel) rfl rfl (Nat.le_of_ble_eq_true rfl) d (fun H1 locs1 hP hD hS => k _ h H1 locs1 ls ⟨hP, hD, hS, hB.2.2.2⟩ hl)
theorem xgX0_169 (E : EV p s m args c cc nL RX0) {τ : Nat} (hτ : τ < 3) (d : decode cc pc = .ok (.getfield 169, 3)) (hn : pc + 3 = n) (k : CF p l e R s m args below meth c nL cells slots (XB g A s ξ) Q n lv (.ref (xa g (202 + 10 * τ)) :: st)) : CF p l e R s m args below meth c nL cells slots (XB g A s ξ) Q pc lv (.ref (xa g (200 + 10 * τ)) :: st) := by
  subst hn
  intro H locs ls hB hl
  rcases t3 hτ with rfl | rfl | rfl
  · exact va_getN (D := g.1) (ci := 2) (C := RX1) (T := TX1) (N := 4) E.1 E.2.1 E.2.2.2.2 in_X1 E.2.2.2.1 hB.2.2.2.1 hB.1 25 rfl rfl 1 (Nat.le_of_ble_eq_true rfl) (va_Nw.use rfl (hB.2.2.2.2.2.1 _ q157 rfl)) (fun _ h9 => h9) rfl d (k H locs ls hB hl)
  · exact va_getN (D := g.1) (ci := 2) (C := RX1) (T := TX1) (N := 4) E.1 E.2.1 E.2.2.2.2 in_X1 E.2.2.2.1 hB.2.2.2.1 hB.1 28 rfl rfl 1 (Nat.le_of_ble_eq_true rfl) (va_Nw.use rfl (hB.2.2.2.2.2.1 _ q157 rfl)) (fun _ h9 => h9) rfl d (k H locs ls hB hl)
  · exact va_getN (D := g.1) (ci := 2) (C := RX1) (T := TX1) (N := 4) E.1 E.2.1 E.2.2.2.2 in_X1 E.2.2.2.1 hB.2.2.2.1 hB.1 31 rfl rfl 1 (Nat.le_of_ble_eq_true rfl) (va_Nw.use rfl (hB.2.2.2.2.2.1 _ q157 rfl)) (fun _ h9 => h9) rfl d (k H locs ls hB hl)
theorem xpX0_188 (E : EV p s m args c cc nL RX0) {v : Int32} {kk : XS → Option ρ} (d : decode cc pc = .ok (.putfield 188, 3)) (h : nx (sXF ξ 304 v) kk = some res) (hn : pc + 3 = n) (k : ∀ ξ1 : XS, kk ξ1 = some res → CF p l e R s m args below meth c nL cells slots (XB g A s ξ1) Q n lv st) : CF p l e R s m args below meth c nL cells slots (XB g A s ξ) Q pc lv (.int v :: .ref (xa g 300) :: st) := by
  subst hn
  intro H locs ls hB hl
  exact va_putN (D := g.1) (ci := 5) (v := .int v) (ty := .int) (C := RX3) (T := TX3) (N := 6) E.1 E.2.1 E.2.2.2.2 in_X3 tyX3 tyX3_ok nmX3 E.2.2.2.1 hB.2.2.2.1 hB.1 hB.2.1 hB.2.2.1 34 rfl rfl 4 (Nat.le_of_ble_eq_true rfl) (va_Nw.use rfl (hB.2.2.2.2.2.1 _ q238 rfl)) (fun _ h9 => h9) rfl (by decide +kernel) rfl rfl (Nat.le_of_ble_eq_true rfl) d (fun H1 locs1 hP hD hS => k _ h H1 locs1 ls ⟨hP, hD, hS, hB.2.2.2⟩ hl)
theorem xgX0_190 (E : EV p s m args c cc nL RX0) {τ : Nat} (hτ : τ < 3) (d : decode cc pc = .ok (.getfield 190, 3)) (hn : pc + 3 = n) (k : CF p l e R s m args below meth c nL cells slots (XB g A s ξ) Q n lv (.int (xF ξ (203 + 10 * τ)) :: st)) : CF p l e R s m args below meth c nL cells slots (XB g A s ξ) Q pc lv (.ref (xa g (200 + 10 * τ)) :: st) := by
  subst hn
  intro H locs ls hB hl
  rcases t3 hτ with rfl | rfl | rfl
  · exact va_getN (D := g.1) (ci := 2) (C := RX1) (T := TX1) (N := 4) E.1 E.2.1 E.2.2.2.2 in_X1 E.2.2.2.1 hB.2.2.2.1 hB.1 25 rfl rfl 3 (Nat.le_of_ble_eq_true rfl) (va_Nw.use rfl (hB.2.2.2.2.2.1 _ q161 rfl)) (fun _ h9 => h9) rfl d (k H locs ls hB hl)
  · exact va_getN (D := g.1) (ci := 2) (C := RX1) (T := TX1) (N := 4) E.1 E.2.1 E.2.2.2.2 in_X1 E.2.2.2.1 hB.2.2.2.1 hB.1 28 rfl rfl 3 (Nat.le_of_ble_eq_true rfl) (va_Nw.use rfl (hB.2.2.2.2.2.1 _ q161 rfl)) (fun _ h9 => h9) rfl d (k H locs ls hB hl)
  · exact va_getN (D := g.1) (ci := 2) (C := RX1) (T := TX1) (N := 4) E.1 E.2.1 E.2.2.2.2 in_X1 E.2.2.2.1 hB.2.2.2.1 hB.1 31 rfl rfl 3 (Nat.le_of_ble_eq_true rfl) (va_Nw.use rfl (hB.2.2.2.2.2.1 _ q161 rfl)) (fun _ h9 => h9) rfl d (k H locs ls hB hl)
theorem xpX0_193 (E : EV p s m args c cc nL RX0) {v : Int32} {kk : XS → Option ρ} (d : decode cc pc = .ok (.putfield 193, 3)) (h : nx (sXF ξ 305 v) kk = some res) (hn : pc + 3 = n) (k : ∀ ξ1 : XS, kk ξ1 = some res → CF p l e R s m args below meth c nL cells slots (XB g A s ξ1) Q n lv st) : CF p l e R s m args below meth c nL cells slots (XB g A s ξ) Q pc lv (.int v :: .ref (xa g 300) :: st) := by
  subst hn
  intro H locs ls hB hl
  exact va_putN (D := g.1) (ci := 5) (v := .int v) (ty := .int) (C := RX3) (T := TX3) (N := 6) E.1 E.2.1 E.2.2.2.2 in_X3 tyX3 tyX3_ok nmX3 E.2.2.2.1 hB.2.2.2.1 hB.1 hB.2.1 hB.2.2.1 34 rfl rfl 5 (Nat.le_of_ble_eq_true rfl) (va_Nw.use rfl (hB.2.2.2.2.2.1 _ q240 rfl)) (fun _ h9 => h9) rfl (by decide +kernel) rfl rfl (Nat.le_of_ble_eq_true rfl) d (fun H1 locs1 hP hD hS => k _ h H1 locs1 ls ⟨hP, hD, hS, hB.2.2.2⟩ hl)
theorem xdgX0_205 (E : EV p s m args c cc nL RX0) {a : Nat} {kk : Int32 → Option ρ} (d : decode cc pc = .ok (.getfield 205, 3)) (h : bno (dI ξ a 8 14 1) kk = some res) (hn : pc + 3 = n) (k : ∀ v : Int32, kk v = some res → CF p l e R s m args below meth c nL cells slots (XB g A s ξ) Q n lv (.int v :: st)) : CF p l e R s m args below meth c nL cells slots (XB g A s ξ) Q pc lv (.ref a :: st) := by
  subst hn
  obtain ⟨v, hi, h⟩ := bno_some h
  obtain ⟨ci, fs, he, h1, h2, hv⟩ := dI_at hi
  obtain ⟨q0, hq⟩ := dE_at (g := g) he
  intro H locs ls hB hl
  have hci : ci = 8 ∨ ci = 9 ∨ ci = 10 ∨ ci = 11 ∨ ci = 12 ∨ ci = 13 ∨ ci = 14 := by omega
  rcases hci with rfl | rfl | rfl | rfl | rfl | rfl | rfl
  · exact va_get (D := g.1) (ci := 8) (C := RX7) (T := TX7) (N := 5) E.1 E.2.1 E.2.2.2.2 in_X7 E.2.2.2.1 hB.2.2.2.1 hB.1 q0 hq rfl 1 (Nat.le_of_ble_eq_true rfl) (E.2.2.2.2 _ q449) (fun _ h9 => h9) hv d (k v h H locs ls hB hl)
  · exact va_get (D := g.1) (ci := 9) (C := RX8) (T := TX8) (N := 6) E.1 E.2.1 E.2.2.2.2 in_X8 E.2.2.2.1 hB.2.2.2.1 hB.1 q0 hq rfl 1 (Nat.le_of_ble_eq_true rfl) (E.2.2.2.2 _ q449) (fun _ h9 => h9) hv d (k v h H locs ls hB hl)
  · exact va_get (D := g.1) (ci := 10) (C := RX9) (T := TX9) (N := 6) E.1 E.2.1 E.2.2.2.2 in_X9 E.2.2.2.1 hB.2.2.2.1 hB.1 q0 hq rfl 1 (Nat.le_of_ble_eq_true rfl) (E.2.2.2.2 _ q449) (fun _ h9 => h9) hv d (k v h H locs ls hB hl)
  · exact va_get (D := g.1) (ci := 11) (C := RX10) (T := TX10) (N := 6) E.1 E.2.1 E.2.2.2.2 in_X10 E.2.2.2.1 hB.2.2.2.1 hB.1 q0 hq rfl 1 (Nat.le_of_ble_eq_true rfl) (E.2.2.2.2 _ q449) (fun _ h9 => h9) hv d (k v h H locs ls hB hl)
  · exact va_get (D := g.1) (ci := 12) (C := RX11) (T := TX11) (N := 7) E.1 E.2.1 E.2.2.2.2 in_X11 E.2.2.2.1 hB.2.2.2.1 hB.1 q0 hq rfl 1 (Nat.le_of_ble_eq_true rfl) (E.2.2.2.2 _ q449) (fun _ h9 => h9) hv d (k v h H locs ls hB hl)
  · exact va_get (D := g.1) (ci := 13) (C := RX12) (T := TX12) (N := 7) E.1 E.2.1 E.2.2.2.2 in_X12 E.2.2.2.1 hB.2.2.2.1 hB.1 q0 hq rfl 1 (Nat.le_of_ble_eq_true rfl) (E.2.2.2.2 _ q449) (fun _ h9 => h9) hv d (k v h H locs ls hB hl)
  · exact va_get (D := g.1) (ci := 14) (C := RX13) (T := TX13) (N := 8) E.1 E.2.1 E.2.2.2.2 in_X13 E.2.2.2.1 hB.2.2.2.1 hB.1 q0 hq rfl 1 (Nat.le_of_ble_eq_true rfl) (E.2.2.2.2 _ q449) (fun _ h9 => h9) hv d (k v h H locs ls hB hl)
theorem xgX0_169_0 (E : EV p s m args c cc nL RX0) (d : decode cc pc = .ok (.getfield 169, 3)) (hn : pc + 3 = n) (k : CF p l e R s m args below meth c nL cells slots (XB g A s ξ) Q n lv (.ref (xa g 202) :: st)) : CF p l e R s m args below meth c nL cells slots (XB g A s ξ) Q pc lv (.ref (xa g 200) :: st) := by
  subst hn
  intro H locs ls hB hl
  exact va_getN (D := g.1) (ci := 2) (C := RX1) (T := TX1) (N := 4) E.1 E.2.1 E.2.2.2.2 in_X1 E.2.2.2.1 hB.2.2.2.1 hB.1 25 rfl rfl 1 (Nat.le_of_ble_eq_true rfl) (va_Nw.use rfl (hB.2.2.2.2.2.1 _ q157 rfl)) (fun _ h9 => h9) rfl d (k H locs ls hB hl)
theorem xaldT_1_0 {own : String} (E : EV p s m args c cc nL own) {i : Int32} {A9 : Option ρ} (d : decode cc pc = .ok (.iaload, 1)) (h : (if inb i 6 = true then A9 else none) = some res) (hn : pc + 1 = n) (k : A9 = some res → CF p l e R s m args below meth c nL cells slots (XB g A s ξ) Q n lv (.int (xR ξ 201 i.toNatClampNeg) :: st)) : CF p l e R s m args below meth c nL cells slots (XB g A s ξ) Q pc lv (.int i :: .ref (xa g 202) :: st) := by
  subst hn
  by_cases hi : inb i 6 = true
  · rw [if_pos hi] at h
    intro H locs ls hB hl
    exact va_iald E.1 E.2.1 hB.2.2.2.1 hB.1 27 0 rfl rfl (inb_in hi) d (k h H locs ls hB hl)
  · rw [if_neg hi] at h; cases h
theorem xgX0_126 (E : EV p s m args c cc nL RX0) {τ : Nat} (hτ : τ < 3) (d : decode cc pc = .ok (.getfield 126, 3)) (hn : pc + 3 = n) (k : CF p l e R s m args below meth c nL cells slots (XB g A s ξ) Q n lv (.int (xF ξ (202 + 10 * τ)) :: st)) : CF p l e R s m args below meth c nL cells slots (XB g A s ξ) Q pc lv (.ref (xa g (200 + 10 * τ)) :: st) := by
  subst hn
  intro H locs ls hB hl
  rcases t3 hτ with rfl | rfl | rfl
  · exact va_getN (D := g.1) (ci := 2) (C := RX1) (T := TX1) (N := 4) E.1 E.2.1 E.2.2.2.2 in_X1 E.2.2.2.1 hB.2.2.2.1 hB.1 25 rfl rfl 2 (Nat.le_of_ble_eq_true rfl) (va_Nw.use rfl (hB.2.2.2.2.2.1 _ q159 rfl)) (fun _ h9 => h9) rfl d (k H locs ls hB hl)
  · exact va_getN (D := g.1) (ci := 2) (C := RX1) (T := TX1) (N := 4) E.1 E.2.1 E.2.2.2.2 in_X1 E.2.2.2.1 hB.2.2.2.1 hB.1 28 rfl rfl 2 (Nat.le_of_ble_eq_true rfl) (va_Nw.use rfl (hB.2.2.2.2.2.1 _ q159 rfl)) (fun _ h9 => h9) rfl d (k H locs ls hB hl)
  · exact va_getN (D := g.1) (ci := 2) (C := RX1) (T := TX1) (N := 4) E.1 E.2.1 E.2.2.2.2 in_X1 E.2.2.2.1 hB.2.2.2.1 hB.1 31 rfl rfl 2 (Nat.le_of_ble_eq_true rfl) (va_Nw.use rfl (hB.2.2.2.2.2.1 _ q159 rfl)) (fun _ h9 => h9) rfl d (k H locs ls hB hl)
theorem xgX0_137 (E : EV p s m args c cc nL RX0) {τ : Nat} (hτ : τ < 3) (d : decode cc pc = .ok (.getfield 137, 3)) (hn : pc + 3 = n) (k : CF p l e R s m args below meth c nL cells slots (XB g A s ξ) Q n lv (.ref (xa g (201 + 10 * τ)) :: st)) : CF p l e R s m args below meth c nL cells slots (XB g A s ξ) Q pc lv (.ref (xa g (200 + 10 * τ)) :: st) := by
  subst hn
  intro H locs ls hB hl
  rcases t3 hτ with rfl | rfl | rfl
  · exact va_getN (D := g.1) (ci := 2) (C := RX1) (T := TX1) (N := 4) E.1 E.2.1 E.2.2.2.2 in_X1 E.2.2.2.1 hB.2.2.2.1 hB.1 25 rfl rfl 0 (Nat.le_of_ble_eq_true rfl) (va_Nw.use rfl (hB.2.2.2.2.2.1 _ q155 rfl)) (fun _ h9 => h9) rfl d (k H locs ls hB hl)
  · exact va_getN (D := g.1) (ci := 2) (C := RX1) (T := TX1) (N := 4) E.1 E.2.1 E.2.2.2.2 in_X1 E.2.2.2.1 hB.2.2.2.1 hB.1 28 rfl rfl 0 (Nat.le_of_ble_eq_true rfl) (va_Nw.use rfl (hB.2.2.2.2.2.1 _ q155 rfl)) (fun _ h9 => h9) rfl d (k H locs ls hB hl)
  · exact va_getN (D := g.1) (ci := 2) (C := RX1) (T := TX1) (N := 4) E.1 E.2.1 E.2.2.2.2 in_X1 E.2.2.2.1 hB.2.2.2.1 hB.1 31 rfl rfl 0 (Nat.le_of_ble_eq_true rfl) (va_Nw.use rfl (hB.2.2.2.2.2.1 _ q155 rfl)) (fun _ h9 => h9) rfl d (k H locs ls hB hl)
theorem xastT_1_0 {own : String} (E : EV p s m args c cc nL own) {i x : Int32} {kk : XS → Option ρ} (d : decode cc pc = .ok (.iastore, 1)) (h : (if inb i 6 = true then nx (sXR ξ 201 i.toNatClampNeg x) kk else none) = some res) (hn : pc + 1 = n) (k : ∀ ξ1 : XS, kk ξ1 = some res → CF p l e R s m args below meth c nL cells slots (XB g A s ξ1) Q n lv st) : CF p l e R s m args below meth c nL cells slots (XB g A s ξ) Q pc lv (.int x :: .int i :: .ref (xa g 202) :: st) := by
  subst hn
  by_cases hi : inb i 6 = true
  · rw [if_pos hi] at h
    intro H locs ls hB hl
    exact va_iast E.1 E.2.1 hB.2.2.2.1 hB.1 hB.2.1 hB.2.2.1 27 0 rfl rfl (inb_in hi) d (fun H1 locs1 hP hD hS => k _ h H1 locs1 ls ⟨hP, hD, hS, hB.2.2.2⟩ hl)
  · rw [if_neg hi] at h; cases h
theorem xast_7 {own : String} (E : EV p s m args c cc nL own) {i x : Int32} {kk : XS → Option ρ} (d : decode cc pc = .ok (.iastore, 1)) (h : (if inb i 5 = true then nx (sXR ξ 7 i.toNatClampNeg x) kk else none) = some res) (hn : pc + 1 = n) (k : ∀ ξ1 : XS, kk ξ1 = some res → CF p l e R s m args below meth c nL cells slots (XB g A s ξ1) Q n lv st) : CF p l e R s m args below meth c nL cells slots (XB g A s ξ) Q pc lv (.int x :: .int i :: .ref (xa g 107) :: st) := by
  subst hn
  by_cases hi : inb i 5 = true
  · rw [if_pos hi] at h
    intro H locs ls hB hl
    exact va_iast E.1 E.2.1 hB.2.2.2.1 hB.1 hB.2.1 hB.2.2.1 5 0 rfl rfl (inb_in hi) d (fun H1 locs1 hP hD hS => k _ h H1 locs1 ls ⟨hP, hD, hS, hB.2.2.2⟩ hl)
  · rw [if_neg hi] at h; cases h
theorem xgX0_34 (E : EV p s m args c cc nL RX0) (d : decode cc pc = .ok (.getfield 34, 3)) (hn : pc + 3 = n) (k : CF p l e R s m args below meth c nL cells slots (XB g A s ξ) Q n lv (.ref (xa g 210) :: st)) : CF p l e R s m args below meth c nL cells slots (XB g A s ξ) Q pc lv (.ref (xa g 0) :: st) := by
  subst hn
  intro H locs ls hB hl
  exact va_get (D := g.1) (ci := 1) (C := RX0) (T := TX0) (N := 40) E.1 E.2.1 E.2.2.2.2 in_X0 E.2.2.2.1 hB.2.2.2.1 hB.1 0 rfl rfl 6 (Nat.le_of_ble_eq_true rfl) (E.2.2.2.2 _ q288) (fun _ h9 => h9) rfl d (k H locs ls hB hl)
theorem xast_21 {own : String} (E : EV p s m args c cc nL own) {i x : Int32} {kk : XS → Option ρ} (d : decode cc pc = .ok (.iastore, 1)) (h : (if inb i 36 = true then nx (sXR ξ 21 i.toNatClampNeg x) kk else none) = some res) (hn : pc + 1 = n) (k : ∀ ξ1 : XS, kk ξ1 = some res → CF p l e R s m args below meth c nL cells slots (XB g A s ξ1) Q n lv st) : CF p l e R s m args below meth c nL cells slots (XB g A s ξ) Q pc lv (.int x :: .int i :: .ref (xa g 121) :: st) := by
  subst hn
  by_cases hi : inb i 36 = true
  · rw [if_pos hi] at h
    intro H locs ls hB hl
    exact va_iast E.1 E.2.1 hB.2.2.2.1 hB.1 hB.2.1 hB.2.2.1 12 0 rfl rfl (inb_in hi) d (fun H1 locs1 hP hD hS => k _ h H1 locs1 ls ⟨hP, hD, hS, hB.2.2.2⟩ hl)
  · rw [if_neg hi] at h; cases h
theorem xald_23 {own : String} (E : EV p s m args c cc nL own) {i : Int32} {A9 : Option ρ} (d : decode cc pc = .ok (.baload, 1)) (h : (if inb i 6 = true then A9 else none) = some res) (hn : pc + 1 = n) (k : A9 = some res → CF p l e R s m args below meth c nL cells slots (XB g A s ξ) Q n lv (.int (xR ξ 23 i.toNatClampNeg) :: st)) : CF p l e R s m args below meth c nL cells slots (XB g A s ξ) Q pc lv (.int i :: .ref (xa g 123) :: st) := by
  subst hn
  by_cases hi : inb i 6 = true
  · rw [if_pos hi] at h
    intro H locs ls hB hl
    exact va_bald E.1 E.2.1 hB.2.2.2.1 hB.1 14 1 rfl rfl (inb_in hi) d (k h H locs ls hB hl)
  · rw [if_neg hi] at h; cases h
theorem xgX7_38 (E : EV p s m args c cc nL RX7) (d : decode cc pc = .ok (.getfield 38, 3)) (hn : pc + 3 = n) (k : CF p l e R s m args below meth c nL cells slots (XB g A s ξ) Q n lv (.ref (xa g 310) :: st)) : CF p l e R s m args below meth c nL cells slots (XB g A s ξ) Q pc lv (.ref (xa g 0) :: st) := by
  subst hn
  intro H locs ls hB hl
  exact va_getN (D := g.1) (ci := 1) (C := RX0) (T := TX0) (N := 40) E.1 E.2.1 E.2.2.2.2 in_X0 E.2.2.2.1 hB.2.2.2.1 hB.1 0 rfl rfl 13 (Nat.le_of_ble_eq_true rfl) (va_Nw.use rfl (hB.2.2.2.2.2.1 _ q297 rfl)) (fun _ h9 => h9) rfl d (k H locs ls hB hl)
theorem xgX9_35 (E : EV p s m args c cc nL RX9) (d : decode cc pc = .ok (.getfield 35, 3)) (hn : pc + 3 = n) (k : CF p l e R s m args below meth c nL cells slots (XB g A s ξ) Q n lv (.ref (xa g 310) :: st)) : CF p l e R s m args below meth c nL cells slots (XB g A s ξ) Q pc lv (.ref (xa g 0) :: st) := by
  subst hn
  intro H locs ls hB hl
  exact va_getN (D := g.1) (ci := 1) (C := RX0) (T := TX0) (N := 40) E.1 E.2.1 E.2.2.2.2 in_X0 E.2.2.2.1 hB.2.2.2.1 hB.1 0 rfl rfl 13 (Nat.le_of_ble_eq_true rfl) (va_Nw.use rfl (hB.2.2.2.2.2.1 _ q298 rfl)) (fun _ h9 => h9) rfl d (k H locs ls hB hl)
theorem xdgX11_3 (E : EV p s m args c cc nL RX11) {a : Nat} {A9 : Option ρ} (d : decode cc pc = .ok (.getfield 3, 3)) (h : (if dRs ξ a [12] 6 = some (xa g 0) then A9 else none) = some res) (hn : pc + 3 = n) (k : A9 = some res → CF p l e R s m args below meth c nL cells slots (XB g A s ξ) Q n lv (.ref (xa g 0) :: st)) : CF p l e R s m args below meth c nL cells slots (XB g A s ξ) Q pc lv (.ref a :: st) := by
  subst hn
  by_cases hi : dRs ξ a [12] 6 = some (xa g 0)
  · rw [if_pos hi] at h
    obtain ⟨ci, fs, he, h1, hv⟩ := dRs_at hi
    obtain ⟨q0, hq⟩ := dE_at (g := g) he
    intro H locs ls hB hl
    have hci : ci = 12 := by simpa using h1
    subst hci
    exact va_get (D := g.1) (ci := 12) (C := RX11) (T := TX11) (N := 7) E.1 E.2.1 E.2.2.2.2 in_X11 E.2.2.2.1 hB.2.2.2.1 hB.1 q0 hq rfl 6 (Nat.le_of_ble_eq_true rfl) (E.2.2.2.2 _ q508) (fun _ h9 => h9) hv d (k h H locs ls hB hl)
  · rw [if_neg hi] at h; cases h
theorem xgX11_23 (E : EV p s m args c cc nL RX11) (d : decode cc pc = .ok (.getfield 23, 3)) (hn : pc + 3 = n) (k : CF p l e R s m args below meth c nL cells slots (XB g A s ξ) Q n lv (.ref (xa g 310) :: st)) : CF p l e R s m args below meth c nL cells slots (XB g A s ξ) Q pc lv (.ref (xa g 0) :: st) := by
  subst hn
  intro H locs ls hB hl
  exact va_getN (D := g.1) (ci := 1) (C := RX0) (T := TX0) (N := 40) E.1 E.2.1 E.2.2.2.2 in_X0 E.2.2.2.1 hB.2.2.2.1 hB.1 0 rfl rfl 13 (Nat.le_of_ble_eq_true rfl) (va_Nw.use rfl (hB.2.2.2.2.2.1 _ q299 rfl)) (fun _ h9 => h9) rfl d (k H locs ls hB hl)
theorem xdgX13_3 (E : EV p s m args c cc nL RX13) {a : Nat} {A9 : Option ρ} (d : decode cc pc = .ok (.getfield 3, 3)) (h : (if dRs ξ a [14] 7 = some (xa g 0) then A9 else none) = some res) (hn : pc + 3 = n) (k : A9 = some res → CF p l e R s m args below meth c nL cells slots (XB g A s ξ) Q n lv (.ref (xa g 0) :: st)) : CF p l e R s m args below meth c nL cells slots (XB g A s ξ) Q pc lv (.ref a :: st) := by
  subst hn
  by_cases hi : dRs ξ a [14] 7 = some (xa g 0)
  · rw [if_pos hi] at h
    obtain ⟨ci, fs, he, h1, hv⟩ := dRs_at hi
    obtain ⟨q0, hq⟩ := dE_at (g := g) he
    intro H locs ls hB hl
    have hci : ci = 14 := by simpa using h1
    subst hci
    exact va_get (D := g.1) (ci := 14) (C := RX13) (T := TX13) (N := 8) E.1 E.2.1 E.2.2.2.2 in_X13 E.2.2.2.1 hB.2.2.2.1 hB.1 q0 hq rfl 7 (Nat.le_of_ble_eq_true rfl) (E.2.2.2.2 _ q542) (fun _ h9 => h9) hv d (k h H locs ls hB hl)
  · rw [if_neg hi] at h; cases h
theorem xgX13_23 (E : EV p s m args c cc nL RX13) (d : decode cc pc = .ok (.getfield 23, 3)) (hn : pc + 3 = n) (k : CF p l e R s m args below meth c nL cells slots (XB g A s ξ) Q n lv (.ref (xa g 310) :: st)) : CF p l e R s m args below meth c nL cells slots (XB g A s ξ) Q pc lv (.ref (xa g 0) :: st) := by
  subst hn
  intro H locs ls hB hl
  exact va_getN (D := g.1) (ci := 1) (C := RX0) (T := TX0) (N := 40) E.1 E.2.1 E.2.2.2.2 in_X0 E.2.2.2.1 hB.2.2.2.1 hB.1 0 rfl rfl 13 (Nat.le_of_ble_eq_true rfl) (va_Nw.use rfl (hB.2.2.2.2.2.1 _ q301 rfl)) (fun _ h9 => h9) rfl d (k H locs ls hB hl)
theorem xdgX13_40 (E : EV p s m args c cc nL RX13) {a : Nat} {kk : Int32 → Option ρ} (d : decode cc pc = .ok (.getfield 40, 3)) (h : bno (dI ξ a 8 14 1) kk = some res) (hn : pc + 3 = n) (k : ∀ v : Int32, kk v = some res → CF p l e R s m args below meth c nL cells slots (XB g A s ξ) Q n lv (.int v :: st)) : CF p l e R s m args below meth c nL cells slots (XB g A s ξ) Q pc lv (.ref a :: st) := by
  subst hn
  obtain ⟨v, hi, h⟩ := bno_some h
  obtain ⟨ci, fs, he, h1, h2, hv⟩ := dI_at hi
  obtain ⟨q0, hq⟩ := dE_at (g := g) he
  intro H locs ls hB hl
  have hci : ci = 8 ∨ ci = 9 ∨ ci = 10 ∨ ci = 11 ∨ ci = 12 ∨ ci = 13 ∨ ci = 14 := by omega
  rcases hci with rfl | rfl | rfl | rfl | rfl | rfl | rfl
  · exact va_get (D := g.1) (ci := 8) (C := RX7) (T := TX7) (N := 5) E.1 E.2.1 E.2.2.2.2 in_X7 E.2.2.2.1 hB.2.2.2.1 hB.1 q0 hq rfl 1 (Nat.le_of_ble_eq_true rfl) (E.2.2.2.2 _ q447) (u_same (E.2.2.2.2 _ q448)) hv d (k v h H locs ls hB hl)
  · exact va_get (D := g.1) (ci := 9) (C := RX8) (T := TX8) (N := 6) E.1 E.2.1 E.2.2.2.2 in_X8 E.2.2.2.1 hB.2.2.2.1 hB.1 q0 hq rfl 1 (Nat.le_of_ble_eq_true rfl) (E.2.2.2.2 _ q447) (u_same (E.2.2.2.2 _ q448)) hv d (k v h H locs ls hB hl)
  · exact va_get (D := g.1) (ci := 10) (C := RX9) (T := TX9) (N := 6) E.1 E.2.1 E.2.2.2.2 in_X9 E.2.2.2.1 hB.2.2.2.1 hB.1 q0 hq rfl 1 (Nat.le_of_ble_eq_true rfl) (E.2.2.2.2 _ q447) (u_same (E.2.2.2.2 _ q448)) hv d (k v h H locs ls hB hl)
  · exact va_get (D := g.1) (ci := 11) (C := RX10) (T := TX10) (N := 6) E.1 E.2.1 E.2.2.2.2 in_X10 E.2.2.2.1 hB.2.2.2.1 hB.1 q0 hq rfl 1 (Nat.le_of_ble_eq_true rfl) (E.2.2.2.2 _ q447) (u_same (E.2.2.2.2 _ q448)) hv d (k v h H locs ls hB hl)
  · exact va_get (D := g.1) (ci := 12) (C := RX11) (T := TX11) (N := 7) E.1 E.2.1 E.2.2.2.2 in_X11 E.2.2.2.1 hB.2.2.2.1 hB.1 q0 hq rfl 1 (Nat.le_of_ble_eq_true rfl) (E.2.2.2.2 _ q447) (u_same (E.2.2.2.2 _ q448)) hv d (k v h H locs ls hB hl)
  · exact va_get (D := g.1) (ci := 13) (C := RX12) (T := TX12) (N := 7) E.1 E.2.1 E.2.2.2.2 in_X12 E.2.2.2.1 hB.2.2.2.1 hB.1 q0 hq rfl 1 (Nat.le_of_ble_eq_true rfl) (E.2.2.2.2 _ q447) (u_same (E.2.2.2.2 _ q448)) hv d (k v h H locs ls hB hl)
  · exact va_get (D := g.1) (ci := 14) (C := RX13) (T := TX13) (N := 8) E.1 E.2.1 E.2.2.2.2 in_X13 E.2.2.2.1 hB.2.2.2.1 hB.1 q0 hq rfl 1 (Nat.le_of_ble_eq_true rfl) (E.2.2.2.2 _ q447) (u_same (E.2.2.2.2 _ q448)) hv d (k v h H locs ls hB hl)
theorem xdgX7_17 (E : EV p s m args c cc nL RX7) {a : Nat} {kk : Int32 → Option ρ} (d : decode cc pc = .ok (.getfield 17, 3)) (h : bno (dI ξ a 8 14 1) kk = some res) (hn : pc + 3 = n) (k : ∀ v : Int32, kk v = some res → CF p l e R s m args below meth c nL cells slots (XB g A s ξ) Q n lv (.int v :: st)) : CF p l e R s m args below meth c nL cells slots (XB g A s ξ) Q pc lv (.ref a :: st) := by
  subst hn
  obtain ⟨v, hi, h⟩ := bno_some h
  obtain ⟨ci, fs, he, h1, h2, hv⟩ := dI_at hi
  obtain ⟨q0, hq⟩ := dE_at (g := g) he
  intro H locs ls hB hl
  have hci : ci = 8 ∨ ci = 9 ∨ ci = 10 ∨ ci = 11 ∨ ci = 12 ∨ ci = 13 ∨ ci = 14 := by omega
  rcases hci with rfl | rfl | rfl | rfl | rfl | rfl | rfl
  · exact va_get (D := g.1) (ci := 8) (C := RX7) (T := TX7) (N := 5) E.1 E.2.1 E.2.2.2.2 in_X7 E.2.2.2.1 hB.2.2.2.1 hB.1 q0 hq rfl 1 (Nat.le_of_ble_eq_true rfl) (E.2.2.2.2 _ q442) (fun _ h9 => h9) hv d (k v h H locs ls hB hl)
  · exact va_get (D := g.1) (ci := 9) (C := RX8) (T := TX8) (N := 6) E.1 E.2.1 E.2.2.2.2 in_X8 E.2.2.2.1 hB.2.2.2.1 hB.1 q0 hq rfl 1 (Nat.le_of_ble_eq_true rfl) (E.2.2.2.2 _ q442) (fun _ h9 => h9) hv d (k v h H locs ls hB hl)
  · exact va_get (D := g.1) (ci := 10) (C := RX9) (T := TX9) (N := 6) E.1 E.2.1 E.2.2.2.2 in_X9 E.2.2.2.1 hB.2.2.2.1 hB.1 q0 hq rfl 1 (Nat.le_of_ble_eq_true rfl) (E.2.2.2.2 _ q442) (fun _ h9 => h9) hv d (k v h H locs ls hB hl)
  · exact va_get (D := g.1) (ci := 11) (C := RX10) (T := TX10) (N := 6) E.1 E.2.1 E.2.2.2.2 in_X10 E.2.2.2.1 hB.2.2.2.1 hB.1 q0 hq rfl 1 (Nat.le_of_ble_eq_true rfl) (E.2.2.2.2 _ q442) (fun _ h9 => h9) hv d (k v h H locs ls hB hl)
  · exact va_get (D := g.1) (ci := 12) (C := RX11) (T := TX11) (N := 7) E.1 E.2.1 E.2.2.2.2 in_X11 E.2.2.2.1 hB.2.2.2.1 hB.1 q0 hq rfl 1 (Nat.le_of_ble_eq_true rfl) (E.2.2.2.2 _ q442) (fun _ h9 => h9) hv d (k v h H locs ls hB hl)
  · exact va_get (D := g.1) (ci := 13) (C := RX12) (T := TX12) (N := 7) E.1 E.2.1 E.2.2.2.2 in_X12 E.2.2.2.1 hB.2.2.2.1 hB.1 q0 hq rfl 1 (Nat.le_of_ble_eq_true rfl) (E.2.2.2.2 _ q442) (fun _ h9 => h9) hv d (k v h H locs ls hB hl)
  · exact va_get (D := g.1) (ci := 14) (C := RX13) (T := TX13) (N := 8) E.1 E.2.1 E.2.2.2.2 in_X13 E.2.2.2.1 hB.2.2.2.1 hB.1 q0 hq rfl 1 (Nat.le_of_ble_eq_true rfl) (E.2.2.2.2 _ q442) (fun _ h9 => h9) hv d (k v h H locs ls hB hl)
theorem xdgX8_3 (E : EV p s m args c cc nL RX8) {a : Nat} {A9 : Option ρ} (d : decode cc pc = .ok (.getfield 3, 3)) (h : (if dRs ξ a [9, 12] 5 = some (xa g 0) then A9 else none) = some res) (hn : pc + 3 = n) (k : A9 = some res → CF p l e R s m args below meth c nL cells slots (XB g A s ξ) Q n lv (.ref (xa g 0) :: st)) : CF p l e R s m args below meth c nL cells slots (XB g A s ξ) Q pc lv (.ref a :: st) := by
  subst hn
  by_cases hi : dRs ξ a [9, 12] 5 = some (xa g 0)
  · rw [if_pos hi] at h
    obtain ⟨ci, fs, he, h1, hv⟩ := dRs_at hi
    obtain ⟨q0, hq⟩ := dE_at (g := g) he
    intro H locs ls hB hl
    have hci : ci = 9 ∨ ci = 12 := by simpa using h1
    rcases hci with rfl | rfl
    · exact va_get (D := g.1) (ci := 9) (C := RX8) (T := TX8) (N := 6) E.1 E.2.1 E.2.2.2.2 in_X8 E.2.2.2.1 hB.2.2.2.1 hB.1 q0 hq rfl 5 (Nat.le_of_ble_eq_true rfl) (E.2.2.2.2 _ q438) (fun _ h9 => h9) hv d (k h H locs ls hB hl)
    · exact va_get (D := g.1) (ci := 12) (C := RX11) (T := TX11) (N := 7) E.1 E.2.1 E.2.2.2.2 in_X11 E.2.2.2.1 hB.2.2.2.1 hB.1 q0 hq rfl 5 (Nat.le_of_ble_eq_true rfl) (E.2.2.2.2 _ q438) (fun _ h9 => h9) hv d (k h H locs ls hB hl)
  · rw [if_neg hi] at h; cases h
theorem xgX8_33 (E : EV p s m args c cc nL RX8) (d : decode cc pc = .ok (.getfield 33, 3)) (hn : pc + 3 = n) (k : CF p l e R s m args below meth c nL cells slots (XB g A s ξ) Q n lv (.ref (xa g 310) :: st)) : CF p l e R s m args below meth c nL cells slots (XB g A s ξ) Q pc lv (.ref (xa g 0) :: st) := by
  subst hn
  intro H locs ls hB hl
  exact va_getN (D := g.1) (ci := 1) (C := RX0) (T := TX0) (N := 40) E.1 E.2.1 E.2.2.2.2 in_X0 E.2.2.2.1 hB.2.2.2.1 hB.1 0 rfl rfl 13 (Nat.le_of_ble_eq_true rfl) (va_Nw.use rfl (hB.2.2.2.2.2.1 _ q300 rfl)) (fun _ h9 => h9) rfl d (k H locs ls hB hl)
theorem xdgX10_3 (E : EV p s m args c cc nL RX10) {a : Nat} {A9 : Option ρ} (d : decode cc pc = .ok (.getfield 3, 3)) (h : (if dRs ξ a [11, 14] 5 = some (xa g 0) then A9 else none) = some res) (hn : pc + 3 = n) (k : A9 = some res → CF p l e R s m args below meth c nL cells slots (XB g A s ξ) Q n lv (.ref (xa g 0) :: st)) : CF p l e R s m args below meth c nL cells slots (XB g A s ξ) Q pc lv (.ref a :: st) := by
  subst hn
  by_cases hi : dRs ξ a [11, 14] 5 = some (xa g 0)
  · rw [if_pos hi] at h
    obtain ⟨ci, fs, he, h1, hv⟩ := dRs_at hi
    obtain ⟨q0, hq⟩ := dE_at (g := g) he
    intro H locs ls hB hl
    have hci : ci = 11 ∨ ci = 14 := by simpa using h1
    rcases hci with rfl | rfl
    · exact va_get (D := g.1) (ci := 11) (C := RX10) (T := TX10) (N := 6) E.1 E.2.1 E.2.2.2.2 in_X10 E.2.2.2.1 hB.2.2.2.1 hB.1 q0 hq rfl 5 (Nat.le_of_ble_eq_true rfl) (E.2.2.2.2 _ q493) (fun _ h9 => h9) hv d (k h H locs ls hB hl)
    · exact va_get (D := g.1) (ci := 14) (C := RX13) (T := TX13) (N := 8) E.1 E.2.1 E.2.2.2.2 in_X13 E.2.2.2.1 hB.2.2.2.1 hB.1 q0 hq rfl 5 (Nat.le_of_ble_eq_true rfl) (E.2.2.2.2 _ q493) (fun _ h9 => h9) hv d (k h H locs ls hB hl)
  · rw [if_neg hi] at h; cases h
theorem xgX10_23 (E : EV p s m args c cc nL RX10) (d : decode cc pc = .ok (.getfield 23, 3)) (hn : pc + 3 = n) (k : CF p l e R s m args below meth c nL cells slots (XB g A s ξ) Q n lv (.ref (xa g 310) :: st)) : CF p l e R s m args below meth c nL cells slots (XB g A s ξ) Q pc lv (.ref (xa g 0) :: st) := by
  subst hn
  intro H locs ls hB hl
  exact va_getN (D := g.1) (ci := 1) (C := RX0) (T := TX0) (N := 40) E.1 E.2.1 E.2.2.2.2 in_X0 E.2.2.2.1 hB.2.2.2.1 hB.1 0 rfl rfl 13 (Nat.le_of_ble_eq_true rfl) (va_Nw.use rfl (hB.2.2.2.2.2.1 _ q302 rfl)) (fun _ h9 => h9) rfl d (k H locs ls hB hl)
theorem xdgX12_3 (E : EV p s m args c cc nL RX12) {a : Nat} {A9 : Option ρ} (d : decode cc pc = .ok (.getfield 3, 3)) (h : (if dRs ξ a [13] 6 = some (xa g 0) then A9 else none) = some res) (hn : pc + 3 = n) (k : A9 = some res → CF p l e R s m args below meth c nL cells slots (XB g A s ξ) Q n lv (.ref (xa g 0) :: st)) : CF p l e R s m args below meth c nL cells slots (XB g A s ξ) Q pc lv (.ref a :: st) := by
  subst hn
  by_cases hi : dRs ξ a [13] 6 = some (xa g 0)
  · rw [if_pos hi] at h
    obtain ⟨ci, fs, he, h1, hv⟩ := dRs_at hi
    obtain ⟨q0, hq⟩ := dE_at (g := g) he
    intro H locs ls hB hl
    have hci : ci = 13 := by simpa using h1
    subst hci
    exact va_get (D := g.1) (ci := 13) (C := RX12) (T := TX12) (N := 7) E.1 E.2.1 E.2.2.2.2 in_X12 E.2.2.2.1 hB.2.2.2.1 hB.1 q0 hq rfl 6 (Nat.le_of_ble_eq_true rfl) (E.2.2.2.2 _ q524) (fun _ h9 => h9) hv d (k h H locs ls hB hl)
  · rw [if_neg hi] at h; cases h
theorem xgX12_29 (E : EV p s m args c cc nL RX12) (d : decode cc pc = .ok (.getfield 29, 3)) (hn : pc + 3 = n) (k : CF p l e R s m args below meth c nL cells slots (XB g A s ξ) Q n lv (.ref (xa g 310) :: st)) : CF p l e R s m args below meth c nL cells slots (XB g A s ξ) Q pc lv (.ref (xa g 0) :: st) := by
  subst hn
  intro H locs ls hB hl
  exact va_getN (D := g.1) (ci := 1) (C := RX0) (T := TX0) (N := 40) E.1 E.2.1 E.2.2.2.2 in_X0 E.2.2.2.1 hB.2.2.2.1 hB.1 0 rfl rfl 13 (Nat.le_of_ble_eq_true rfl) (va_Nw.use rfl (hB.2.2.2.2.2.1 _ q303 rfl)) (fun _ h9 => h9) rfl d (k H locs ls hB hl)
theorem xdgX12_39 (E : EV p s m args c cc nL RX12) {a : Nat} {kk : Int32 → Option ρ} (d : decode cc pc = .ok (.getfield 39, 3)) (h : bno (dI ξ a 8 14 0) kk = some res) (hn : pc + 3 = n) (k : ∀ v : Int32, kk v = some res → CF p l e R s m args below meth c nL cells slots (XB g A s ξ) Q n lv (.int v :: st)) : CF p l e R s m args below meth c nL cells slots (XB g A s ξ) Q pc lv (.ref a :: st) := by
  subst hn
  obtain ⟨v, hi, h⟩ := bno_some h
  obtain ⟨ci, fs, he, h1, h2, hv⟩ := dI_at hi
  obtain ⟨q0, hq⟩ := dE_at (g := g) he
  intro H locs ls hB hl
  have hci : ci = 8 ∨ ci = 9 ∨ ci = 10 ∨ ci = 11 ∨ ci = 12 ∨ ci = 13 ∨ ci = 14 := by omega
  rcases hci with rfl | rfl | rfl | rfl | rfl | rfl | rfl
  · exact va_get (D := g.1) (ci := 8) (C := RX7) (T := TX7) (N := 5) E.1 E.2.1 E.2.2.2.2 in_X7 E.2.2.2.1 hB.2.2.2.1 hB.1 q0 hq rfl 0 (Nat.le_of_ble_eq_true rfl) (E.2.2.2.2 _ q440) (u_same (E.2.2.2.2 _ q441)) hv d (k v h H locs ls hB hl)
  · exact va_get (D := g.1) (ci := 9) (C := RX8) (T := TX8) (N := 6) E.1 E.2.1 E.2.2.2.2 in_X8 E.2.2.2.1 hB.2.2.2.1 hB.1 q0 hq rfl 0 (Nat.le_of_ble_eq_true rfl) (E.2.2.2.2 _ q440) (u_same (E.2.2.2.2 _ q441)) hv d (k v h H locs ls hB hl)
  · exact va_get (D := g.1) (ci := 10) (C := RX9) (T := TX9) (N := 6) E.1 E.2.1 E.2.2.2.2 in_X9 E.2.2.2.1 hB.2.2.2.1 hB.1 q0 hq rfl 0 (Nat.le_of_ble_eq_true rfl) (E.2.2.2.2 _ q440) (u_same (E.2.2.2.2 _ q441)) hv d (k v h H locs ls hB hl)
  · exact va_get (D := g.1) (ci := 11) (C := RX10) (T := TX10) (N := 6) E.1 E.2.1 E.2.2.2.2 in_X10 E.2.2.2.1 hB.2.2.2.1 hB.1 q0 hq rfl 0 (Nat.le_of_ble_eq_true rfl) (E.2.2.2.2 _ q440) (u_same (E.2.2.2.2 _ q441)) hv d (k v h H locs ls hB hl)
  · exact va_get (D := g.1) (ci := 12) (C := RX11) (T := TX11) (N := 7) E.1 E.2.1 E.2.2.2.2 in_X11 E.2.2.2.1 hB.2.2.2.1 hB.1 q0 hq rfl 0 (Nat.le_of_ble_eq_true rfl) (E.2.2.2.2 _ q440) (u_same (E.2.2.2.2 _ q441)) hv d (k v h H locs ls hB hl)
  · exact va_get (D := g.1) (ci := 13) (C := RX12) (T := TX12) (N := 7) E.1 E.2.1 E.2.2.2.2 in_X12 E.2.2.2.1 hB.2.2.2.1 hB.1 q0 hq rfl 0 (Nat.le_of_ble_eq_true rfl) (E.2.2.2.2 _ q440) (u_same (E.2.2.2.2 _ q441)) hv d (k v h H locs ls hB hl)
  · exact va_get (D := g.1) (ci := 14) (C := RX13) (T := TX13) (N := 8) E.1 E.2.1 E.2.2.2.2 in_X13 E.2.2.2.1 hB.2.2.2.1 hB.1 q0 hq rfl 0 (Nat.le_of_ble_eq_true rfl) (E.2.2.2.2 _ q440) (u_same (E.2.2.2.2 _ q441)) hv d (k v h H locs ls hB hl)
theorem xpX0_373 (E : EV p s m args c cc nL RX0) {v : Int32} {kk : XS → Option ρ} (d : decode cc pc = .ok (.putfield 373, 3)) (h : nx (sXF ξ 311 v) kk = some res) (hn : pc + 3 = n) (k : ∀ ξ1 : XS, kk ξ1 = some res → CF p l e R s m args below meth c nL cells slots (XB g A s ξ1) Q n lv st) : CF p l e R s m args below meth c nL cells slots (XB g A s ξ) Q pc lv (.int v :: .ref (xa g 310) :: st) := by
  subst hn
  intro H locs ls hB hl
  exact va_putN (D := g.1) (ci := 6) (v := .int v) (ty := .int) (C := RX4) (T := TX4) (N := 2) E.1 E.2.1 E.2.2.2.2 in_X4 tyX4 tyX4_ok nmX4 E.2.2.2.1 hB.2.2.2.1 hB.1 hB.2.1 hB.2.2.1 35 rfl rfl 1 (Nat.le_of_ble_eq_true rfl) (va_Nw.use rfl (hB.2.2.2.2.2.1 _ q263 rfl)) (fun _ h9 => h9) rfl (by decide +kernel) rfl rfl (Nat.le_of_ble_eq_true rfl) d (fun H1 locs1 hP hD hS => k _ h H1 locs1 ls ⟨hP, hD, hS, hB.2.2.2⟩ hl)
end XC
def x4_checkIndex (N : Nat) (g : XG)   (x0 : Int32) (x1 : Int32) (ξ : XS) : Option (Int32 × XS) :=
  if x0 < 0 then (
    none)
  else (
    if x0 < x1 then (
      some (x0, ξ))
    else (
      none))
set_option maxHeartbeats 4000000 in
theorem met_x4_checkIndex (l : Launch) (g : XG) (N : Nat)   (x0 : Int32) (x1 : Int32) (ξ : XS) {v : Int32} {ξ1 : XS} (h : x4_checkIndex N g  x0 x1 ξ = some (v, ξ1)) : MetXi l g yJ4_checkIndex (ws_ yJ4_checkIndex cJ4_checkIndex 3 (some .int)) { frames := 0, cells := 0, slots := 0, locals := 0 } [.int x0, .int x1, .null] ξ v ξ1 0 0 := by
  refine met_xi (lv0 := [(0, .int x0), (1, .int x1), (2, .null)]) (own := RJ4) (by decide) rfl (Nat.le_of_ble_eq_true rfl) rfl ?_
  intro p e s m below meth c A Q E hq
  have hR : 0 ≤ ({ frames := 0, cells := 0, slots := 0, locals := 0 } : Room).frames ∧ 0 ≤ ({ frames := 0, cells := 0, slots := 0, locals := 0 } : Room).locals := ⟨Nat.le_refl _, Nat.le_refl _⟩
  unfold x4_checkIndex at h
  refine cf_iload_n E dJ4_checkIndex_0 0 rfl rfl ?_
  refine cf_if_lt E dJ4_checkIndex_1 h rfl rfl (fun h => ?_) (fun h => ?_)
  · cases h
  · refine cf_iload_n E dJ4_checkIndex_4 0 rfl rfl ?_
    refine cf_iload_n E dJ4_checkIndex_5 1 rfl rfl ?_
    refine cf_icmp_lt E dJ4_checkIndex_6 h rfl rfl (fun h => ?_) (fun h => ?_)
    · refine cf_iload_n E dJ4_checkIndex_16 0 rfl rfl ?_
      exact xret_i dJ4_checkIndex_17 h rfl hq
    · cases h
def x3_checkIndex (N : Nat) (g : XG)   (x0 : Int32) (x1 : Int32) (ξ : XS) : Option (Int32 × XS) :=
  bnd (x4_checkIndex N g x0 x1 ξ) fun v_2 s_1 =>
  some (v_2, s_1)
section XC
variable {p : Program} {l : Launch} {e : Env} {R : Room} {s : State} {m : MethodId} {args : Array Value} {below : List Frame} {meth : Method} {c : Code} {nL cells slots : Nat} {A : Nat → Prop} {g : XG} {ξ : XS} {Q : State → Prop} {pc n : Nat} {lv : List (Nat × Value)} {st : List Value} {cc : ByteArray} {ρ : Type} {res : ρ}
theorem xclJ3_105 (E : EV p s m args c cc nL RJ3) {N : Nat}   {x0 : Int32} {x1 : Int32} {kk : Int32 → XS → Option ρ} (hR : 1 ≤ R.frames ∧ 22 ≤ R.locals) (hcat : (st.map fun v => v.category).sum ≤ 8) (hf : cells ≤ R.cells ∧ slots ≤ R.slots) (d : decode cc pc = .ok (.invokestatic 105, 3)) (h : bnd (x4_checkIndex N g  x0 x1 ξ) kk = some res) (hn : pc + 3 = n) (k : ∀ (v : Int32) (ξ1 : XS), kk v ξ1 = some res → CF p l e R s m args below meth c nL cells slots (XB g A s ξ1) Q n lv (.int v :: st)) : CF p l e R s m args below meth c nL cells slots (XB g A s ξ) Q pc lv (.null :: .int x1 :: .int x0 :: st) :=
  xcallS0_i (na := 3) E [.int x0, .int x1, .null] (fun v ξ1 ho => met_x4_checkIndex l g N   x0 x1 ξ ho) (lw_S q623 q624 q114 q625) (by decide +kernel) rfl rfl hR rfl rfl hcat hf d h hn k
end XC
set_option maxHeartbeats 4000000 in
theorem met_x3_checkIndex (l : Launch) (g : XG) (N : Nat)   (x0 : Int32) (x1 : Int32) (ξ : XS) {v : Int32} {ξ1 : XS} (h : x3_checkIndex N g  x0 x1 ξ = some (v, ξ1)) : MetXi l g yJ3_checkIndex (ws_ yJ3_checkIndex cJ3_checkIndex 2 (some .int)) { frames := 1, cells := 0, slots := 0, locals := 22 } [.int x0, .int x1] ξ v ξ1 0 0 := by
  refine met_xi (lv0 := [(0, .int x0), (1, .int x1)]) (own := RJ3) (by decide) rfl (Nat.le_of_ble_eq_true rfl) rfl ?_
  intro p e s m below meth c A Q E hq
  have hR : 1 ≤ ({ frames := 1, cells := 0, slots := 0, locals := 22 } : Room).frames ∧ 22 ≤ ({ frames := 1, cells := 0, slots := 0, locals := 22 } : Room).locals := ⟨Nat.le_refl _, Nat.le_refl _⟩
  unfold x3_checkIndex at h
  refine cf_iload_n E dJ3_checkIndex_0 0 rfl rfl ?_
  refine cf_iload_n E dJ3_checkIndex_1 1 rfl rfl ?_
  refine cf_null E dJ3_checkIndex_2 rfl ?_
  refine xclJ3_105 E (rmle hR rfl rfl) (Nat.le_of_ble_eq_true rfl) ⟨Nat.zero_le _, Nat.zero_le _⟩ dJ3_checkIndex_3 h rfl (fun v_2 s_1 h => ?_)
  exact xret_i dJ3_checkIndex_6 h rfl hq
def x2_size (N : Nat) (g : XG) (a0 : Nat)   (ξ : XS) : Option (Int32 × XS) :=
  bno (dI ξ a0 4 4 2) fun v_1 =>
  some (v_1, ξ)
set_option maxHeartbeats 4000000 in
theorem met_x2_size (l : Launch) (g : XG) (N : Nat) (a0 : Nat)   (ξ : XS) {v : Int32} {ξ1 : XS} (h : x2_size N g a0  ξ = some (v, ξ1)) : MetXi l g yJ2_size (ws_ yJ2_size cJ2_size 1 (some .int)) { frames := 0, cells := 0, slots := 0, locals := 0 } [.ref a0] ξ v ξ1 0 0 := by
  refine met_xi (lv0 := [(0, .ref a0)]) (own := RJ2) (by decide) rfl (Nat.le_of_ble_eq_true rfl) rfl ?_
  intro p e s m below meth c A Q E hq
  have hR : 0 ≤ ({ frames := 0, cells := 0, slots := 0, locals := 0 } : Room).frames ∧ 0 ≤ ({ frames := 0, cells := 0, slots := 0, locals := 0 } : Room).locals := ⟨Nat.le_refl _, Nat.le_refl _⟩
  unfold x2_size at h
  refine cf_aload_n E dJ2_size_0 0 rfl rfl ?_
  refine xdgJ2_48 E dJ2_size_1 h rfl (fun v_1 h => ?_)
  exact xret_i dJ2_size_4 h rfl hq
def x2_elementData (N : Nat) (g : XG) (a0 : Nat)  (x1 : Int32) (ξ : XS) : Option (Nat × XS) :=
  bno (dR ξ a0 4 4 1) fun b_1 =>
  bnd (dAq ξ b_1 (xc g 7)) fun n_2 f_3 =>
  if inb x1 n_2 = true then bno (f_3 x1.toNatClampNeg) (fun b_4 =>
  some (b_4, ξ)) else none
set_option maxHeartbeats 4000000 in
theorem met_x2_elementData (l : Launch) (g : XG) (N : Nat) (a0 : Nat)  (x1 : Int32) (ξ : XS) {v : Nat} {ξ1 : XS} (h : x2_elementData N g a0 x1 ξ = some (v, ξ1)) : MetXr l g yJ2_elementData (ws_ yJ2_elementData cJ2_elementData 2 (some (.object "java/lang/Object"))) { frames := 0, cells := 0, slots := 0, locals := 0 } [.ref a0, .int x1] ξ v ξ1 0 0 := by
  refine met_xr (Or.inl ⟨_, rfl⟩) (lv0 := [(0, .ref a0), (1, .int x1)]) (own := RJ2) (by decide) rfl (Nat.le_of_ble_eq_true rfl) rfl ?_
  intro p e s m below meth c A Q E hq
  have hR : 0 ≤ ({ frames := 0, cells := 0, slots := 0, locals := 0 } : Room).frames ∧ 0 ≤ ({ frames := 0, cells := 0, slots := 0, locals := 0 } : Room).locals := ⟨Nat.le_refl _, Nat.le_refl _⟩
  unfold x2_elementData at h
  refine cf_aload_n E dJ2_elementData_0 0 rfl rfl ?_
  refine xdgJ2_9 E dJ2_elementData_1 h rfl (fun b_1 h => ?_)
  refine cf_iload_n E dJ2_elementData_4 1 rfl rfl ?_
  refine xdaldq E dJ2_elementData_5 h rfl (fun n_2 f_3 b_4 h => ?_)
  exact xret_r dJ2_elementData_6 h hq
def x2_get (N : Nat) (g : XG) (a0 : Nat)  (x1 : Int32) (ξ : XS) : Option (Nat × XS) :=
  bno (dI ξ a0 4 4 2) fun v_1 =>
  bnd (x3_checkIndex N g x1 v_1 ξ) fun v_3 s_2 =>
  if isC s_2 a0 4 4 = true then (
  bnd (x2_elementData N g a0 x1 s_2) fun v_5 s_4 =>
  some (v_5, s_4)) else none
section XC
variable {p : Program} {l : Launch} {e : Env} {R : Room} {s : State} {m : MethodId} {args : Array Value} {below : List Frame} {meth : Method} {c : Code} {nL cells slots : Nat} {A : Nat → Prop} {g : XG} {ξ : XS} {Q : State → Prop} {pc n : Nat} {lv : List (Nat × Value)} {st : List Value} {cc : ByteArray} {ρ : Type} {res : ρ}
theorem xclJ2_118 (E : EV p s m args c cc nL RJ2) {N : Nat}   {x0 : Int32} {x1 : Int32} {kk : Int32 → XS → Option ρ} (hR : 2 ≤ R.frames ∧ 43 ≤ R.locals) (hcat : (st.map fun v => v.category).sum ≤ 8) (hf : cells ≤ R.cells ∧ slots ≤ R.slots) (d : decode cc pc = .ok (.invokestatic 118, 3)) (h : bnd (x3_checkIndex N g  x0 x1 ξ) kk = some res) (hn : pc + 3 = n) (k : ∀ (v : Int32) (ξ1 : XS), kk v ξ1 = some res → CF p l e R s m args below meth c nL cells slots (XB g A s ξ1) Q n lv (.int v :: st)) : CF p l e R s m args below meth c nL cells slots (XB g A s ξ) Q pc lv (.int x1 :: .int x0 :: st) :=
  xcallS0_i (na := 2) E [.int x0, .int x1] (fun v ξ1 ho => met_x3_checkIndex l g N   x0 x1 ξ ho) (lw_S q620 q621 q113 q622) (by decide +kernel) rfl rfl hR rfl rfl hcat hf d h hn k
theorem xclJ2_123 (E : EV p s m args c cc nL RJ2) {N : Nat} {a0 : Nat}  {x1 : Int32} {kk : Nat → XS → Option ρ} (hR : 1 ≤ R.frames ∧ 21 ≤ R.locals) (hcat : (st.map fun v => v.category).sum ≤ 8) (hf : cells ≤ R.cells ∧ slots ≤ R.slots) (d : decode cc pc = .ok (.invokevirtual 123, 3)) (h : (if isC ξ a0 4 4 = true then bnd (x2_elementData N g a0 x1 ξ) kk else none) = some res) (hn : pc + 3 = n) (k : ∀ (v : Nat) (ξ1 : XS), kk v ξ1 = some res → CF p l e R s m args below meth c nL cells slots (XB g A s ξ1) Q n lv (.ref v :: st)) : CF p l e R s m args below meth c nL cells slots (XB g A s ξ) Q pc lv (.int x1 :: .ref a0 :: st) := by
  by_cases hi : isC ξ a0 4 4 = true
  · rw [if_pos hi] at h
    obtain ⟨ci, hci, h1, h2⟩ := isC_at hi
    have e9 : ci = 4 := by omega
    subst e9
    exact xcallV0_r (na := 1) E [.int x1] (fun v ξ1 ho => met_x2_elementData l g N a0  x1 ξ ho) (C := RJ2) (lw_V q626 q627 q628 q101 q629) (by decide +kernel) (xrecv_d (q := (RJ2, TJ2, 3)) hci rfl) rfl rfl hR rfl rfl hcat hf d h hn k
  · rw [if_neg hi] at h; cases h
end XC
set_option maxHeartbeats 4000000 in
theorem met_x2_get (l : Launch) (g : XG) (N : Nat) (a0 : Nat)  (x1 : Int32) (ξ : XS) {v : Nat} {ξ1 : XS} (h : x2_get N g a0 x1 ξ = some (v, ξ1)) : MetXr l g yJ2_get (ws_ yJ2_get cJ2_get 2 (some (.object "java/lang/Object"))) { frames := 2, cells := 0, slots := 0, locals := 43 } [.ref a0, .int x1] ξ v ξ1 0 0 := by
  refine met_xr (Or.inl ⟨_, rfl⟩) (lv0 := [(0, .ref a0), (1, .int x1)]) (own := RJ2) (by decide) rfl (Nat.le_of_ble_eq_true rfl) rfl ?_
  intro p e s m below meth c A Q E hq
  have hR : 2 ≤ ({ frames := 2, cells := 0, slots := 0, locals := 43 } : Room).frames ∧ 43 ≤ ({ frames := 2, cells := 0, slots := 0, locals := 43 } : Room).locals := ⟨Nat.le_refl _, Nat.le_refl _⟩
  unfold x2_get at h
  refine cf_iload_n E dJ2_get_0 1 rfl rfl ?_
  refine cf_aload_n E dJ2_get_1 0 rfl rfl ?_
  refine xdgJ2_48 E dJ2_get_2 h rfl (fun v_1 h => ?_)
  refine xclJ2_118 E (rmle hR rfl rfl) (Nat.le_of_ble_eq_true rfl) ⟨Nat.zero_le _, Nat.zero_le _⟩ dJ2_get_5 h rfl (fun v_3 s_2 h => ?_)
  refine cf_pop E dJ2_get_8 rfl rfl ?_
  refine cf_aload_n E dJ2_get_9 0 rfl rfl ?_
  refine cf_iload_n E dJ2_get_10 1 rfl rfl ?_
  refine xclJ2_123 E (rmle hR rfl rfl) (Nat.le_of_ble_eq_true rfl) ⟨Nat.zero_le _, Nat.zero_le _⟩ dJ2_get_11 h rfl (fun v_5 s_4 h => ?_)
  exact xret_r dJ2_get_14 h hq
def HS (l : Launch) (g : XG) (dp : Nat) (self : Nat → XS → Option (Int32 × XS)) : Prop := ∀ (a : Nat) (ξ : XS) (v : Int32) (ξ1 : XS), self a ξ = some (v, ξ1) →
  (dCi ξ a = some 18 ∧ MetXi l g yX18_holds (ws_ yX18_holds cX18_holds 3 (some .boolean)) { frames := 4 + dp, cells := 0, slots := 0, locals := 120 + 22 * dp } [.ref a, .ref (xa g 300)] ξ v ξ1 0 0) ∨
  (dCi ξ a = some 19 ∧ MetXi l g yX19_holds (ws_ yX19_holds cX19_holds 2 (some .boolean)) { frames := 4 + dp, cells := 0, slots := 0, locals := 120 + 22 * dp } [.ref a, .ref (xa g 300)] ξ v ξ1 0 0) ∨
  (dCi ξ a = some 20 ∧ MetXi l g yX20_holds (ws_ yX20_holds cX20_holds 2 (some .boolean)) { frames := 4 + dp, cells := 0, slots := 0, locals := 120 + 22 * dp } [.ref a, .ref (xa g 300)] ξ v ξ1 0 0)
def x20_holds (N : Nat) (g : XG) (self : Nat → XS → Option (Int32 × XS)) (a0 : Nat)   (ξ : XS) : Option (Int32 × XS) :=
  bno (dI ξ a0 20 20 1) fun v_1 =>
  if v_1 = (60 : Int32) then (
    bno (dI ξ a0 20 20 0) fun v_11 =>
    bnd (x3_of N g v_11 ξ) fun v_13 s_12 =>
    bno (dI s_12 a0 20 20 2) fun v_14 =>
    if v_14 ≤ v_13 then (
      some ((0 : Int32), s_12))
    else (
      some ((1 : Int32), s_12)))
  else (
    bno (dI ξ a0 20 20 1) fun v_2 =>
    if v_2 = (61 : Int32) then (
      bno (dI ξ a0 20 20 0) fun v_7 =>
      bnd (x3_of N g v_7 ξ) fun v_9 s_8 =>
      bno (dI s_8 a0 20 20 2) fun v_10 =>
      if v_9 = v_10 then (
        some ((1 : Int32), s_8))
      else (
        some ((0 : Int32), s_8)))
    else (
      bno (dI ξ a0 20 20 0) fun v_3 =>
      bnd (x3_of N g v_3 ξ) fun v_5 s_4 =>
      bno (dI s_4 a0 20 20 2) fun v_6 =>
      if v_5 ≤ v_6 then (
        some ((0 : Int32), s_4))
      else (
        some ((1 : Int32), s_4))))
section XC
variable {p : Program} {l : Launch} {e : Env} {R : Room} {s : State} {m : MethodId} {args : Array Value} {below : List Frame} {meth : Method} {c : Code} {nL cells slots : Nat} {A : Nat → Prop} {g : XG} {ξ : XS} {Q : State → Prop} {pc n : Nat} {lv : List (Nat × Value)} {st : List Value} {cc : ByteArray} {ρ : Type} {res : ρ}
theorem xclX20_19 (E : EV p s m args c cc nL RX20) {N : Nat}   {x1 : Int32} {kk : Int32 → XS → Option ρ} (hR : 1 ≤ R.frames ∧ 21 ≤ R.locals) (hcat : (st.map fun v => v.category).sum ≤ 8) (hf : cells ≤ R.cells ∧ slots ≤ R.slots) (d : decode cc pc = .ok (.invokevirtual 19, 3)) (h : bnd (x3_of N g  x1 ξ) kk = some res) (hn : pc + 3 = n) (k : ∀ (v : Int32) (ξ1 : XS), kk v ξ1 = some res → CF p l e R s m args below meth c nL cells slots (XB g A s ξ1) Q n lv (.int v :: st)) : CF p l e R s m args below meth c nL cells slots (XB g A s ξ) Q pc lv (.int x1 :: .ref (xa g 300) :: st) :=
  xcallV0_i (na := 1) E [.int x1] (fun v ξ1 ho => met_x3_of l g N   x1 ξ ho) (C := RX3) (lw_V q637 q638 q639 q102 q640) (by decide +kernel) ⟨34, 5, _, _, rfl, rfl, rfl⟩ rfl rfl hR rfl rfl hcat hf d h hn k
end XC
set_option maxHeartbeats 4000000 in
theorem met_x20_holds (l : Launch) (g : XG) (N : Nat) (dp : Nat) {self : Nat → XS → Option (Int32 × XS)} (hself : HS l g dp self) (a0 : Nat)   (ξ : XS) {v : Int32} {ξ1 : XS} (h : x20_holds N g self a0  ξ = some (v, ξ1)) : MetXi l g yX20_holds (ws_ yX20_holds cX20_holds 2 (some .boolean)) { frames := 4 + (dp + 1), cells := 0, slots := 0, locals := 120 + 22 * (dp + 1) } [.ref a0, .ref (xa g 300)] ξ v ξ1 0 0 := by
  refine met_xi (lv0 := [(0, .ref a0), (1, .ref (xa g 300))]) (own := RX20) (by decide) rfl (Nat.le_of_ble_eq_true rfl) rfl ?_
  intro p e s m below meth c A Q E hq
  have hR : 4 + dp + 1 ≤ ({ frames := 4 + (dp + 1), cells := 0, slots := 0, locals := 120 + 22 * (dp + 1) } : Room).frames ∧ 120 + 22 * dp + 22 ≤ ({ frames := 4 + (dp + 1), cells := 0, slots := 0, locals := 120 + 22 * (dp + 1) } : Room).locals := ⟨Nat.le_refl _, by show _ ≤ 120 + 22 * (dp + 1); omega⟩
  unfold x20_holds at h
  refine cf_aload_n E dX20_holds_0 0 rfl rfl ?_
  refine xdgX20_13 E dX20_holds_1 h rfl (fun v_1 h => ?_)
  refine cf_bipush E dX20_holds_4 bp_60 rfl ?_
  refine cf_icmp_ne E dX20_holds_6 h rfl rfl (fun h => ?_) (fun h => ?_)
  · refine cf_aload_n E dX20_holds_32 0 rfl rfl ?_
    refine xdgX20_13 E dX20_holds_33 h rfl (fun v_2 h => ?_)
    refine cf_bipush E dX20_holds_36 bp_61 rfl ?_
    refine cf_icmp_ne E dX20_holds_38 h rfl rfl (fun h => ?_) (fun h => ?_)
    · refine cf_aload_n E dX20_holds_64 1 rfl rfl ?_
      refine cf_aload_n E dX20_holds_65 0 rfl rfl ?_
      refine xdgX20_7 E dX20_holds_66 h rfl (fun v_3 h => ?_)
      refine xclX20_19 E ⟨by have := hR.1; omega, by have := hR.2; omega⟩ (Nat.le_of_ble_eq_true rfl) ⟨Nat.zero_le _, Nat.zero_le _⟩ dX20_holds_69 h rfl (fun v_5 s_4 h => ?_)
      refine cf_aload_n E dX20_holds_72 0 rfl rfl ?_
      refine xdgX20_16 E dX20_holds_73 h rfl (fun v_6 h => ?_)
      refine cf_icmp_le E dX20_holds_76 h rfl rfl (fun h => ?_) (fun h => ?_)
      · refine cf_iconst E dX20_holds_83 ic_0 rfl ?_
        exact xret_i dX20_holds_84 h nzb0 hq
      · refine cf_iconst E dX20_holds_79 ic_1 rfl ?_
        refine cf_goto E dX20_holds_80 rfl ?_
        exact xret_i dX20_holds_84 h nzb1 hq
    · refine cf_aload_n E dX20_holds_41 1 rfl rfl ?_
      refine cf_aload_n E dX20_holds_42 0 rfl rfl ?_
      refine xdgX20_7 E dX20_holds_43 h rfl (fun v_7 h => ?_)
      refine xclX20_19 E ⟨by have := hR.1; omega, by have := hR.2; omega⟩ (Nat.le_of_ble_eq_true rfl) ⟨Nat.zero_le _, Nat.zero_le _⟩ dX20_holds_46 h rfl (fun v_9 s_8 h => ?_)
      refine cf_aload_n E dX20_holds_49 0 rfl rfl ?_
      refine xdgX20_16 E dX20_holds_50 h rfl (fun v_10 h => ?_)
      refine cf_icmp_ne E dX20_holds_53 h rfl rfl (fun h => ?_) (fun h => ?_)
      · refine cf_iconst E dX20_holds_60 ic_0 rfl ?_
        refine cf_goto E dX20_holds_61 rfl ?_
        exact xret_i dX20_holds_84 h nzb0 hq
      · refine cf_iconst E dX20_holds_56 ic_1 rfl ?_
        refine cf_goto E dX20_holds_57 rfl ?_
        exact xret_i dX20_holds_84 h nzb1 hq
  · refine cf_aload_n E dX20_holds_9 1 rfl rfl ?_
    refine cf_aload_n E dX20_holds_10 0 rfl rfl ?_
    refine xdgX20_7 E dX20_holds_11 h rfl (fun v_11 h => ?_)
    refine xclX20_19 E ⟨by have := hR.1; omega, by have := hR.2; omega⟩ (Nat.le_of_ble_eq_true rfl) ⟨Nat.zero_le _, Nat.zero_le _⟩ dX20_holds_14 h rfl (fun v_13 s_12 h => ?_)
    refine cf_aload_n E dX20_holds_17 0 rfl rfl ?_
    refine xdgX20_16 E dX20_holds_18 h rfl (fun v_14 h => ?_)
    refine cf_icmp_ge E dX20_holds_21 h rfl rfl (fun h => ?_) (fun h => ?_)
    · refine cf_iconst E dX20_holds_28 ic_0 rfl ?_
      refine cf_goto E dX20_holds_29 rfl ?_
      exact xret_i dX20_holds_84 h nzb0 hq
    · refine cf_iconst E dX20_holds_24 ic_1 rfl ?_
      refine cf_goto E dX20_holds_25 rfl ?_
      exact xret_i dX20_holds_84 h nzb1 hq
def x19_holds (N : Nat) (g : XG) (self : Nat → XS → Option (Int32 × XS)) (a0 : Nat)   (ξ : XS) : Option (Int32 × XS) :=
  bno (dR ξ a0 19 19 0) fun b_1 =>
  bnd (self b_1 ξ) fun v_3 s_2 =>
  if v_3 = 0 then (
    some ((1 : Int32), s_2))
  else (
    some ((0 : Int32), s_2))
section XC
variable {p : Program} {l : Launch} {e : Env} {R : Room} {s : State} {m : MethodId} {args : Array Value} {below : List Frame} {meth : Method} {c : Code} {nL cells slots : Nat} {A : Nat → Prop} {g : XG} {ξ : XS} {Q : State → Prop} {pc n : Nat} {lv : List (Nat × Value)} {st : List Value} {cc : ByteArray} {ρ : Type} {res : ρ}
theorem xvcX19_13_s (E : EV p s m args c cc nL RX19) {dp : Nat} {self : Nat → XS → Option (Int32 × XS)} (hself : HS l g dp self) {a0 : Nat} {kk : Int32 → XS → Option ρ} (hR : 4 + dp + 1 ≤ R.frames ∧ 120 + 22 * dp + 22 ≤ R.locals) (hcat : (st.map fun v => v.category).sum ≤ 8) (hf : cells ≤ R.cells ∧ slots ≤ R.slots) (d : decode cc pc = .ok (.invokevirtual 13, 3)) (h : bnd (self a0 ξ) kk = some res) (hn : pc + 3 = n) (k : ∀ (v : Int32) (ξ1 : XS), kk v ξ1 = some res → CF p l e R s m args below meth c nL cells slots (XB g A s ξ1) Q n lv (.int v :: st)) : CF p l e R s m args below meth c nL cells slots (XB g A s ξ) Q pc lv (.ref (xa g 300) :: .ref a0 :: st) := by
  obtain ⟨v, ξ1, ho, hk⟩ := bnd_some h
  rcases hself a0 ξ v ξ1 ho with ⟨hci, hm⟩ | ⟨hci, hm⟩ | ⟨hci, hm⟩
  · exact xcallA0_i (na := 1) (x := ⟨"HatsDecide$Test", "holds", "(LHatsDecide$Look;)Z"⟩) (owner := "HatsDecide$Test") (o := some (v, ξ1)) E [.ref (xa g 300)] (fun v' ξ1' ho' => by cases ho'; exact hm) (C := RX18) (lw_U q644 q633 q651 q645 q126 q646) q632 (by decide +kernel) (xrecv_d (q := (RX18, TX18, 2)) hci rfl) rfl rfl ⟨hR.1, by have := hR.2; show 8 + (3 + 11) + (120 + 22 * dp) ≤ _; omega⟩ rfl rfl hcat hf d hk hn k
  · exact xcallA0_i (na := 1) (x := ⟨"HatsDecide$Test", "holds", "(LHatsDecide$Look;)Z"⟩) (owner := "HatsDecide$Test") (o := some (v, ξ1)) E [.ref (xa g 300)] (fun v' ξ1' ho' => by cases ho'; exact hm) (C := RX19) (lw_U q644 q633 q641 q642 q127 q643) q632 (by decide +kernel) (xrecv_d (q := (RX19, TX19, 1)) hci rfl) rfl rfl ⟨hR.1, by have := hR.2; show 8 + (2 + 11) + (120 + 22 * dp) ≤ _; omega⟩ rfl rfl hcat hf d hk hn k
  · exact xcallA0_i (na := 1) (x := ⟨"HatsDecide$Test", "holds", "(LHatsDecide$Look;)Z"⟩) (owner := "HatsDecide$Test") (o := some (v, ξ1)) E [.ref (xa g 300)] (fun v' ξ1' ho' => by cases ho'; exact hm) (C := RX20) (lw_U q644 q633 q634 q635 q128 q636) q632 (by decide +kernel) (xrecv_d (q := (RX20, TX20, 3)) hci rfl) rfl rfl ⟨hR.1, by have := hR.2; show 8 + (2 + 11) + (120 + 22 * dp) ≤ _; omega⟩ rfl rfl hcat hf d hk hn k

end XC
set_option maxHeartbeats 4000000 in
theorem met_x19_holds (l : Launch) (g : XG) (N : Nat) (dp : Nat) {self : Nat → XS → Option (Int32 × XS)} (hself : HS l g dp self) (a0 : Nat)   (ξ : XS) {v : Int32} {ξ1 : XS} (h : x19_holds N g self a0  ξ = some (v, ξ1)) : MetXi l g yX19_holds (ws_ yX19_holds cX19_holds 2 (some .boolean)) { frames := 4 + (dp + 1), cells := 0, slots := 0, locals := 120 + 22 * (dp + 1) } [.ref a0, .ref (xa g 300)] ξ v ξ1 0 0 := by
  refine met_xi (lv0 := [(0, .ref a0), (1, .ref (xa g 300))]) (own := RX19) (by decide) rfl (Nat.le_of_ble_eq_true rfl) rfl ?_
  intro p e s m below meth c A Q E hq
  have hR : 4 + dp + 1 ≤ ({ frames := 4 + (dp + 1), cells := 0, slots := 0, locals := 120 + 22 * (dp + 1) } : Room).frames ∧ 120 + 22 * dp + 22 ≤ ({ frames := 4 + (dp + 1), cells := 0, slots := 0, locals := 120 + 22 * (dp + 1) } : Room).locals := ⟨Nat.le_refl _, by show _ ≤ 120 + 22 * (dp + 1); omega⟩
  unfold x19_holds at h
  refine cf_aload_n E dX19_holds_0 0 rfl rfl ?_
  refine xdgX19_7 E dX19_holds_1 h rfl (fun b_1 h => ?_)
  refine cf_aload_n E dX19_holds_4 1 rfl rfl ?_
  refine xvcX19_13_s E hself ⟨by have := hR.1; omega, by have := hR.2; omega⟩ (Nat.le_of_ble_eq_true rfl) ⟨Nat.zero_le _, Nat.zero_le _⟩ dX19_holds_5 h rfl (fun v_3 s_2 h => ?_)
  refine cf_if_ne E dX19_holds_8 h rfl rfl (fun h => ?_) (fun h => ?_)
  · refine cf_iconst E dX19_holds_15 ic_0 rfl ?_
    exact xret_i dX19_holds_16 h nzb0 hq
  · refine cf_iconst E dX19_holds_11 ic_1 rfl ?_
    refine cf_goto E dX19_holds_12 rfl ?_
    exact xret_i dX19_holds_16 h nzb1 hq
def x18_holds_2b (N : Nat) (g : XG) (self : Nat → XS → Option (Int32 × XS)) (a0 : Nat)  (rec2 : Int32 → XS → Option (Int32 × XS)) (x2 : Int32) (ξ : XS) : Option (Int32 × XS) :=
  bno (dR ξ a0 18 18 1) fun b_1 =>
  if isC ξ b_1 4 4 = true then (
  bnd (x2_size N g b_1 ξ) fun v_3 s_2 =>
  if v_3 ≤ x2 then (
    bno (dI s_2 a0 18 18 0) fun v_4 =>
    if v_4 = 0 ∨ v_4 = 1 then some (v_4, s_2) else none)
  else (
    bno (dR s_2 a0 18 18 1) fun b_5 =>
    if isC s_2 b_5 4 4 = true then (
    bnd (x2_get N g b_5 x2 s_2) fun v_7 s_6 =>
    if isC s_6 v_7 18 20 = true then (
    bnd (self v_7 s_6) fun v_9 s_8 =>
    bno (dI s_8 a0 18 18 0) fun v_10 =>
    if v_9 = v_10 then (
      nx (x2 + (1 : Int32)) fun x2_11 =>
      rec2 x2_11 s_8)
    else (
      bno (dI s_8 a0 18 18 0) fun v_12 =>
      if v_12 = 0 then (
        some ((1 : Int32), s_8))
      else (
        some ((0 : Int32), s_8)))) else none) else none)) else none
def x18_holds_2 (N : Nat) (g : XG) (self : Nat → XS → Option (Int32 × XS)) (a0 : Nat)  : Nat → Int32 → XS → Option (Int32 × XS)
  | 0 => fun _ _ => none
  | k + 1 => fun x2 ξ => x18_holds_2b N g self a0  (x18_holds_2 N g self a0  k) x2 ξ
def x18_holds (N : Nat) (g : XG) (self : Nat → XS → Option (Int32 × XS)) (a0 : Nat)   (ξ : XS) : Option (Int32 × XS) :=
  nx ((0 : Int32) : Int32) fun x2_1 =>
  x18_holds_2 N g self a0 N x2_1 ξ
section XC
variable {p : Program} {l : Launch} {e : Env} {R : Room} {s : State} {m : MethodId} {args : Array Value} {below : List Frame} {meth : Method} {c : Code} {nL cells slots : Nat} {A : Nat → Prop} {g : XG} {ξ : XS} {Q : State → Prop} {pc n : Nat} {lv : List (Nat × Value)} {st : List Value} {cc : ByteArray} {ρ : Type} {res : ρ}
theorem xclX18_20 (E : EV p s m args c cc nL RX18) {N : Nat} {a0 : Nat}   {kk : Int32 → XS → Option ρ} (hR : 1 ≤ R.frames ∧ 20 ≤ R.locals) (hcat : (st.map fun v => v.category).sum ≤ 8) (hf : cells ≤ R.cells ∧ slots ≤ R.slots) (d : decode cc pc = .ok (.invokevirtual 20, 3)) (h : (if isC ξ a0 4 4 = true then bnd (x2_size N g a0  ξ) kk else none) = some res) (hn : pc + 3 = n) (k : ∀ (v : Int32) (ξ1 : XS), kk v ξ1 = some res → CF p l e R s m args below meth c nL cells slots (XB g A s ξ1) Q n lv (.int v :: st)) : CF p l e R s m args below meth c nL cells slots (XB g A s ξ) Q pc lv (.ref a0 :: st) := by
  by_cases hi : isC ξ a0 4 4 = true
  · rw [if_pos hi] at h
    obtain ⟨ci, hci, h1, h2⟩ := isC_at hi
    have e9 : ci = 4 := by omega
    subst e9
    exact xcallV0_i (na := 0) E [] (fun v ξ1 ho => met_x2_size l g N a0   ξ ho) (C := RJ2) (lw_V q647 q613 q614 q101 q615) (by decide +kernel) (xrecv_d (q := (RJ2, TJ2, 3)) hci rfl) rfl rfl hR rfl rfl hcat hf d h hn k
  · rw [if_neg hi] at h; cases h
theorem xclX18_24 (E : EV p s m args c cc nL RX18) {N : Nat} {a0 : Nat}  {x1 : Int32} {kk : Nat → XS → Option ρ} (hR : 3 ≤ R.frames ∧ 64 ≤ R.locals) (hcat : (st.map fun v => v.category).sum ≤ 8) (hf : cells ≤ R.cells ∧ slots ≤ R.slots) (d : decode cc pc = .ok (.invokevirtual 24, 3)) (h : (if isC ξ a0 4 4 = true then bnd (x2_get N g a0 x1 ξ) kk else none) = some res) (hn : pc + 3 = n) (k : ∀ (v : Nat) (ξ1 : XS), kk v ξ1 = some res → CF p l e R s m args below meth c nL cells slots (XB g A s ξ1) Q n lv (.ref v :: st)) : CF p l e R s m args below meth c nL cells slots (XB g A s ξ) Q pc lv (.int x1 :: .ref a0 :: st) := by
  by_cases hi : isC ξ a0 4 4 = true
  · rw [if_pos hi] at h
    obtain ⟨ci, hci, h1, h2⟩ := isC_at hi
    have e9 : ci = 4 := by omega
    subst e9
    exact xcallV0_r (na := 1) E [.int x1] (fun v ξ1 ho => met_x2_get l g N a0  x1 ξ ho) (C := RJ2) (lw_V q648 q617 q618 q101 q619) (by decide +kernel) (xrecv_d (q := (RJ2, TJ2, 3)) hci rfl) rfl rfl hR rfl rfl hcat hf d h hn k
  · rw [if_neg hi] at h; cases h
theorem xvcX18_28_s (E : EV p s m args c cc nL RX18) {dp : Nat} {self : Nat → XS → Option (Int32 × XS)} (hself : HS l g dp self) {a0 : Nat} {kk : Int32 → XS → Option ρ} (hR : 4 + dp + 1 ≤ R.frames ∧ 120 + 22 * dp + 22 ≤ R.locals) (hcat : (st.map fun v => v.category).sum ≤ 8) (hf : cells ≤ R.cells ∧ slots ≤ R.slots) (d : decode cc pc = .ok (.invokevirtual 28, 3)) (h : bnd (self a0 ξ) kk = some res) (hn : pc + 3 = n) (k : ∀ (v : Int32) (ξ1 : XS), kk v ξ1 = some res → CF p l e R s m args below meth c nL cells slots (XB g A s ξ1) Q n lv (.int v :: st)) : CF p l e R s m args below meth c nL cells slots (XB g A s ξ) Q pc lv (.ref (xa g 300) :: .ref a0 :: st) := by
  obtain ⟨v, ξ1, ho, hk⟩ := bnd_some h
  rcases hself a0 ξ v ξ1 ho with ⟨hci, hm⟩ | ⟨hci, hm⟩ | ⟨hci, hm⟩
  · exact xcallA0_i (na := 1) (x := ⟨"HatsDecide$Test", "holds", "(LHatsDecide$Look;)Z"⟩) (owner := "HatsDecide$Test") (o := some (v, ξ1)) E [.ref (xa g 300)] (fun v' ξ1' ho' => by cases ho'; exact hm) (C := RX18) (lw_U q650 q633 q651 q645 q126 q646) q632 (by decide +kernel) (xrecv_d (q := (RX18, TX18, 2)) hci rfl) rfl rfl ⟨hR.1, by have := hR.2; show 8 + (3 + 11) + (120 + 22 * dp) ≤ _; omega⟩ rfl rfl hcat hf d hk hn k
  · exact xcallA0_i (na := 1) (x := ⟨"HatsDecide$Test", "holds", "(LHatsDecide$Look;)Z"⟩) (owner := "HatsDecide$Test") (o := some (v, ξ1)) E [.ref (xa g 300)] (fun v' ξ1' ho' => by cases ho'; exact hm) (C := RX19) (lw_U q650 q633 q641 q642 q127 q643) q632 (by decide +kernel) (xrecv_d (q := (RX19, TX19, 1)) hci rfl) rfl rfl ⟨hR.1, by have := hR.2; show 8 + (2 + 11) + (120 + 22 * dp) ≤ _; omega⟩ rfl rfl hcat hf d hk hn k
  · exact xcallA0_i (na := 1) (x := ⟨"HatsDecide$Test", "holds", "(LHatsDecide$Look;)Z"⟩) (owner := "HatsDecide$Test") (o := some (v, ξ1)) E [.ref (xa g 300)] (fun v' ξ1' ho' => by cases ho'; exact hm) (C := RX20) (lw_U q650 q633 q634 q635 q128 q636) q632 (by decide +kernel) (xrecv_d (q := (RX20, TX20, 3)) hci rfl) rfl rfl ⟨hR.1, by have := hR.2; show 8 + (2 + 11) + (120 + 22 * dp) ≤ _; omega⟩ rfl rfl hcat hf d hk hn k

end XC
set_option maxHeartbeats 4000000 in
theorem wx18_holds_2b {p : Program} {l : Launch} {e : Env} {R : Room} {s : State} {m : MethodId} {args : Array Value} {below : List Frame} {meth : Method} {c : Code} {A : Nat → Prop} {g : XG} {Q : State → Prop} (E : EV p s m args c cX18_holds 3 RX18) (dp : Nat) {self : Nat → XS → Option (Int32 × XS)} (hself : HS l g dp self) (hR : 4 + dp + 1 ≤ R.frames ∧ 120 + 22 * dp + 22 ≤ R.locals) {res : Int32 × XS} (hq : XTi p l e R s m args below meth c cX18_holds 3 0 0 A g .boolean Q res) (N : Nat) (a0 : Nat)   {rec2 : Int32 → XS → Option (Int32 × XS)} (ih2 : ∀ (x2 : Int32) (ξ : XS), rec2 x2 ξ = some res → CF p l e R s m args below meth c 3 0 0 (XB g A s ξ) Q 2 [(0, .ref a0), (1, .ref (xa g 300)), (2, .int x2)] []) (x2 : Int32) (ξ : XS) (h : x18_holds_2b N g self a0  rec2 x2 ξ = some res) : CF p l e R s m args below meth c 3 0 0 (XB g A s ξ) Q 2 [(0, .ref a0), (1, .ref (xa g 300)), (2, .int x2)] [] := by
  unfold x18_holds_2b at h
  refine cf_iload_n E dX18_holds_2 2 rfl rfl ?_
  refine cf_aload_n E dX18_holds_3 0 rfl rfl ?_
  refine xdgX18_10 E dX18_holds_4 h rfl (fun b_1 h => ?_)
  refine xclX18_20 E ⟨by have := hR.1; omega, by have := hR.2; omega⟩ (Nat.le_of_ble_eq_true rfl) ⟨Nat.zero_le _, Nat.zero_le _⟩ dX18_holds_7 h rfl (fun v_3 s_2 h => ?_)
  refine cf_icmp_ge E dX18_holds_10 h rfl rfl (fun h => ?_) (fun h => ?_)
  · refine cf_aload_n E dX18_holds_54 0 rfl rfl ?_
    refine xdgX18_16 E dX18_holds_55 h rfl (fun v_4 h => ?_)
    exact xret_z dX18_holds_58 h hq
  · refine cf_aload_n E dX18_holds_13 0 rfl rfl ?_
    refine xdgX18_10 E dX18_holds_14 h rfl (fun b_5 h => ?_)
    refine cf_iload_n E dX18_holds_17 2 rfl rfl ?_
    refine xclX18_24 E ⟨by have := hR.1; omega, by have := hR.2; omega⟩ (Nat.le_of_ble_eq_true rfl) ⟨Nat.zero_le _, Nat.zero_le _⟩ dX18_holds_18 h rfl (fun v_7 s_6 h => ?_)
    refine xckX18_2 E dX18_holds_21 h rfl (fun h => ?_)
    refine cf_aload_n E dX18_holds_24 1 rfl rfl ?_
    refine xvcX18_28_s E hself ⟨by have := hR.1; omega, by have := hR.2; omega⟩ (Nat.le_of_ble_eq_true rfl) ⟨Nat.zero_le _, Nat.zero_le _⟩ dX18_holds_25 h rfl (fun v_9 s_8 h => ?_)
    refine cf_aload_n E dX18_holds_28 0 rfl rfl ?_
    refine xdgX18_16 E dX18_holds_29 h rfl (fun v_10 h => ?_)
    refine cf_icmp_eq E dX18_holds_32 h rfl rfl (fun h => ?_) (fun h => ?_)
    · refine cf_iinc E dX18_holds_48 ic_1 h 2 rfl (fun x2_11 => [(2, .int x2_11), (0, .ref a0), (1, .ref (xa g 300))]) (Nat.le_of_ble_eq_true rfl) (fun _ => rfl) rfl (fun x2_11 h => ?_)
      refine cf_goto E dX18_holds_51 rfl ?_
      exact CF.sub [1, 2, 0] rfl (ih2 x2_11 s_8 h)
    · refine cf_aload_n E dX18_holds_35 0 rfl rfl ?_
      refine xdgX18_16 E dX18_holds_36 h rfl (fun v_12 h => ?_)
      refine cf_if_ne E dX18_holds_39 h rfl rfl (fun h => ?_) (fun h => ?_)
      · refine cf_iconst E dX18_holds_46 ic_0 rfl ?_
        exact xret_i dX18_holds_47 h nzb0 hq
      · refine cf_iconst E dX18_holds_42 ic_1 rfl ?_
        refine cf_goto E dX18_holds_43 rfl ?_
        exact xret_i dX18_holds_47 h nzb1 hq
set_option maxHeartbeats 4000000 in
theorem wx18_holds_2 {p : Program} {l : Launch} {e : Env} {R : Room} {s : State} {m : MethodId} {args : Array Value} {below : List Frame} {meth : Method} {c : Code} {A : Nat → Prop} {g : XG} {Q : State → Prop} (E : EV p s m args c cX18_holds 3 RX18) (dp : Nat) {self : Nat → XS → Option (Int32 × XS)} (hself : HS l g dp self) (hR : 4 + dp + 1 ≤ R.frames ∧ 120 + 22 * dp + 22 ≤ R.locals) {res : Int32 × XS} (hq : XTi p l e R s m args below meth c cX18_holds 3 0 0 A g .boolean Q res) (N : Nat) (a0 : Nat)   : ∀ (k : Nat) (x2 : Int32) (ξ : XS), x18_holds_2 N g self a0  k x2 ξ = some res → CF p l e R s m args below meth c 3 0 0 (XB g A s ξ) Q 2 [(0, .ref a0), (1, .ref (xa g 300)), (2, .int x2)] [] := by
  intro k
  induction k with
  | zero => intro x2 ξ h; have h : (none : Option (Int32 × XS)) = some res := h; cases h
  | succ k ih => intro x2 ξ h; exact wx18_holds_2b E dp hself hR hq N a0   ih x2 ξ h
set_option maxHeartbeats 4000000 in
theorem met_x18_holds (l : Launch) (g : XG) (N : Nat) (dp : Nat) {self : Nat → XS → Option (Int32 × XS)} (hself : HS l g dp self) (a0 : Nat)   (ξ : XS) {v : Int32} {ξ1 : XS} (h : x18_holds N g self a0  ξ = some (v, ξ1)) : MetXi l g yX18_holds (ws_ yX18_holds cX18_holds 3 (some .boolean)) { frames := 4 + (dp + 1), cells := 0, slots := 0, locals := 120 + 22 * (dp + 1) } [.ref a0, .ref (xa g 300)] ξ v ξ1 0 0 := by
  refine met_xi (lv0 := [(0, .ref a0), (1, .ref (xa g 300))]) (own := RX18) (by decide) rfl (Nat.le_of_ble_eq_true rfl) rfl ?_
  intro p e s m below meth c A Q E hq
  have hR : 4 + dp + 1 ≤ ({ frames := 4 + (dp + 1), cells := 0, slots := 0, locals := 120 + 22 * (dp + 1) } : Room).frames ∧ 120 + 22 * dp + 22 ≤ ({ frames := 4 + (dp + 1), cells := 0, slots := 0, locals := 120 + 22 * (dp + 1) } : Room).locals := ⟨Nat.le_refl _, by show _ ≤ 120 + 22 * (dp + 1); omega⟩
  unfold x18_holds at h
  refine cf_iconst E dX18_holds_0 ic_0 rfl ?_
  refine cf_istore_n E dX18_holds_1 h (fun x2_1 => [(2, .int x2_1), (0, .ref a0), (1, .ref (xa g 300))]) (Nat.le_of_ble_eq_true rfl) (fun _ => rfl) rfl (fun x2_1 h => ?_)
  exact CF.sub [1, 2, 0] rfl (wx18_holds_2 E dp hself hR hq N a0 N x2_1 ξ h)
def xv_holds (N : Nat) (g : XG) : Nat → Nat → XS → Option (Int32 × XS)
  | 0 => fun _ _ => none
  | dp + 1 => fun a ξ => bno (dCi ξ a) fun ci =>
    if ci = 18 then x18_holds N g (xv_holds N g dp) a ξ else
    if ci = 19 then x19_holds N g (xv_holds N g dp) a ξ else
    if ci = 20 then x20_holds N g (xv_holds N g dp) a ξ else none
theorem hs_holds (l : Launch) (g : XG) (N : Nat) : ∀ dp : Nat, HS l g dp (xv_holds N g dp) := by
  intro dp
  induction dp with
  | zero => intro a ξ v ξ1 h; have h : (none : Option (Int32 × XS)) = some (v, ξ1) := h; cases h
  | succ dp ih =>
    intro a ξ v ξ1 h
    unfold xv_holds at h
    obtain ⟨ci, hci, h⟩ := bno_some h
    by_cases e18 : ci = 18
    · subst e18
      exact Or.inl ⟨hci, met_x18_holds l g N dp ih a ξ (by simpa using h)⟩
    by_cases e19 : ci = 19
    · subst e19
      exact Or.inr (Or.inl ⟨hci, met_x19_holds l g N dp ih a ξ (by simpa using h)⟩)
    by_cases e20 : ci = 20
    · subst e20
      exact Or.inr (Or.inr ⟨hci, met_x20_holds l g N dp ih a ξ (by simpa using h)⟩)
    simp [e18, e19, e20] at h
def x2_fits_53 (N : Nat) (g : XG) (a0 : Nat) (rec4 : Int32 → Int32 → XS → Option (Int32 × XS)) (x2 : Int32) (x3 : Int32) (ξ : XS) : Option (Int32 × XS) :=
  nx (x3 + (1 : Int32)) fun x3_1 =>
  rec4 x2 x3_1 ξ
def x2_fits_4b (N : Nat) (g : XG) (a0 : Nat)  (rec4 : Int32 → Int32 → XS → Option (Int32 × XS)) (x2 : Int32) (x3 : Int32) (ξ : XS) : Option (Int32 × XS) :=
  bno (dR ξ a0 3 3 0) fun b_1 =>
  if isC ξ b_1 4 4 = true then (
  bnd (x2_size N g b_1 ξ) fun v_3 s_2 =>
  if v_3 ≤ x3 then (
    some (x2, s_2))
  else (
    bno (dR s_2 a0 3 3 0) fun b_4 =>
    if isC s_2 b_4 4 4 = true then (
    bnd (x2_get N g b_4 x3 s_2) fun v_6 s_5 =>
    if isC s_5 v_6 17 17 = true then (
    bno (dR s_5 v_6 17 17 1) fun b_7 =>
    bnd (xv_holds N g 20 b_7 s_5) fun v_9 s_8 =>
    if v_9 = 0 then (
      x2_fits_53 N g a0 rec4 x2 x3 s_8)
    else (
      bno (dR s_8 a0 3 3 0) fun b_10 =>
      if isC s_8 b_10 4 4 = true then (
      bnd (x2_get N g b_10 x3 s_8) fun v_12 s_11 =>
      if isC s_11 v_12 17 17 = true then (
      bno (dI s_11 v_12 17 17 0) fun v_13 =>
      nx ((x2 + v_13) : Int32) fun x2_14 =>
      x2_fits_53 N g a0 rec4 x2_14 x3 s_11) else none) else none)) else none) else none)) else none
def x2_fits_4 (N : Nat) (g : XG) (a0 : Nat)  : Nat → Int32 → Int32 → XS → Option (Int32 × XS)
  | 0 => fun _ _ _ => none
  | k + 1 => fun x2 x3 ξ => x2_fits_4b N g a0  (x2_fits_4 N g a0  k) x2 x3 ξ
def x2_fits (N : Nat) (g : XG) (a0 : Nat)   (ξ : XS) : Option (Int32 × XS) :=
  nx ((0 : Int32) : Int32) fun x2_1 =>
  nx ((0 : Int32) : Int32) fun x3_2 =>
  x2_fits_4 N g a0 N x2_1 x3_2 ξ
section XC
variable {p : Program} {l : Launch} {e : Env} {R : Room} {s : State} {m : MethodId} {args : Array Value} {below : List Frame} {meth : Method} {c : Code} {nL cells slots : Nat} {A : Nat → Prop} {g : XG} {ξ : XS} {Q : State → Prop} {pc n : Nat} {lv : List (Nat × Value)} {st : List Value} {cc : ByteArray} {ρ : Type} {res : ρ}
theorem xclX2_22 (E : EV p s m args c cc nL RX2) {N : Nat} {a0 : Nat}   {kk : Int32 → XS → Option ρ} (hR : 1 ≤ R.frames ∧ 20 ≤ R.locals) (hcat : (st.map fun v => v.category).sum ≤ 8) (hf : cells ≤ R.cells ∧ slots ≤ R.slots) (d : decode cc pc = .ok (.invokevirtual 22, 3)) (h : (if isC ξ a0 4 4 = true then bnd (x2_size N g a0  ξ) kk else none) = some res) (hn : pc + 3 = n) (k : ∀ (v : Int32) (ξ1 : XS), kk v ξ1 = some res → CF p l e R s m args below meth c nL cells slots (XB g A s ξ1) Q n lv (.int v :: st)) : CF p l e R s m args below meth c nL cells slots (XB g A s ξ) Q pc lv (.ref a0 :: st) := by
  by_cases hi : isC ξ a0 4 4 = true
  · rw [if_pos hi] at h
    obtain ⟨ci, hci, h1, h2⟩ := isC_at hi
    have e9 : ci = 4 := by omega
    subst e9
    exact xcallV0_i (na := 0) E [] (fun v ξ1 ho => met_x2_size l g N a0   ξ ho) (C := RJ2) (lw_V q612 q613 q614 q101 q615) (by decide +kernel) (xrecv_d (q := (RJ2, TJ2, 3)) hci rfl) rfl rfl hR rfl rfl hcat hf d h hn k
  · rw [if_neg hi] at h; cases h
theorem xclX2_26 (E : EV p s m args c cc nL RX2) {N : Nat} {a0 : Nat}  {x1 : Int32} {kk : Nat → XS → Option ρ} (hR : 3 ≤ R.frames ∧ 64 ≤ R.locals) (hcat : (st.map fun v => v.category).sum ≤ 8) (hf : cells ≤ R.cells ∧ slots ≤ R.slots) (d : decode cc pc = .ok (.invokevirtual 26, 3)) (h : (if isC ξ a0 4 4 = true then bnd (x2_get N g a0 x1 ξ) kk else none) = some res) (hn : pc + 3 = n) (k : ∀ (v : Nat) (ξ1 : XS), kk v ξ1 = some res → CF p l e R s m args below meth c nL cells slots (XB g A s ξ1) Q n lv (.ref v :: st)) : CF p l e R s m args below meth c nL cells slots (XB g A s ξ) Q pc lv (.int x1 :: .ref a0 :: st) := by
  by_cases hi : isC ξ a0 4 4 = true
  · rw [if_pos hi] at h
    obtain ⟨ci, hci, h1, h2⟩ := isC_at hi
    have e9 : ci = 4 := by omega
    subst e9
    exact xcallV0_r (na := 1) E [.int x1] (fun v ξ1 ho => met_x2_get l g N a0  x1 ξ ho) (C := RJ2) (lw_V q616 q617 q618 q101 q619) (by decide +kernel) (xrecv_d (q := (RJ2, TJ2, 3)) hci rfl) rfl rfl hR rfl rfl hcat hf d h hn k
  · rw [if_neg hi] at h; cases h
theorem xvcX2_36 (E : EV p s m args c cc nL RX2) {N a0 : Nat} {kk : Int32 → XS → Option ρ} (hR : 25 ≤ R.frames ∧ 582 ≤ R.locals) (hcat : (st.map fun v => v.category).sum ≤ 8) (hf : cells ≤ R.cells ∧ slots ≤ R.slots) (d : decode cc pc = .ok (.invokevirtual 36, 3)) (h : bnd (xv_holds N g 20 a0 ξ) kk = some res) (hn : pc + 3 = n) (k : ∀ (v : Int32) (ξ1 : XS), kk v ξ1 = some res → CF p l e R s m args below meth c nL cells slots (XB g A s ξ1) Q n lv (.int v :: st)) : CF p l e R s m args below meth c nL cells slots (XB g A s ξ) Q pc lv (.ref (xa g 300) :: .ref a0 :: st) := by
  obtain ⟨v, ξ1, ho, hk⟩ := bnd_some h
  rcases (hs_holds l g N 20) a0 ξ v ξ1 ho with ⟨hci, hm⟩ | ⟨hci, hm⟩ | ⟨hci, hm⟩
  · exact xcallA0_i (na := 1) (x := ⟨"HatsDecide$Test", "holds", "(LHatsDecide$Look;)Z"⟩) (owner := "HatsDecide$Test") (o := some (v, ξ1)) E [.ref (xa g 300)] (fun v' ξ1' ho' => by cases ho'; exact hm) (C := RX18) (lw_U q631 q633 q651 q645 q126 q646) q632 (by decide +kernel) (xrecv_d (q := (RX18, TX18, 2)) hci rfl) rfl rfl ⟨hR.1, by have := hR.2; show 8 + (3 + 11) + (120 + 22 * 20) ≤ _; omega⟩ rfl rfl hcat hf d hk hn k
  · exact xcallA0_i (na := 1) (x := ⟨"HatsDecide$Test", "holds", "(LHatsDecide$Look;)Z"⟩) (owner := "HatsDecide$Test") (o := some (v, ξ1)) E [.ref (xa g 300)] (fun v' ξ1' ho' => by cases ho'; exact hm) (C := RX19) (lw_U q631 q633 q641 q642 q127 q643) q632 (by decide +kernel) (xrecv_d (q := (RX19, TX19, 1)) hci rfl) rfl rfl ⟨hR.1, by have := hR.2; show 8 + (2 + 11) + (120 + 22 * 20) ≤ _; omega⟩ rfl rfl hcat hf d hk hn k
  · exact xcallA0_i (na := 1) (x := ⟨"HatsDecide$Test", "holds", "(LHatsDecide$Look;)Z"⟩) (owner := "HatsDecide$Test") (o := some (v, ξ1)) E [.ref (xa g 300)] (fun v' ξ1' ho' => by cases ho'; exact hm) (C := RX20) (lw_U q631 q633 q634 q635 q128 q636) q632 (by decide +kernel) (xrecv_d (q := (RX20, TX20, 3)) hci rfl) rfl rfl ⟨hR.1, by have := hR.2; show 8 + (2 + 11) + (120 + 22 * 20) ≤ _; omega⟩ rfl rfl hcat hf d hk hn k

end XC
set_option maxHeartbeats 4000000 in
theorem wx2_fits_53 {p : Program} {l : Launch} {e : Env} {R : Room} {s : State} {m : MethodId} {args : Array Value} {below : List Frame} {meth : Method} {c : Code} {A : Nat → Prop} {g : XG} {Q : State → Prop} (E : EV p s m args c cX2_fits 4 RX2) (hR : 25 ≤ R.frames ∧ 582 ≤ R.locals) {res : Int32 × XS} (hq : XTi p l e R s m args below meth c cX2_fits 4 0 0 A g .int Q res) (N : Nat) (a0 : Nat)  {rec4 : Int32 → Int32 → XS → Option (Int32 × XS)} (ih4 : ∀ (x2 : Int32) (x3 : Int32) (ξ : XS), rec4 x2 x3 ξ = some res → CF p l e R s m args below meth c 4 0 0 (XB g A s ξ) Q 4 [(0, .ref a0), (1, .ref (xa g 300)), (2, .int x2), (3, .int x3)] []) (x2 : Int32) (x3 : Int32) (ξ : XS) (h : x2_fits_53 N g a0 rec4 x2 x3 ξ = some res) : CF p l e R s m args below meth c 4 0 0 (XB g A s ξ) Q 53 [(0, .ref a0), (1, .ref (xa g 300)), (2, .int x2), (3, .int x3)] [] := by
  unfold x2_fits_53 at h
  refine cf_iinc E dX2_fits_53 ic_1 h 3 rfl (fun x3_1 => [(3, .int x3_1), (0, .ref a0), (1, .ref (xa g 300)), (2, .int x2)]) (Nat.le_of_ble_eq_true rfl) (fun _ => rfl) rfl (fun x3_1 h => ?_)
  refine cf_goto E dX2_fits_56 rfl ?_
  exact CF.sub [1, 2, 3, 0] rfl (ih4 x2 x3_1 ξ h)
set_option maxHeartbeats 4000000 in
theorem wx2_fits_4b {p : Program} {l : Launch} {e : Env} {R : Room} {s : State} {m : MethodId} {args : Array Value} {below : List Frame} {meth : Method} {c : Code} {A : Nat → Prop} {g : XG} {Q : State → Prop} (E : EV p s m args c cX2_fits 4 RX2) (hR : 25 ≤ R.frames ∧ 582 ≤ R.locals) {res : Int32 × XS} (hq : XTi p l e R s m args below meth c cX2_fits 4 0 0 A g .int Q res) (N : Nat) (a0 : Nat)   {rec4 : Int32 → Int32 → XS → Option (Int32 × XS)} (ih4 : ∀ (x2 : Int32) (x3 : Int32) (ξ : XS), rec4 x2 x3 ξ = some res → CF p l e R s m args below meth c 4 0 0 (XB g A s ξ) Q 4 [(0, .ref a0), (1, .ref (xa g 300)), (2, .int x2), (3, .int x3)] []) (x2 : Int32) (x3 : Int32) (ξ : XS) (h : x2_fits_4b N g a0  rec4 x2 x3 ξ = some res) : CF p l e R s m args below meth c 4 0 0 (XB g A s ξ) Q 4 [(0, .ref a0), (1, .ref (xa g 300)), (2, .int x2), (3, .int x3)] [] := by
  unfold x2_fits_4b at h
  refine cf_iload_n E dX2_fits_4 3 rfl rfl ?_
  refine cf_aload_n E dX2_fits_5 0 rfl rfl ?_
  refine xdgX2_12 E dX2_fits_6 h rfl (fun b_1 h => ?_)
  refine xclX2_22 E (rmle hR rfl rfl) (Nat.le_of_ble_eq_true rfl) ⟨Nat.zero_le _, Nat.zero_le _⟩ dX2_fits_9 h rfl (fun v_3 s_2 h => ?_)
  refine cf_icmp_ge E dX2_fits_12 h rfl rfl (fun h => ?_) (fun h => ?_)
  · refine cf_iload_n E dX2_fits_59 2 rfl rfl ?_
    exact xret_i dX2_fits_60 h rfl hq
  · refine cf_aload_n E dX2_fits_15 0 rfl rfl ?_
    refine xdgX2_12 E dX2_fits_16 h rfl (fun b_4 h => ?_)
    refine cf_iload_n E dX2_fits_19 3 rfl rfl ?_
    refine xclX2_26 E (rmle hR rfl rfl) (Nat.le_of_ble_eq_true rfl) ⟨Nat.zero_le _, Nat.zero_le _⟩ dX2_fits_20 h rfl (fun v_6 s_5 h => ?_)
    refine xckX2_30 E dX2_fits_23 h rfl (fun h => ?_)
    refine xdgX2_32 E dX2_fits_26 h rfl (fun b_7 h => ?_)
    refine cf_aload_n E dX2_fits_29 1 rfl rfl ?_
    refine xvcX2_36 E (rmle hR rfl rfl) (Nat.le_of_ble_eq_true rfl) ⟨Nat.zero_le _, Nat.zero_le _⟩ dX2_fits_30 h rfl (fun v_9 s_8 h => ?_)
    refine cf_if_eq E dX2_fits_33 h rfl rfl (fun h => ?_) (fun h => ?_)
    · exact CF.sub [0, 1, 2, 3] rfl (wx2_fits_53 E hR hq N a0 ih4 x2 x3 s_8 h)
    · refine cf_iload_n E dX2_fits_36 2 rfl rfl ?_
      refine cf_aload_n E dX2_fits_37 0 rfl rfl ?_
      refine xdgX2_12 E dX2_fits_38 h rfl (fun b_10 h => ?_)
      refine cf_iload_n E dX2_fits_41 3 rfl rfl ?_
      refine xclX2_26 E (rmle hR rfl rfl) (Nat.le_of_ble_eq_true rfl) ⟨Nat.zero_le _, Nat.zero_le _⟩ dX2_fits_42 h rfl (fun v_12 s_11 h => ?_)
      refine xckX2_30 E dX2_fits_45 h rfl (fun h => ?_)
      refine xdgX2_42 E dX2_fits_48 h rfl (fun v_13 h => ?_)
      refine cf_iadd E dX2_fits_51 rfl ?_
      refine cf_istore_n E dX2_fits_52 h (fun x2_14 => [(2, .int x2_14), (0, .ref a0), (1, .ref (xa g 300)), (3, .int x3)]) (Nat.le_of_ble_eq_true rfl) (fun _ => rfl) rfl (fun x2_14 h => ?_)
      exact CF.sub [1, 2, 0, 3] rfl (wx2_fits_53 E hR hq N a0 ih4 x2_14 x3 s_11 h)
set_option maxHeartbeats 4000000 in
theorem wx2_fits_4 {p : Program} {l : Launch} {e : Env} {R : Room} {s : State} {m : MethodId} {args : Array Value} {below : List Frame} {meth : Method} {c : Code} {A : Nat → Prop} {g : XG} {Q : State → Prop} (E : EV p s m args c cX2_fits 4 RX2) (hR : 25 ≤ R.frames ∧ 582 ≤ R.locals) {res : Int32 × XS} (hq : XTi p l e R s m args below meth c cX2_fits 4 0 0 A g .int Q res) (N : Nat) (a0 : Nat)   : ∀ (k : Nat) (x2 : Int32) (x3 : Int32) (ξ : XS), x2_fits_4 N g a0  k x2 x3 ξ = some res → CF p l e R s m args below meth c 4 0 0 (XB g A s ξ) Q 4 [(0, .ref a0), (1, .ref (xa g 300)), (2, .int x2), (3, .int x3)] [] := by
  intro k
  induction k with
  | zero => intro x2 x3 ξ h; have h : (none : Option (Int32 × XS)) = some res := h; cases h
  | succ k ih => intro x2 x3 ξ h; exact wx2_fits_4b E hR hq N a0   ih x2 x3 ξ h
set_option maxHeartbeats 4000000 in
theorem met_x2_fits (l : Launch) (g : XG) (N : Nat) (a0 : Nat)   (ξ : XS) {v : Int32} {ξ1 : XS} (h : x2_fits N g a0  ξ = some (v, ξ1)) : MetXi l g yX2_fits (ws_ yX2_fits cX2_fits 4 (some .int)) { frames := 25, cells := 0, slots := 0, locals := 582 } [.ref a0, .ref (xa g 300)] ξ v ξ1 0 0 := by
  refine met_xi (lv0 := [(0, .ref a0), (1, .ref (xa g 300))]) (own := RX2) (by decide) rfl (Nat.le_of_ble_eq_true rfl) rfl ?_
  intro p e s m below meth c A Q E hq
  have hR : 25 ≤ ({ frames := 25, cells := 0, slots := 0, locals := 582 } : Room).frames ∧ 582 ≤ ({ frames := 25, cells := 0, slots := 0, locals := 582 } : Room).locals := ⟨Nat.le_refl _, Nat.le_refl _⟩
  unfold x2_fits at h
  refine cf_iconst E dX2_fits_0 ic_0 rfl ?_
  refine cf_istore_n E dX2_fits_1 h (fun x2_1 => [(2, .int x2_1), (0, .ref a0), (1, .ref (xa g 300))]) (Nat.le_of_ble_eq_true rfl) (fun _ => rfl) rfl (fun x2_1 h => ?_)
  refine cf_iconst E dX2_fits_2 ic_0 rfl ?_
  refine cf_istore_n E dX2_fits_3 h (fun x3_2 => [(3, .int x3_2), (2, .int x2_1), (0, .ref a0), (1, .ref (xa g 300))]) (Nat.le_of_ble_eq_true rfl) (fun _ => rfl) rfl (fun x3_2 h => ?_)
  exact CF.sub [2, 3, 1, 0] rfl (wx2_fits_4 E hR hq N a0 N x2_1 x3_2 ξ h)
def x7_kind (N : Nat) (g : XG) (a0 : Nat)   (ξ : XS) : Option (Int32 × XS) :=
  some ((0 : Int32), ξ)
set_option maxHeartbeats 4000000 in
theorem met_x7_kind (l : Launch) (g : XG) (N : Nat) (a0 : Nat)   (ξ : XS) {v : Int32} {ξ1 : XS} (h : x7_kind N g a0  ξ = some (v, ξ1)) : MetXi l g yX7_kind (ws_ yX7_kind cX7_kind 1 (some .int)) { frames := 0, cells := 0, slots := 0, locals := 0 } [.ref a0] ξ v ξ1 0 0 := by
  refine met_xi (lv0 := [(0, .ref a0)]) (own := RX7) (by decide) rfl (Nat.le_of_ble_eq_true rfl) rfl ?_
  intro p e s m below meth c A Q E hq
  have hR : 0 ≤ ({ frames := 0, cells := 0, slots := 0, locals := 0 } : Room).frames ∧ 0 ≤ ({ frames := 0, cells := 0, slots := 0, locals := 0 } : Room).locals := ⟨Nat.le_refl _, Nat.le_refl _⟩
  unfold x7_kind at h
  refine cf_iconst E dX7_kind_0 ic_0 rfl ?_
  exact xret_i dX7_kind_1 h rfl hq
def x8_kind (N : Nat) (g : XG) (a0 : Nat)   (ξ : XS) : Option (Int32 × XS) :=
  some ((1 : Int32), ξ)
set_option maxHeartbeats 4000000 in
theorem met_x8_kind (l : Launch) (g : XG) (N : Nat) (a0 : Nat)   (ξ : XS) {v : Int32} {ξ1 : XS} (h : x8_kind N g a0  ξ = some (v, ξ1)) : MetXi l g yX8_kind (ws_ yX8_kind cX8_kind 1 (some .int)) { frames := 0, cells := 0, slots := 0, locals := 0 } [.ref a0] ξ v ξ1 0 0 := by
  refine met_xi (lv0 := [(0, .ref a0)]) (own := RX8) (by decide) rfl (Nat.le_of_ble_eq_true rfl) rfl ?_
  intro p e s m below meth c A Q E hq
  have hR : 0 ≤ ({ frames := 0, cells := 0, slots := 0, locals := 0 } : Room).frames ∧ 0 ≤ ({ frames := 0, cells := 0, slots := 0, locals := 0 } : Room).locals := ⟨Nat.le_refl _, Nat.le_refl _⟩
  unfold x8_kind at h
  refine cf_iconst E dX8_kind_0 ic_1 rfl ?_
  exact xret_i dX8_kind_1 h rfl hq
def x9_kind (N : Nat) (g : XG) (a0 : Nat)   (ξ : XS) : Option (Int32 × XS) :=
  some ((2 : Int32), ξ)
set_option maxHeartbeats 4000000 in
theorem met_x9_kind (l : Launch) (g : XG) (N : Nat) (a0 : Nat)   (ξ : XS) {v : Int32} {ξ1 : XS} (h : x9_kind N g a0  ξ = some (v, ξ1)) : MetXi l g yX9_kind (ws_ yX9_kind cX9_kind 1 (some .int)) { frames := 0, cells := 0, slots := 0, locals := 0 } [.ref a0] ξ v ξ1 0 0 := by
  refine met_xi (lv0 := [(0, .ref a0)]) (own := RX9) (by decide) rfl (Nat.le_of_ble_eq_true rfl) rfl ?_
  intro p e s m below meth c A Q E hq
  have hR : 0 ≤ ({ frames := 0, cells := 0, slots := 0, locals := 0 } : Room).frames ∧ 0 ≤ ({ frames := 0, cells := 0, slots := 0, locals := 0 } : Room).locals := ⟨Nat.le_refl _, Nat.le_refl _⟩
  unfold x9_kind at h
  refine cf_iconst E dX9_kind_0 ic_2 rfl ?_
  exact xret_i dX9_kind_1 h rfl hq
def x10_kind (N : Nat) (g : XG) (a0 : Nat)   (ξ : XS) : Option (Int32 × XS) :=
  some ((3 : Int32), ξ)
set_option maxHeartbeats 4000000 in
theorem met_x10_kind (l : Launch) (g : XG) (N : Nat) (a0 : Nat)   (ξ : XS) {v : Int32} {ξ1 : XS} (h : x10_kind N g a0  ξ = some (v, ξ1)) : MetXi l g yX10_kind (ws_ yX10_kind cX10_kind 1 (some .int)) { frames := 0, cells := 0, slots := 0, locals := 0 } [.ref a0] ξ v ξ1 0 0 := by
  refine met_xi (lv0 := [(0, .ref a0)]) (own := RX10) (by decide) rfl (Nat.le_of_ble_eq_true rfl) rfl ?_
  intro p e s m below meth c A Q E hq
  have hR : 0 ≤ ({ frames := 0, cells := 0, slots := 0, locals := 0 } : Room).frames ∧ 0 ≤ ({ frames := 0, cells := 0, slots := 0, locals := 0 } : Room).locals := ⟨Nat.le_refl _, Nat.le_refl _⟩
  unfold x10_kind at h
  refine cf_iconst E dX10_kind_0 ic_3 rfl ?_
  exact xret_i dX10_kind_1 h rfl hq
def x11_kind (N : Nat) (g : XG) (a0 : Nat)   (ξ : XS) : Option (Int32 × XS) :=
  some ((4 : Int32), ξ)
set_option maxHeartbeats 4000000 in
theorem met_x11_kind (l : Launch) (g : XG) (N : Nat) (a0 : Nat)   (ξ : XS) {v : Int32} {ξ1 : XS} (h : x11_kind N g a0  ξ = some (v, ξ1)) : MetXi l g yX11_kind (ws_ yX11_kind cX11_kind 1 (some .int)) { frames := 0, cells := 0, slots := 0, locals := 0 } [.ref a0] ξ v ξ1 0 0 := by
  refine met_xi (lv0 := [(0, .ref a0)]) (own := RX11) (by decide) rfl (Nat.le_of_ble_eq_true rfl) rfl ?_
  intro p e s m below meth c A Q E hq
  have hR : 0 ≤ ({ frames := 0, cells := 0, slots := 0, locals := 0 } : Room).frames ∧ 0 ≤ ({ frames := 0, cells := 0, slots := 0, locals := 0 } : Room).locals := ⟨Nat.le_refl _, Nat.le_refl _⟩
  unfold x11_kind at h
  refine cf_iconst E dX11_kind_0 ic_4 rfl ?_
  exact xret_i dX11_kind_1 h rfl hq
def x12_kind (N : Nat) (g : XG) (a0 : Nat)   (ξ : XS) : Option (Int32 × XS) :=
  some ((5 : Int32), ξ)
set_option maxHeartbeats 4000000 in
theorem met_x12_kind (l : Launch) (g : XG) (N : Nat) (a0 : Nat)   (ξ : XS) {v : Int32} {ξ1 : XS} (h : x12_kind N g a0  ξ = some (v, ξ1)) : MetXi l g yX12_kind (ws_ yX12_kind cX12_kind 1 (some .int)) { frames := 0, cells := 0, slots := 0, locals := 0 } [.ref a0] ξ v ξ1 0 0 := by
  refine met_xi (lv0 := [(0, .ref a0)]) (own := RX12) (by decide) rfl (Nat.le_of_ble_eq_true rfl) rfl ?_
  intro p e s m below meth c A Q E hq
  have hR : 0 ≤ ({ frames := 0, cells := 0, slots := 0, locals := 0 } : Room).frames ∧ 0 ≤ ({ frames := 0, cells := 0, slots := 0, locals := 0 } : Room).locals := ⟨Nat.le_refl _, Nat.le_refl _⟩
  unfold x12_kind at h
  refine cf_iconst E dX12_kind_0 ic_5 rfl ?_
  exact xret_i dX12_kind_1 h rfl hq
def x13_kind (N : Nat) (g : XG) (a0 : Nat)   (ξ : XS) : Option (Int32 × XS) :=
  some ((6 : Int32), ξ)
set_option maxHeartbeats 4000000 in
theorem met_x13_kind (l : Launch) (g : XG) (N : Nat) (a0 : Nat)   (ξ : XS) {v : Int32} {ξ1 : XS} (h : x13_kind N g a0  ξ = some (v, ξ1)) : MetXi l g yX13_kind (ws_ yX13_kind cX13_kind 1 (some .int)) { frames := 0, cells := 0, slots := 0, locals := 0 } [.ref a0] ξ v ξ1 0 0 := by
  refine met_xi (lv0 := [(0, .ref a0)]) (own := RX13) (by decide) rfl (Nat.le_of_ble_eq_true rfl) rfl ?_
  intro p e s m below meth c A Q E hq
  have hR : 0 ≤ ({ frames := 0, cells := 0, slots := 0, locals := 0 } : Room).frames ∧ 0 ≤ ({ frames := 0, cells := 0, slots := 0, locals := 0 } : Room).locals := ⟨Nat.le_refl _, Nat.le_refl _⟩
  unfold x13_kind at h
  refine cf_bipush E dX13_kind_0 bp_6 rfl ?_
  exact xret_i dX13_kind_2 h rfl hq
def x7_deed (N : Nat) (g : XG) (a0 : Nat)  (x1 : Int32) (x2 : Int32) (x3 : Int32) (x4 : Int32) (ξ : XS) : Option (Int32 × XS) :=
  if dRs ξ a0 [8, 9, 10, 11, 12, 13, 14] 4 = some (xa g 0) then (
  bno (dI ξ a0 8 14 0) fun v_1 =>
  if inb v_1 6 = true then (
  some ((if (0 : Int32) < ((xR ξ 2 v_1.toNatClampNeg) + x1) then ((xR ξ 2 v_1.toNatClampNeg) + x1) else (0 : Int32)), ξ)) else none) else none
set_option maxHeartbeats 4000000 in
theorem met_x7_deed (l : Launch) (g : XG) (N : Nat) (a0 : Nat)  (x1 : Int32) (x2 : Int32) (x3 : Int32) (x4 : Int32) (ξ : XS) {v : Int32} {ξ1 : XS} (h : x7_deed N g a0 x1 x2 x3 x4 ξ = some (v, ξ1)) : MetXi l g yX7_deed (ws_ yX7_deed cX7_deed 5 (some .int)) { frames := 1, cells := 0, slots := 0, locals := 40 } [.ref a0, .int x1, .int x2, .int x3, .int x4] ξ v ξ1 0 0 := by
  refine met_xi (lv0 := [(0, .ref a0), (1, .int x1), (2, .int x2), (3, .int x3), (4, .int x4)]) (own := RX7) (by decide) rfl (Nat.le_of_ble_eq_true rfl) rfl ?_
  intro p e s m below meth c A Q E hq
  have hR : 1 ≤ ({ frames := 1, cells := 0, slots := 0, locals := 40 } : Room).frames ∧ 40 ≤ ({ frames := 1, cells := 0, slots := 0, locals := 40 } : Room).locals := ⟨Nat.le_refl _, Nat.le_refl _⟩
  unfold x7_deed at h
  refine cf_iconst E dX7_deed_0 ic_0 rfl ?_
  refine cf_aload_n E dX7_deed_1 0 rfl rfl ?_
  refine xdgX7_1 E dX7_deed_2 h rfl (fun h => ?_)
  refine xgX7_26 E dX7_deed_5 rfl ?_
  refine cf_aload_n E dX7_deed_8 0 rfl rfl ?_
  refine xdgX7_13 E dX7_deed_9 h rfl (fun v_1 h => ?_)
  refine xald_2 E dX7_deed_12 h rfl (fun h => ?_)
  refine cf_iload_n E dX7_deed_13 1 rfl rfl ?_
  refine cf_iadd E dX7_deed_14 rfl ?_
  refine xmX7_max E (rmle hR rfl rfl) (by first | exact Nat.le_of_ble_eq_true rfl | decide) ⟨Nat.zero_le _, Nat.zero_le _⟩ dX7_deed_15 rfl ?_
  exact xret_i dX7_deed_18 h rfl hq
def x8_deed (N : Nat) (g : XG) (a0 : Nat)  (x1 : Int32) (x2 : Int32) (x3 : Int32) (x4 : Int32) (ξ : XS) : Option (Int32 × XS) :=
  if isC ξ a0 8 14 = true then bnd (x7_deed N g a0 x1 x2 x3 x4 ξ) (fun v_2 s_1 =>
  bno (dI s_1 a0 8 14 2) fun v_3 =>
  some ((if (0 : Int32) < (v_2 - ((2 : Int32) * (if 0 ≤ (v_3 - x2) then (v_3 - x2) else 0 - (v_3 - x2)))) then (v_2 - ((2 : Int32) * (if 0 ≤ (v_3 - x2) then (v_3 - x2) else 0 - (v_3 - x2)))) else (0 : Int32)), s_1)) else none
section XC
variable {p : Program} {l : Launch} {e : Env} {R : Room} {s : State} {m : MethodId} {args : Array Value} {below : List Frame} {meth : Method} {c : Code} {nL cells slots : Nat} {A : Nat → Prop} {g : XG} {ξ : XS} {Q : State → Prop} {pc n : Nat} {lv : List (Nat × Value)} {st : List Value} {cc : ByteArray} {ρ : Type} {res : ρ}
theorem xscX8_15 (E : EV p s m args c cc nL RX8) {N a0 : Nat} {x1 : Int32} {x2 : Int32} {x3 : Int32} {x4 : Int32} {kk : Int32 → XS → Option ρ} (hR : 2 ≤ R.frames ∧ 64 ≤ R.locals) (hcat : (st.map fun v => v.category).sum ≤ 8) (hf : cells ≤ R.cells ∧ slots ≤ R.slots) (d : decode cc pc = .ok (.invokespecial 15, 3)) (h : (if isC ξ a0 8 14 = true then bnd (x7_deed N g a0 x1 x2 x3 x4 ξ) kk else none) = some res) (hn : pc + 3 = n) (k : ∀ (v : Int32) (ξ1 : XS), kk v ξ1 = some res → CF p l e R s m args below meth c nL cells slots (XB g A s ξ1) Q n lv (.int v :: st)) : CF p l e R s m args below meth c nL cells slots (XB g A s ξ) Q pc lv (.int x4 :: .int x3 :: .int x2 :: .int x1 :: .ref a0 :: st) := by
  by_cases hi : isC ξ a0 8 14 = true
  · rw [if_pos hi] at h
    obtain ⟨ci, hci, h1, h2⟩ := isC_at hi
    obtain ⟨q9, hq9⟩ := vwAt (ci := ci) (by omega)
    exact xcallP0_i (na := 4) E [.int x1, .int x2, .int x3, .int x4] (fun v ξ1 ho => met_x7_deed l g N a0 x1 x2 x3 x4 ξ ho) (lw_SU q677 q655 q471 q653 q106 q688) (by decide +kernel) hci hq9 rfl rfl hR rfl rfl hcat hf d h hn k
  · rw [if_neg hi] at h; cases h
end XC
set_option maxHeartbeats 4000000 in
theorem met_x8_deed (l : Launch) (g : XG) (N : Nat) (a0 : Nat)  (x1 : Int32) (x2 : Int32) (x3 : Int32) (x4 : Int32) (ξ : XS) {v : Int32} {ξ1 : XS} (h : x8_deed N g a0 x1 x2 x3 x4 ξ = some (v, ξ1)) : MetXi l g yX8_deed (ws_ yX8_deed cX8_deed 5 (some .int)) { frames := 2, cells := 0, slots := 0, locals := 64 } [.ref a0, .int x1, .int x2, .int x3, .int x4] ξ v ξ1 0 0 := by
  refine met_xi (lv0 := [(0, .ref a0), (1, .int x1), (2, .int x2), (3, .int x3), (4, .int x4)]) (own := RX8) (by decide) rfl (Nat.le_of_ble_eq_true rfl) rfl ?_
  intro p e s m below meth c A Q E hq
  have hR : 2 ≤ ({ frames := 2, cells := 0, slots := 0, locals := 64 } : Room).frames ∧ 64 ≤ ({ frames := 2, cells := 0, slots := 0, locals := 64 } : Room).locals := ⟨Nat.le_refl _, Nat.le_refl _⟩
  unfold x8_deed at h
  refine cf_iconst E dX8_deed_0 ic_0 rfl ?_
  refine cf_aload_n E dX8_deed_1 0 rfl rfl ?_
  refine cf_iload_n E dX8_deed_2 1 rfl rfl ?_
  refine cf_iload_n E dX8_deed_3 2 rfl rfl ?_
  refine cf_iload_n E dX8_deed_4 3 rfl rfl ?_
  refine cf_iload E dX8_deed_5 4 rfl rfl ?_
  refine xscX8_15 E (rmle hR rfl rfl) (Nat.le_of_ble_eq_true rfl) ⟨Nat.zero_le _, Nat.zero_le _⟩ dX8_deed_7 h rfl (fun v_2 s_1 h => ?_)
  refine cf_iconst E dX8_deed_10 ic_2 rfl ?_
  refine cf_aload_n E dX8_deed_11 0 rfl rfl ?_
  refine xdgX8_19 E dX8_deed_12 h rfl (fun v_3 h => ?_)
  refine cf_iload_n E dX8_deed_15 2 rfl rfl ?_
  refine cf_isub E dX8_deed_16 rfl ?_
  refine xmX8_abs E (rmle hR rfl rfl) (by first | exact Nat.le_of_ble_eq_true rfl | decide) ⟨Nat.zero_le _, Nat.zero_le _⟩ dX8_deed_17 rfl ?_
  refine cf_imul E dX8_deed_20 rfl ?_
  refine cf_isub E dX8_deed_21 rfl ?_
  refine xmX8_max E (rmle hR rfl rfl) (by first | exact Nat.le_of_ble_eq_true rfl | decide) ⟨Nat.zero_le _, Nat.zero_le _⟩ dX8_deed_22 rfl ?_
  exact xret_i dX8_deed_25 h rfl hq
def x9_deed (N : Nat) (g : XG) (a0 : Nat)  (x1 : Int32) (x2 : Int32) (x3 : Int32) (x4 : Int32) (ξ : XS) : Option (Int32 × XS) :=
  if isC ξ a0 8 14 = true then bnd (x7_deed N g a0 x1 x2 x3 x4 ξ) (fun v_2 s_1 =>
  if dRs s_1 a0 [10, 13] 5 = some (xa g 0) then (
  bno (xo s_1 11) fun w_3 =>
  bno (dI s_1 w_3 3 3 3) fun v_4 =>
  some ((if (0 : Int32) < (v_2 - ((v_4 * x3) / (4 : Int32))) then (v_2 - ((v_4 * x3) / (4 : Int32))) else (0 : Int32)), s_1)) else none) else none
section XC
variable {p : Program} {l : Launch} {e : Env} {R : Room} {s : State} {m : MethodId} {args : Array Value} {below : List Frame} {meth : Method} {c : Code} {nL cells slots : Nat} {A : Nat → Prop} {g : XG} {ξ : XS} {Q : State → Prop} {pc n : Nat} {lv : List (Nat × Value)} {st : List Value} {cc : ByteArray} {ρ : Type} {res : ρ}
theorem xscX9_15 (E : EV p s m args c cc nL RX9) {N a0 : Nat} {x1 : Int32} {x2 : Int32} {x3 : Int32} {x4 : Int32} {kk : Int32 → XS → Option ρ} (hR : 2 ≤ R.frames ∧ 64 ≤ R.locals) (hcat : (st.map fun v => v.category).sum ≤ 8) (hf : cells ≤ R.cells ∧ slots ≤ R.slots) (d : decode cc pc = .ok (.invokespecial 15, 3)) (h : (if isC ξ a0 8 14 = true then bnd (x7_deed N g a0 x1 x2 x3 x4 ξ) kk else none) = some res) (hn : pc + 3 = n) (k : ∀ (v : Int32) (ξ1 : XS), kk v ξ1 = some res → CF p l e R s m args below meth c nL cells slots (XB g A s ξ1) Q n lv (.int v :: st)) : CF p l e R s m args below meth c nL cells slots (XB g A s ξ) Q pc lv (.int x4 :: .int x3 :: .int x2 :: .int x1 :: .ref a0 :: st) := by
  by_cases hi : isC ξ a0 8 14 = true
  · rw [if_pos hi] at h
    obtain ⟨ci, hci, h1, h2⟩ := isC_at hi
    obtain ⟨q9, hq9⟩ := vwAt (ci := ci) (by omega)
    exact xcallP0_i (na := 4) E [.int x1, .int x2, .int x3, .int x4] (fun v ξ1 ho => met_x7_deed l g N a0 x1 x2 x3 x4 ξ ho) (lw_SU q666 q655 q486 q653 q106 q688) (by decide +kernel) hci hq9 rfl rfl hR rfl rfl hcat hf d h hn k
  · rw [if_neg hi] at h; cases h
end XC
set_option maxHeartbeats 4000000 in
theorem met_x9_deed (l : Launch) (g : XG) (N : Nat) (a0 : Nat)  (x1 : Int32) (x2 : Int32) (x3 : Int32) (x4 : Int32) (ξ : XS) {v : Int32} {ξ1 : XS} (h : x9_deed N g a0 x1 x2 x3 x4 ξ = some (v, ξ1)) : MetXi l g yX9_deed (ws_ yX9_deed cX9_deed 5 (some .int)) { frames := 2, cells := 0, slots := 0, locals := 64 } [.ref a0, .int x1, .int x2, .int x3, .int x4] ξ v ξ1 0 0 := by
  refine met_xi (lv0 := [(0, .ref a0), (1, .int x1), (2, .int x2), (3, .int x3), (4, .int x4)]) (own := RX9) (by decide) rfl (Nat.le_of_ble_eq_true rfl) rfl ?_
  intro p e s m below meth c A Q E hq
  have hR : 2 ≤ ({ frames := 2, cells := 0, slots := 0, locals := 64 } : Room).frames ∧ 64 ≤ ({ frames := 2, cells := 0, slots := 0, locals := 64 } : Room).locals := ⟨Nat.le_refl _, Nat.le_refl _⟩
  unfold x9_deed at h
  refine cf_iconst E dX9_deed_0 ic_0 rfl ?_
  refine cf_aload_n E dX9_deed_1 0 rfl rfl ?_
  refine cf_iload_n E dX9_deed_2 1 rfl rfl ?_
  refine cf_iload_n E dX9_deed_3 2 rfl rfl ?_
  refine cf_iload_n E dX9_deed_4 3 rfl rfl ?_
  refine cf_iload E dX9_deed_5 4 rfl rfl ?_
  refine xscX9_15 E (rmle hR rfl rfl) (Nat.le_of_ble_eq_true rfl) ⟨Nat.zero_le _, Nat.zero_le _⟩ dX9_deed_7 h rfl (fun v_2 s_1 h => ?_)
  refine cf_aload_n E dX9_deed_10 0 rfl rfl ?_
  refine xdgX9_3 E dX9_deed_11 h rfl (fun h => ?_)
  refine xgX9_19 E dX9_deed_14 rfl (xforce h (fun w_3 h => ?_))
  refine xdgX9_23 E dX9_deed_17 h rfl (fun v_4 h => ?_)
  refine cf_iload_n E dX9_deed_20 3 rfl rfl ?_
  refine cf_imul E dX9_deed_21 rfl ?_
  refine cf_iconst E dX9_deed_22 ic_4 rfl ?_
  refine cf_idivL E dX9_deed_23 (by decide) rfl ?_
  refine cf_isub E dX9_deed_24 rfl ?_
  refine xmX9_max E (rmle hR rfl rfl) (by first | exact Nat.le_of_ble_eq_true rfl | decide) ⟨Nat.zero_le _, Nat.zero_le _⟩ dX9_deed_25 rfl ?_
  exact xret_i dX9_deed_28 h rfl hq
def x10_deed (N : Nat) (g : XG) (a0 : Nat)  (x1 : Int32) (x2 : Int32) (x3 : Int32) (x4 : Int32) (ξ : XS) : Option (Int32 × XS) :=
  if isC ξ a0 8 14 = true then bnd (x7_deed N g a0 x1 x2 x3 x4 ξ) (fun v_2 s_1 =>
  bno (dI s_1 a0 8 14 1) fun v_3 =>
  some ((v_2 + v_3), s_1)) else none
section XC
variable {p : Program} {l : Launch} {e : Env} {R : Room} {s : State} {m : MethodId} {args : Array Value} {below : List Frame} {meth : Method} {c : Code} {nL cells slots : Nat} {A : Nat → Prop} {g : XG} {ξ : XS} {Q : State → Prop} {pc n : Nat} {lv : List (Nat × Value)} {st : List Value} {cc : ByteArray} {ρ : Type} {res : ρ}
theorem xscX10_15 (E : EV p s m args c cc nL RX10) {N a0 : Nat} {x1 : Int32} {x2 : Int32} {x3 : Int32} {x4 : Int32} {kk : Int32 → XS → Option ρ} (hR : 2 ≤ R.frames ∧ 64 ≤ R.locals) (hcat : (st.map fun v => v.category).sum ≤ 8) (hf : cells ≤ R.cells ∧ slots ≤ R.slots) (d : decode cc pc = .ok (.invokespecial 15, 3)) (h : (if isC ξ a0 8 14 = true then bnd (x7_deed N g a0 x1 x2 x3 x4 ξ) kk else none) = some res) (hn : pc + 3 = n) (k : ∀ (v : Int32) (ξ1 : XS), kk v ξ1 = some res → CF p l e R s m args below meth c nL cells slots (XB g A s ξ1) Q n lv (.int v :: st)) : CF p l e R s m args below meth c nL cells slots (XB g A s ξ) Q pc lv (.int x4 :: .int x3 :: .int x2 :: .int x1 :: .ref a0 :: st) := by
  by_cases hi : isC ξ a0 8 14 = true
  · rw [if_pos hi] at h
    obtain ⟨ci, hci, h1, h2⟩ := isC_at hi
    obtain ⟨q9, hq9⟩ := vwAt (ci := ci) (by omega)
    exact xcallP0_i (na := 4) E [.int x1, .int x2, .int x3, .int x4] (fun v ξ1 ho => met_x7_deed l g N a0 x1 x2 x3 x4 ξ ho) (lw_SU q659 q655 q501 q653 q106 q688) (by decide +kernel) hci hq9 rfl rfl hR rfl rfl hcat hf d h hn k
  · rw [if_neg hi] at h; cases h
end XC
set_option maxHeartbeats 4000000 in
theorem met_x10_deed (l : Launch) (g : XG) (N : Nat) (a0 : Nat)  (x1 : Int32) (x2 : Int32) (x3 : Int32) (x4 : Int32) (ξ : XS) {v : Int32} {ξ1 : XS} (h : x10_deed N g a0 x1 x2 x3 x4 ξ = some (v, ξ1)) : MetXi l g yX10_deed (ws_ yX10_deed cX10_deed 5 (some .int)) { frames := 2, cells := 0, slots := 0, locals := 64 } [.ref a0, .int x1, .int x2, .int x3, .int x4] ξ v ξ1 0 0 := by
  refine met_xi (lv0 := [(0, .ref a0), (1, .int x1), (2, .int x2), (3, .int x3), (4, .int x4)]) (own := RX10) (by decide) rfl (Nat.le_of_ble_eq_true rfl) rfl ?_
  intro p e s m below meth c A Q E hq
  have hR : 2 ≤ ({ frames := 2, cells := 0, slots := 0, locals := 64 } : Room).frames ∧ 64 ≤ ({ frames := 2, cells := 0, slots := 0, locals := 64 } : Room).locals := ⟨Nat.le_refl _, Nat.le_refl _⟩
  unfold x10_deed at h
  refine cf_aload_n E dX10_deed_0 0 rfl rfl ?_
  refine cf_iload_n E dX10_deed_1 1 rfl rfl ?_
  refine cf_iload_n E dX10_deed_2 2 rfl rfl ?_
  refine cf_iload_n E dX10_deed_3 3 rfl rfl ?_
  refine cf_iload E dX10_deed_4 4 rfl rfl ?_
  refine xscX10_15 E (rmle hR rfl rfl) (Nat.le_of_ble_eq_true rfl) ⟨Nat.zero_le _, Nat.zero_le _⟩ dX10_deed_6 h rfl (fun v_2 s_1 h => ?_)
  refine cf_aload_n E dX10_deed_9 0 rfl rfl ?_
  refine xdgX10_19 E dX10_deed_10 h rfl (fun v_3 h => ?_)
  refine cf_iadd E dX10_deed_13 rfl ?_
  exact xret_i dX10_deed_14 h rfl hq
def x11_deed (N : Nat) (g : XG) (a0 : Nat)  (x1 : Int32) (x2 : Int32) (x3 : Int32) (x4 : Int32) (ξ : XS) : Option (Int32 × XS) :=
  bno (dI ξ a0 8 14 2) fun v_1 =>
  if v_1 = x2 then (
    if isC ξ a0 8 14 = true then bnd (x8_deed N g a0 x1 x2 x3 x4 ξ) (fun v_3 s_2 =>
    some (v_3, s_2)) else none)
  else (
    some ((0 : Int32), ξ))
section XC
variable {p : Program} {l : Launch} {e : Env} {R : Room} {s : State} {m : MethodId} {args : Array Value} {below : List Frame} {meth : Method} {c : Code} {nL cells slots : Nat} {A : Nat → Prop} {g : XG} {ξ : XS} {Q : State → Prop} {pc n : Nat} {lv : List (Nat × Value)} {st : List Value} {cc : ByteArray} {ρ : Type} {res : ρ}
theorem xscX11_19 (E : EV p s m args c cc nL RX11) {N a0 : Nat} {x1 : Int32} {x2 : Int32} {x3 : Int32} {x4 : Int32} {kk : Int32 → XS → Option ρ} (hR : 3 ≤ R.frames ∧ 88 ≤ R.locals) (hcat : (st.map fun v => v.category).sum ≤ 8) (hf : cells ≤ R.cells ∧ slots ≤ R.slots) (d : decode cc pc = .ok (.invokespecial 19, 3)) (h : (if isC ξ a0 8 14 = true then bnd (x8_deed N g a0 x1 x2 x3 x4 ξ) kk else none) = some res) (hn : pc + 3 = n) (k : ∀ (v : Int32) (ξ1 : XS), kk v ξ1 = some res → CF p l e R s m args below meth c nL cells slots (XB g A s ξ1) Q n lv (.int v :: st)) : CF p l e R s m args below meth c nL cells slots (XB g A s ξ) Q pc lv (.int x4 :: .int x3 :: .int x2 :: .int x1 :: .ref a0 :: st) := by
  by_cases hi : isC ξ a0 8 14 = true
  · rw [if_pos hi] at h
    obtain ⟨ci, hci, h1, h2⟩ := isC_at hi
    obtain ⟨q9, hq9⟩ := vwAt (ci := ci) (by omega)
    exact xcallP0_i (na := 4) E [.int x1, .int x2, .int x3, .int x4] (fun v ξ1 ho => met_x8_deed l g N a0 x1 x2 x3 x4 ξ ho) (lw_SU q674 q2157 q517 q675 q107 q676) (by decide +kernel) hci hq9 rfl rfl hR rfl rfl hcat hf d h hn k
  · rw [if_neg hi] at h; cases h
end XC
set_option maxHeartbeats 4000000 in
theorem met_x11_deed (l : Launch) (g : XG) (N : Nat) (a0 : Nat)  (x1 : Int32) (x2 : Int32) (x3 : Int32) (x4 : Int32) (ξ : XS) {v : Int32} {ξ1 : XS} (h : x11_deed N g a0 x1 x2 x3 x4 ξ = some (v, ξ1)) : MetXi l g yX11_deed (ws_ yX11_deed cX11_deed 5 (some .int)) { frames := 3, cells := 0, slots := 0, locals := 88 } [.ref a0, .int x1, .int x2, .int x3, .int x4] ξ v ξ1 0 0 := by
  refine met_xi (lv0 := [(0, .ref a0), (1, .int x1), (2, .int x2), (3, .int x3), (4, .int x4)]) (own := RX11) (by decide) rfl (Nat.le_of_ble_eq_true rfl) rfl ?_
  intro p e s m below meth c A Q E hq
  have hR : 3 ≤ ({ frames := 3, cells := 0, slots := 0, locals := 88 } : Room).frames ∧ 88 ≤ ({ frames := 3, cells := 0, slots := 0, locals := 88 } : Room).locals := ⟨Nat.le_refl _, Nat.le_refl _⟩
  unfold x11_deed at h
  refine cf_aload_n E dX11_deed_0 0 rfl rfl ?_
  refine xdgX11_15 E dX11_deed_1 h rfl (fun v_1 h => ?_)
  refine cf_iload_n E dX11_deed_4 2 rfl rfl ?_
  refine cf_icmp_ne E dX11_deed_5 h rfl rfl (fun h => ?_) (fun h => ?_)
  · refine cf_iconst E dX11_deed_20 ic_0 rfl ?_
    exact xret_i dX11_deed_21 h rfl hq
  · refine cf_aload_n E dX11_deed_8 0 rfl rfl ?_
    refine cf_iload_n E dX11_deed_9 1 rfl rfl ?_
    refine cf_iload_n E dX11_deed_10 2 rfl rfl ?_
    refine cf_iload_n E dX11_deed_11 3 rfl rfl ?_
    refine cf_iload E dX11_deed_12 4 rfl rfl ?_
    refine xscX11_19 E (rmle hR rfl rfl) (Nat.le_of_ble_eq_true rfl) ⟨Nat.zero_le _, Nat.zero_le _⟩ dX11_deed_14 h rfl (fun v_3 s_2 h => ?_)
    refine cf_goto E dX11_deed_17 rfl ?_
    exact xret_i dX11_deed_21 h rfl hq
def x12_deed (N : Nat) (g : XG) (a0 : Nat)  (x1 : Int32) (x2 : Int32) (x3 : Int32) (x4 : Int32) (ξ : XS) : Option (Int32 × XS) :=
  if isC ξ a0 8 14 = true then bnd (x9_deed N g a0 x1 x2 x3 x4 ξ) (fun v_2 s_1 =>
  bno (dI s_1 a0 8 14 1) fun v_3 =>
  some ((if (0 : Int32) < (v_2 - v_3) then (v_2 - v_3) else (0 : Int32)), s_1)) else none
section XC
variable {p : Program} {l : Launch} {e : Env} {R : Room} {s : State} {m : MethodId} {args : Array Value} {below : List Frame} {meth : Method} {c : Code} {nL cells slots : Nat} {A : Nat → Prop} {g : XG} {ξ : XS} {Q : State → Prop} {pc n : Nat} {lv : List (Nat × Value)} {st : List Value} {cc : ByteArray} {ρ : Type} {res : ρ}
theorem xscX12_15 (E : EV p s m args c cc nL RX12) {N a0 : Nat} {x1 : Int32} {x2 : Int32} {x3 : Int32} {x4 : Int32} {kk : Int32 → XS → Option ρ} (hR : 3 ≤ R.frames ∧ 88 ≤ R.locals) (hcat : (st.map fun v => v.category).sum ≤ 8) (hf : cells ≤ R.cells ∧ slots ≤ R.slots) (d : decode cc pc = .ok (.invokespecial 15, 3)) (h : (if isC ξ a0 8 14 = true then bnd (x9_deed N g a0 x1 x2 x3 x4 ξ) kk else none) = some res) (hn : pc + 3 = n) (k : ∀ (v : Int32) (ξ1 : XS), kk v ξ1 = some res → CF p l e R s m args below meth c nL cells slots (XB g A s ξ1) Q n lv (.int v :: st)) : CF p l e R s m args below meth c nL cells slots (XB g A s ξ) Q pc lv (.int x4 :: .int x3 :: .int x2 :: .int x1 :: .ref a0 :: st) := by
  by_cases hi : isC ξ a0 8 14 = true
  · rw [if_pos hi] at h
    obtain ⟨ci, hci, h1, h2⟩ := isC_at hi
    obtain ⟨q9, hq9⟩ := vwAt (ci := ci) (by omega)
    exact xcallP0_i (na := 4) E [.int x1, .int x2, .int x3, .int x4] (fun v ξ1 ho => met_x9_deed l g N a0 x1 x2 x3 x4 ξ ho) (lw_SU q663 q2156 q533 q664 q108 q665) (by decide +kernel) hci hq9 rfl rfl hR rfl rfl hcat hf d h hn k
  · rw [if_neg hi] at h; cases h
end XC
set_option maxHeartbeats 4000000 in
theorem met_x12_deed (l : Launch) (g : XG) (N : Nat) (a0 : Nat)  (x1 : Int32) (x2 : Int32) (x3 : Int32) (x4 : Int32) (ξ : XS) {v : Int32} {ξ1 : XS} (h : x12_deed N g a0 x1 x2 x3 x4 ξ = some (v, ξ1)) : MetXi l g yX12_deed (ws_ yX12_deed cX12_deed 5 (some .int)) { frames := 3, cells := 0, slots := 0, locals := 88 } [.ref a0, .int x1, .int x2, .int x3, .int x4] ξ v ξ1 0 0 := by
  refine met_xi (lv0 := [(0, .ref a0), (1, .int x1), (2, .int x2), (3, .int x3), (4, .int x4)]) (own := RX12) (by decide) rfl (Nat.le_of_ble_eq_true rfl) rfl ?_
  intro p e s m below meth c A Q E hq
  have hR : 3 ≤ ({ frames := 3, cells := 0, slots := 0, locals := 88 } : Room).frames ∧ 88 ≤ ({ frames := 3, cells := 0, slots := 0, locals := 88 } : Room).locals := ⟨Nat.le_refl _, Nat.le_refl _⟩
  unfold x12_deed at h
  refine cf_iconst E dX12_deed_0 ic_0 rfl ?_
  refine cf_aload_n E dX12_deed_1 0 rfl rfl ?_
  refine cf_iload_n E dX12_deed_2 1 rfl rfl ?_
  refine cf_iload_n E dX12_deed_3 2 rfl rfl ?_
  refine cf_iload_n E dX12_deed_4 3 rfl rfl ?_
  refine cf_iload E dX12_deed_5 4 rfl rfl ?_
  refine xscX12_15 E (rmle hR rfl rfl) (Nat.le_of_ble_eq_true rfl) ⟨Nat.zero_le _, Nat.zero_le _⟩ dX12_deed_7 h rfl (fun v_2 s_1 h => ?_)
  refine cf_aload_n E dX12_deed_10 0 rfl rfl ?_
  refine xdgX12_19 E dX12_deed_11 h rfl (fun v_3 h => ?_)
  refine cf_isub E dX12_deed_14 rfl ?_
  refine xmX12_max E (rmle hR rfl rfl) (by first | exact Nat.le_of_ble_eq_true rfl | decide) ⟨Nat.zero_le _, Nat.zero_le _⟩ dX12_deed_15 rfl ?_
  exact xret_i dX12_deed_18 h rfl hq
def x13_deed (N : Nat) (g : XG) (a0 : Nat)  (x1 : Int32) (x2 : Int32) (x3 : Int32) (x4 : Int32) (ξ : XS) : Option (Int32 × XS) :=
  if isC ξ a0 8 14 = true then bnd (x10_deed N g a0 x1 x2 x3 x4 ξ) (fun v_2 s_1 =>
  bno (dR s_1 a0 14 14 6) fun b_3 =>
  bnd (dA s_1 b_3 (xc g 1)) fun n_4 f_5 =>
  if inb (x4 - x4 / (4 : Int32) * (4 : Int32)) n_4 = true then (
  some ((v_2 + (f_5 (x4 - x4 / (4 : Int32) * (4 : Int32)).toNatClampNeg)), s_1)) else none) else none
section XC
variable {p : Program} {l : Launch} {e : Env} {R : Room} {s : State} {m : MethodId} {args : Array Value} {below : List Frame} {meth : Method} {c : Code} {nL cells slots : Nat} {A : Nat → Prop} {g : XG} {ξ : XS} {Q : State → Prop} {pc n : Nat} {lv : List (Nat × Value)} {st : List Value} {cc : ByteArray} {ρ : Type} {res : ρ}
theorem xscX13_19 (E : EV p s m args c cc nL RX13) {N a0 : Nat} {x1 : Int32} {x2 : Int32} {x3 : Int32} {x4 : Int32} {kk : Int32 → XS → Option ρ} (hR : 3 ≤ R.frames ∧ 88 ≤ R.locals) (hcat : (st.map fun v => v.category).sum ≤ 8) (hf : cells ≤ R.cells ∧ slots ≤ R.slots) (d : decode cc pc = .ok (.invokespecial 19, 3)) (h : (if isC ξ a0 8 14 = true then bnd (x10_deed N g a0 x1 x2 x3 x4 ξ) kk else none) = some res) (hn : pc + 3 = n) (k : ∀ (v : Int32) (ξ1 : XS), kk v ξ1 = some res → CF p l e R s m args below meth c nL cells slots (XB g A s ξ1) Q n lv (.int v :: st)) : CF p l e R s m args below meth c nL cells slots (XB g A s ξ) Q pc lv (.int x4 :: .int x3 :: .int x2 :: .int x1 :: .ref a0 :: st) := by
  by_cases hi : isC ξ a0 8 14 = true
  · rw [if_pos hi] at h
    obtain ⟨ci, hci, h1, h2⟩ := isC_at hi
    obtain ⟨q9, hq9⟩ := vwAt (ci := ci) (by omega)
    exact xcallP0_i (na := 4) E [.int x1, .int x2, .int x3, .int x4] (fun v ξ1 ho => met_x10_deed l g N a0 x1 x2 x3 x4 ξ ho) (lw_SU q686 q2158 q553 q657 q109 q658) (by decide +kernel) hci hq9 rfl rfl hR rfl rfl hcat hf d h hn k
  · rw [if_neg hi] at h; cases h
end XC
set_option maxHeartbeats 4000000 in
theorem met_x13_deed (l : Launch) (g : XG) (N : Nat) (a0 : Nat)  (x1 : Int32) (x2 : Int32) (x3 : Int32) (x4 : Int32) (ξ : XS) {v : Int32} {ξ1 : XS} (h : x13_deed N g a0 x1 x2 x3 x4 ξ = some (v, ξ1)) : MetXi l g yX13_deed (ws_ yX13_deed cX13_deed 5 (some .int)) { frames := 3, cells := 0, slots := 0, locals := 88 } [.ref a0, .int x1, .int x2, .int x3, .int x4] ξ v ξ1 0 0 := by
  refine met_xi (lv0 := [(0, .ref a0), (1, .int x1), (2, .int x2), (3, .int x3), (4, .int x4)]) (own := RX13) (by decide) rfl (Nat.le_of_ble_eq_true rfl) rfl ?_
  intro p e s m below meth c A Q E hq
  have hR : 3 ≤ ({ frames := 3, cells := 0, slots := 0, locals := 88 } : Room).frames ∧ 88 ≤ ({ frames := 3, cells := 0, slots := 0, locals := 88 } : Room).locals := ⟨Nat.le_refl _, Nat.le_refl _⟩
  unfold x13_deed at h
  refine cf_aload_n E dX13_deed_0 0 rfl rfl ?_
  refine cf_iload_n E dX13_deed_1 1 rfl rfl ?_
  refine cf_iload_n E dX13_deed_2 2 rfl rfl ?_
  refine cf_iload_n E dX13_deed_3 3 rfl rfl ?_
  refine cf_iload E dX13_deed_4 4 rfl rfl ?_
  refine xscX13_19 E (rmle hR rfl rfl) (Nat.le_of_ble_eq_true rfl) ⟨Nat.zero_le _, Nat.zero_le _⟩ dX13_deed_6 h rfl (fun v_2 s_1 h => ?_)
  refine cf_aload_n E dX13_deed_9 0 rfl rfl ?_
  refine xdgX13_15 E dX13_deed_10 h rfl (fun b_3 h => ?_)
  refine cf_iload E dX13_deed_13 4 rfl rfl ?_
  refine cf_iconst E dX13_deed_15 ic_4 rfl ?_
  refine cf_iremL E dX13_deed_16 (by decide) rfl ?_
  refine xdald_b E dX13_deed_17 h rfl (fun n_4 f_5 h => ?_)
  refine cf_iadd E dX13_deed_18 rfl ?_
  exact xret_i dX13_deed_19 h rfl hq
def xv_kind (N : Nat) (g : XG) (a0 : Nat)  (ξ : XS) : Option (Int32 × XS) :=
  bno (dCi ξ a0) fun ci =>
  if ci = 8 then x7_kind N g a0  ξ else
  if ci = 9 then x8_kind N g a0  ξ else
  if ci = 10 then x9_kind N g a0  ξ else
  if ci = 11 then x10_kind N g a0  ξ else
  if ci = 12 then x11_kind N g a0  ξ else
  if ci = 13 then x12_kind N g a0  ξ else
  if ci = 14 then x13_kind N g a0  ξ else
  none
def xv_deed (N : Nat) (g : XG) (a0 : Nat) (x1 : Int32) (x2 : Int32) (x3 : Int32) (x4 : Int32) (ξ : XS) : Option (Int32 × XS) :=
  bno (dCi ξ a0) fun ci =>
  if ci = 8 then x7_deed N g a0 x1 x2 x3 x4 ξ else
  if ci = 9 then x8_deed N g a0 x1 x2 x3 x4 ξ else
  if ci = 10 then x9_deed N g a0 x1 x2 x3 x4 ξ else
  if ci = 11 then x10_deed N g a0 x1 x2 x3 x4 ξ else
  if ci = 12 then x11_deed N g a0 x1 x2 x3 x4 ξ else
  if ci = 13 then x12_deed N g a0 x1 x2 x3 x4 ξ else
  if ci = 14 then x13_deed N g a0 x1 x2 x3 x4 ξ else
  none
def x0_deedOf (N : Nat) (g : XG) (t1 : Nat)  (x2 : Int32) (x3 : Int32) (ξ : XS) : Option (Int32 × XS) :=
  if inb x2 6 = true then bno (xQ ξ 3 x2.toNatClampNeg) (fun b_1 =>
  nx (sXF ξ 300 x2) fun s_2 =>
  nx (sXF s_2 301 x3) fun s_3 =>
  bnd (xv_kind N g b_1 s_3) fun v_5 s_4 =>
  nx (sXF s_4 302 v_5) fun s_6 =>
  bno (dI s_6 b_1 8 14 3) fun v_7 =>
  nx (sXF s_6 303 v_7) fun s_8 =>
  if inb x2 6 = true then (
  nx (sXF s_8 304 ((xR s_8 (201 + 10 * t1) x2.toNatClampNeg) - (xR s_8 (201 + 10 * t1) x2.toNatClampNeg) / (10 : Int32) * (10 : Int32))) fun s_9 =>
  nx (sXF s_9 305 ((xF s_9 (203 + 10 * t1)) - (xF s_9 (203 + 10 * t1)) / (7 : Int32) * (7 : Int32))) fun s_10 =>
  bno (xo s_10 11) fun w_11 =>
  if isC s_10 w_11 3 3 = true then (
  bnd (x2_fits N g w_11 s_10) fun v_13 s_12 =>
  if inb x3 6 = true then (
  if inb x2 6 = true then (
  bnd (xv_deed N g b_1 v_13 (xR s_12 0 x3.toNatClampNeg) (xR s_12 (201 + 10 * t1) x2.toNatClampNeg) (xF s_12 (203 + 10 * t1)) s_12) fun v_15 s_14 =>
  some (v_15, s_14)) else none) else none) else none) else none) else none
section XC
variable {p : Program} {l : Launch} {e : Env} {R : Room} {s : State} {m : MethodId} {args : Array Value} {below : List Frame} {meth : Method} {c : Code} {nL cells slots : Nat} {A : Nat → Prop} {g : XG} {ξ : XS} {Q : State → Prop} {pc n : Nat} {lv : List (Nat × Value)} {st : List Value} {cc : ByteArray} {ρ : Type} {res : ρ}
theorem xvcX0_178 (E : EV p s m args c cc nL RX0) {N a0 : Nat}  {kk : Int32 → XS → Option ρ} (hR : 1 ≤ R.frames ∧ 20 ≤ R.locals) (hcat : (st.map fun v => v.category).sum ≤ 8) (hf : cells ≤ R.cells ∧ slots ≤ R.slots) (d : decode cc pc = .ok (.invokevirtual 178, 3)) (h : bnd (xv_kind N g a0  ξ) kk = some res) (hn : pc + 3 = n) (k : ∀ (v : Int32) (ξ1 : XS), kk v ξ1 = some res → CF p l e R s m args below meth c nL cells slots (XB g A s ξ1) Q n lv (.int v :: st)) : CF p l e R s m args below meth c nL cells slots (XB g A s ξ) Q pc lv (.ref a0 :: st) := by
  obtain ⟨v, ξ1, ho, hk⟩ := bnd_some h
  unfold xv_kind at ho
  obtain ⟨ci, hci, ho⟩ := bno_some ho
  by_cases e8 : ci = 8
  · subst e8
    have ho : x7_kind N g a0  ξ = some (v, ξ1) := by
      simpa using ho
    exact xcallV0_i (na := 0) E [] (fun v ξ1 ho => met_x7_kind l g N a0  ξ ho) (C := RX7) (lw_V q570 q571 q572 q106 q592) (by decide +kernel) (xrecv_d (q := (RX7, TX7, 5)) hci rfl) rfl rfl (rmle hR rfl rfl) rfl rfl hcat hf d (o := x7_kind N g a0  ξ) (by rw [ho]; exact hk) hn k
  by_cases e9 : ci = 9
  · subst e9
    have ho : x8_kind N g a0  ξ = some (v, ξ1) := by
      simpa using ho
    exact xcallO0_i (na := 0) (x := ⟨"HatsDecide$Hat", "kind", "()I"⟩) (owner := "HatsDecide$Hat") E [] (fun v ξ1 ho => met_x8_kind l g N a0  ξ ho) (C := RX8) (lw_O q570 q573 q571 q583 q584 q107 q585) q592 (by decide +kernel) (xrecv_d (q := (RX8, TX8, 6)) hci rfl) rfl rfl (rmle hR rfl rfl) rfl rfl hcat hf d (o := x8_kind N g a0  ξ) (by rw [ho]; exact hk) hn k
  by_cases e10 : ci = 10
  · subst e10
    have ho : x9_kind N g a0  ξ = some (v, ξ1) := by
      simpa using ho
    exact xcallO0_i (na := 0) (x := ⟨"HatsDecide$Hat", "kind", "()I"⟩) (owner := "HatsDecide$Hat") E [] (fun v ξ1 ho => met_x9_kind l g N a0  ξ ho) (C := RX9) (lw_O q570 q573 q571 q589 q590 q108 q591) q592 (by decide +kernel) (xrecv_d (q := (RX9, TX9, 6)) hci rfl) rfl rfl (rmle hR rfl rfl) rfl rfl hcat hf d (o := x9_kind N g a0  ξ) (by rw [ho]; exact hk) hn k
  by_cases e11 : ci = 11
  · subst e11
    have ho : x10_kind N g a0  ξ = some (v, ξ1) := by
      simpa using ho
    exact xcallO0_i (na := 0) (x := ⟨"HatsDecide$Hat", "kind", "()I"⟩) (owner := "HatsDecide$Hat") E [] (fun v ξ1 ho => met_x10_kind l g N a0  ξ ho) (C := RX10) (lw_O q570 q573 q571 q574 q575 q109 q576) q592 (by decide +kernel) (xrecv_d (q := (RX10, TX10, 6)) hci rfl) rfl rfl (rmle hR rfl rfl) rfl rfl hcat hf d (o := x10_kind N g a0  ξ) (by rw [ho]; exact hk) hn k
  by_cases e12 : ci = 12
  · subst e12
    have ho : x11_kind N g a0  ξ = some (v, ξ1) := by
      simpa using ho
    exact xcallO0_i (na := 0) (x := ⟨"HatsDecide$Hat", "kind", "()I"⟩) (owner := "HatsDecide$Hat") E [] (fun v ξ1 ho => met_x11_kind l g N a0  ξ ho) (C := RX11) (lw_O q570 q573 q571 q580 q581 q110 q582) q592 (by decide +kernel) (xrecv_d (q := (RX11, TX11, 7)) hci rfl) rfl rfl (rmle hR rfl rfl) rfl rfl hcat hf d (o := x11_kind N g a0  ξ) (by rw [ho]; exact hk) hn k
  by_cases e13 : ci = 13
  · subst e13
    have ho : x12_kind N g a0  ξ = some (v, ξ1) := by
      simpa using ho
    exact xcallO0_i (na := 0) (x := ⟨"HatsDecide$Hat", "kind", "()I"⟩) (owner := "HatsDecide$Hat") E [] (fun v ξ1 ho => met_x12_kind l g N a0  ξ ho) (C := RX12) (lw_O q570 q573 q571 q577 q578 q111 q579) q592 (by decide +kernel) (xrecv_d (q := (RX12, TX12, 7)) hci rfl) rfl rfl (rmle hR rfl rfl) rfl rfl hcat hf d (o := x12_kind N g a0  ξ) (by rw [ho]; exact hk) hn k
  by_cases e14 : ci = 14
  · subst e14
    have ho : x13_kind N g a0  ξ = some (v, ξ1) := by
      simpa using ho
    exact xcallO0_i (na := 0) (x := ⟨"HatsDecide$Hat", "kind", "()I"⟩) (owner := "HatsDecide$Hat") E [] (fun v ξ1 ho => met_x13_kind l g N a0  ξ ho) (C := RX13) (lw_O q570 q573 q571 q586 q587 q112 q588) q592 (by decide +kernel) (xrecv_d (q := (RX13, TX13, 8)) hci rfl) rfl rfl (rmle hR rfl rfl) rfl rfl hcat hf d (o := x13_kind N g a0  ξ) (by rw [ho]; exact hk) hn k
  · simp [e8, e9, e10, e11, e12, e13, e14] at ho
theorem xclX0_194 (E : EV p s m args c cc nL RX0) {N : Nat} {a0 : Nat}   {kk : Int32 → XS → Option ρ} (hR : 26 ≤ R.frames ∧ 605 ≤ R.locals) (hcat : (st.map fun v => v.category).sum ≤ 8) (hf : cells ≤ R.cells ∧ slots ≤ R.slots) (d : decode cc pc = .ok (.invokevirtual 194, 3)) (h : (if isC ξ a0 3 3 = true then bnd (x2_fits N g a0  ξ) kk else none) = some res) (hn : pc + 3 = n) (k : ∀ (v : Int32) (ξ1 : XS), kk v ξ1 = some res → CF p l e R s m args below meth c nL cells slots (XB g A s ξ1) Q n lv (.int v :: st)) : CF p l e R s m args below meth c nL cells slots (XB g A s ξ) Q pc lv (.ref (xa g 300) :: .ref a0 :: st) := by
  by_cases hi : isC ξ a0 3 3 = true
  · rw [if_pos hi] at h
    obtain ⟨ci, hci, h1, h2⟩ := isC_at hi
    have e9 : ci = 3 := by omega
    subst e9
    exact xcallV0_i (na := 1) E [.ref (xa g 300)] (fun v ξ1 ho => met_x2_fits l g N a0   ξ ho) (C := RX2) (lw_V q608 q609 q610 q98 q611) (by decide +kernel) (xrecv_d (q := (RX2, TX2, 4)) hci rfl) rfl rfl hR rfl rfl hcat hf d h hn k
  · rw [if_neg hi] at h; cases h
theorem xvcX0_198 (E : EV p s m args c cc nL RX0) {N a0 : Nat} {x1 : Int32} {x2 : Int32} {x3 : Int32} {x4 : Int32} {kk : Int32 → XS → Option ρ} (hR : 4 ≤ R.frames ∧ 112 ≤ R.locals) (hcat : (st.map fun v => v.category).sum ≤ 8) (hf : cells ≤ R.cells ∧ slots ≤ R.slots) (d : decode cc pc = .ok (.invokevirtual 198, 3)) (h : bnd (xv_deed N g a0 x1 x2 x3 x4 ξ) kk = some res) (hn : pc + 3 = n) (k : ∀ (v : Int32) (ξ1 : XS), kk v ξ1 = some res → CF p l e R s m args below meth c nL cells slots (XB g A s ξ1) Q n lv (.int v :: st)) : CF p l e R s m args below meth c nL cells slots (XB g A s ξ) Q pc lv (.int x4 :: .int x3 :: .int x2 :: .int x1 :: .ref a0 :: st) := by
  obtain ⟨v, ξ1, ho, hk⟩ := bnd_some h
  unfold xv_deed at ho
  obtain ⟨ci, hci, ho⟩ := bno_some ho
  by_cases e8 : ci = 8
  · subst e8
    have ho : x7_deed N g a0 x1 x2 x3 x4 ξ = some (v, ξ1) := by
      simpa using ho
    exact xcallV0_i (na := 4) E [.int x1, .int x2, .int x3, .int x4] (fun v ξ1 ho => met_x7_deed l g N a0 x1 x2 x3 x4 ξ ho) (C := RX7) (lw_V q652 q653 q654 q106 q688) (by decide +kernel) (xrecv_d (q := (RX7, TX7, 5)) hci rfl) rfl rfl (rmle hR rfl rfl) rfl rfl hcat hf d (o := x7_deed N g a0 x1 x2 x3 x4 ξ) (by rw [ho]; exact hk) hn k
  by_cases e9 : ci = 9
  · subst e9
    have ho : x8_deed N g a0 x1 x2 x3 x4 ξ = some (v, ξ1) := by
      simpa using ho
    exact xcallO0_i (na := 4) (x := ⟨"HatsDecide$Hat", "deed", "(IIII)I"⟩) (owner := "HatsDecide$Hat") E [.int x1, .int x2, .int x3, .int x4] (fun v ξ1 ho => met_x8_deed l g N a0 x1 x2 x3 x4 ξ ho) (C := RX8) (lw_O q652 q655 q653 q682 q675 q107 q676) q688 (by decide +kernel) (xrecv_d (q := (RX8, TX8, 6)) hci rfl) rfl rfl (rmle hR rfl rfl) rfl rfl hcat hf d (o := x8_deed N g a0 x1 x2 x3 x4 ξ) (by rw [ho]; exact hk) hn k
  by_cases e10 : ci = 10
  · subst e10
    have ho : x9_deed N g a0 x1 x2 x3 x4 ξ = some (v, ξ1) := by
      simpa using ho
    exact xcallO0_i (na := 4) (x := ⟨"HatsDecide$Hat", "deed", "(IIII)I"⟩) (owner := "HatsDecide$Hat") E [.int x1, .int x2, .int x3, .int x4] (fun v ξ1 ho => met_x9_deed l g N a0 x1 x2 x3 x4 ξ ho) (C := RX9) (lw_O q652 q655 q653 q687 q664 q108 q665) q688 (by decide +kernel) (xrecv_d (q := (RX9, TX9, 6)) hci rfl) rfl rfl (rmle hR rfl rfl) rfl rfl hcat hf d (o := x9_deed N g a0 x1 x2 x3 x4 ξ) (by rw [ho]; exact hk) hn k
  by_cases e11 : ci = 11
  · subst e11
    have ho : x10_deed N g a0 x1 x2 x3 x4 ξ = some (v, ξ1) := by
      simpa using ho
    exact xcallO0_i (na := 4) (x := ⟨"HatsDecide$Hat", "deed", "(IIII)I"⟩) (owner := "HatsDecide$Hat") E [.int x1, .int x2, .int x3, .int x4] (fun v ξ1 ho => met_x10_deed l g N a0 x1 x2 x3 x4 ξ ho) (C := RX10) (lw_O q652 q655 q653 q656 q657 q109 q658) q688 (by decide +kernel) (xrecv_d (q := (RX10, TX10, 6)) hci rfl) rfl rfl (rmle hR rfl rfl) rfl rfl hcat hf d (o := x10_deed N g a0 x1 x2 x3 x4 ξ) (by rw [ho]; exact hk) hn k
  by_cases e12 : ci = 12
  · subst e12
    have ho : x11_deed N g a0 x1 x2 x3 x4 ξ = some (v, ξ1) := by
      simpa using ho
    exact xcallO0_i (na := 4) (x := ⟨"HatsDecide$Hat", "deed", "(IIII)I"⟩) (owner := "HatsDecide$Hat") E [.int x1, .int x2, .int x3, .int x4] (fun v ξ1 ho => met_x11_deed l g N a0 x1 x2 x3 x4 ξ ho) (C := RX11) (lw_O q652 q655 q653 q671 q672 q110 q673) q688 (by decide +kernel) (xrecv_d (q := (RX11, TX11, 7)) hci rfl) rfl rfl (rmle hR rfl rfl) rfl rfl hcat hf d (o := x11_deed N g a0 x1 x2 x3 x4 ξ) (by rw [ho]; exact hk) hn k
  by_cases e13 : ci = 13
  · subst e13
    have ho : x12_deed N g a0 x1 x2 x3 x4 ξ = some (v, ξ1) := by
      simpa using ho
    exact xcallO0_i (na := 4) (x := ⟨"HatsDecide$Hat", "deed", "(IIII)I"⟩) (owner := "HatsDecide$Hat") E [.int x1, .int x2, .int x3, .int x4] (fun v ξ1 ho => met_x12_deed l g N a0 x1 x2 x3 x4 ξ ho) (C := RX12) (lw_O q652 q655 q653 q660 q661 q111 q662) q688 (by decide +kernel) (xrecv_d (q := (RX12, TX12, 7)) hci rfl) rfl rfl (rmle hR rfl rfl) rfl rfl hcat hf d (o := x12_deed N g a0 x1 x2 x3 x4 ξ) (by rw [ho]; exact hk) hn k
  by_cases e14 : ci = 14
  · subst e14
    have ho : x13_deed N g a0 x1 x2 x3 x4 ξ = some (v, ξ1) := by
      simpa using ho
    exact xcallO0_i (na := 4) (x := ⟨"HatsDecide$Hat", "deed", "(IIII)I"⟩) (owner := "HatsDecide$Hat") E [.int x1, .int x2, .int x3, .int x4] (fun v ξ1 ho => met_x13_deed l g N a0 x1 x2 x3 x4 ξ ho) (C := RX13) (lw_O q652 q655 q653 q683 q684 q112 q685) q688 (by decide +kernel) (xrecv_d (q := (RX13, TX13, 8)) hci rfl) rfl rfl (rmle hR rfl rfl) rfl rfl hcat hf d (o := x13_deed N g a0 x1 x2 x3 x4 ξ) (by rw [ho]; exact hk) hn k
  · simp [e8, e9, e10, e11, e12, e13, e14] at ho
end XC
set_option maxHeartbeats 4000000 in
theorem met_x0_deedOf (l : Launch) (g : XG) (N : Nat) (t1 : Nat) (ht1 : t1 < 3) (x2 : Int32) (x3 : Int32) (ξ : XS) {v : Int32} {ξ1 : XS} (h : x0_deedOf N g t1 x2 x3 ξ = some (v, ξ1)) : MetXi l g yX0_deedOf (ws_ yX0_deedOf cX0_deedOf 5 (some .int)) { frames := 26, cells := 0, slots := 0, locals := 605 } [.ref (xa g 0), .ref (xa g (200 + 10 * t1)), .int x2, .int x3] ξ v ξ1 0 0 := by
  refine met_xi (lv0 := [(0, .ref (xa g 0)), (1, .ref (xa g (200 + 10 * t1))), (2, .int x2), (3, .int x3)]) (own := RX0) (by decide) rfl (Nat.le_of_ble_eq_true rfl) rfl ?_
  intro p e s m below meth c A Q E hq
  have hR : 26 ≤ ({ frames := 26, cells := 0, slots := 0, locals := 605 } : Room).frames ∧ 605 ≤ ({ frames := 26, cells := 0, slots := 0, locals := 605 } : Room).locals := ⟨Nat.le_refl _, Nat.le_refl _⟩
  unfold x0_deedOf at h
  refine cf_aload_n E dX0_deedOf_0 0 rfl rfl ?_
  refine xgX0_23 E dX0_deedOf_1 rfl ?_
  refine cf_iload_n E dX0_deedOf_4 2 rfl rfl ?_
  refine xaldq_3 E dX0_deedOf_5 h rfl (fun b_1 h => ?_)
  refine cf_astore E dX0_deedOf_6 [(4, .ref b_1), (0, .ref (xa g 0)), (1, .ref (xa g (200 + 10 * t1))), (2, .int x2), (3, .int x3)] (Nat.le_of_ble_eq_true rfl) rfl rfl ?_
  refine cf_aload_n E dX0_deedOf_8 1 rfl rfl ?_
  refine xgX0_54 E dX0_deedOf_9 rfl ?_
  refine cf_iload_n E dX0_deedOf_12 3 rfl rfl ?_
  refine xpX0_172 E dX0_deedOf_13 h rfl (fun s_2 h => ?_)
  refine cf_aload_n E dX0_deedOf_16 1 rfl rfl ?_
  refine xgX0_54 E dX0_deedOf_17 rfl ?_
  refine cf_iload_n E dX0_deedOf_20 4 rfl rfl ?_
  refine xpX0_175 E dX0_deedOf_21 h rfl (fun s_3 h => ?_)
  refine cf_aload_n E dX0_deedOf_24 1 rfl rfl ?_
  refine xgX0_54 E dX0_deedOf_25 rfl ?_
  refine cf_aload E dX0_deedOf_28 0 rfl rfl ?_
  refine xvcX0_178 E (rmle hR rfl rfl) (Nat.le_of_ble_eq_true rfl) ⟨Nat.zero_le _, Nat.zero_le _⟩ dX0_deedOf_30 h rfl (fun v_5 s_4 h => ?_)
  refine xpX0_182 E dX0_deedOf_33 h rfl (fun s_6 h => ?_)
  refine cf_aload_n E dX0_deedOf_36 1 rfl rfl ?_
  refine xgX0_54 E dX0_deedOf_37 rfl ?_
  refine cf_aload E dX0_deedOf_40 0 rfl rfl ?_
  refine xdgX0_184 E dX0_deedOf_42 h rfl (fun v_7 h => ?_)
  refine xpX0_187 E dX0_deedOf_45 h rfl (fun s_8 h => ?_)
  refine cf_aload_n E dX0_deedOf_48 1 rfl rfl ?_
  refine xgX0_54 E dX0_deedOf_49 rfl ?_
  refine cf_aload_n E dX0_deedOf_52 2 rfl rfl ?_
  refine xgX0_169 E ht1 dX0_deedOf_53 rfl ?_
  refine cf_iload_n E dX0_deedOf_56 3 rfl rfl ?_
  refine xaldT_1 E ht1 dX0_deedOf_57 h rfl (fun h => ?_)
  refine cf_bipush E dX0_deedOf_58 bp_10 rfl ?_
  refine cf_iremL E dX0_deedOf_60 (by decide) rfl ?_
  refine xpX0_188 E dX0_deedOf_61 h rfl (fun s_9 h => ?_)
  refine cf_aload_n E dX0_deedOf_64 1 rfl rfl ?_
  refine xgX0_54 E dX0_deedOf_65 rfl ?_
  refine cf_aload_n E dX0_deedOf_68 2 rfl rfl ?_
  refine xgX0_190 E ht1 dX0_deedOf_69 rfl ?_
  refine cf_bipush E dX0_deedOf_72 bp_7 rfl ?_
  refine cf_iremL E dX0_deedOf_74 (by decide) rfl ?_
  refine xpX0_193 E dX0_deedOf_75 h rfl (fun s_10 h => ?_)
  refine cf_aload E dX0_deedOf_78 0 rfl rfl ?_
  refine cf_aload_n E dX0_deedOf_80 1 rfl rfl ?_
  refine xgX0_47 E dX0_deedOf_81 rfl (xforce h (fun w_11 h => ?_))
  refine cf_aload_n E dX0_deedOf_84 1 rfl rfl ?_
  refine xgX0_54 E dX0_deedOf_85 rfl ?_
  refine xclX0_194 E (rmle hR rfl rfl) (Nat.le_of_ble_eq_true rfl) ⟨Nat.zero_le _, Nat.zero_le _⟩ dX0_deedOf_88 h rfl (fun v_13 s_12 h => ?_)
  refine cf_aload_n E dX0_deedOf_91 1 rfl rfl ?_
  refine xgX0_11 E dX0_deedOf_92 rfl ?_
  refine cf_iload_n E dX0_deedOf_95 4 rfl rfl ?_
  refine xald_0 E dX0_deedOf_96 h rfl (fun h => ?_)
  refine cf_aload_n E dX0_deedOf_97 2 rfl rfl ?_
  refine xgX0_169 E ht1 dX0_deedOf_98 rfl ?_
  refine cf_iload_n E dX0_deedOf_101 3 rfl rfl ?_
  refine xaldT_1 E ht1 dX0_deedOf_102 h rfl (fun h => ?_)
  refine cf_aload_n E dX0_deedOf_103 2 rfl rfl ?_
  refine xgX0_190 E ht1 dX0_deedOf_104 rfl ?_
  refine xvcX0_198 E (rmle hR rfl rfl) (Nat.le_of_ble_eq_true rfl) ⟨Nat.zero_le _, Nat.zero_le _⟩ dX0_deedOf_107 h rfl (fun v_15 s_14 h => ?_)
  exact xret_i dX0_deedOf_110 h rfl hq
def x0_of (N : Nat) (g : XG)   (x1 : Int32) (x2 : Int32) (ξ : XS) : Option (Int32 × XS) :=
  bnd (x0_isHat N g x1 ξ) fun v_2 s_1 =>
  if v_2 = 0 then (
    some ((-10001 : Int32), s_1))
  else (
    if x2 = (0 : Int32) then (
      if inb x1 6 = true then bno (xQ s_1 3 x1.toNatClampNeg) (fun b_4 =>
      bnd (xv_kind N g b_4 s_1) fun v_6 s_5 =>
      some (v_6, s_5)) else none)
    else
    if x2 = (1 : Int32) then (
      if inb x1 6 = true then bno (xQ s_1 3 x1.toNatClampNeg) (fun b_8 =>
      bno (dI s_1 b_8 8 14 1) fun v_9 =>
      some (v_9, s_1)) else none)
    else
    if x2 = (2 : Int32) then (
      if inb x1 6 = true then bno (xQ s_1 3 x1.toNatClampNeg) (fun b_11 =>
      bno (dI s_1 b_11 8 14 2) fun v_12 =>
      some (v_12, s_1)) else none)
    else
    if x2 = (3 : Int32) then (
      if inb x1 6 = true then (
      some ((xR s_1 2 x1.toNatClampNeg), s_1)) else none)
    else
    if x2 = (4 : Int32) then (
      if inb x1 6 = true then bno (xQ s_1 3 x1.toNatClampNeg) (fun b_15 =>
      bno (dI s_1 b_15 8 14 3) fun v_16 =>
      some (v_16, s_1)) else none)
    else
    if x2 = (5 : Int32) then (
      if inb x1 6 = true then (
      some ((xR s_1 201 x1.toNatClampNeg), s_1)) else none)
    else
    if x2 = (6 : Int32) then (
      bnd (x1_headOf N g 0 x1 s_1) fun v_20 s_19 =>
      bnd (x0_orNone N g v_20 s_19) fun v_22 s_21 =>
      some (v_22, s_21))
    else
    bnd (x0_isHead N g (x2 - (10 : Int32)) s_1) fun v_24 s_23 =>
    if v_24 = 0 then (
      some ((-10001 : Int32), s_23))
    else (
      bnd (x0_deedOf N g 0 x1 (x2 - (10 : Int32)) s_23) fun v_26 s_25 =>
      some (v_26, s_25)))
section XC
variable {p : Program} {l : Launch} {e : Env} {R : Room} {s : State} {m : MethodId} {args : Array Value} {below : List Frame} {meth : Method} {c : Code} {nL cells slots : Nat} {A : Nat → Prop} {g : XG} {ξ : XS} {Q : State → Prop} {pc n : Nat} {lv : List (Nat × Value)} {st : List Value} {cc : ByteArray} {ρ : Type} {res : ρ}
theorem xclX0_221 (E : EV p s m args c cc nL RX0) {N : Nat} {t1 : Nat} (ht1 : t1 < 3) {x2 : Int32} {x3 : Int32} {kk : Int32 → XS → Option ρ} (hR : 27 ≤ R.frames ∧ 629 ≤ R.locals) (hcat : (st.map fun v => v.category).sum ≤ 8) (hf : cells ≤ R.cells ∧ slots ≤ R.slots) (d : decode cc pc = .ok (.invokevirtual 221, 3)) (h : bnd (x0_deedOf N g t1 x2 x3 ξ) kk = some res) (hn : pc + 3 = n) (k : ∀ (v : Int32) (ξ1 : XS), kk v ξ1 = some res → CF p l e R s m args below meth c nL cells slots (XB g A s ξ1) Q n lv (.int v :: st)) : CF p l e R s m args below meth c nL cells slots (XB g A s ξ) Q pc lv (.int x3 :: .int x2 :: .ref (xa g (200 + 10 * t1)) :: .ref (xa g 0) :: st) :=
  xcallV0_i (na := 3) E [.ref (xa g (200 + 10 * t1)), .int x2, .int x3] (fun v ξ1 ho => met_x0_deedOf l g N t1 ht1 x2 x3 ξ ho) (C := RX0) (lw_V q604 q606 qs3 q96 q607) (by decide +kernel) ⟨0, 1, _, _, rfl, rfl, rfl⟩ rfl rfl hR rfl rfl hcat hf d h hn k
end XC
set_option maxHeartbeats 4000000 in
theorem met_x0_of (l : Launch) (g : XG) (N : Nat)   (x1 : Int32) (x2 : Int32) (ξ : XS) {v : Int32} {ξ1 : XS} (h : x0_of N g  x1 x2 ξ = some (v, ξ1)) : MetXi l g yX0_of (ws_ yX0_of cX0_of 3 (some .int)) { frames := 27, cells := 0, slots := 0, locals := 629 } [.ref (xa g 0), .int x1, .int x2] ξ v ξ1 0 0 := by
  refine met_xi (lv0 := [(0, .ref (xa g 0)), (1, .int x1), (2, .int x2)]) (own := RX0) (by decide) rfl (Nat.le_of_ble_eq_true rfl) rfl ?_
  intro p e s m below meth c A Q E hq
  have hR : 27 ≤ ({ frames := 27, cells := 0, slots := 0, locals := 629 } : Room).frames ∧ 629 ≤ ({ frames := 27, cells := 0, slots := 0, locals := 629 } : Room).locals := ⟨Nat.le_refl _, Nat.le_refl _⟩
  unfold x0_of at h
  refine cf_aload_n E dX0_of_0 0 rfl rfl ?_
  refine cf_iload_n E dX0_of_1 1 rfl rfl ?_
  refine xclX0_202 E (rmle hR rfl rfl) (Nat.le_of_ble_eq_true rfl) ⟨Nat.zero_le _, Nat.zero_le _⟩ dX0_of_2 h rfl (fun v_2 s_1 h => ?_)
  refine cf_if_ne E dX0_of_5 h rfl rfl (fun h => ?_) (fun h => ?_)
  · refine cf_iload_n E dX0_of_12 2 rfl rfl ?_
    by_cases hx_3 : x2 = (0 : Int32)
    · rw [if_pos hx_3] at h
      refine cf_tabIn E 0 dX0_of_13 (i32_eqZ hx_3 (by decide)) (by decide) (by decide) rfl rfl ?_
      refine cf_aload_n E dX0_of_56 0 rfl rfl ?_
      refine xgX0_23 E dX0_of_57 rfl ?_
      refine cf_iload_n E dX0_of_60 1 rfl rfl ?_
      refine xaldq_3 E dX0_of_61 h rfl (fun b_4 h => ?_)
      refine xvcX0_178 E (rmle hR rfl rfl) (Nat.le_of_ble_eq_true rfl) ⟨Nat.zero_le _, Nat.zero_le _⟩ dX0_of_62 h rfl (fun v_6 s_5 h => ?_)
      exact xret_i dX0_of_65 h rfl hq
    rw [if_neg hx_3] at h
    by_cases hx_7 : x2 = (1 : Int32)
    · rw [if_pos hx_7] at h
      refine cf_tabIn E 1 dX0_of_13 (i32_eqZ hx_7 (by decide)) (by decide) (by decide) rfl rfl ?_
      refine cf_aload_n E dX0_of_66 0 rfl rfl ?_
      refine xgX0_23 E dX0_of_67 rfl ?_
      refine cf_iload_n E dX0_of_70 1 rfl rfl ?_
      refine xaldq_3 E dX0_of_71 h rfl (fun b_8 h => ?_)
      refine xdgX0_205 E dX0_of_72 h rfl (fun v_9 h => ?_)
      exact xret_i dX0_of_75 h rfl hq
    rw [if_neg hx_7] at h
    by_cases hx_10 : x2 = (2 : Int32)
    · rw [if_pos hx_10] at h
      refine cf_tabIn E 2 dX0_of_13 (i32_eqZ hx_10 (by decide)) (by decide) (by decide) rfl rfl ?_
      refine cf_aload_n E dX0_of_76 0 rfl rfl ?_
      refine xgX0_23 E dX0_of_77 rfl ?_
      refine cf_iload_n E dX0_of_80 1 rfl rfl ?_
      refine xaldq_3 E dX0_of_81 h rfl (fun b_11 h => ?_)
      refine xdgX0_208 E dX0_of_82 h rfl (fun v_12 h => ?_)
      exact xret_i dX0_of_85 h rfl hq
    rw [if_neg hx_10] at h
    by_cases hx_13 : x2 = (3 : Int32)
    · rw [if_pos hx_13] at h
      refine cf_tabIn E 3 dX0_of_13 (i32_eqZ hx_13 (by decide)) (by decide) (by decide) rfl rfl ?_
      refine cf_aload_n E dX0_of_86 0 rfl rfl ?_
      refine xgX0_18 E dX0_of_87 rfl ?_
      refine cf_iload_n E dX0_of_90 1 rfl rfl ?_
      refine xald_2 E dX0_of_91 h rfl (fun h => ?_)
      exact xret_i dX0_of_92 h rfl hq
    rw [if_neg hx_13] at h
    by_cases hx_14 : x2 = (4 : Int32)
    · rw [if_pos hx_14] at h
      refine cf_tabIn E 4 dX0_of_13 (i32_eqZ hx_14 (by decide)) (by decide) (by decide) rfl rfl ?_
      refine cf_aload_n E dX0_of_93 0 rfl rfl ?_
      refine xgX0_23 E dX0_of_94 rfl ?_
      refine cf_iload_n E dX0_of_97 1 rfl rfl ?_
      refine xaldq_3 E dX0_of_98 h rfl (fun b_15 h => ?_)
      refine xdgX0_184 E dX0_of_99 h rfl (fun v_16 h => ?_)
      exact xret_i dX0_of_102 h rfl hq
    rw [if_neg hx_14] at h
    by_cases hx_17 : x2 = (5 : Int32)
    · rw [if_pos hx_17] at h
      refine cf_tabIn E 5 dX0_of_13 (i32_eqZ hx_17 (by decide)) (by decide) (by decide) rfl rfl ?_
      refine cf_aload_n E dX0_of_103 0 rfl rfl ?_
      refine xgX0_30 E dX0_of_104 rfl ?_
      refine xgX0_169_0 E dX0_of_107 rfl ?_
      refine cf_iload_n E dX0_of_110 1 rfl rfl ?_
      refine xaldT_1_0 E dX0_of_111 h rfl (fun h => ?_)
      exact xret_i dX0_of_112 h rfl hq
    rw [if_neg hx_17] at h
    by_cases hx_18 : x2 = (6 : Int32)
    · rw [if_pos hx_18] at h
      refine cf_tabIn E 6 dX0_of_13 (i32_eqZ hx_18 (by decide)) (by decide) (by decide) rfl rfl ?_
      refine cf_aload_n E dX0_of_113 0 rfl rfl ?_
      refine xgX0_30 E dX0_of_114 rfl ?_
      refine cf_iload_n E dX0_of_117 1 rfl rfl ?_
      refine xclX0_211 (t0 := 0) E (by decide) (rmle hR rfl rfl) (Nat.le_of_ble_eq_true rfl) ⟨Nat.zero_le _, Nat.zero_le _⟩ dX0_of_118 h rfl (fun v_20 s_19 h => ?_)
      refine xclX0_215 E (rmle hR rfl rfl) (Nat.le_of_ble_eq_true rfl) ⟨Nat.zero_le _, Nat.zero_le _⟩ dX0_of_121 h rfl (fun v_22 s_21 h => ?_)
      exact xret_i dX0_of_124 h rfl hq
    rw [if_neg hx_18] at h
    have hx_3 := i32_neZ (z := 0) hx_3 (by decide)
    have hx_7 := i32_neZ (z := 1) hx_7 (by decide)
    have hx_10 := i32_neZ (z := 2) hx_10 (by decide)
    have hx_13 := i32_neZ (z := 3) hx_13 (by decide)
    have hx_14 := i32_neZ (z := 4) hx_14 (by decide)
    have hx_17 := i32_neZ (z := 5) hx_17 (by decide)
    have hx_18 := i32_neZ (z := 6) hx_18 (by decide)
    refine cf_tabOut E dX0_of_13 (by omega) rfl ?_
    refine cf_aload_n E dX0_of_125 0 rfl rfl ?_
    refine cf_iload_n E dX0_of_126 2 rfl rfl ?_
    refine cf_bipush E dX0_of_127 bp_10 rfl ?_
    refine cf_isub E dX0_of_129 rfl ?_
    refine xclX0_218 E (rmle hR rfl rfl) (Nat.le_of_ble_eq_true rfl) ⟨Nat.zero_le _, Nat.zero_le _⟩ dX0_of_130 h rfl (fun v_24 s_23 h => ?_)
    refine cf_if_eq E dX0_of_133 h rfl rfl (fun h => ?_) (fun h => ?_)
    · refine cf_sipush E dX0_of_152 sp_m10001 rfl ?_
      exact xret_i dX0_of_155 h rfl hq
    · refine cf_aload_n E dX0_of_136 0 rfl rfl ?_
      refine cf_aload_n E dX0_of_137 0 rfl rfl ?_
      refine xgX0_30 E dX0_of_138 rfl ?_
      refine cf_iload_n E dX0_of_141 1 rfl rfl ?_
      refine cf_iload_n E dX0_of_142 2 rfl rfl ?_
      refine cf_bipush E dX0_of_143 bp_10 rfl ?_
      refine cf_isub E dX0_of_145 rfl ?_
      refine xclX0_221 (t1 := 0) E (by decide) (rmle hR rfl rfl) (Nat.le_of_ble_eq_true rfl) ⟨Nat.zero_le _, Nat.zero_le _⟩ dX0_of_146 h rfl (fun v_26 s_25 h => ?_)
      refine cf_goto E dX0_of_149 rfl ?_
      exact xret_i dX0_of_155 h rfl hq
  · refine cf_sipush E dX0_of_8 sp_m10001 rfl ?_
    exact xret_i dX0_of_11 h rfl hq
def x0_todayOf_60 (N : Nat) (g : XG) (t1 : Nat) (rec5 : Int32 → Int32 → Int32 → XS → Option (Int32 × XS)) (x2 : Int32) (x3 : Int32) (x4 : Int32) (ξ : XS) : Option (Int32 × XS) :=
  nx (x4 + (1 : Int32)) fun x4_1 =>
  rec5 x2 x3 x4_1 ξ
def x0_todayOf_48 (N : Nat) (g : XG) (t1 : Nat) (rec5 : Int32 → Int32 → Int32 → XS → Option (Int32 × XS)) (x2 : Int32) (x3 : Int32) (x4 : Int32) (x5 : Int32) (ξ : XS) : Option (Int32 × XS) :=
  bnd (x0_deedOf N g t1 x5 x4 ξ) fun v_2 s_1 =>
  nx ((x3 + v_2) : Int32) fun x3_3 =>
  x0_todayOf_60 N g t1 rec5 x2 x3_3 x4 s_1
def x0_todayOf_5b (N : Nat) (g : XG) (t1 : Nat)  (rec5 : Int32 → Int32 → Int32 → XS → Option (Int32 × XS)) (x2 : Int32) (x3 : Int32) (x4 : Int32) (ξ : XS) : Option (Int32 × XS) :=
  if (xF ξ (202 + 10 * t1)) ≤ x4 then (
    some (x3, ξ))
  else (
    if inb x4 6 = true then (
    nx ((xR ξ (200 + 10 * t1) x4.toNatClampNeg) : Int32) fun x5_1 =>
    if x5_1 = (-1 : Int32) then (
      x0_todayOf_60 N g t1 rec5 x2 x3 x4 ξ)
    else (
      if x2 = (-1 : Int32) then (
        x0_todayOf_48 N g t1 rec5 x2 x3 x4 x5_1 ξ)
      else (
        if inb x5_1 6 = true then bno (xQ ξ 3 x5_1.toNatClampNeg) (fun b_2 =>
        bno (dI ξ b_2 8 14 3) fun v_3 =>
        if v_3 = x2 then (
          x0_todayOf_48 N g t1 rec5 x2 x3 x4 x5_1 ξ)
        else (
          x0_todayOf_60 N g t1 rec5 x2 x3 x4 ξ)) else none))) else none)
def x0_todayOf_5 (N : Nat) (g : XG) (t1 : Nat)  : Nat → Int32 → Int32 → Int32 → XS → Option (Int32 × XS)
  | 0 => fun _ _ _ _ => none
  | k + 1 => fun x2 x3 x4 ξ => x0_todayOf_5b N g t1  (x0_todayOf_5 N g t1  k) x2 x3 x4 ξ
def x0_todayOf (N : Nat) (g : XG) (t1 : Nat)  (x2 : Int32) (ξ : XS) : Option (Int32 × XS) :=
  nx ((0 : Int32) : Int32) fun x3_1 =>
  nx ((0 : Int32) : Int32) fun x4_2 =>
  x0_todayOf_5 N g t1 N x2 x3_1 x4_2 ξ
set_option maxHeartbeats 4000000 in
theorem wx0_todayOf_60 {p : Program} {l : Launch} {e : Env} {R : Room} {s : State} {m : MethodId} {args : Array Value} {below : List Frame} {meth : Method} {c : Code} {A : Nat → Prop} {g : XG} {Q : State → Prop} (E : EV p s m args c cX0_todayOf 6 RX0) (hR : 27 ≤ R.frames ∧ 629 ≤ R.locals) {res : Int32 × XS} (hq : XTi p l e R s m args below meth c cX0_todayOf 6 0 0 A g .int Q res) (N : Nat) (t1 : Nat) (ht1 : t1 < 3) {rec5 : Int32 → Int32 → Int32 → XS → Option (Int32 × XS)} (ih5 : ∀ (x2 : Int32) (x3 : Int32) (x4 : Int32) (ξ : XS), rec5 x2 x3 x4 ξ = some res → CF p l e R s m args below meth c 6 0 0 (XB g A s ξ) Q 5 [(0, .ref (xa g 0)), (1, .ref (xa g (200 + 10 * t1))), (2, .int x2), (3, .int x3), (4, .int x4)] []) (x2 : Int32) (x3 : Int32) (x4 : Int32) (ξ : XS) (h : x0_todayOf_60 N g t1 rec5 x2 x3 x4 ξ = some res) : CF p l e R s m args below meth c 6 0 0 (XB g A s ξ) Q 60 [(0, .ref (xa g 0)), (1, .ref (xa g (200 + 10 * t1))), (2, .int x2), (3, .int x3), (4, .int x4)] [] := by
  unfold x0_todayOf_60 at h
  refine cf_iinc E dX0_todayOf_60 ic_1 h 4 rfl (fun x4_1 => [(4, .int x4_1), (0, .ref (xa g 0)), (1, .ref (xa g (200 + 10 * t1))), (2, .int x2), (3, .int x3)]) (Nat.le_of_ble_eq_true rfl) (fun _ => rfl) rfl (fun x4_1 h => ?_)
  refine cf_goto E dX0_todayOf_63 rfl ?_
  exact CF.sub [1, 2, 3, 4, 0] rfl (ih5 x2 x3 x4_1 ξ h)
set_option maxHeartbeats 4000000 in
theorem wx0_todayOf_48 {p : Program} {l : Launch} {e : Env} {R : Room} {s : State} {m : MethodId} {args : Array Value} {below : List Frame} {meth : Method} {c : Code} {A : Nat → Prop} {g : XG} {Q : State → Prop} (E : EV p s m args c cX0_todayOf 6 RX0) (hR : 27 ≤ R.frames ∧ 629 ≤ R.locals) {res : Int32 × XS} (hq : XTi p l e R s m args below meth c cX0_todayOf 6 0 0 A g .int Q res) (N : Nat) (t1 : Nat) (ht1 : t1 < 3) {rec5 : Int32 → Int32 → Int32 → XS → Option (Int32 × XS)} (ih5 : ∀ (x2 : Int32) (x3 : Int32) (x4 : Int32) (ξ : XS), rec5 x2 x3 x4 ξ = some res → CF p l e R s m args below meth c 6 0 0 (XB g A s ξ) Q 5 [(0, .ref (xa g 0)), (1, .ref (xa g (200 + 10 * t1))), (2, .int x2), (3, .int x3), (4, .int x4)] []) (x2 : Int32) (x3 : Int32) (x4 : Int32) (x5 : Int32) (ξ : XS) (h : x0_todayOf_48 N g t1 rec5 x2 x3 x4 x5 ξ = some res) : CF p l e R s m args below meth c 6 0 0 (XB g A s ξ) Q 48 [(0, .ref (xa g 0)), (1, .ref (xa g (200 + 10 * t1))), (2, .int x2), (3, .int x3), (4, .int x4), (5, .int x5)] [] := by
  unfold x0_todayOf_48 at h
  refine cf_iload_n E dX0_todayOf_48 3 rfl rfl ?_
  refine cf_aload_n E dX0_todayOf_49 0 rfl rfl ?_
  refine cf_aload_n E dX0_todayOf_50 1 rfl rfl ?_
  refine cf_iload E dX0_todayOf_51 5 rfl rfl ?_
  refine cf_iload E dX0_todayOf_53 4 rfl rfl ?_
  refine xclX0_221 (t1 := t1) E ht1 (rmle hR rfl rfl) (Nat.le_of_ble_eq_true rfl) ⟨Nat.zero_le _, Nat.zero_le _⟩ dX0_todayOf_55 h rfl (fun v_2 s_1 h => ?_)
  refine cf_iadd E dX0_todayOf_58 rfl ?_
  refine cf_istore_n E dX0_todayOf_59 h (fun x3_3 => [(3, .int x3_3), (0, .ref (xa g 0)), (1, .ref (xa g (200 + 10 * t1))), (2, .int x2), (4, .int x4), (5, .int x5)]) (Nat.le_of_ble_eq_true rfl) (fun _ => rfl) rfl (fun x3_3 h => ?_)
  exact CF.sub [1, 2, 3, 0, 4] rfl (wx0_todayOf_60 E hR hq N t1 ht1 ih5 x2 x3_3 x4 s_1 h)
set_option maxHeartbeats 4000000 in
theorem wx0_todayOf_5b {p : Program} {l : Launch} {e : Env} {R : Room} {s : State} {m : MethodId} {args : Array Value} {below : List Frame} {meth : Method} {c : Code} {A : Nat → Prop} {g : XG} {Q : State → Prop} (E : EV p s m args c cX0_todayOf 6 RX0) (hR : 27 ≤ R.frames ∧ 629 ≤ R.locals) {res : Int32 × XS} (hq : XTi p l e R s m args below meth c cX0_todayOf 6 0 0 A g .int Q res) (N : Nat) (t1 : Nat) (ht1 : t1 < 3)  {rec5 : Int32 → Int32 → Int32 → XS → Option (Int32 × XS)} (ih5 : ∀ (x2 : Int32) (x3 : Int32) (x4 : Int32) (ξ : XS), rec5 x2 x3 x4 ξ = some res → CF p l e R s m args below meth c 6 0 0 (XB g A s ξ) Q 5 [(0, .ref (xa g 0)), (1, .ref (xa g (200 + 10 * t1))), (2, .int x2), (3, .int x3), (4, .int x4)] []) (x2 : Int32) (x3 : Int32) (x4 : Int32) (ξ : XS) (h : x0_todayOf_5b N g t1  rec5 x2 x3 x4 ξ = some res) : CF p l e R s m args below meth c 6 0 0 (XB g A s ξ) Q 5 [(0, .ref (xa g 0)), (1, .ref (xa g (200 + 10 * t1))), (2, .int x2), (3, .int x3), (4, .int x4)] [] := by
  unfold x0_todayOf_5b at h
  refine cf_iload E dX0_todayOf_5 4 rfl rfl ?_
  refine cf_aload_n E dX0_todayOf_7 1 rfl rfl ?_
  refine xgX0_126 E ht1 dX0_todayOf_8 rfl ?_
  refine cf_icmp_ge E dX0_todayOf_11 h rfl rfl (fun h => ?_) (fun h => ?_)
  · refine cf_iload_n E dX0_todayOf_66 3 rfl rfl ?_
    exact xret_i dX0_todayOf_67 h rfl hq
  · refine cf_aload_n E dX0_todayOf_14 1 rfl rfl ?_
    refine xgX0_137 E ht1 dX0_todayOf_15 rfl ?_
    refine cf_iload E dX0_todayOf_18 4 rfl rfl ?_
    refine xaldT_0 E ht1 dX0_todayOf_20 h rfl (fun h => ?_)
    refine cf_istore E dX0_todayOf_21 h (fun x5_1 => [(5, .int x5_1), (0, .ref (xa g 0)), (1, .ref (xa g (200 + 10 * t1))), (2, .int x2), (3, .int x3), (4, .int x4)]) (Nat.le_of_ble_eq_true rfl) (fun _ => rfl) rfl (fun x5_1 h => ?_)
    refine cf_iload E dX0_todayOf_23 0 rfl rfl ?_
    refine cf_iconst E dX0_todayOf_25 ic_m1 rfl ?_
    refine cf_icmp_eq E dX0_todayOf_26 h rfl rfl (fun h => ?_) (fun h => ?_)
    · exact CF.sub [1, 2, 3, 4, 5] rfl (wx0_todayOf_60 E hR hq N t1 ht1 ih5 x2 x3 x4 ξ h)
    · refine cf_iload_n E dX0_todayOf_29 3 rfl rfl ?_
      refine cf_iconst E dX0_todayOf_30 ic_m1 rfl ?_
      refine cf_icmp_eq E dX0_todayOf_31 h rfl rfl (fun h => ?_) (fun h => ?_)
      · exact CF.sub [1, 2, 3, 4, 5, 0] rfl (wx0_todayOf_48 E hR hq N t1 ht1 ih5 x2 x3 x4 x5_1 ξ h)
      · refine cf_aload_n E dX0_todayOf_34 1 rfl rfl ?_
        refine xgX0_23 E dX0_todayOf_35 rfl ?_
        refine cf_iload E dX0_todayOf_38 0 rfl rfl ?_
        refine xaldq_3 E dX0_todayOf_40 h rfl (fun b_2 h => ?_)
        refine xdgX0_184 E dX0_todayOf_41 h rfl (fun v_3 h => ?_)
        refine cf_iload_n E dX0_todayOf_44 3 rfl rfl ?_
        refine cf_icmp_ne E dX0_todayOf_45 h rfl rfl (fun h => ?_) (fun h => ?_)
        · exact CF.sub [1, 2, 3, 4, 5] rfl (wx0_todayOf_60 E hR hq N t1 ht1 ih5 x2 x3 x4 ξ h)
        · exact CF.sub [1, 2, 3, 4, 5, 0] rfl (wx0_todayOf_48 E hR hq N t1 ht1 ih5 x2 x3 x4 x5_1 ξ h)
set_option maxHeartbeats 4000000 in
theorem wx0_todayOf_5 {p : Program} {l : Launch} {e : Env} {R : Room} {s : State} {m : MethodId} {args : Array Value} {below : List Frame} {meth : Method} {c : Code} {A : Nat → Prop} {g : XG} {Q : State → Prop} (E : EV p s m args c cX0_todayOf 6 RX0) (hR : 27 ≤ R.frames ∧ 629 ≤ R.locals) {res : Int32 × XS} (hq : XTi p l e R s m args below meth c cX0_todayOf 6 0 0 A g .int Q res) (N : Nat) (t1 : Nat) (ht1 : t1 < 3)  : ∀ (k : Nat) (x2 : Int32) (x3 : Int32) (x4 : Int32) (ξ : XS), x0_todayOf_5 N g t1  k x2 x3 x4 ξ = some res → CF p l e R s m args below meth c 6 0 0 (XB g A s ξ) Q 5 [(0, .ref (xa g 0)), (1, .ref (xa g (200 + 10 * t1))), (2, .int x2), (3, .int x3), (4, .int x4)] [] := by
  intro k
  induction k with
  | zero => intro x2 x3 x4 ξ h; have h : (none : Option (Int32 × XS)) = some res := h; cases h
  | succ k ih => intro x2 x3 x4 ξ h; exact wx0_todayOf_5b E hR hq N t1 ht1  ih x2 x3 x4 ξ h
set_option maxHeartbeats 4000000 in
theorem met_x0_todayOf (l : Launch) (g : XG) (N : Nat) (t1 : Nat) (ht1 : t1 < 3) (x2 : Int32) (ξ : XS) {v : Int32} {ξ1 : XS} (h : x0_todayOf N g t1 x2 ξ = some (v, ξ1)) : MetXi l g yX0_todayOf (ws_ yX0_todayOf cX0_todayOf 6 (some .int)) { frames := 27, cells := 0, slots := 0, locals := 629 } [.ref (xa g 0), .ref (xa g (200 + 10 * t1)), .int x2] ξ v ξ1 0 0 := by
  refine met_xi (lv0 := [(0, .ref (xa g 0)), (1, .ref (xa g (200 + 10 * t1))), (2, .int x2)]) (own := RX0) (by decide) rfl (Nat.le_of_ble_eq_true rfl) rfl ?_
  intro p e s m below meth c A Q E hq
  have hR : 27 ≤ ({ frames := 27, cells := 0, slots := 0, locals := 629 } : Room).frames ∧ 629 ≤ ({ frames := 27, cells := 0, slots := 0, locals := 629 } : Room).locals := ⟨Nat.le_refl _, Nat.le_refl _⟩
  unfold x0_todayOf at h
  refine cf_iconst E dX0_todayOf_0 ic_0 rfl ?_
  refine cf_istore_n E dX0_todayOf_1 h (fun x3_1 => [(3, .int x3_1), (0, .ref (xa g 0)), (1, .ref (xa g (200 + 10 * t1))), (2, .int x2)]) (Nat.le_of_ble_eq_true rfl) (fun _ => rfl) rfl (fun x3_1 h => ?_)
  refine cf_iconst E dX0_todayOf_2 ic_0 rfl ?_
  refine cf_istore E dX0_todayOf_3 h (fun x4_2 => [(4, .int x4_2), (3, .int x3_1), (0, .ref (xa g 0)), (1, .ref (xa g (200 + 10 * t1))), (2, .int x2)]) (Nat.le_of_ble_eq_true rfl) (fun _ => rfl) rfl (fun x4_2 h => ?_)
  exact CF.sub [2, 3, 4, 1, 0] rfl (wx0_todayOf_5 E hR hq N t1 ht1 N x2 x3_1 x4_2 ξ h)
def x0_day_76b (N : Nat) (g : XG)   (rec76 : Int32 → Int32 → XS → Option (Int32 × XS)) (x1 : Int32) (x2 : Int32) (ξ : XS) : Option (Int32 × XS) :=
  if (xF ξ 4) ≤ x2 then (
    some (x1, ξ))
  else (
    if inb x2 6 = true then (
    if inb x2 6 = true then nx (sXR ξ 201 x2.toNatClampNeg (if (xR ξ 201 x2.toNatClampNeg) < (9999 : Int32) then (xR ξ 201 x2.toNatClampNeg) else (9999 : Int32))) (fun s_1 =>
    nx (x2 + (1 : Int32)) fun x2_2 =>
    rec76 x1 x2_2 s_1) else none) else none)
def x0_day_76 (N : Nat) (g : XG)   : Nat → Int32 → Int32 → XS → Option (Int32 × XS)
  | 0 => fun _ _ _ => none
  | k + 1 => fun x1 x2 ξ => x0_day_76b N g   (x0_day_76 N g   k) x1 x2 ξ
def x0_day_28b (N : Nat) (g : XG)   (rec28 : Int32 → Int32 → XS → Option (Int32 × XS)) (x1 : Int32) (x2 : Int32) (ξ : XS) : Option (Int32 × XS) :=
  if (5 : Int32) ≤ x2 then (
    bnv (x1_wears N g 0 ξ) fun s_1 =>
    nx ((0 : Int32) : Int32) fun x2_2 =>
    x0_day_76 N g N x1 x2_2 s_1)
  else (
    if inb x2 5 = true then (
    bnd (x0_todayOf N g 0 x2 ξ) fun v_4 s_3 =>
    if inb x2 5 = true then nx (sXR s_3 7 x2.toNatClampNeg (if ((xR ξ 7 x2.toNatClampNeg) + v_4) < (999999 : Int32) then ((xR ξ 7 x2.toNatClampNeg) + v_4) else (999999 : Int32))) (fun s_5 =>
    nx (x2 + (1 : Int32)) fun x2_6 =>
    rec28 x1 x2_6 s_5) else none) else none)
def x0_day_28 (N : Nat) (g : XG)   : Nat → Int32 → Int32 → XS → Option (Int32 × XS)
  | 0 => fun _ _ _ => none
  | k + 1 => fun x1 x2 ξ => x0_day_28b N g   (x0_day_28 N g   k) x1 x2 ξ
def x0_day (N : Nat) (g : XG)    (ξ : XS) : Option (Int32 × XS) :=
  if (xF ξ 203) = (9999 : Int32) then (
    some ((-3 : Int32), ξ))
  else (
    bnd (x0_todayOf N g 0 (-1 : Int32) ξ) fun v_2 s_1 =>
    nx (v_2 : Int32) fun x1_3 =>
    nx ((0 : Int32) : Int32) fun x2_4 =>
    x0_day_28 N g N x1_3 x2_4 s_1)
section XC
variable {p : Program} {l : Launch} {e : Env} {R : Room} {s : State} {m : MethodId} {args : Array Value} {below : List Frame} {meth : Method} {c : Code} {nL cells slots : Nat} {A : Nat → Prop} {g : XG} {ξ : XS} {Q : State → Prop} {pc n : Nat} {lv : List (Nat × Value)} {st : List Value} {cc : ByteArray} {ρ : Type} {res : ρ}
theorem xclX0_264 (E : EV p s m args c cc nL RX0) {N : Nat} {t0 : Nat} (ht0 : t0 < 3)  {kk : XS → Option ρ} (hR : 1 ≤ R.frames ∧ 21 ≤ R.locals) (hcat : (st.map fun v => v.category).sum ≤ 8) (hf : cells ≤ R.cells ∧ slots ≤ R.slots) (d : decode cc pc = .ok (.invokevirtual 264, 3)) (h : bnv (x1_wears N g t0  ξ) kk = some res) (hn : pc + 3 = n) (k : ∀ (ξ1 : XS), kk ξ1 = some res → CF p l e R s m args below meth c nL cells slots (XB g A s ξ1) Q n lv st) : CF p l e R s m args below meth c nL cells slots (XB g A s ξ) Q pc lv (.ref (xa g (200 + 10 * t0)) :: st) :=
  xcallV0_v (na := 0) E [] (fun ξ1 ho => met_x1_wears l g N t0 ht0  ξ ho) (C := RX1) (lw_V q1075 q1076 q1077 q97 q1078) (by decide +kernel) (xrecvT ht0) rfl rfl hR rfl rfl hcat hf d h hn k
theorem xclX0_253 (E : EV p s m args c cc nL RX0) {N : Nat} {t1 : Nat} (ht1 : t1 < 3) {x2 : Int32} {kk : Int32 → XS → Option ρ} (hR : 28 ≤ R.frames ∧ 654 ≤ R.locals) (hcat : (st.map fun v => v.category).sum ≤ 8) (hf : cells ≤ R.cells ∧ slots ≤ R.slots) (d : decode cc pc = .ok (.invokevirtual 253, 3)) (h : bnd (x0_todayOf N g t1 x2 ξ) kk = some res) (hn : pc + 3 = n) (k : ∀ (v : Int32) (ξ1 : XS), kk v ξ1 = some res → CF p l e R s m args below meth c nL cells slots (XB g A s ξ1) Q n lv (.int v :: st)) : CF p l e R s m args below meth c nL cells slots (XB g A s ξ) Q pc lv (.int x2 :: .ref (xa g (200 + 10 * t1)) :: .ref (xa g 0) :: st) :=
  xcallV0_i (na := 2) E [.ref (xa g (200 + 10 * t1)), .int x2] (fun v ξ1 ho => met_x0_todayOf l g N t1 ht1 x2 ξ ho) (C := RX0) (lw_V q1069 q1071 qs21 q96 q1072) (by decide +kernel) ⟨0, 1, _, _, rfl, rfl, rfl⟩ rfl rfl hR rfl rfl hcat hf d h hn k
end XC
set_option maxHeartbeats 4000000 in
theorem wx0_day_76b {p : Program} {l : Launch} {e : Env} {R : Room} {s : State} {m : MethodId} {args : Array Value} {below : List Frame} {meth : Method} {c : Code} {A : Nat → Prop} {g : XG} {Q : State → Prop} (E : EV p s m args c cX0_day 3 RX0) (hR : 28 ≤ R.frames ∧ 654 ≤ R.locals) {res : Int32 × XS} (hq : XTi p l e R s m args below meth c cX0_day 3 0 0 A g .int Q res) (N : Nat)    {rec76 : Int32 → Int32 → XS → Option (Int32 × XS)} (ih76 : ∀ (x1 : Int32) (x2 : Int32) (ξ : XS), rec76 x1 x2 ξ = some res → CF p l e R s m args below meth c 3 0 0 (XB g A s ξ) Q 76 [(0, .ref (xa g 0)), (1, .int x1), (2, .int x2)] []) (x1 : Int32) (x2 : Int32) (ξ : XS) (h : x0_day_76b N g   rec76 x1 x2 ξ = some res) : CF p l e R s m args below meth c 3 0 0 (XB g A s ξ) Q 76 [(0, .ref (xa g 0)), (1, .int x1), (2, .int x2)] [] := by
  unfold x0_day_76b at h
  refine cf_iload_n E dX0_day_76 2 rfl rfl ?_
  refine cf_aload_n E dX0_day_77 0 rfl rfl ?_
  refine xgX0_134 E dX0_day_78 rfl ?_
  refine cf_icmp_ge E dX0_day_81 h rfl rfl (fun h => ?_) (fun h => ?_)
  · refine cf_iload_n E dX0_day_114 1 rfl rfl ?_
    exact xret_i dX0_day_115 h rfl hq
  · refine cf_aload_n E dX0_day_84 0 rfl rfl ?_
    refine xgX0_30 E dX0_day_85 rfl ?_
    refine xgX0_169_0 E dX0_day_88 rfl ?_
    refine cf_iload_n E dX0_day_91 2 rfl rfl ?_
    refine cf_sipush E dX0_day_92 sp_9999 rfl ?_
    refine cf_aload_n E dX0_day_95 0 rfl rfl ?_
    refine xgX0_30 E dX0_day_96 rfl ?_
    refine xgX0_169_0 E dX0_day_99 rfl ?_
    refine cf_iload_n E dX0_day_102 2 rfl rfl ?_
    refine xaldT_1_0 E dX0_day_103 h rfl (fun h => ?_)
    refine xmX0_min E (rmle hR rfl rfl) (by first | exact Nat.le_of_ble_eq_true rfl | decide) ⟨Nat.zero_le _, Nat.zero_le _⟩ dX0_day_104 rfl ?_
    refine xastT_1_0 E dX0_day_107 h rfl (fun s_1 h => ?_)
    refine cf_iinc E dX0_day_108 ic_1 h 2 rfl (fun x2_2 => [(2, .int x2_2), (0, .ref (xa g 0)), (1, .int x1)]) (Nat.le_of_ble_eq_true rfl) (fun _ => rfl) rfl (fun x2_2 h => ?_)
    refine cf_goto E dX0_day_111 rfl ?_
    exact CF.sub [1, 2, 0] rfl (ih76 x1 x2_2 s_1 h)
set_option maxHeartbeats 4000000 in
theorem wx0_day_76 {p : Program} {l : Launch} {e : Env} {R : Room} {s : State} {m : MethodId} {args : Array Value} {below : List Frame} {meth : Method} {c : Code} {A : Nat → Prop} {g : XG} {Q : State → Prop} (E : EV p s m args c cX0_day 3 RX0) (hR : 28 ≤ R.frames ∧ 654 ≤ R.locals) {res : Int32 × XS} (hq : XTi p l e R s m args below meth c cX0_day 3 0 0 A g .int Q res) (N : Nat)    : ∀ (k : Nat) (x1 : Int32) (x2 : Int32) (ξ : XS), x0_day_76 N g   k x1 x2 ξ = some res → CF p l e R s m args below meth c 3 0 0 (XB g A s ξ) Q 76 [(0, .ref (xa g 0)), (1, .int x1), (2, .int x2)] [] := by
  intro k
  induction k with
  | zero => intro x1 x2 ξ h; have h : (none : Option (Int32 × XS)) = some res := h; cases h
  | succ k ih => intro x1 x2 ξ h; exact wx0_day_76b E hR hq N    ih x1 x2 ξ h
set_option maxHeartbeats 4000000 in
theorem wx0_day_28b {p : Program} {l : Launch} {e : Env} {R : Room} {s : State} {m : MethodId} {args : Array Value} {below : List Frame} {meth : Method} {c : Code} {A : Nat → Prop} {g : XG} {Q : State → Prop} (E : EV p s m args c cX0_day 3 RX0) (hR : 28 ≤ R.frames ∧ 654 ≤ R.locals) {res : Int32 × XS} (hq : XTi p l e R s m args below meth c cX0_day 3 0 0 A g .int Q res) (N : Nat)    {rec28 : Int32 → Int32 → XS → Option (Int32 × XS)} (ih28 : ∀ (x1 : Int32) (x2 : Int32) (ξ : XS), rec28 x1 x2 ξ = some res → CF p l e R s m args below meth c 3 0 0 (XB g A s ξ) Q 28 [(0, .ref (xa g 0)), (1, .int x1), (2, .int x2)] []) (x1 : Int32) (x2 : Int32) (ξ : XS) (h : x0_day_28b N g   rec28 x1 x2 ξ = some res) : CF p l e R s m args below meth c 3 0 0 (XB g A s ξ) Q 28 [(0, .ref (xa g 0)), (1, .int x1), (2, .int x2)] [] := by
  unfold x0_day_28b at h
  refine cf_iload_n E dX0_day_28 2 rfl rfl ?_
  refine cf_iconst E dX0_day_29 ic_5 rfl ?_
  refine cf_icmp_ge E dX0_day_30 h rfl rfl (fun h => ?_) (fun h => ?_)
  · refine cf_aload_n E dX0_day_67 0 rfl rfl ?_
    refine xgX0_30 E dX0_day_68 rfl ?_
    refine xclX0_264 (t0 := 0) E (by decide) (rmle hR rfl rfl) (Nat.le_of_ble_eq_true rfl) ⟨Nat.zero_le _, Nat.zero_le _⟩ dX0_day_71 h rfl (fun s_1 h => ?_)
    refine cf_iconst E dX0_day_74 ic_0 rfl ?_
    refine cf_istore_n E dX0_day_75 h (fun x2_2 => [(2, .int x2_2), (0, .ref (xa g 0)), (1, .int x1)]) (Nat.le_of_ble_eq_true rfl) (fun _ => rfl) rfl (fun x2_2 h => ?_)
    exact CF.sub [1, 2, 0] rfl (wx0_day_76 E hR hq N N x1 x2_2 s_1 h)
  · refine cf_aload_n E dX0_day_33 0 rfl rfl ?_
    refine xgX0_37 E dX0_day_34 rfl ?_
    refine cf_iload_n E dX0_day_37 2 rfl rfl ?_
    refine cf_ldcw E dX0_day_38 q1073 rfl ?_
    refine cf_aload_n E dX0_day_41 0 rfl rfl ?_
    refine xgX0_37 E dX0_day_42 rfl ?_
    refine cf_iload_n E dX0_day_45 2 rfl rfl ?_
    refine xald_7 E dX0_day_46 h rfl (fun h => ?_)
    refine cf_aload_n E dX0_day_47 0 rfl rfl ?_
    refine cf_aload_n E dX0_day_48 0 rfl rfl ?_
    refine xgX0_30 E dX0_day_49 rfl ?_
    refine cf_iload_n E dX0_day_52 2 rfl rfl ?_
    refine xclX0_253 (t1 := 0) E (by decide) (rmle hR rfl rfl) (Nat.le_of_ble_eq_true rfl) ⟨Nat.zero_le _, Nat.zero_le _⟩ dX0_day_53 h rfl (fun v_4 s_3 h => ?_)
    refine cf_iadd E dX0_day_56 rfl ?_
    refine xmX0_min E (rmle hR rfl rfl) (by first | exact Nat.le_of_ble_eq_true rfl | decide) ⟨Nat.zero_le _, Nat.zero_le _⟩ dX0_day_57 rfl ?_
    refine xast_7 E dX0_day_60 h rfl (fun s_5 h => ?_)
    refine cf_iinc E dX0_day_61 ic_1 h 2 rfl (fun x2_6 => [(2, .int x2_6), (0, .ref (xa g 0)), (1, .int x1)]) (Nat.le_of_ble_eq_true rfl) (fun _ => rfl) rfl (fun x2_6 h => ?_)
    refine cf_goto E dX0_day_64 rfl ?_
    exact CF.sub [1, 2, 0] rfl (ih28 x1 x2_6 s_5 h)
set_option maxHeartbeats 4000000 in
theorem wx0_day_28 {p : Program} {l : Launch} {e : Env} {R : Room} {s : State} {m : MethodId} {args : Array Value} {below : List Frame} {meth : Method} {c : Code} {A : Nat → Prop} {g : XG} {Q : State → Prop} (E : EV p s m args c cX0_day 3 RX0) (hR : 28 ≤ R.frames ∧ 654 ≤ R.locals) {res : Int32 × XS} (hq : XTi p l e R s m args below meth c cX0_day 3 0 0 A g .int Q res) (N : Nat)    : ∀ (k : Nat) (x1 : Int32) (x2 : Int32) (ξ : XS), x0_day_28 N g   k x1 x2 ξ = some res → CF p l e R s m args below meth c 3 0 0 (XB g A s ξ) Q 28 [(0, .ref (xa g 0)), (1, .int x1), (2, .int x2)] [] := by
  intro k
  induction k with
  | zero => intro x1 x2 ξ h; have h : (none : Option (Int32 × XS)) = some res := h; cases h
  | succ k ih => intro x1 x2 ξ h; exact wx0_day_28b E hR hq N    ih x1 x2 ξ h
set_option maxHeartbeats 4000000 in
theorem met_x0_day (l : Launch) (g : XG) (N : Nat)    (ξ : XS) {v : Int32} {ξ1 : XS} (h : x0_day N g   ξ = some (v, ξ1)) : MetXi l g yX0_day (ws_ yX0_day cX0_day 3 (some .int)) { frames := 28, cells := 0, slots := 0, locals := 654 } [.ref (xa g 0)] ξ v ξ1 0 0 := by
  refine met_xi (lv0 := [(0, .ref (xa g 0))]) (own := RX0) (by decide) rfl (Nat.le_of_ble_eq_true rfl) rfl ?_
  intro p e s m below meth c A Q E hq
  have hR : 28 ≤ ({ frames := 28, cells := 0, slots := 0, locals := 654 } : Room).frames ∧ 654 ≤ ({ frames := 28, cells := 0, slots := 0, locals := 654 } : Room).locals := ⟨Nat.le_refl _, Nat.le_refl _⟩
  unfold x0_day at h
  refine cf_aload_n E dX0_day_0 0 rfl rfl ?_
  refine xgX0_30 E dX0_day_1 rfl ?_
  refine xgX0_190_0 E dX0_day_4 rfl ?_
  refine cf_sipush E dX0_day_7 sp_9999 rfl ?_
  refine cf_icmp_ne E dX0_day_10 h rfl rfl (fun h => ?_) (fun h => ?_)
  · refine cf_aload_n E dX0_day_16 0 rfl rfl ?_
    refine cf_aload_n E dX0_day_17 0 rfl rfl ?_
    refine xgX0_30 E dX0_day_18 rfl ?_
    refine cf_iconst E dX0_day_21 ic_m1 rfl ?_
    refine xclX0_253 (t1 := 0) E (by decide) (rmle hR rfl rfl) (Nat.le_of_ble_eq_true rfl) ⟨Nat.zero_le _, Nat.zero_le _⟩ dX0_day_22 h rfl (fun v_2 s_1 h => ?_)
    refine cf_istore_n E dX0_day_25 h (fun x1_3 => [(1, .int x1_3), (0, .ref (xa g 0))]) (Nat.le_of_ble_eq_true rfl) (fun _ => rfl) rfl (fun x1_3 h => ?_)
    refine cf_iconst E dX0_day_26 ic_0 rfl ?_
    refine cf_istore_n E dX0_day_27 h (fun x2_4 => [(2, .int x2_4), (1, .int x1_3), (0, .ref (xa g 0))]) (Nat.le_of_ble_eq_true rfl) (fun _ => rfl) rfl (fun x2_4 h => ?_)
    exact CF.sub [2, 1, 0] rfl (wx0_day_28 E hR hq N N x1_3 x2_4 s_1 h)
  · refine cf_bipush E dX0_day_13 bp_m3 rfl ?_
    exact xret_i dX0_day_15 h rfl hq
def x0_today_12 (N : Nat) (g : XG)   (x1 : Int32) (ξ : XS) : Option (Int32 × XS) :=
  bnd (x0_todayOf N g 0 x1 ξ) fun v_2 s_1 =>
  some (v_2, s_1)
def x0_today (N : Nat) (g : XG)   (x1 : Int32) (ξ : XS) : Option (Int32 × XS) :=
  if x1 = (-1 : Int32) then (
    x0_today_12 N g x1 ξ)
  else (
    bnd (x0_isTrade N g x1 ξ) fun v_2 s_1 =>
    if v_2 = 0 then (
      some ((-1 : Int32), s_1))
    else (
      x0_today_12 N g x1 s_1))
set_option maxHeartbeats 4000000 in
theorem wx0_today_12 {p : Program} {l : Launch} {e : Env} {R : Room} {s : State} {m : MethodId} {args : Array Value} {below : List Frame} {meth : Method} {c : Code} {A : Nat → Prop} {g : XG} {Q : State → Prop} (E : EV p s m args c cX0_today 2 RX0) (hR : 28 ≤ R.frames ∧ 654 ≤ R.locals) {res : Int32 × XS} (hq : XTi p l e R s m args below meth c cX0_today 2 0 0 A g .int Q res) (N : Nat)    (x1 : Int32) (ξ : XS) (h : x0_today_12 N g   x1 ξ = some res) : CF p l e R s m args below meth c 2 0 0 (XB g A s ξ) Q 12 [(0, .ref (xa g 0)), (1, .int x1)] [] := by
  unfold x0_today_12 at h
  refine cf_aload_n E dX0_today_12 0 rfl rfl ?_
  refine cf_aload_n E dX0_today_13 0 rfl rfl ?_
  refine xgX0_30 E dX0_today_14 rfl ?_
  refine cf_iload_n E dX0_today_17 1 rfl rfl ?_
  refine xclX0_253 (t1 := 0) E (by decide) (rmle hR rfl rfl) (Nat.le_of_ble_eq_true rfl) ⟨Nat.zero_le _, Nat.zero_le _⟩ dX0_today_18 h rfl (fun v_2 s_1 h => ?_)
  refine cf_goto E dX0_today_21 rfl ?_
  exact xret_i dX0_today_25 h rfl hq
set_option maxHeartbeats 4000000 in
theorem met_x0_today (l : Launch) (g : XG) (N : Nat)   (x1 : Int32) (ξ : XS) {v : Int32} {ξ1 : XS} (h : x0_today N g  x1 ξ = some (v, ξ1)) : MetXi l g yX0_today (ws_ yX0_today cX0_today 2 (some .int)) { frames := 28, cells := 0, slots := 0, locals := 654 } [.ref (xa g 0), .int x1] ξ v ξ1 0 0 := by
  refine met_xi (lv0 := [(0, .ref (xa g 0)), (1, .int x1)]) (own := RX0) (by decide) rfl (Nat.le_of_ble_eq_true rfl) rfl ?_
  intro p e s m below meth c A Q E hq
  have hR : 28 ≤ ({ frames := 28, cells := 0, slots := 0, locals := 654 } : Room).frames ∧ 654 ≤ ({ frames := 28, cells := 0, slots := 0, locals := 654 } : Room).locals := ⟨Nat.le_refl _, Nat.le_refl _⟩
  unfold x0_today at h
  refine cf_iload_n E dX0_today_0 1 rfl rfl ?_
  refine cf_iconst E dX0_today_1 ic_m1 rfl ?_
  refine cf_icmp_eq E dX0_today_2 h rfl rfl (fun h => ?_) (fun h => ?_)
  · exact CF.sub [0, 1] rfl (wx0_today_12 E hR hq N x1 ξ h)
  · refine cf_iload_n E dX0_today_5 1 rfl rfl ?_
    refine xclX0_161 E (rmle hR rfl rfl) (Nat.le_of_ble_eq_true rfl) ⟨Nat.zero_le _, Nat.zero_le _⟩ dX0_today_6 h rfl (fun v_2 s_1 h => ?_)
    refine cf_if_eq E dX0_today_9 h rfl rfl (fun h => ?_) (fun h => ?_)
    · refine cf_iconst E dX0_today_24 ic_m1 rfl ?_
      exact xret_i dX0_today_25 h rfl hq
    · exact CF.sub [0, 1] rfl (wx0_today_12 E hR hq N x1 s_1 h)
def x0_isEnough (N : Nat) (g : XG) (t1 : Nat)  (x2 : Int32) (ξ : XS) : Option (Int32 × XS) :=
  bnd (x0_todayOf N g t1 x2 ξ) fun v_2 s_1 =>
  bno (xo s_1 11) fun w_3 =>
  bno (dR s_1 w_3 3 3 1) fun b_4 =>
  bnd (dA s_1 b_4 (xc g 0)) fun n_5 f_6 =>
  if inb x2 n_5 = true then (
  if v_2 < (f_6 x2.toNatClampNeg) then (
    some ((0 : Int32), s_1))
  else (
    some ((1 : Int32), s_1))) else none
set_option maxHeartbeats 4000000 in
theorem met_x0_isEnough (l : Launch) (g : XG) (N : Nat) (t1 : Nat) (ht1 : t1 < 3) (x2 : Int32) (ξ : XS) {v : Int32} {ξ1 : XS} (h : x0_isEnough N g t1 x2 ξ = some (v, ξ1)) : MetXi l g yX0_isEnough (ws_ yX0_isEnough cX0_isEnough 3 (some .boolean)) { frames := 28, cells := 0, slots := 0, locals := 654 } [.ref (xa g 0), .ref (xa g (200 + 10 * t1)), .int x2] ξ v ξ1 0 0 := by
  refine met_xi (lv0 := [(0, .ref (xa g 0)), (1, .ref (xa g (200 + 10 * t1))), (2, .int x2)]) (own := RX0) (by decide) rfl (Nat.le_of_ble_eq_true rfl) rfl ?_
  intro p e s m below meth c A Q E hq
  have hR : 28 ≤ ({ frames := 28, cells := 0, slots := 0, locals := 654 } : Room).frames ∧ 654 ≤ ({ frames := 28, cells := 0, slots := 0, locals := 654 } : Room).locals := ⟨Nat.le_refl _, Nat.le_refl _⟩
  unfold x0_isEnough at h
  refine cf_aload_n E dX0_isEnough_0 0 rfl rfl ?_
  refine cf_aload_n E dX0_isEnough_1 1 rfl rfl ?_
  refine cf_iload_n E dX0_isEnough_2 2 rfl rfl ?_
  refine xclX0_253 (t1 := t1) E ht1 (rmle hR rfl rfl) (Nat.le_of_ble_eq_true rfl) ⟨Nat.zero_le _, Nat.zero_le _⟩ dX0_isEnough_3 h rfl (fun v_2 s_1 h => ?_)
  refine cf_aload_n E dX0_isEnough_6 0 rfl rfl ?_
  refine xgX0_47 E dX0_isEnough_7 rfl (xforce h (fun w_3 h => ?_))
  refine xdgX0_250 E dX0_isEnough_10 h rfl (fun b_4 h => ?_)
  refine cf_iload_n E dX0_isEnough_13 2 rfl rfl ?_
  refine xdald_i E dX0_isEnough_14 h rfl (fun n_5 f_6 h => ?_)
  refine cf_icmp_lt E dX0_isEnough_15 h rfl rfl (fun h => ?_) (fun h => ?_)
  · refine cf_iconst E dX0_isEnough_22 ic_0 rfl ?_
    exact xret_i dX0_isEnough_23 h nzb0 hq
  · refine cf_iconst E dX0_isEnough_18 ic_1 rfl ?_
    refine cf_goto E dX0_isEnough_19 rfl ?_
    exact xret_i dX0_isEnough_23 h nzb1 hq
def x0_enough_27 (N : Nat) (g : XG)  (rec4 : Int32 → Int32 → XS → Option (Int32 × XS)) (x1 : Int32) (x2 : Int32) (ξ : XS) : Option (Int32 × XS) :=
  nx (x2 + (1 : Int32)) fun x2_1 =>
  rec4 x1 x2_1 ξ
def x0_enough_4b (N : Nat) (g : XG)   (rec4 : Int32 → Int32 → XS → Option (Int32 × XS)) (x1 : Int32) (x2 : Int32) (ξ : XS) : Option (Int32 × XS) :=
  if (5 : Int32) ≤ x2 then (
    some (x1, ξ))
  else (
    bnd (x0_isEnough N g 0 x2 ξ) fun v_2 s_1 =>
    if v_2 = 0 then (
      x0_enough_27 N g rec4 x1 x2 s_1)
    else (
      nx ((x1 ||| ((1 : Int32) <<< (x2 &&& 31))) : Int32) fun x1_3 =>
      x0_enough_27 N g rec4 x1_3 x2 s_1))
def x0_enough_4 (N : Nat) (g : XG)   : Nat → Int32 → Int32 → XS → Option (Int32 × XS)
  | 0 => fun _ _ _ => none
  | k + 1 => fun x1 x2 ξ => x0_enough_4b N g   (x0_enough_4 N g   k) x1 x2 ξ
def x0_enough (N : Nat) (g : XG)    (ξ : XS) : Option (Int32 × XS) :=
  nx ((0 : Int32) : Int32) fun x1_1 =>
  nx ((0 : Int32) : Int32) fun x2_2 =>
  x0_enough_4 N g N x1_1 x2_2 ξ
section XC
variable {p : Program} {l : Launch} {e : Env} {R : Room} {s : State} {m : MethodId} {args : Array Value} {below : List Frame} {meth : Method} {c : Code} {nL cells slots : Nat} {A : Nat → Prop} {g : XG} {ξ : XS} {Q : State → Prop} {pc n : Nat} {lv : List (Nat × Value)} {st : List Value} {cc : ByteArray} {ρ : Type} {res : ρ}
theorem xclX0_275 (E : EV p s m args c cc nL RX0) {N : Nat} {t1 : Nat} (ht1 : t1 < 3) {x2 : Int32} {kk : Int32 → XS → Option ρ} (hR : 29 ≤ R.frames ∧ 676 ≤ R.locals) (hcat : (st.map fun v => v.category).sum ≤ 8) (hf : cells ≤ R.cells ∧ slots ≤ R.slots) (d : decode cc pc = .ok (.invokevirtual 275, 3)) (h : bnd (x0_isEnough N g t1 x2 ξ) kk = some res) (hn : pc + 3 = n) (k : ∀ (v : Int32) (ξ1 : XS), kk v ξ1 = some res → CF p l e R s m args below meth c nL cells slots (XB g A s ξ1) Q n lv (.int v :: st)) : CF p l e R s m args below meth c nL cells slots (XB g A s ξ) Q pc lv (.int x2 :: .ref (xa g (200 + 10 * t1)) :: .ref (xa g 0) :: st) :=
  xcallV0_i (na := 2) E [.ref (xa g (200 + 10 * t1)), .int x2] (fun v ξ1 ho => met_x0_isEnough l g N t1 ht1 x2 ξ ho) (C := RX0) (lw_V q1110 q1112 qs22 q96 q1113) (by decide +kernel) ⟨0, 1, _, _, rfl, rfl, rfl⟩ rfl rfl hR rfl rfl hcat hf d h hn k
end XC
set_option maxHeartbeats 4000000 in
theorem wx0_enough_27 {p : Program} {l : Launch} {e : Env} {R : Room} {s : State} {m : MethodId} {args : Array Value} {below : List Frame} {meth : Method} {c : Code} {A : Nat → Prop} {g : XG} {Q : State → Prop} (E : EV p s m args c cX0_enough 3 RX0) (hR : 29 ≤ R.frames ∧ 676 ≤ R.locals) {res : Int32 × XS} (hq : XTi p l e R s m args below meth c cX0_enough 3 0 0 A g .int Q res) (N : Nat)   {rec4 : Int32 → Int32 → XS → Option (Int32 × XS)} (ih4 : ∀ (x1 : Int32) (x2 : Int32) (ξ : XS), rec4 x1 x2 ξ = some res → CF p l e R s m args below meth c 3 0 0 (XB g A s ξ) Q 4 [(0, .ref (xa g 0)), (1, .int x1), (2, .int x2)] []) (x1 : Int32) (x2 : Int32) (ξ : XS) (h : x0_enough_27 N g  rec4 x1 x2 ξ = some res) : CF p l e R s m args below meth c 3 0 0 (XB g A s ξ) Q 27 [(0, .ref (xa g 0)), (1, .int x1), (2, .int x2)] [] := by
  unfold x0_enough_27 at h
  refine cf_iinc E dX0_enough_27 ic_1 h 2 rfl (fun x2_1 => [(2, .int x2_1), (0, .ref (xa g 0)), (1, .int x1)]) (Nat.le_of_ble_eq_true rfl) (fun _ => rfl) rfl (fun x2_1 h => ?_)
  refine cf_goto E dX0_enough_30 rfl ?_
  exact CF.sub [1, 2, 0] rfl (ih4 x1 x2_1 ξ h)
set_option maxHeartbeats 4000000 in
theorem wx0_enough_4b {p : Program} {l : Launch} {e : Env} {R : Room} {s : State} {m : MethodId} {args : Array Value} {below : List Frame} {meth : Method} {c : Code} {A : Nat → Prop} {g : XG} {Q : State → Prop} (E : EV p s m args c cX0_enough 3 RX0) (hR : 29 ≤ R.frames ∧ 676 ≤ R.locals) {res : Int32 × XS} (hq : XTi p l e R s m args below meth c cX0_enough 3 0 0 A g .int Q res) (N : Nat)    {rec4 : Int32 → Int32 → XS → Option (Int32 × XS)} (ih4 : ∀ (x1 : Int32) (x2 : Int32) (ξ : XS), rec4 x1 x2 ξ = some res → CF p l e R s m args below meth c 3 0 0 (XB g A s ξ) Q 4 [(0, .ref (xa g 0)), (1, .int x1), (2, .int x2)] []) (x1 : Int32) (x2 : Int32) (ξ : XS) (h : x0_enough_4b N g   rec4 x1 x2 ξ = some res) : CF p l e R s m args below meth c 3 0 0 (XB g A s ξ) Q 4 [(0, .ref (xa g 0)), (1, .int x1), (2, .int x2)] [] := by
  unfold x0_enough_4b at h
  refine cf_iload_n E dX0_enough_4 2 rfl rfl ?_
  refine cf_iconst E dX0_enough_5 ic_5 rfl ?_
  refine cf_icmp_ge E dX0_enough_6 h rfl rfl (fun h => ?_) (fun h => ?_)
  · refine cf_iload_n E dX0_enough_33 1 rfl rfl ?_
    exact xret_i dX0_enough_34 h rfl hq
  · refine cf_aload_n E dX0_enough_9 0 rfl rfl ?_
    refine cf_aload_n E dX0_enough_10 0 rfl rfl ?_
    refine xgX0_30 E dX0_enough_11 rfl ?_
    refine cf_iload_n E dX0_enough_14 2 rfl rfl ?_
    refine xclX0_275 (t1 := 0) E (by decide) (rmle hR rfl rfl) (Nat.le_of_ble_eq_true rfl) ⟨Nat.zero_le _, Nat.zero_le _⟩ dX0_enough_15 h rfl (fun v_2 s_1 h => ?_)
    refine cf_if_eq E dX0_enough_18 h rfl rfl (fun h => ?_) (fun h => ?_)
    · exact CF.sub [0, 1, 2] rfl (wx0_enough_27 E hR hq N ih4 x1 x2 s_1 h)
    · refine cf_iload_n E dX0_enough_21 1 rfl rfl ?_
      refine cf_iconst E dX0_enough_22 ic_1 rfl ?_
      refine cf_iload_n E dX0_enough_23 2 rfl rfl ?_
      refine cf_ishl E dX0_enough_24 rfl ?_
      refine cf_ior E dX0_enough_25 rfl ?_
      refine cf_istore_n E dX0_enough_26 h (fun x1_3 => [(1, .int x1_3), (0, .ref (xa g 0)), (2, .int x2)]) (Nat.le_of_ble_eq_true rfl) (fun _ => rfl) rfl (fun x1_3 h => ?_)
      exact CF.sub [1, 0, 2] rfl (wx0_enough_27 E hR hq N ih4 x1_3 x2 s_1 h)
set_option maxHeartbeats 4000000 in
theorem wx0_enough_4 {p : Program} {l : Launch} {e : Env} {R : Room} {s : State} {m : MethodId} {args : Array Value} {below : List Frame} {meth : Method} {c : Code} {A : Nat → Prop} {g : XG} {Q : State → Prop} (E : EV p s m args c cX0_enough 3 RX0) (hR : 29 ≤ R.frames ∧ 676 ≤ R.locals) {res : Int32 × XS} (hq : XTi p l e R s m args below meth c cX0_enough 3 0 0 A g .int Q res) (N : Nat)    : ∀ (k : Nat) (x1 : Int32) (x2 : Int32) (ξ : XS), x0_enough_4 N g   k x1 x2 ξ = some res → CF p l e R s m args below meth c 3 0 0 (XB g A s ξ) Q 4 [(0, .ref (xa g 0)), (1, .int x1), (2, .int x2)] [] := by
  intro k
  induction k with
  | zero => intro x1 x2 ξ h; have h : (none : Option (Int32 × XS)) = some res := h; cases h
  | succ k ih => intro x1 x2 ξ h; exact wx0_enough_4b E hR hq N    ih x1 x2 ξ h
set_option maxHeartbeats 4000000 in
theorem met_x0_enough (l : Launch) (g : XG) (N : Nat)    (ξ : XS) {v : Int32} {ξ1 : XS} (h : x0_enough N g   ξ = some (v, ξ1)) : MetXi l g yX0_enough (ws_ yX0_enough cX0_enough 3 (some .int)) { frames := 29, cells := 0, slots := 0, locals := 676 } [.ref (xa g 0)] ξ v ξ1 0 0 := by
  refine met_xi (lv0 := [(0, .ref (xa g 0))]) (own := RX0) (by decide) rfl (Nat.le_of_ble_eq_true rfl) rfl ?_
  intro p e s m below meth c A Q E hq
  have hR : 29 ≤ ({ frames := 29, cells := 0, slots := 0, locals := 676 } : Room).frames ∧ 676 ≤ ({ frames := 29, cells := 0, slots := 0, locals := 676 } : Room).locals := ⟨Nat.le_refl _, Nat.le_refl _⟩
  unfold x0_enough at h
  refine cf_iconst E dX0_enough_0 ic_0 rfl ?_
  refine cf_istore_n E dX0_enough_1 h (fun x1_1 => [(1, .int x1_1), (0, .ref (xa g 0))]) (Nat.le_of_ble_eq_true rfl) (fun _ => rfl) rfl (fun x1_1 h => ?_)
  refine cf_iconst E dX0_enough_2 ic_0 rfl ?_
  refine cf_istore_n E dX0_enough_3 h (fun x2_2 => [(2, .int x2_2), (1, .int x1_1), (0, .ref (xa g 0))]) (Nat.le_of_ble_eq_true rfl) (fun _ => rfl) rfl (fun x2_2 h => ?_)
  exact CF.sub [2, 1, 0] rfl (wx0_enough_4 E hR hq N N x1_1 x2_2 ξ h)
def x0_best_58 (N : Nat) (g : XG)  (rec18 : Int32 → Int32 → Int32 → Int32 → XS → Option (Int32 × XS)) (x1 : Int32) (x2 : Int32) (x3 : Int32) (x4 : Int32) (ξ : XS) : Option (Int32 × XS) :=
  nx (x4 + (1 : Int32)) fun x4_1 =>
  rec18 x1 x2 x3 x4_1 ξ
def x0_best_18b (N : Nat) (g : XG)   (rec18 : Int32 → Int32 → Int32 → Int32 → XS → Option (Int32 × XS)) (x1 : Int32) (x2 : Int32) (x3 : Int32) (x4 : Int32) (ξ : XS) : Option (Int32 × XS) :=
  if (xF ξ 202) ≤ x4 then (
    some (x2, ξ))
  else (
    bnd (x0_deedOf N g 0 x1 x4 ξ) fun v_2 s_1 =>
    nx (v_2 : Int32) fun x5_3 =>
    if x3 < x5_3 then (
      nx (x5_3 : Int32) fun x3_4 =>
      nx (x4 : Int32) fun x2_5 =>
      x0_best_58 N g rec18 x1 x2_5 x3_4 x4 s_1)
    else (
      x0_best_58 N g rec18 x1 x2 x3 x4 s_1))
def x0_best_18 (N : Nat) (g : XG)   : Nat → Int32 → Int32 → Int32 → Int32 → XS → Option (Int32 × XS)
  | 0 => fun _ _ _ _ _ => none
  | k + 1 => fun x1 x2 x3 x4 ξ => x0_best_18b N g   (x0_best_18 N g   k) x1 x2 x3 x4 ξ
def x0_best (N : Nat) (g : XG)   (x1 : Int32) (ξ : XS) : Option (Int32 × XS) :=
  bnd (x0_isHat N g x1 ξ) fun v_2 s_1 =>
  if v_2 = 0 then (
    some ((-1 : Int32), s_1))
  else (
    nx ((-5 : Int32) : Int32) fun x2_3 =>
    nx ((-1 : Int32) : Int32) fun x3_4 =>
    nx ((0 : Int32) : Int32) fun x4_5 =>
    x0_best_18 N g N x1 x2_3 x3_4 x4_5 s_1)
set_option maxHeartbeats 4000000 in
theorem wx0_best_58 {p : Program} {l : Launch} {e : Env} {R : Room} {s : State} {m : MethodId} {args : Array Value} {below : List Frame} {meth : Method} {c : Code} {A : Nat → Prop} {g : XG} {Q : State → Prop} (E : EV p s m args c cX0_best 6 RX0) (hR : 27 ≤ R.frames ∧ 629 ≤ R.locals) {res : Int32 × XS} (hq : XTi p l e R s m args below meth c cX0_best 6 0 0 A g .int Q res) (N : Nat)   {rec18 : Int32 → Int32 → Int32 → Int32 → XS → Option (Int32 × XS)} (ih18 : ∀ (x1 : Int32) (x2 : Int32) (x3 : Int32) (x4 : Int32) (ξ : XS), rec18 x1 x2 x3 x4 ξ = some res → CF p l e R s m args below meth c 6 0 0 (XB g A s ξ) Q 18 [(0, .ref (xa g 0)), (1, .int x1), (2, .int x2), (3, .int x3), (4, .int x4)] []) (x1 : Int32) (x2 : Int32) (x3 : Int32) (x4 : Int32) (ξ : XS) (h : x0_best_58 N g  rec18 x1 x2 x3 x4 ξ = some res) : CF p l e R s m args below meth c 6 0 0 (XB g A s ξ) Q 58 [(0, .ref (xa g 0)), (1, .int x1), (2, .int x2), (3, .int x3), (4, .int x4)] [] := by
  unfold x0_best_58 at h
  refine cf_iinc E dX0_best_58 ic_1 h 4 rfl (fun x4_1 => [(4, .int x4_1), (0, .ref (xa g 0)), (1, .int x1), (2, .int x2), (3, .int x3)]) (Nat.le_of_ble_eq_true rfl) (fun _ => rfl) rfl (fun x4_1 h => ?_)
  refine cf_goto E dX0_best_61 rfl ?_
  exact CF.sub [1, 2, 3, 4, 0] rfl (ih18 x1 x2 x3 x4_1 ξ h)
set_option maxHeartbeats 4000000 in
theorem wx0_best_18b {p : Program} {l : Launch} {e : Env} {R : Room} {s : State} {m : MethodId} {args : Array Value} {below : List Frame} {meth : Method} {c : Code} {A : Nat → Prop} {g : XG} {Q : State → Prop} (E : EV p s m args c cX0_best 6 RX0) (hR : 27 ≤ R.frames ∧ 629 ≤ R.locals) {res : Int32 × XS} (hq : XTi p l e R s m args below meth c cX0_best 6 0 0 A g .int Q res) (N : Nat)    {rec18 : Int32 → Int32 → Int32 → Int32 → XS → Option (Int32 × XS)} (ih18 : ∀ (x1 : Int32) (x2 : Int32) (x3 : Int32) (x4 : Int32) (ξ : XS), rec18 x1 x2 x3 x4 ξ = some res → CF p l e R s m args below meth c 6 0 0 (XB g A s ξ) Q 18 [(0, .ref (xa g 0)), (1, .int x1), (2, .int x2), (3, .int x3), (4, .int x4)] []) (x1 : Int32) (x2 : Int32) (x3 : Int32) (x4 : Int32) (ξ : XS) (h : x0_best_18b N g   rec18 x1 x2 x3 x4 ξ = some res) : CF p l e R s m args below meth c 6 0 0 (XB g A s ξ) Q 18 [(0, .ref (xa g 0)), (1, .int x1), (2, .int x2), (3, .int x3), (4, .int x4)] [] := by
  unfold x0_best_18b at h
  refine cf_iload E dX0_best_18 4 rfl rfl ?_
  refine cf_aload_n E dX0_best_20 0 rfl rfl ?_
  refine xgX0_30 E dX0_best_21 rfl ?_
  refine xgX0_126_0 E dX0_best_24 rfl ?_
  refine cf_icmp_ge E dX0_best_27 h rfl rfl (fun h => ?_) (fun h => ?_)
  · refine cf_iload_n E dX0_best_64 2 rfl rfl ?_
    exact xret_i dX0_best_65 h rfl hq
  · refine cf_aload_n E dX0_best_30 0 rfl rfl ?_
    refine cf_aload_n E dX0_best_31 0 rfl rfl ?_
    refine xgX0_30 E dX0_best_32 rfl ?_
    refine cf_iload_n E dX0_best_35 1 rfl rfl ?_
    refine cf_iload E dX0_best_36 4 rfl rfl ?_
    refine xclX0_221 (t1 := 0) E (by decide) (rmle hR rfl rfl) (Nat.le_of_ble_eq_true rfl) ⟨Nat.zero_le _, Nat.zero_le _⟩ dX0_best_38 h rfl (fun v_2 s_1 h => ?_)
    refine cf_istore E dX0_best_41 h (fun x5_3 => [(5, .int x5_3), (0, .ref (xa g 0)), (1, .int x1), (2, .int x2), (3, .int x3), (4, .int x4)]) (Nat.le_of_ble_eq_true rfl) (fun _ => rfl) rfl (fun x5_3 h => ?_)
    refine cf_iload E dX0_best_43 0 rfl rfl ?_
    refine cf_iload_n E dX0_best_45 4 rfl rfl ?_
    refine cf_icmp_gt E dX0_best_46 h rfl rfl (fun h => ?_) (fun h => ?_)
    · refine cf_iload E dX0_best_52 0 rfl rfl ?_
      refine cf_istore_n E dX0_best_54 h (fun x3_4 => [(3, .int x3_4), (5, .int x5_3), (0, .ref (xa g 0)), (1, .int x1), (2, .int x2), (4, .int x4)]) (Nat.le_of_ble_eq_true rfl) (fun _ => rfl) rfl (fun x3_4 h => ?_)
      refine cf_iload E dX0_best_55 5 rfl rfl ?_
      refine cf_istore_n E dX0_best_57 h (fun x2_5 => [(2, .int x2_5), (3, .int x3_4), (5, .int x5_3), (0, .ref (xa g 0)), (1, .int x1), (4, .int x4)]) (Nat.le_of_ble_eq_true rfl) (fun _ => rfl) rfl (fun x2_5 h => ?_)
      exact CF.sub [3, 4, 0, 1, 5] rfl (wx0_best_58 E hR hq N ih18 x1 x2_5 x3_4 x4 s_1 h)
    · refine cf_goto E dX0_best_49 rfl ?_
      exact CF.sub [1, 2, 3, 4, 5] rfl (wx0_best_58 E hR hq N ih18 x1 x2 x3 x4 s_1 h)
set_option maxHeartbeats 4000000 in
theorem wx0_best_18 {p : Program} {l : Launch} {e : Env} {R : Room} {s : State} {m : MethodId} {args : Array Value} {below : List Frame} {meth : Method} {c : Code} {A : Nat → Prop} {g : XG} {Q : State → Prop} (E : EV p s m args c cX0_best 6 RX0) (hR : 27 ≤ R.frames ∧ 629 ≤ R.locals) {res : Int32 × XS} (hq : XTi p l e R s m args below meth c cX0_best 6 0 0 A g .int Q res) (N : Nat)    : ∀ (k : Nat) (x1 : Int32) (x2 : Int32) (x3 : Int32) (x4 : Int32) (ξ : XS), x0_best_18 N g   k x1 x2 x3 x4 ξ = some res → CF p l e R s m args below meth c 6 0 0 (XB g A s ξ) Q 18 [(0, .ref (xa g 0)), (1, .int x1), (2, .int x2), (3, .int x3), (4, .int x4)] [] := by
  intro k
  induction k with
  | zero => intro x1 x2 x3 x4 ξ h; have h : (none : Option (Int32 × XS)) = some res := h; cases h
  | succ k ih => intro x1 x2 x3 x4 ξ h; exact wx0_best_18b E hR hq N    ih x1 x2 x3 x4 ξ h
set_option maxHeartbeats 4000000 in
theorem met_x0_best (l : Launch) (g : XG) (N : Nat)   (x1 : Int32) (ξ : XS) {v : Int32} {ξ1 : XS} (h : x0_best N g  x1 ξ = some (v, ξ1)) : MetXi l g yX0_best (ws_ yX0_best cX0_best 6 (some .int)) { frames := 27, cells := 0, slots := 0, locals := 629 } [.ref (xa g 0), .int x1] ξ v ξ1 0 0 := by
  refine met_xi (lv0 := [(0, .ref (xa g 0)), (1, .int x1)]) (own := RX0) (by decide) rfl (Nat.le_of_ble_eq_true rfl) rfl ?_
  intro p e s m below meth c A Q E hq
  have hR : 27 ≤ ({ frames := 27, cells := 0, slots := 0, locals := 629 } : Room).frames ∧ 629 ≤ ({ frames := 27, cells := 0, slots := 0, locals := 629 } : Room).locals := ⟨Nat.le_refl _, Nat.le_refl _⟩
  unfold x0_best at h
  refine cf_aload_n E dX0_best_0 0 rfl rfl ?_
  refine cf_iload_n E dX0_best_1 1 rfl rfl ?_
  refine xclX0_202 E (rmle hR rfl rfl) (Nat.le_of_ble_eq_true rfl) ⟨Nat.zero_le _, Nat.zero_le _⟩ dX0_best_2 h rfl (fun v_2 s_1 h => ?_)
  refine cf_if_ne E dX0_best_5 h rfl rfl (fun h => ?_) (fun h => ?_)
  · refine cf_bipush E dX0_best_10 bp_m5 rfl ?_
    refine cf_istore_n E dX0_best_12 h (fun x2_3 => [(2, .int x2_3), (0, .ref (xa g 0)), (1, .int x1)]) (Nat.le_of_ble_eq_true rfl) (fun _ => rfl) rfl (fun x2_3 h => ?_)
    refine cf_iconst E dX0_best_13 ic_m1 rfl ?_
    refine cf_istore_n E dX0_best_14 h (fun x3_4 => [(3, .int x3_4), (2, .int x2_3), (0, .ref (xa g 0)), (1, .int x1)]) (Nat.le_of_ble_eq_true rfl) (fun _ => rfl) rfl (fun x3_4 h => ?_)
    refine cf_iconst E dX0_best_15 ic_0 rfl ?_
    refine cf_istore E dX0_best_16 h (fun x4_5 => [(4, .int x4_5), (3, .int x3_4), (2, .int x2_3), (0, .ref (xa g 0)), (1, .int x1)]) (Nat.le_of_ble_eq_true rfl) (fun _ => rfl) rfl (fun x4_5 h => ?_)
    exact CF.sub [3, 4, 2, 1, 0] rfl (wx0_best_18 E hR hq N N x1 x2_3 x3_4 x4_5 s_1 h)
  · refine cf_iconst E dX0_best_8 ic_m1 rfl ?_
    exact xret_i dX0_best_9 h rfl hq
def x0_on_38b (N : Nat) (g : XG)   (rec38 : Int32 → Int32 → Int32 → Int32 → XS → Option (Int32 × XS)) (x1 : Int32) (x2 : Int32) (x3 : Int32) (x4 : Int32) (ξ : XS) : Option (Int32 × XS) :=
  if x2 ≤ x4 then (
    some (x3, ξ))
  else (
    bnd (x0_todayOf N g 1 x1 ξ) fun v_2 s_1 =>
    nx ((x3 + v_2) : Int32) fun x3_3 =>
    bnv (x1_wears N g 1 s_1) fun s_4 =>
    nx (x4 + (1 : Int32)) fun x4_5 =>
    rec38 x1 x2 x3_3 x4_5 s_4)
def x0_on_38 (N : Nat) (g : XG)   : Nat → Int32 → Int32 → Int32 → Int32 → XS → Option (Int32 × XS)
  | 0 => fun _ _ _ _ _ => none
  | k + 1 => fun x1 x2 x3 x4 ξ => x0_on_38b N g   (x0_on_38 N g   k) x1 x2 x3 x4 ξ
def x0_on (N : Nat) (g : XG)   (x1 : Int32) (x2 : Int32) (ξ : XS) : Option (Int32 × XS) :=
  bnd (x0_isTrade N g x1 ξ) fun v_2 s_1 =>
  if v_2 = 0 then (
    some ((-1 : Int32), s_1))
  else (
    bnd (x0_in N g x2 (0 : Int32) (30 : Int32) s_1) fun v_4 s_3 =>
    if v_4 = 0 then (
      some ((-2 : Int32), s_3))
    else (
      bnv (x1_takes N g 1 0 s_3) fun s_5 =>
      nx ((0 : Int32) : Int32) fun x3_6 =>
      nx ((0 : Int32) : Int32) fun x4_7 =>
      x0_on_38 N g N x1 x2 x3_6 x4_7 s_5))
section XC
variable {p : Program} {l : Launch} {e : Env} {R : Room} {s : State} {m : MethodId} {args : Array Value} {below : List Frame} {meth : Method} {c : Code} {nL cells slots : Nat} {A : Nat → Prop} {g : XG} {ξ : XS} {Q : State → Prop} {pc n : Nat} {lv : List (Nat × Value)} {st : List Value} {cc : ByteArray} {ρ : Type} {res : ρ}
theorem xclX0_279 (E : EV p s m args c cc nL RX0) {N : Nat} {t0 : Nat} {t1 : Nat} (ht0 : t0 < 3) (ht1 : t1 < 3)  {kk : XS → Option ρ} (hR : 2 ≤ R.frames ∧ 61 ≤ R.locals) (hcat : (st.map fun v => v.category).sum ≤ 8) (hf : cells ≤ R.cells ∧ slots ≤ R.slots) (d : decode cc pc = .ok (.invokevirtual 279, 3)) (h : bnv (x1_takes N g t0 t1  ξ) kk = some res) (hn : pc + 3 = n) (k : ∀ (ξ1 : XS), kk ξ1 = some res → CF p l e R s m args below meth c nL cells slots (XB g A s ξ1) Q n lv st) : CF p l e R s m args below meth c nL cells slots (XB g A s ξ) Q pc lv (.ref (xa g (200 + 10 * t1)) :: .ref (xa g (200 + 10 * t0)) :: st) :=
  xcallV0_v (na := 1) E [.ref (xa g (200 + 10 * t1))] (fun ξ1 ho => met_x1_takes l g N t0 t1 ht0 ht1  ξ ho) (C := RX1) (lw_V q1122 q1123 q1124 q97 q1125) (by decide +kernel) (xrecvT ht0) rfl rfl hR rfl rfl hcat hf d h hn k
end XC
set_option maxHeartbeats 4000000 in
theorem wx0_on_38b {p : Program} {l : Launch} {e : Env} {R : Room} {s : State} {m : MethodId} {args : Array Value} {below : List Frame} {meth : Method} {c : Code} {A : Nat → Prop} {g : XG} {Q : State → Prop} (E : EV p s m args c cX0_on 5 RX0) (hR : 28 ≤ R.frames ∧ 654 ≤ R.locals) {res : Int32 × XS} (hq : XTi p l e R s m args below meth c cX0_on 5 0 0 A g .int Q res) (N : Nat)    {rec38 : Int32 → Int32 → Int32 → Int32 → XS → Option (Int32 × XS)} (ih38 : ∀ (x1 : Int32) (x2 : Int32) (x3 : Int32) (x4 : Int32) (ξ : XS), rec38 x1 x2 x3 x4 ξ = some res → CF p l e R s m args below meth c 5 0 0 (XB g A s ξ) Q 38 [(0, .ref (xa g 0)), (1, .int x1), (2, .int x2), (3, .int x3), (4, .int x4)] []) (x1 : Int32) (x2 : Int32) (x3 : Int32) (x4 : Int32) (ξ : XS) (h : x0_on_38b N g   rec38 x1 x2 x3 x4 ξ = some res) : CF p l e R s m args below meth c 5 0 0 (XB g A s ξ) Q 38 [(0, .ref (xa g 0)), (1, .int x1), (2, .int x2), (3, .int x3), (4, .int x4)] [] := by
  unfold x0_on_38b at h
  refine cf_iload E dX0_on_38 4 rfl rfl ?_
  refine cf_iload_n E dX0_on_40 2 rfl rfl ?_
  refine cf_icmp_ge E dX0_on_41 h rfl rfl (fun h => ?_) (fun h => ?_)
  · refine cf_iload_n E dX0_on_69 3 rfl rfl ?_
    exact xret_i dX0_on_70 h rfl hq
  · refine cf_iload_n E dX0_on_44 3 rfl rfl ?_
    refine cf_aload_n E dX0_on_45 0 rfl rfl ?_
    refine cf_aload_n E dX0_on_46 0 rfl rfl ?_
    refine xgX0_34 E dX0_on_47 rfl ?_
    refine cf_iload_n E dX0_on_50 1 rfl rfl ?_
    refine xclX0_253 (t1 := 1) E (by decide) (rmle hR rfl rfl) (Nat.le_of_ble_eq_true rfl) ⟨Nat.zero_le _, Nat.zero_le _⟩ dX0_on_51 h rfl (fun v_2 s_1 h => ?_)
    refine cf_iadd E dX0_on_54 rfl ?_
    refine cf_istore_n E dX0_on_55 h (fun x3_3 => [(3, .int x3_3), (0, .ref (xa g 0)), (1, .int x1), (2, .int x2), (4, .int x4)]) (Nat.le_of_ble_eq_true rfl) (fun _ => rfl) rfl (fun x3_3 h => ?_)
    refine cf_aload_n E dX0_on_56 1 rfl rfl ?_
    refine xgX0_34 E dX0_on_57 rfl ?_
    refine xclX0_264 (t0 := 1) E (by decide) (rmle hR rfl rfl) (Nat.le_of_ble_eq_true rfl) ⟨Nat.zero_le _, Nat.zero_le _⟩ dX0_on_60 h rfl (fun s_4 h => ?_)
    refine cf_iinc E dX0_on_63 ic_1 h 4 rfl (fun x4_5 => [(4, .int x4_5), (3, .int x3_3), (0, .ref (xa g 0)), (1, .int x1), (2, .int x2)]) (Nat.le_of_ble_eq_true rfl) (fun _ => rfl) rfl (fun x4_5 h => ?_)
    refine cf_goto E dX0_on_66 rfl ?_
    exact CF.sub [2, 3, 4, 1, 0] rfl (ih38 x1 x2 x3_3 x4_5 s_4 h)
set_option maxHeartbeats 4000000 in
theorem wx0_on_38 {p : Program} {l : Launch} {e : Env} {R : Room} {s : State} {m : MethodId} {args : Array Value} {below : List Frame} {meth : Method} {c : Code} {A : Nat → Prop} {g : XG} {Q : State → Prop} (E : EV p s m args c cX0_on 5 RX0) (hR : 28 ≤ R.frames ∧ 654 ≤ R.locals) {res : Int32 × XS} (hq : XTi p l e R s m args below meth c cX0_on 5 0 0 A g .int Q res) (N : Nat)    : ∀ (k : Nat) (x1 : Int32) (x2 : Int32) (x3 : Int32) (x4 : Int32) (ξ : XS), x0_on_38 N g   k x1 x2 x3 x4 ξ = some res → CF p l e R s m args below meth c 5 0 0 (XB g A s ξ) Q 38 [(0, .ref (xa g 0)), (1, .int x1), (2, .int x2), (3, .int x3), (4, .int x4)] [] := by
  intro k
  induction k with
  | zero => intro x1 x2 x3 x4 ξ h; have h : (none : Option (Int32 × XS)) = some res := h; cases h
  | succ k ih => intro x1 x2 x3 x4 ξ h; exact wx0_on_38b E hR hq N    ih x1 x2 x3 x4 ξ h
set_option maxHeartbeats 4000000 in
theorem met_x0_on (l : Launch) (g : XG) (N : Nat)   (x1 : Int32) (x2 : Int32) (ξ : XS) {v : Int32} {ξ1 : XS} (h : x0_on N g  x1 x2 ξ = some (v, ξ1)) : MetXi l g yX0_on (ws_ yX0_on cX0_on 5 (some .int)) { frames := 28, cells := 0, slots := 0, locals := 654 } [.ref (xa g 0), .int x1, .int x2] ξ v ξ1 0 0 := by
  refine met_xi (lv0 := [(0, .ref (xa g 0)), (1, .int x1), (2, .int x2)]) (own := RX0) (by decide) rfl (Nat.le_of_ble_eq_true rfl) rfl ?_
  intro p e s m below meth c A Q E hq
  have hR : 28 ≤ ({ frames := 28, cells := 0, slots := 0, locals := 654 } : Room).frames ∧ 654 ≤ ({ frames := 28, cells := 0, slots := 0, locals := 654 } : Room).locals := ⟨Nat.le_refl _, Nat.le_refl _⟩
  unfold x0_on at h
  refine cf_iload_n E dX0_on_0 1 rfl rfl ?_
  refine xclX0_161 E (rmle hR rfl rfl) (Nat.le_of_ble_eq_true rfl) ⟨Nat.zero_le _, Nat.zero_le _⟩ dX0_on_1 h rfl (fun v_2 s_1 h => ?_)
  refine cf_if_ne E dX0_on_4 h rfl rfl (fun h => ?_) (fun h => ?_)
  · refine cf_iload_n E dX0_on_9 2 rfl rfl ?_
    refine cf_iconst E dX0_on_10 ic_0 rfl ?_
    refine cf_bipush E dX0_on_11 bp_30 rfl ?_
    refine xclX0_130 E (rmle hR rfl rfl) (Nat.le_of_ble_eq_true rfl) ⟨Nat.zero_le _, Nat.zero_le _⟩ dX0_on_13 h rfl (fun v_4 s_3 h => ?_)
    refine cf_if_ne E dX0_on_16 h rfl rfl (fun h => ?_) (fun h => ?_)
    · refine cf_aload_n E dX0_on_22 0 rfl rfl ?_
      refine xgX0_34 E dX0_on_23 rfl ?_
      refine cf_aload_n E dX0_on_26 0 rfl rfl ?_
      refine xgX0_30 E dX0_on_27 rfl ?_
      refine xclX0_279 (t0 := 1) (t1 := 0) E (by decide) (by decide) (rmle hR rfl rfl) (Nat.le_of_ble_eq_true rfl) ⟨Nat.zero_le _, Nat.zero_le _⟩ dX0_on_30 h rfl (fun s_5 h => ?_)
      refine cf_iconst E dX0_on_33 ic_0 rfl ?_
      refine cf_istore_n E dX0_on_34 h (fun x3_6 => [(3, .int x3_6), (0, .ref (xa g 0)), (1, .int x1), (2, .int x2)]) (Nat.le_of_ble_eq_true rfl) (fun _ => rfl) rfl (fun x3_6 h => ?_)
      refine cf_iconst E dX0_on_35 ic_0 rfl ?_
      refine cf_istore E dX0_on_36 h (fun x4_7 => [(4, .int x4_7), (3, .int x3_6), (0, .ref (xa g 0)), (1, .int x1), (2, .int x2)]) (Nat.le_of_ble_eq_true rfl) (fun _ => rfl) rfl (fun x4_7 h => ?_)
      exact CF.sub [2, 3, 4, 1, 0] rfl (wx0_on_38 E hR hq N N x1 x2 x3_6 x4_7 s_5 h)
    · refine cf_bipush E dX0_on_19 bp_m2 rfl ?_
      exact xret_i dX0_on_21 h rfl hq
  · refine cf_iconst E dX0_on_7 ic_m1 rfl ?_
    exact xret_i dX0_on_8 h rfl hq
def x0_lasts_22b (N : Nat) (g : XG)   (rec22 : Int32 → Int32 → XS → Option (Int32 × XS)) (x1 : Int32) (x2 : Int32) (ξ : XS) : Option (Int32 × XS) :=
  if (30 : Int32) < x2 then (
    some ((-5 : Int32), ξ))
  else (
    bnd (x0_isEnough N g 1 x1 ξ) fun v_2 s_1 =>
    if v_2 = 0 then (
      some (x2, s_1))
    else (
      bnv (x1_wears N g 1 s_1) fun s_3 =>
      nx (x2 + (1 : Int32)) fun x2_4 =>
      rec22 x1 x2_4 s_3))
def x0_lasts_22 (N : Nat) (g : XG)   : Nat → Int32 → Int32 → XS → Option (Int32 × XS)
  | 0 => fun _ _ _ => none
  | k + 1 => fun x1 x2 ξ => x0_lasts_22b N g   (x0_lasts_22 N g   k) x1 x2 ξ
def x0_lasts (N : Nat) (g : XG)   (x1 : Int32) (ξ : XS) : Option (Int32 × XS) :=
  bnd (x0_isTrade N g x1 ξ) fun v_2 s_1 =>
  if v_2 = 0 then (
    some ((-1 : Int32), s_1))
  else (
    bnv (x1_takes N g 1 0 s_1) fun s_3 =>
    nx ((0 : Int32) : Int32) fun x2_4 =>
    x0_lasts_22 N g N x1 x2_4 s_3)
set_option maxHeartbeats 4000000 in
theorem wx0_lasts_22b {p : Program} {l : Launch} {e : Env} {R : Room} {s : State} {m : MethodId} {args : Array Value} {below : List Frame} {meth : Method} {c : Code} {A : Nat → Prop} {g : XG} {Q : State → Prop} (E : EV p s m args c cX0_lasts 3 RX0) (hR : 29 ≤ R.frames ∧ 676 ≤ R.locals) {res : Int32 × XS} (hq : XTi p l e R s m args below meth c cX0_lasts 3 0 0 A g .int Q res) (N : Nat)    {rec22 : Int32 → Int32 → XS → Option (Int32 × XS)} (ih22 : ∀ (x1 : Int32) (x2 : Int32) (ξ : XS), rec22 x1 x2 ξ = some res → CF p l e R s m args below meth c 3 0 0 (XB g A s ξ) Q 22 [(0, .ref (xa g 0)), (1, .int x1), (2, .int x2)] []) (x1 : Int32) (x2 : Int32) (ξ : XS) (h : x0_lasts_22b N g   rec22 x1 x2 ξ = some res) : CF p l e R s m args below meth c 3 0 0 (XB g A s ξ) Q 22 [(0, .ref (xa g 0)), (1, .int x1), (2, .int x2)] [] := by
  unfold x0_lasts_22b at h
  refine cf_iload_n E dX0_lasts_22 2 rfl rfl ?_
  refine cf_bipush E dX0_lasts_23 bp_30 rfl ?_
  refine cf_icmp_gt E dX0_lasts_25 h rfl rfl (fun h => ?_) (fun h => ?_)
  · refine cf_bipush E dX0_lasts_55 bp_m5 rfl ?_
    exact xret_i dX0_lasts_57 h rfl hq
  · refine cf_aload_n E dX0_lasts_28 0 rfl rfl ?_
    refine cf_aload_n E dX0_lasts_29 0 rfl rfl ?_
    refine xgX0_34 E dX0_lasts_30 rfl ?_
    refine cf_iload_n E dX0_lasts_33 1 rfl rfl ?_
    refine xclX0_275 (t1 := 1) E (by decide) (rmle hR rfl rfl) (Nat.le_of_ble_eq_true rfl) ⟨Nat.zero_le _, Nat.zero_le _⟩ dX0_lasts_34 h rfl (fun v_2 s_1 h => ?_)
    refine cf_if_ne E dX0_lasts_37 h rfl rfl (fun h => ?_) (fun h => ?_)
    · refine cf_aload_n E dX0_lasts_42 0 rfl rfl ?_
      refine xgX0_34 E dX0_lasts_43 rfl ?_
      refine xclX0_264 (t0 := 1) E (by decide) (rmle hR rfl rfl) (Nat.le_of_ble_eq_true rfl) ⟨Nat.zero_le _, Nat.zero_le _⟩ dX0_lasts_46 h rfl (fun s_3 h => ?_)
      refine cf_iinc E dX0_lasts_49 ic_1 h 2 rfl (fun x2_4 => [(2, .int x2_4), (0, .ref (xa g 0)), (1, .int x1)]) (Nat.le_of_ble_eq_true rfl) (fun _ => rfl) rfl (fun x2_4 h => ?_)
      refine cf_goto E dX0_lasts_52 rfl ?_
      exact CF.sub [1, 2, 0] rfl (ih22 x1 x2_4 s_3 h)
    · refine cf_iload_n E dX0_lasts_40 2 rfl rfl ?_
      exact xret_i dX0_lasts_41 h rfl hq
set_option maxHeartbeats 4000000 in
theorem wx0_lasts_22 {p : Program} {l : Launch} {e : Env} {R : Room} {s : State} {m : MethodId} {args : Array Value} {below : List Frame} {meth : Method} {c : Code} {A : Nat → Prop} {g : XG} {Q : State → Prop} (E : EV p s m args c cX0_lasts 3 RX0) (hR : 29 ≤ R.frames ∧ 676 ≤ R.locals) {res : Int32 × XS} (hq : XTi p l e R s m args below meth c cX0_lasts 3 0 0 A g .int Q res) (N : Nat)    : ∀ (k : Nat) (x1 : Int32) (x2 : Int32) (ξ : XS), x0_lasts_22 N g   k x1 x2 ξ = some res → CF p l e R s m args below meth c 3 0 0 (XB g A s ξ) Q 22 [(0, .ref (xa g 0)), (1, .int x1), (2, .int x2)] [] := by
  intro k
  induction k with
  | zero => intro x1 x2 ξ h; have h : (none : Option (Int32 × XS)) = some res := h; cases h
  | succ k ih => intro x1 x2 ξ h; exact wx0_lasts_22b E hR hq N    ih x1 x2 ξ h
set_option maxHeartbeats 4000000 in
theorem met_x0_lasts (l : Launch) (g : XG) (N : Nat)   (x1 : Int32) (ξ : XS) {v : Int32} {ξ1 : XS} (h : x0_lasts N g  x1 ξ = some (v, ξ1)) : MetXi l g yX0_lasts (ws_ yX0_lasts cX0_lasts 3 (some .int)) { frames := 29, cells := 0, slots := 0, locals := 676 } [.ref (xa g 0), .int x1] ξ v ξ1 0 0 := by
  refine met_xi (lv0 := [(0, .ref (xa g 0)), (1, .int x1)]) (own := RX0) (by decide) rfl (Nat.le_of_ble_eq_true rfl) rfl ?_
  intro p e s m below meth c A Q E hq
  have hR : 29 ≤ ({ frames := 29, cells := 0, slots := 0, locals := 676 } : Room).frames ∧ 676 ≤ ({ frames := 29, cells := 0, slots := 0, locals := 676 } : Room).locals := ⟨Nat.le_refl _, Nat.le_refl _⟩
  unfold x0_lasts at h
  refine cf_iload_n E dX0_lasts_0 1 rfl rfl ?_
  refine xclX0_161 E (rmle hR rfl rfl) (Nat.le_of_ble_eq_true rfl) ⟨Nat.zero_le _, Nat.zero_le _⟩ dX0_lasts_1 h rfl (fun v_2 s_1 h => ?_)
  refine cf_if_ne E dX0_lasts_4 h rfl rfl (fun h => ?_) (fun h => ?_)
  · refine cf_aload_n E dX0_lasts_9 0 rfl rfl ?_
    refine xgX0_34 E dX0_lasts_10 rfl ?_
    refine cf_aload_n E dX0_lasts_13 0 rfl rfl ?_
    refine xgX0_30 E dX0_lasts_14 rfl ?_
    refine xclX0_279 (t0 := 1) (t1 := 0) E (by decide) (by decide) (rmle hR rfl rfl) (Nat.le_of_ble_eq_true rfl) ⟨Nat.zero_le _, Nat.zero_le _⟩ dX0_lasts_17 h rfl (fun s_3 h => ?_)
    refine cf_iconst E dX0_lasts_20 ic_0 rfl ?_
    refine cf_istore_n E dX0_lasts_21 h (fun x2_4 => [(2, .int x2_4), (0, .ref (xa g 0)), (1, .int x1)]) (Nat.le_of_ble_eq_true rfl) (fun _ => rfl) rfl (fun x2_4 h => ?_)
    exact CF.sub [1, 2, 0] rfl (wx0_lasts_22 E hR hq N N x1 x2_4 s_3 h)
  · refine cf_iconst E dX0_lasts_7 ic_m1 rfl ?_
    exact xret_i dX0_lasts_8 h rfl hq
def x0_looksForDeeds_12b (N : Nat) (g : XG)  (rec2 : Int32 → XS → Option (XS)) (rec12 : Int32 → Int32 → XS → Option (XS)) (x1 : Int32) (x2 : Int32) (ξ : XS) : Option (XS) :=
  if (xF ξ 202) ≤ x2 then (
    nx (x1 + (1 : Int32)) fun x1_1 =>
    rec2 x1_1 ξ)
  else (
    bnd (x0_deedOf N g 0 x1 x2 ξ) fun v_3 s_2 =>
    if inb (((6 : Int32) * x1) + x2) 36 = true then nx (sXR s_2 21 (((6 : Int32) * x1) + x2).toNatClampNeg v_3) (fun s_4 =>
    nx (x2 + (1 : Int32)) fun x2_5 =>
    rec12 x1 x2_5 s_4) else none)
def x0_looksForDeeds_12 (N : Nat) (g : XG)  (rec2 : Int32 → XS → Option (XS)) : Nat → Int32 → Int32 → XS → Option (XS)
  | 0 => fun _ _ _ => none
  | k + 1 => fun x1 x2 ξ => x0_looksForDeeds_12b N g  rec2 (x0_looksForDeeds_12 N g  rec2 k) x1 x2 ξ
def x0_looksForDeeds_2b (N : Nat) (g : XG)   (rec2 : Int32 → XS → Option (XS)) (x1 : Int32) (ξ : XS) : Option (XS) :=
  if (xF ξ 4) ≤ x1 then (
    some ξ)
  else (
    nx ((0 : Int32) : Int32) fun x2_1 =>
    x0_looksForDeeds_12 N g rec2 N x1 x2_1 ξ)
def x0_looksForDeeds_2 (N : Nat) (g : XG)   : Nat → Int32 → XS → Option (XS)
  | 0 => fun _ _ => none
  | k + 1 => fun x1 ξ => x0_looksForDeeds_2b N g   (x0_looksForDeeds_2 N g   k) x1 ξ
def x0_looksForDeeds (N : Nat) (g : XG)    (ξ : XS) : Option (XS) :=
  nx ((0 : Int32) : Int32) fun x1_1 =>
  x0_looksForDeeds_2 N g N x1_1 ξ
set_option maxHeartbeats 4000000 in
theorem wx0_looksForDeeds_12b {p : Program} {l : Launch} {e : Env} {R : Room} {s : State} {m : MethodId} {args : Array Value} {below : List Frame} {meth : Method} {c : Code} {A : Nat → Prop} {g : XG} {Q : State → Prop} (E : EV p s m args c cX0_looksForDeeds 3 RX0) (hR : 27 ≤ R.frames ∧ 629 ≤ R.locals) {res : XS} (hq : XTv p l e R s m args below meth c cX0_looksForDeeds 3 0 0 A g Q res) (N : Nat)   {rec2 : Int32 → XS → Option (XS)} (ih2 : ∀ (x1 : Int32) (ξ : XS), rec2 x1 ξ = some res → CF p l e R s m args below meth c 3 0 0 (XB g A s ξ) Q 2 [(0, .ref (xa g 0)), (1, .int x1)] []) {rec12 : Int32 → Int32 → XS → Option (XS)} (ih12 : ∀ (x1 : Int32) (x2 : Int32) (ξ : XS), rec12 x1 x2 ξ = some res → CF p l e R s m args below meth c 3 0 0 (XB g A s ξ) Q 12 [(0, .ref (xa g 0)), (1, .int x1), (2, .int x2)] []) (x1 : Int32) (x2 : Int32) (ξ : XS) (h : x0_looksForDeeds_12b N g  rec2 rec12 x1 x2 ξ = some res) : CF p l e R s m args below meth c 3 0 0 (XB g A s ξ) Q 12 [(0, .ref (xa g 0)), (1, .int x1), (2, .int x2)] [] := by
  unfold x0_looksForDeeds_12b at h
  refine cf_iload_n E dX0_looksForDeeds_12 2 rfl rfl ?_
  refine cf_aload_n E dX0_looksForDeeds_13 0 rfl rfl ?_
  refine xgX0_30 E dX0_looksForDeeds_14 rfl ?_
  refine xgX0_126_0 E dX0_looksForDeeds_17 rfl ?_
  refine cf_icmp_ge E dX0_looksForDeeds_20 h rfl rfl (fun h => ?_) (fun h => ?_)
  · refine cf_iinc E dX0_looksForDeeds_50 ic_1 h 1 rfl (fun x1_1 => [(1, .int x1_1), (0, .ref (xa g 0)), (2, .int x2)]) (Nat.le_of_ble_eq_true rfl) (fun _ => rfl) rfl (fun x1_1 h => ?_)
    refine cf_goto E dX0_looksForDeeds_53 rfl ?_
    exact CF.sub [1, 0] rfl (ih2 x1_1 ξ h)
  · refine cf_aload_n E dX0_looksForDeeds_23 0 rfl rfl ?_
    refine xgX0_83 E dX0_looksForDeeds_24 rfl ?_
    refine cf_bipush E dX0_looksForDeeds_27 bp_6 rfl ?_
    refine cf_iload_n E dX0_looksForDeeds_29 1 rfl rfl ?_
    refine cf_imul E dX0_looksForDeeds_30 rfl ?_
    refine cf_iload_n E dX0_looksForDeeds_31 2 rfl rfl ?_
    refine cf_iadd E dX0_looksForDeeds_32 rfl ?_
    refine cf_aload_n E dX0_looksForDeeds_33 0 rfl rfl ?_
    refine cf_aload_n E dX0_looksForDeeds_34 0 rfl rfl ?_
    refine xgX0_30 E dX0_looksForDeeds_35 rfl ?_
    refine cf_iload_n E dX0_looksForDeeds_38 1 rfl rfl ?_
    refine cf_iload_n E dX0_looksForDeeds_39 2 rfl rfl ?_
    refine xclX0_221 (t1 := 0) E (by decide) (rmle hR rfl rfl) (Nat.le_of_ble_eq_true rfl) ⟨Nat.zero_le _, Nat.zero_le _⟩ dX0_looksForDeeds_40 h rfl (fun v_3 s_2 h => ?_)
    refine xast_21 E dX0_looksForDeeds_43 h rfl (fun s_4 h => ?_)
    refine cf_iinc E dX0_looksForDeeds_44 ic_1 h 2 rfl (fun x2_5 => [(2, .int x2_5), (0, .ref (xa g 0)), (1, .int x1)]) (Nat.le_of_ble_eq_true rfl) (fun _ => rfl) rfl (fun x2_5 h => ?_)
    refine cf_goto E dX0_looksForDeeds_47 rfl ?_
    exact CF.sub [1, 2, 0] rfl (ih12 x1 x2_5 s_4 h)
set_option maxHeartbeats 4000000 in
theorem wx0_looksForDeeds_12 {p : Program} {l : Launch} {e : Env} {R : Room} {s : State} {m : MethodId} {args : Array Value} {below : List Frame} {meth : Method} {c : Code} {A : Nat → Prop} {g : XG} {Q : State → Prop} (E : EV p s m args c cX0_looksForDeeds 3 RX0) (hR : 27 ≤ R.frames ∧ 629 ≤ R.locals) {res : XS} (hq : XTv p l e R s m args below meth c cX0_looksForDeeds 3 0 0 A g Q res) (N : Nat)   {rec2 : Int32 → XS → Option (XS)} (ih2 : ∀ (x1 : Int32) (ξ : XS), rec2 x1 ξ = some res → CF p l e R s m args below meth c 3 0 0 (XB g A s ξ) Q 2 [(0, .ref (xa g 0)), (1, .int x1)] []) : ∀ (k : Nat) (x1 : Int32) (x2 : Int32) (ξ : XS), x0_looksForDeeds_12 N g  rec2 k x1 x2 ξ = some res → CF p l e R s m args below meth c 3 0 0 (XB g A s ξ) Q 12 [(0, .ref (xa g 0)), (1, .int x1), (2, .int x2)] [] := by
  intro k
  induction k with
  | zero => intro x1 x2 ξ h; have h : (none : Option (XS)) = some res := h; cases h
  | succ k ih => intro x1 x2 ξ h; exact wx0_looksForDeeds_12b E hR hq N   ih2 ih x1 x2 ξ h
set_option maxHeartbeats 4000000 in
theorem wx0_looksForDeeds_2b {p : Program} {l : Launch} {e : Env} {R : Room} {s : State} {m : MethodId} {args : Array Value} {below : List Frame} {meth : Method} {c : Code} {A : Nat → Prop} {g : XG} {Q : State → Prop} (E : EV p s m args c cX0_looksForDeeds 3 RX0) (hR : 27 ≤ R.frames ∧ 629 ≤ R.locals) {res : XS} (hq : XTv p l e R s m args below meth c cX0_looksForDeeds 3 0 0 A g Q res) (N : Nat)    {rec2 : Int32 → XS → Option (XS)} (ih2 : ∀ (x1 : Int32) (ξ : XS), rec2 x1 ξ = some res → CF p l e R s m args below meth c 3 0 0 (XB g A s ξ) Q 2 [(0, .ref (xa g 0)), (1, .int x1)] []) (x1 : Int32) (ξ : XS) (h : x0_looksForDeeds_2b N g   rec2 x1 ξ = some res) : CF p l e R s m args below meth c 3 0 0 (XB g A s ξ) Q 2 [(0, .ref (xa g 0)), (1, .int x1)] [] := by
  unfold x0_looksForDeeds_2b at h
  refine cf_iload_n E dX0_looksForDeeds_2 1 rfl rfl ?_
  refine cf_aload_n E dX0_looksForDeeds_3 0 rfl rfl ?_
  refine xgX0_134 E dX0_looksForDeeds_4 rfl ?_
  refine cf_icmp_ge E dX0_looksForDeeds_7 h rfl rfl (fun h => ?_) (fun h => ?_)
  · exact xret_v dX0_looksForDeeds_56 h hq
  · refine cf_iconst E dX0_looksForDeeds_10 ic_0 rfl ?_
    refine cf_istore_n E dX0_looksForDeeds_11 h (fun x2_1 => [(2, .int x2_1), (0, .ref (xa g 0)), (1, .int x1)]) (Nat.le_of_ble_eq_true rfl) (fun _ => rfl) rfl (fun x2_1 h => ?_)
    exact CF.sub [1, 2, 0] rfl (wx0_looksForDeeds_12 E hR hq N ih2 N x1 x2_1 ξ h)
set_option maxHeartbeats 4000000 in
theorem wx0_looksForDeeds_2 {p : Program} {l : Launch} {e : Env} {R : Room} {s : State} {m : MethodId} {args : Array Value} {below : List Frame} {meth : Method} {c : Code} {A : Nat → Prop} {g : XG} {Q : State → Prop} (E : EV p s m args c cX0_looksForDeeds 3 RX0) (hR : 27 ≤ R.frames ∧ 629 ≤ R.locals) {res : XS} (hq : XTv p l e R s m args below meth c cX0_looksForDeeds 3 0 0 A g Q res) (N : Nat)    : ∀ (k : Nat) (x1 : Int32) (ξ : XS), x0_looksForDeeds_2 N g   k x1 ξ = some res → CF p l e R s m args below meth c 3 0 0 (XB g A s ξ) Q 2 [(0, .ref (xa g 0)), (1, .int x1)] [] := by
  intro k
  induction k with
  | zero => intro x1 ξ h; have h : (none : Option (XS)) = some res := h; cases h
  | succ k ih => intro x1 ξ h; exact wx0_looksForDeeds_2b E hR hq N    ih x1 ξ h
set_option maxHeartbeats 4000000 in
theorem met_x0_looksForDeeds (l : Launch) (g : XG) (N : Nat)    (ξ : XS) {ξ1 : XS} (h : x0_looksForDeeds N g   ξ = some ξ1) : MetXv l g yX0_looksForDeeds (ws_ yX0_looksForDeeds cX0_looksForDeeds 3 (none)) { frames := 27, cells := 0, slots := 0, locals := 629 } [.ref (xa g 0)] ξ ξ1 0 0 := by
  refine met_xv (lv0 := [(0, .ref (xa g 0))]) (own := RX0) (by decide) rfl (Nat.le_of_ble_eq_true rfl) rfl ?_
  intro p e s m below meth c A Q E hq
  have hR : 27 ≤ ({ frames := 27, cells := 0, slots := 0, locals := 629 } : Room).frames ∧ 629 ≤ ({ frames := 27, cells := 0, slots := 0, locals := 629 } : Room).locals := ⟨Nat.le_refl _, Nat.le_refl _⟩
  unfold x0_looksForDeeds at h
  refine cf_iconst E dX0_looksForDeeds_0 ic_0 rfl ?_
  refine cf_istore_n E dX0_looksForDeeds_1 h (fun x1_1 => [(1, .int x1_1), (0, .ref (xa g 0))]) (Nat.le_of_ble_eq_true rfl) (fun _ => rfl) rfl (fun x1_1 h => ?_)
  exact CF.sub [1, 0] rfl (wx0_looksForDeeds_2 E hR hq N N x1_1 ξ h)
def x0_by (N : Nat) (g : XG)   (x1 : Int32) (ξ : XS) : Option (Int32 × XS) :=
  bnd (x0_in N g x1 (-1 : Int32) (5 : Int32) ξ) fun v_2 s_1 =>
  if v_2 = 0 then (
    some ((-1 : Int32), s_1))
  else (
    bnv (x0_looksForDeeds N g s_1) fun s_3 =>
    nx (sXF s_3 24 (-1 : Int32)) fun s_4 =>
    bnv (x0_waysFrom N g 8 (0 : Int32) (((1 : Int32) <<< ((xF s_4 4) &&& 31)) - (1 : Int32)) (if (xF s_4 202) < (xF s_4 4) then (xF s_4 202) else (xF s_4 4)) (0 : Int32) s_4) fun s_5 =>
    if x1 = (-1 : Int32) then (
      some ((xF s_5 24), s_5))
    else (
      if (xF s_5 202) ≤ x1 then (
        some ((-5 : Int32), s_5))
      else (
        if inb x1 6 = true then (
        bnd (x0_orNone N g (xR s_5 23 x1.toNatClampNeg) s_5) fun v_7 s_6 =>
        some (v_7, s_6)) else none)))
section XC
variable {p : Program} {l : Launch} {e : Env} {R : Room} {s : State} {m : MethodId} {args : Array Value} {below : List Frame} {meth : Method} {c : Code} {nL cells slots : Nat} {A : Nat → Prop} {g : XG} {ξ : XS} {Q : State → Prop} {pc n : Nat} {lv : List (Nat × Value)} {st : List Value} {cc : ByteArray} {ρ : Type} {res : ρ}
theorem xclX0_296 (E : EV p s m args c cc nL RX0) {N : Nat}    {kk : XS → Option ρ} (hR : 28 ≤ R.frames ∧ 651 ≤ R.locals) (hcat : (st.map fun v => v.category).sum ≤ 8) (hf : cells ≤ R.cells ∧ slots ≤ R.slots) (d : decode cc pc = .ok (.invokevirtual 296, 3)) (h : bnv (x0_looksForDeeds N g   ξ) kk = some res) (hn : pc + 3 = n) (k : ∀ (ξ1 : XS), kk ξ1 = some res → CF p l e R s m args below meth c nL cells slots (XB g A s ξ1) Q n lv st) : CF p l e R s m args below meth c nL cells slots (XB g A s ξ) Q pc lv (.ref (xa g 0) :: st) :=
  xcallV0_v (na := 0) E [] (fun ξ1 ho => met_x0_looksForDeeds l g N    ξ ho) (C := RX0) (lw_V q1135 q1137 qs23 q96 q1138) (by decide +kernel) ⟨0, 1, _, _, rfl, rfl, rfl⟩ rfl rfl hR rfl rfl hcat hf d h hn k
theorem xclX0_292 (E : EV p s m args c cc nL RX0) {N : Nat}   {x1 : Int32} {x2 : Int32} {x3 : Int32} {x4 : Int32} {kk : XS → Option ρ} (hR : 10 ≤ R.frames ∧ 265 ≤ R.locals) (hcat : (st.map fun v => v.category).sum ≤ 8) (hf : cells ≤ R.cells ∧ slots ≤ R.slots) (d : decode cc pc = .ok (.invokevirtual 292, 3)) (h : bnv (x0_waysFrom N g 8  x1 x2 x3 x4 ξ) kk = some res) (hn : pc + 3 = n) (k : ∀ (ξ1 : XS), kk ξ1 = some res → CF p l e R s m args below meth c nL cells slots (XB g A s ξ1) Q n lv st) : CF p l e R s m args below meth c nL cells slots (XB g A s ξ) Q pc lv (.int x4 :: .int x3 :: .int x2 :: .int x1 :: .ref (xa g 0) :: st) :=
  xcallV0_v (na := 4) E [.int x1, .int x2, .int x3, .int x4] (fun ξ1 ho => met_x0_waysFrom l g N 8  x1 x2 x3 x4 ξ ξ1 ho) (C := RX0) (lw_V q1139 q1141 qs24 q96 q1142) (by decide +kernel) ⟨0, 1, _, _, rfl, rfl, rfl⟩ rfl rfl hR rfl rfl hcat hf d h hn k
end XC
set_option maxHeartbeats 4000000 in
theorem met_x0_by (l : Launch) (g : XG) (N : Nat)   (x1 : Int32) (ξ : XS) {v : Int32} {ξ1 : XS} (h : x0_by N g  x1 ξ = some (v, ξ1)) : MetXi l g yX0_by (ws_ yX0_by cX0_by 2 (some .int)) { frames := 28, cells := 0, slots := 0, locals := 651 } [.ref (xa g 0), .int x1] ξ v ξ1 0 0 := by
  refine met_xi (lv0 := [(0, .ref (xa g 0)), (1, .int x1)]) (own := RX0) (by decide) rfl (Nat.le_of_ble_eq_true rfl) rfl ?_
  intro p e s m below meth c A Q E hq
  have hR : 28 ≤ ({ frames := 28, cells := 0, slots := 0, locals := 651 } : Room).frames ∧ 651 ≤ ({ frames := 28, cells := 0, slots := 0, locals := 651 } : Room).locals := ⟨Nat.le_refl _, Nat.le_refl _⟩
  unfold x0_by at h
  refine cf_iload_n E dX0_by_0 1 rfl rfl ?_
  refine cf_iconst E dX0_by_1 ic_m1 rfl ?_
  refine cf_iconst E dX0_by_2 ic_5 rfl ?_
  refine xclX0_130 E (rmle hR rfl rfl) (Nat.le_of_ble_eq_true rfl) ⟨Nat.zero_le _, Nat.zero_le _⟩ dX0_by_3 h rfl (fun v_2 s_1 h => ?_)
  refine cf_if_ne E dX0_by_6 h rfl rfl (fun h => ?_) (fun h => ?_)
  · refine cf_aload_n E dX0_by_11 0 rfl rfl ?_
    refine xclX0_296 E (rmle hR rfl rfl) (Nat.le_of_ble_eq_true rfl) ⟨Nat.zero_le _, Nat.zero_le _⟩ dX0_by_12 h rfl (fun s_3 h => ?_)
    refine cf_aload_n E dX0_by_15 0 rfl rfl ?_
    refine cf_iconst E dX0_by_16 ic_m1 rfl ?_
    refine xpX0_283 E dX0_by_17 h rfl (fun s_4 h => ?_)
    refine cf_aload_n E dX0_by_20 0 rfl rfl ?_
    refine cf_iconst E dX0_by_21 ic_0 rfl ?_
    refine cf_iconst E dX0_by_22 ic_1 rfl ?_
    refine cf_aload_n E dX0_by_23 0 rfl rfl ?_
    refine xgX0_134 E dX0_by_24 rfl ?_
    refine cf_ishl E dX0_by_27 rfl ?_
    refine cf_iconst E dX0_by_28 ic_1 rfl ?_
    refine cf_isub E dX0_by_29 rfl ?_
    refine cf_aload_n E dX0_by_30 0 rfl rfl ?_
    refine xgX0_134 E dX0_by_31 rfl ?_
    refine cf_aload_n E dX0_by_34 0 rfl rfl ?_
    refine xgX0_30 E dX0_by_35 rfl ?_
    refine xgX0_126_0 E dX0_by_38 rfl ?_
    refine xmX0_min E (rmle hR rfl rfl) (by first | exact Nat.le_of_ble_eq_true rfl | decide) ⟨Nat.zero_le _, Nat.zero_le _⟩ dX0_by_41 rfl ?_
    refine cf_iconst E dX0_by_44 ic_0 rfl ?_
    refine xclX0_292 E (rmle hR rfl rfl) (Nat.le_of_ble_eq_true rfl) ⟨Nat.zero_le _, Nat.zero_le _⟩ dX0_by_45 h rfl (fun s_5 h => ?_)
    refine cf_iload_n E dX0_by_48 1 rfl rfl ?_
    refine cf_iconst E dX0_by_49 ic_m1 rfl ?_
    refine cf_icmp_ne E dX0_by_50 h rfl rfl (fun h => ?_) (fun h => ?_)
    · refine cf_iload_n E dX0_by_60 1 rfl rfl ?_
      refine cf_aload_n E dX0_by_61 0 rfl rfl ?_
      refine xgX0_30 E dX0_by_62 rfl ?_
      refine xgX0_126_0 E dX0_by_65 rfl ?_
      refine cf_icmp_ge E dX0_by_68 h rfl rfl (fun h => ?_) (fun h => ?_)
      · refine cf_bipush E dX0_by_83 bp_m5 rfl ?_
        exact xret_i dX0_by_85 h rfl hq
      · refine cf_aload_n E dX0_by_71 0 rfl rfl ?_
        refine xgX0_89 E dX0_by_72 rfl ?_
        refine cf_iload_n E dX0_by_75 1 rfl rfl ?_
        refine xald_23 E dX0_by_76 h rfl (fun h => ?_)
        refine xclX0_215 E (rmle hR rfl rfl) (Nat.le_of_ble_eq_true rfl) ⟨Nat.zero_le _, Nat.zero_le _⟩ dX0_by_77 h rfl (fun v_7 s_6 h => ?_)
        refine cf_goto E dX0_by_80 rfl ?_
        exact xret_i dX0_by_85 h rfl hq
    · refine cf_aload_n E dX0_by_53 0 rfl rfl ?_
      refine xgX0_283 E dX0_by_54 rfl ?_
      refine cf_goto E dX0_by_57 rfl ?_
      exact xret_i dX0_by_85 h rfl hq
  · refine cf_iconst E dX0_by_9 ic_m1 rfl ?_
    exact xret_i dX0_by_10 h rfl hq
def x0_can_38 (N : Nat) (g : XG)  (rec8 : Int32 → Int32 → XS → Option (Int32 × XS)) (x1 : Int32) (x2 : Int32) (ξ : XS) : Option (Int32 × XS) :=
  nx (x2 + (1 : Int32)) fun x2_1 =>
  rec8 x1 x2_1 ξ
def x0_can_8b (N : Nat) (g : XG)   (rec8 : Int32 → Int32 → XS → Option (Int32 × XS)) (x1 : Int32) (x2 : Int32) (ξ : XS) : Option (Int32 × XS) :=
  if (5 : Int32) ≤ x2 then (
    some (x1, ξ))
  else (
    bnd (x0_mostFrom N g 8 x2 (0 : Int32) (0 : Int32) ξ) fun v_2 s_1 =>
    bno (xo s_1 11) fun w_3 =>
    bno (dR s_1 w_3 3 3 1) fun b_4 =>
    bnd (dA s_1 b_4 (xc g 0)) fun n_5 f_6 =>
    if inb x2 n_5 = true then (
    if v_2 < (f_6 x2.toNatClampNeg) then (
      x0_can_38 N g rec8 x1 x2 s_1)
    else (
      nx ((x1 ||| ((1 : Int32) <<< (x2 &&& 31))) : Int32) fun x1_7 =>
      x0_can_38 N g rec8 x1_7 x2 s_1)) else none)
def x0_can_8 (N : Nat) (g : XG)   : Nat → Int32 → Int32 → XS → Option (Int32 × XS)
  | 0 => fun _ _ _ => none
  | k + 1 => fun x1 x2 ξ => x0_can_8b N g   (x0_can_8 N g   k) x1 x2 ξ
def x0_can (N : Nat) (g : XG)    (ξ : XS) : Option (Int32 × XS) :=
  bnv (x0_looksForDeeds N g ξ) fun s_1 =>
  nx ((0 : Int32) : Int32) fun x1_2 =>
  nx ((0 : Int32) : Int32) fun x2_3 =>
  x0_can_8 N g N x1_2 x2_3 s_1
section XC
variable {p : Program} {l : Launch} {e : Env} {R : Room} {s : State} {m : MethodId} {args : Array Value} {below : List Frame} {meth : Method} {c : Code} {nL cells slots : Nat} {A : Nat → Prop} {g : XG} {ξ : XS} {Q : State → Prop} {pc n : Nat} {lv : List (Nat × Value)} {st : List Value} {cc : ByteArray} {ρ : Type} {res : ρ}
theorem xclX0_299 (E : EV p s m args c cc nL RX0) {N : Nat}   {x1 : Int32} {x2 : Int32} {x3 : Int32} {kk : Int32 → XS → Option ρ} (hR : 10 ≤ R.frames ∧ 265 ≤ R.locals) (hcat : (st.map fun v => v.category).sum ≤ 8) (hf : cells ≤ R.cells ∧ slots ≤ R.slots) (d : decode cc pc = .ok (.invokevirtual 299, 3)) (h : bnd (x0_mostFrom N g 8  x1 x2 x3 ξ) kk = some res) (hn : pc + 3 = n) (k : ∀ (v : Int32) (ξ1 : XS), kk v ξ1 = some res → CF p l e R s m args below meth c nL cells slots (XB g A s ξ1) Q n lv (.int v :: st)) : CF p l e R s m args below meth c nL cells slots (XB g A s ξ) Q pc lv (.int x3 :: .int x2 :: .int x1 :: .ref (xa g 0) :: st) :=
  xcallV0_i (na := 3) E [.int x1, .int x2, .int x3] (fun v ξ1 ho => met_x0_mostFrom l g N 8  x1 x2 x3 ξ v ξ1 ho) (C := RX0) (lw_V q1148 q1150 qs25 q96 q1151) (by decide +kernel) ⟨0, 1, _, _, rfl, rfl, rfl⟩ rfl rfl hR rfl rfl hcat hf d h hn k
end XC
set_option maxHeartbeats 4000000 in
theorem wx0_can_38 {p : Program} {l : Launch} {e : Env} {R : Room} {s : State} {m : MethodId} {args : Array Value} {below : List Frame} {meth : Method} {c : Code} {A : Nat → Prop} {g : XG} {Q : State → Prop} (E : EV p s m args c cX0_can 3 RX0) (hR : 28 ≤ R.frames ∧ 651 ≤ R.locals) {res : Int32 × XS} (hq : XTi p l e R s m args below meth c cX0_can 3 0 0 A g .int Q res) (N : Nat)   {rec8 : Int32 → Int32 → XS → Option (Int32 × XS)} (ih8 : ∀ (x1 : Int32) (x2 : Int32) (ξ : XS), rec8 x1 x2 ξ = some res → CF p l e R s m args below meth c 3 0 0 (XB g A s ξ) Q 8 [(0, .ref (xa g 0)), (1, .int x1), (2, .int x2)] []) (x1 : Int32) (x2 : Int32) (ξ : XS) (h : x0_can_38 N g  rec8 x1 x2 ξ = some res) : CF p l e R s m args below meth c 3 0 0 (XB g A s ξ) Q 38 [(0, .ref (xa g 0)), (1, .int x1), (2, .int x2)] [] := by
  unfold x0_can_38 at h
  refine cf_iinc E dX0_can_38 ic_1 h 2 rfl (fun x2_1 => [(2, .int x2_1), (0, .ref (xa g 0)), (1, .int x1)]) (Nat.le_of_ble_eq_true rfl) (fun _ => rfl) rfl (fun x2_1 h => ?_)
  refine cf_goto E dX0_can_41 rfl ?_
  exact CF.sub [1, 2, 0] rfl (ih8 x1 x2_1 ξ h)
set_option maxHeartbeats 4000000 in
theorem wx0_can_8b {p : Program} {l : Launch} {e : Env} {R : Room} {s : State} {m : MethodId} {args : Array Value} {below : List Frame} {meth : Method} {c : Code} {A : Nat → Prop} {g : XG} {Q : State → Prop} (E : EV p s m args c cX0_can 3 RX0) (hR : 28 ≤ R.frames ∧ 651 ≤ R.locals) {res : Int32 × XS} (hq : XTi p l e R s m args below meth c cX0_can 3 0 0 A g .int Q res) (N : Nat)    {rec8 : Int32 → Int32 → XS → Option (Int32 × XS)} (ih8 : ∀ (x1 : Int32) (x2 : Int32) (ξ : XS), rec8 x1 x2 ξ = some res → CF p l e R s m args below meth c 3 0 0 (XB g A s ξ) Q 8 [(0, .ref (xa g 0)), (1, .int x1), (2, .int x2)] []) (x1 : Int32) (x2 : Int32) (ξ : XS) (h : x0_can_8b N g   rec8 x1 x2 ξ = some res) : CF p l e R s m args below meth c 3 0 0 (XB g A s ξ) Q 8 [(0, .ref (xa g 0)), (1, .int x1), (2, .int x2)] [] := by
  unfold x0_can_8b at h
  refine cf_iload_n E dX0_can_8 2 rfl rfl ?_
  refine cf_iconst E dX0_can_9 ic_5 rfl ?_
  refine cf_icmp_ge E dX0_can_10 h rfl rfl (fun h => ?_) (fun h => ?_)
  · refine cf_iload_n E dX0_can_44 1 rfl rfl ?_
    exact xret_i dX0_can_45 h rfl hq
  · refine cf_aload_n E dX0_can_13 0 rfl rfl ?_
    refine cf_iload_n E dX0_can_14 2 rfl rfl ?_
    refine cf_iconst E dX0_can_15 ic_0 rfl ?_
    refine cf_iconst E dX0_can_16 ic_0 rfl ?_
    refine xclX0_299 E (rmle hR rfl rfl) (Nat.le_of_ble_eq_true rfl) ⟨Nat.zero_le _, Nat.zero_le _⟩ dX0_can_17 h rfl (fun v_2 s_1 h => ?_)
    refine cf_aload_n E dX0_can_20 0 rfl rfl ?_
    refine xgX0_47 E dX0_can_21 rfl (xforce h (fun w_3 h => ?_))
    refine xdgX0_250 E dX0_can_24 h rfl (fun b_4 h => ?_)
    refine cf_iload_n E dX0_can_27 2 rfl rfl ?_
    refine xdald_i E dX0_can_28 h rfl (fun n_5 f_6 h => ?_)
    refine cf_icmp_lt E dX0_can_29 h rfl rfl (fun h => ?_) (fun h => ?_)
    · exact CF.sub [0, 1, 2] rfl (wx0_can_38 E hR hq N ih8 x1 x2 s_1 h)
    · refine cf_iload_n E dX0_can_32 1 rfl rfl ?_
      refine cf_iconst E dX0_can_33 ic_1 rfl ?_
      refine cf_iload_n E dX0_can_34 2 rfl rfl ?_
      refine cf_ishl E dX0_can_35 rfl ?_
      refine cf_ior E dX0_can_36 rfl ?_
      refine cf_istore_n E dX0_can_37 h (fun x1_7 => [(1, .int x1_7), (0, .ref (xa g 0)), (2, .int x2)]) (Nat.le_of_ble_eq_true rfl) (fun _ => rfl) rfl (fun x1_7 h => ?_)
      exact CF.sub [1, 0, 2] rfl (wx0_can_38 E hR hq N ih8 x1_7 x2 s_1 h)
set_option maxHeartbeats 4000000 in
theorem wx0_can_8 {p : Program} {l : Launch} {e : Env} {R : Room} {s : State} {m : MethodId} {args : Array Value} {below : List Frame} {meth : Method} {c : Code} {A : Nat → Prop} {g : XG} {Q : State → Prop} (E : EV p s m args c cX0_can 3 RX0) (hR : 28 ≤ R.frames ∧ 651 ≤ R.locals) {res : Int32 × XS} (hq : XTi p l e R s m args below meth c cX0_can 3 0 0 A g .int Q res) (N : Nat)    : ∀ (k : Nat) (x1 : Int32) (x2 : Int32) (ξ : XS), x0_can_8 N g   k x1 x2 ξ = some res → CF p l e R s m args below meth c 3 0 0 (XB g A s ξ) Q 8 [(0, .ref (xa g 0)), (1, .int x1), (2, .int x2)] [] := by
  intro k
  induction k with
  | zero => intro x1 x2 ξ h; have h : (none : Option (Int32 × XS)) = some res := h; cases h
  | succ k ih => intro x1 x2 ξ h; exact wx0_can_8b E hR hq N    ih x1 x2 ξ h
set_option maxHeartbeats 4000000 in
theorem met_x0_can (l : Launch) (g : XG) (N : Nat)    (ξ : XS) {v : Int32} {ξ1 : XS} (h : x0_can N g   ξ = some (v, ξ1)) : MetXi l g yX0_can (ws_ yX0_can cX0_can 3 (some .int)) { frames := 28, cells := 0, slots := 0, locals := 651 } [.ref (xa g 0)] ξ v ξ1 0 0 := by
  refine met_xi (lv0 := [(0, .ref (xa g 0))]) (own := RX0) (by decide) rfl (Nat.le_of_ble_eq_true rfl) rfl ?_
  intro p e s m below meth c A Q E hq
  have hR : 28 ≤ ({ frames := 28, cells := 0, slots := 0, locals := 651 } : Room).frames ∧ 651 ≤ ({ frames := 28, cells := 0, slots := 0, locals := 651 } : Room).locals := ⟨Nat.le_refl _, Nat.le_refl _⟩
  unfold x0_can at h
  refine cf_aload_n E dX0_can_0 0 rfl rfl ?_
  refine xclX0_296 E (rmle hR rfl rfl) (Nat.le_of_ble_eq_true rfl) ⟨Nat.zero_le _, Nat.zero_le _⟩ dX0_can_1 h rfl (fun s_1 h => ?_)
  refine cf_iconst E dX0_can_4 ic_0 rfl ?_
  refine cf_istore_n E dX0_can_5 h (fun x1_2 => [(1, .int x1_2), (0, .ref (xa g 0))]) (Nat.le_of_ble_eq_true rfl) (fun _ => rfl) rfl (fun x1_2 h => ?_)
  refine cf_iconst E dX0_can_6 ic_0 rfl ?_
  refine cf_istore_n E dX0_can_7 h (fun x2_3 => [(2, .int x2_3), (1, .int x1_2), (0, .ref (xa g 0))]) (Nat.le_of_ble_eq_true rfl) (fun _ => rfl) rfl (fun x2_3 h => ?_)
  exact CF.sub [2, 1, 0] rfl (wx0_can_8 E hR hq N N x1_2 x2_3 s_1 h)
def x0_swap_95 (N : Nat) (g : XG)  (rec15 : Int32 → Int32 → Int32 → XS → Option (Int32 × XS)) (rec31 : Int32 → Int32 → Int32 → Int32 → XS → Option (Int32 × XS)) (x1 : Int32) (x2 : Int32) (x3 : Int32) (x4 : Int32) (ξ : XS) : Option (Int32 × XS) :=
  nx (x4 + (1 : Int32)) fun x4_1 =>
  rec31 x1 x2 x3 x4_1 ξ
def x0_swap_31b (N : Nat) (g : XG)  (rec15 : Int32 → Int32 → Int32 → XS → Option (Int32 × XS)) (rec31 : Int32 → Int32 → Int32 → Int32 → XS → Option (Int32 × XS)) (x1 : Int32) (x2 : Int32) (x3 : Int32) (x4 : Int32) (ξ : XS) : Option (Int32 × XS) :=
  if (xF ξ 202) ≤ x4 then (
    nx (x3 + (1 : Int32)) fun x3_1 =>
    rec15 x1 x2 x3_1 ξ)
  else (
    bnv (x1_takes N g 1 0 ξ) fun s_2 =>
    bnv (x1_changes N g 1 x3 x4 s_2) fun s_3 =>
    bnd (x0_todayOf N g 1 (-1 : Int32) s_3) fun v_5 s_4 =>
    nx (v_5 : Int32) fun x5_6 =>
    if x2 < x5_6 then (
      nx (x5_6 : Int32) fun x2_7 =>
      nx ((((10 : Int32) * x3) + x4) : Int32) fun x1_8 =>
      x0_swap_95 N g rec15 rec31 x1_8 x2_7 x3 x4 s_4)
    else (
      x0_swap_95 N g rec15 rec31 x1 x2 x3 x4 s_4))
def x0_swap_31 (N : Nat) (g : XG)  (rec15 : Int32 → Int32 → Int32 → XS → Option (Int32 × XS)) : Nat → Int32 → Int32 → Int32 → Int32 → XS → Option (Int32 × XS)
  | 0 => fun _ _ _ _ _ => none
  | k + 1 => fun x1 x2 x3 x4 ξ => x0_swap_31b N g  rec15 (x0_swap_31 N g  rec15 k) x1 x2 x3 x4 ξ
def x0_swap_15b (N : Nat) (g : XG)   (rec15 : Int32 → Int32 → Int32 → XS → Option (Int32 × XS)) (x1 : Int32) (x2 : Int32) (x3 : Int32) (ξ : XS) : Option (Int32 × XS) :=
  if (xF ξ 202) ≤ x3 then (
    some (x1, ξ))
  else (
    nx ((x3 + (1 : Int32)) : Int32) fun x4_1 =>
    x0_swap_31 N g rec15 N x1 x2 x3 x4_1 ξ)
def x0_swap_15 (N : Nat) (g : XG)   : Nat → Int32 → Int32 → Int32 → XS → Option (Int32 × XS)
  | 0 => fun _ _ _ _ => none
  | k + 1 => fun x1 x2 x3 ξ => x0_swap_15b N g   (x0_swap_15 N g   k) x1 x2 x3 ξ
def x0_swap (N : Nat) (g : XG)    (ξ : XS) : Option (Int32 × XS) :=
  nx ((-5 : Int32) : Int32) fun x1_1 =>
  bnd (x0_todayOf N g 0 (-1 : Int32) ξ) fun v_3 s_2 =>
  nx (v_3 : Int32) fun x2_4 =>
  nx ((0 : Int32) : Int32) fun x3_5 =>
  x0_swap_15 N g N x1_1 x2_4 x3_5 s_2
set_option maxHeartbeats 4000000 in
theorem wx0_swap_95 {p : Program} {l : Launch} {e : Env} {R : Room} {s : State} {m : MethodId} {args : Array Value} {below : List Frame} {meth : Method} {c : Code} {A : Nat → Prop} {g : XG} {Q : State → Prop} (E : EV p s m args c cX0_swap 6 RX0) (hR : 28 ≤ R.frames ∧ 654 ≤ R.locals) {res : Int32 × XS} (hq : XTi p l e R s m args below meth c cX0_swap 6 0 0 A g .int Q res) (N : Nat)   {rec15 : Int32 → Int32 → Int32 → XS → Option (Int32 × XS)} (ih15 : ∀ (x1 : Int32) (x2 : Int32) (x3 : Int32) (ξ : XS), rec15 x1 x2 x3 ξ = some res → CF p l e R s m args below meth c 6 0 0 (XB g A s ξ) Q 15 [(0, .ref (xa g 0)), (1, .int x1), (2, .int x2), (3, .int x3)] []) {rec31 : Int32 → Int32 → Int32 → Int32 → XS → Option (Int32 × XS)} (ih31 : ∀ (x1 : Int32) (x2 : Int32) (x3 : Int32) (x4 : Int32) (ξ : XS), rec31 x1 x2 x3 x4 ξ = some res → CF p l e R s m args below meth c 6 0 0 (XB g A s ξ) Q 31 [(0, .ref (xa g 0)), (1, .int x1), (2, .int x2), (3, .int x3), (4, .int x4)] []) (x1 : Int32) (x2 : Int32) (x3 : Int32) (x4 : Int32) (ξ : XS) (h : x0_swap_95 N g  rec15 rec31 x1 x2 x3 x4 ξ = some res) : CF p l e R s m args below meth c 6 0 0 (XB g A s ξ) Q 95 [(0, .ref (xa g 0)), (1, .int x1), (2, .int x2), (3, .int x3), (4, .int x4)] [] := by
  unfold x0_swap_95 at h
  refine cf_iinc E dX0_swap_95 ic_1 h 4 rfl (fun x4_1 => [(4, .int x4_1), (0, .ref (xa g 0)), (1, .int x1), (2, .int x2), (3, .int x3)]) (Nat.le_of_ble_eq_true rfl) (fun _ => rfl) rfl (fun x4_1 h => ?_)
  refine cf_goto E dX0_swap_98 rfl ?_
  exact CF.sub [1, 2, 3, 4, 0] rfl (ih31 x1 x2 x3 x4_1 ξ h)
set_option maxHeartbeats 4000000 in
theorem wx0_swap_31b {p : Program} {l : Launch} {e : Env} {R : Room} {s : State} {m : MethodId} {args : Array Value} {below : List Frame} {meth : Method} {c : Code} {A : Nat → Prop} {g : XG} {Q : State → Prop} (E : EV p s m args c cX0_swap 6 RX0) (hR : 28 ≤ R.frames ∧ 654 ≤ R.locals) {res : Int32 × XS} (hq : XTi p l e R s m args below meth c cX0_swap 6 0 0 A g .int Q res) (N : Nat)   {rec15 : Int32 → Int32 → Int32 → XS → Option (Int32 × XS)} (ih15 : ∀ (x1 : Int32) (x2 : Int32) (x3 : Int32) (ξ : XS), rec15 x1 x2 x3 ξ = some res → CF p l e R s m args below meth c 6 0 0 (XB g A s ξ) Q 15 [(0, .ref (xa g 0)), (1, .int x1), (2, .int x2), (3, .int x3)] []) {rec31 : Int32 → Int32 → Int32 → Int32 → XS → Option (Int32 × XS)} (ih31 : ∀ (x1 : Int32) (x2 : Int32) (x3 : Int32) (x4 : Int32) (ξ : XS), rec31 x1 x2 x3 x4 ξ = some res → CF p l e R s m args below meth c 6 0 0 (XB g A s ξ) Q 31 [(0, .ref (xa g 0)), (1, .int x1), (2, .int x2), (3, .int x3), (4, .int x4)] []) (x1 : Int32) (x2 : Int32) (x3 : Int32) (x4 : Int32) (ξ : XS) (h : x0_swap_31b N g  rec15 rec31 x1 x2 x3 x4 ξ = some res) : CF p l e R s m args below meth c 6 0 0 (XB g A s ξ) Q 31 [(0, .ref (xa g 0)), (1, .int x1), (2, .int x2), (3, .int x3), (4, .int x4)] [] := by
  unfold x0_swap_31b at h
  refine cf_iload E dX0_swap_31 4 rfl rfl ?_
  refine cf_aload_n E dX0_swap_33 0 rfl rfl ?_
  refine xgX0_30 E dX0_swap_34 rfl ?_
  refine xgX0_126_0 E dX0_swap_37 rfl ?_
  refine cf_icmp_ge E dX0_swap_40 h rfl rfl (fun h => ?_) (fun h => ?_)
  · refine cf_iinc E dX0_swap_101 ic_1 h 3 rfl (fun x3_1 => [(3, .int x3_1), (0, .ref (xa g 0)), (1, .int x1), (2, .int x2), (4, .int x4)]) (Nat.le_of_ble_eq_true rfl) (fun _ => rfl) rfl (fun x3_1 h => ?_)
    refine cf_goto E dX0_swap_104 rfl ?_
    exact CF.sub [1, 2, 3, 0] rfl (ih15 x1 x2 x3_1 ξ h)
  · refine cf_aload_n E dX0_swap_43 0 rfl rfl ?_
    refine xgX0_34 E dX0_swap_44 rfl ?_
    refine cf_aload_n E dX0_swap_47 0 rfl rfl ?_
    refine xgX0_30 E dX0_swap_48 rfl ?_
    refine xclX0_279 (t0 := 1) (t1 := 0) E (by decide) (by decide) (rmle hR rfl rfl) (Nat.le_of_ble_eq_true rfl) ⟨Nat.zero_le _, Nat.zero_le _⟩ dX0_swap_51 h rfl (fun s_2 h => ?_)
    refine cf_aload_n E dX0_swap_54 0 rfl rfl ?_
    refine xgX0_34 E dX0_swap_55 rfl ?_
    refine cf_iload_n E dX0_swap_58 3 rfl rfl ?_
    refine cf_iload E dX0_swap_59 4 rfl rfl ?_
    refine xclX0_271 (t0 := 1) E (by decide) (rmle hR rfl rfl) (Nat.le_of_ble_eq_true rfl) ⟨Nat.zero_le _, Nat.zero_le _⟩ dX0_swap_61 h rfl (fun s_3 h => ?_)
    refine cf_aload_n E dX0_swap_64 0 rfl rfl ?_
    refine cf_aload_n E dX0_swap_65 0 rfl rfl ?_
    refine xgX0_34 E dX0_swap_66 rfl ?_
    refine cf_iconst E dX0_swap_69 ic_m1 rfl ?_
    refine xclX0_253 (t1 := 1) E (by decide) (rmle hR rfl rfl) (Nat.le_of_ble_eq_true rfl) ⟨Nat.zero_le _, Nat.zero_le _⟩ dX0_swap_70 h rfl (fun v_5 s_4 h => ?_)
    refine cf_istore E dX0_swap_73 h (fun x5_6 => [(5, .int x5_6), (0, .ref (xa g 0)), (1, .int x1), (2, .int x2), (3, .int x3), (4, .int x4)]) (Nat.le_of_ble_eq_true rfl) (fun _ => rfl) rfl (fun x5_6 h => ?_)
    refine cf_iload E dX0_swap_75 0 rfl rfl ?_
    refine cf_iload_n E dX0_swap_77 3 rfl rfl ?_
    refine cf_icmp_gt E dX0_swap_78 h rfl rfl (fun h => ?_) (fun h => ?_)
    · refine cf_iload E dX0_swap_84 0 rfl rfl ?_
      refine cf_istore_n E dX0_swap_86 h (fun x2_7 => [(2, .int x2_7), (5, .int x5_6), (0, .ref (xa g 0)), (1, .int x1), (3, .int x3), (4, .int x4)]) (Nat.le_of_ble_eq_true rfl) (fun _ => rfl) rfl (fun x2_7 h => ?_)
      refine cf_bipush E dX0_swap_87 bp_10 rfl ?_
      refine cf_iload_n E dX0_swap_89 4 rfl rfl ?_
      refine cf_imul E dX0_swap_90 rfl ?_
      refine cf_iload E dX0_swap_91 5 rfl rfl ?_
      refine cf_iadd E dX0_swap_93 rfl ?_
      refine cf_istore_n E dX0_swap_94 h (fun x1_8 => [(1, .int x1_8), (2, .int x2_7), (5, .int x5_6), (0, .ref (xa g 0)), (3, .int x3), (4, .int x4)]) (Nat.le_of_ble_eq_true rfl) (fun _ => rfl) rfl (fun x1_8 h => ?_)
      exact CF.sub [3, 0, 1, 4, 5] rfl (wx0_swap_95 E hR hq N ih15 ih31 x1_8 x2_7 x3 x4 s_4 h)
    · refine cf_goto E dX0_swap_81 rfl ?_
      exact CF.sub [1, 2, 3, 4, 5] rfl (wx0_swap_95 E hR hq N ih15 ih31 x1 x2 x3 x4 s_4 h)
set_option maxHeartbeats 4000000 in
theorem wx0_swap_31 {p : Program} {l : Launch} {e : Env} {R : Room} {s : State} {m : MethodId} {args : Array Value} {below : List Frame} {meth : Method} {c : Code} {A : Nat → Prop} {g : XG} {Q : State → Prop} (E : EV p s m args c cX0_swap 6 RX0) (hR : 28 ≤ R.frames ∧ 654 ≤ R.locals) {res : Int32 × XS} (hq : XTi p l e R s m args below meth c cX0_swap 6 0 0 A g .int Q res) (N : Nat)   {rec15 : Int32 → Int32 → Int32 → XS → Option (Int32 × XS)} (ih15 : ∀ (x1 : Int32) (x2 : Int32) (x3 : Int32) (ξ : XS), rec15 x1 x2 x3 ξ = some res → CF p l e R s m args below meth c 6 0 0 (XB g A s ξ) Q 15 [(0, .ref (xa g 0)), (1, .int x1), (2, .int x2), (3, .int x3)] []) : ∀ (k : Nat) (x1 : Int32) (x2 : Int32) (x3 : Int32) (x4 : Int32) (ξ : XS), x0_swap_31 N g  rec15 k x1 x2 x3 x4 ξ = some res → CF p l e R s m args below meth c 6 0 0 (XB g A s ξ) Q 31 [(0, .ref (xa g 0)), (1, .int x1), (2, .int x2), (3, .int x3), (4, .int x4)] [] := by
  intro k
  induction k with
  | zero => intro x1 x2 x3 x4 ξ h; have h : (none : Option (Int32 × XS)) = some res := h; cases h
  | succ k ih => intro x1 x2 x3 x4 ξ h; exact wx0_swap_31b E hR hq N   ih15 ih x1 x2 x3 x4 ξ h
set_option maxHeartbeats 4000000 in
theorem wx0_swap_15b {p : Program} {l : Launch} {e : Env} {R : Room} {s : State} {m : MethodId} {args : Array Value} {below : List Frame} {meth : Method} {c : Code} {A : Nat → Prop} {g : XG} {Q : State → Prop} (E : EV p s m args c cX0_swap 6 RX0) (hR : 28 ≤ R.frames ∧ 654 ≤ R.locals) {res : Int32 × XS} (hq : XTi p l e R s m args below meth c cX0_swap 6 0 0 A g .int Q res) (N : Nat)    {rec15 : Int32 → Int32 → Int32 → XS → Option (Int32 × XS)} (ih15 : ∀ (x1 : Int32) (x2 : Int32) (x3 : Int32) (ξ : XS), rec15 x1 x2 x3 ξ = some res → CF p l e R s m args below meth c 6 0 0 (XB g A s ξ) Q 15 [(0, .ref (xa g 0)), (1, .int x1), (2, .int x2), (3, .int x3)] []) (x1 : Int32) (x2 : Int32) (x3 : Int32) (ξ : XS) (h : x0_swap_15b N g   rec15 x1 x2 x3 ξ = some res) : CF p l e R s m args below meth c 6 0 0 (XB g A s ξ) Q 15 [(0, .ref (xa g 0)), (1, .int x1), (2, .int x2), (3, .int x3)] [] := by
  unfold x0_swap_15b at h
  refine cf_iload_n E dX0_swap_15 3 rfl rfl ?_
  refine cf_aload_n E dX0_swap_16 0 rfl rfl ?_
  refine xgX0_30 E dX0_swap_17 rfl ?_
  refine xgX0_126_0 E dX0_swap_20 rfl ?_
  refine cf_icmp_ge E dX0_swap_23 h rfl rfl (fun h => ?_) (fun h => ?_)
  · refine cf_iload_n E dX0_swap_107 1 rfl rfl ?_
    exact xret_i dX0_swap_108 h rfl hq
  · refine cf_iload_n E dX0_swap_26 3 rfl rfl ?_
    refine cf_iconst E dX0_swap_27 ic_1 rfl ?_
    refine cf_iadd E dX0_swap_28 rfl ?_
    refine cf_istore E dX0_swap_29 h (fun x4_1 => [(4, .int x4_1), (0, .ref (xa g 0)), (1, .int x1), (2, .int x2), (3, .int x3)]) (Nat.le_of_ble_eq_true rfl) (fun _ => rfl) rfl (fun x4_1 h => ?_)
    exact CF.sub [1, 2, 3, 4, 0] rfl (wx0_swap_31 E hR hq N ih15 N x1 x2 x3 x4_1 ξ h)
set_option maxHeartbeats 4000000 in
theorem wx0_swap_15 {p : Program} {l : Launch} {e : Env} {R : Room} {s : State} {m : MethodId} {args : Array Value} {below : List Frame} {meth : Method} {c : Code} {A : Nat → Prop} {g : XG} {Q : State → Prop} (E : EV p s m args c cX0_swap 6 RX0) (hR : 28 ≤ R.frames ∧ 654 ≤ R.locals) {res : Int32 × XS} (hq : XTi p l e R s m args below meth c cX0_swap 6 0 0 A g .int Q res) (N : Nat)    : ∀ (k : Nat) (x1 : Int32) (x2 : Int32) (x3 : Int32) (ξ : XS), x0_swap_15 N g   k x1 x2 x3 ξ = some res → CF p l e R s m args below meth c 6 0 0 (XB g A s ξ) Q 15 [(0, .ref (xa g 0)), (1, .int x1), (2, .int x2), (3, .int x3)] [] := by
  intro k
  induction k with
  | zero => intro x1 x2 x3 ξ h; have h : (none : Option (Int32 × XS)) = some res := h; cases h
  | succ k ih => intro x1 x2 x3 ξ h; exact wx0_swap_15b E hR hq N    ih x1 x2 x3 ξ h
set_option maxHeartbeats 4000000 in
theorem met_x0_swap (l : Launch) (g : XG) (N : Nat)    (ξ : XS) {v : Int32} {ξ1 : XS} (h : x0_swap N g   ξ = some (v, ξ1)) : MetXi l g yX0_swap (ws_ yX0_swap cX0_swap 6 (some .int)) { frames := 28, cells := 0, slots := 0, locals := 654 } [.ref (xa g 0)] ξ v ξ1 0 0 := by
  refine met_xi (lv0 := [(0, .ref (xa g 0))]) (own := RX0) (by decide) rfl (Nat.le_of_ble_eq_true rfl) rfl ?_
  intro p e s m below meth c A Q E hq
  have hR : 28 ≤ ({ frames := 28, cells := 0, slots := 0, locals := 654 } : Room).frames ∧ 654 ≤ ({ frames := 28, cells := 0, slots := 0, locals := 654 } : Room).locals := ⟨Nat.le_refl _, Nat.le_refl _⟩
  unfold x0_swap at h
  refine cf_bipush E dX0_swap_0 bp_m5 rfl ?_
  refine cf_istore_n E dX0_swap_2 h (fun x1_1 => [(1, .int x1_1), (0, .ref (xa g 0))]) (Nat.le_of_ble_eq_true rfl) (fun _ => rfl) rfl (fun x1_1 h => ?_)
  refine cf_aload_n E dX0_swap_3 1 rfl rfl ?_
  refine cf_aload_n E dX0_swap_4 1 rfl rfl ?_
  refine xgX0_30 E dX0_swap_5 rfl ?_
  refine cf_iconst E dX0_swap_8 ic_m1 rfl ?_
  refine xclX0_253 (t1 := 0) E (by decide) (rmle hR rfl rfl) (Nat.le_of_ble_eq_true rfl) ⟨Nat.zero_le _, Nat.zero_le _⟩ dX0_swap_9 h rfl (fun v_3 s_2 h => ?_)
  refine cf_istore_n E dX0_swap_12 h (fun x2_4 => [(2, .int x2_4), (1, .int x1_1), (0, .ref (xa g 0))]) (Nat.le_of_ble_eq_true rfl) (fun _ => rfl) rfl (fun x2_4 h => ?_)
  refine cf_iconst E dX0_swap_13 ic_0 rfl ?_
  refine cf_istore_n E dX0_swap_14 h (fun x3_5 => [(3, .int x3_5), (2, .int x2_4), (1, .int x1_1), (0, .ref (xa g 0))]) (Nat.le_of_ble_eq_true rfl) (fun _ => rfl) rfl (fun x3_5 h => ?_)
  exact CF.sub [3, 2, 1, 0] rfl (wx0_swap_15 E hR hq N N x1_1 x2_4 x3_5 s_2 h)
def x0_quarrel (N : Nat) (g : XG)   (x1 : Int32) (x2 : Int32) (x3 : Int32) (ξ : XS) : Option (Int32 × XS) :=
  bnd (x0_isHat N g x1 ξ) fun v_2 s_1 =>
  if v_2 = 0 then (
    some ((-10001 : Int32), s_1))
  else (
    bnd (x0_isHat N g x2 s_1) fun v_4 s_3 =>
    if v_4 = 0 then (
      some ((-10001 : Int32), s_3))
    else (
      bnd (x0_isHead N g x3 s_3) fun v_6 s_5 =>
      if v_6 = 0 then (
        some ((-10001 : Int32), s_5))
      else (
        if x1 = x2 then (
          some ((-10002 : Int32), s_5))
        else (
          bnd (x0_deedOf N g 0 x1 x3 s_5) fun v_8 s_7 =>
          bnd (x0_deedOf N g 0 x2 x3 s_7) fun v_10 s_9 =>
          some ((v_8 - v_10), s_9)))))
set_option maxHeartbeats 4000000 in
theorem met_x0_quarrel (l : Launch) (g : XG) (N : Nat)   (x1 : Int32) (x2 : Int32) (x3 : Int32) (ξ : XS) {v : Int32} {ξ1 : XS} (h : x0_quarrel N g  x1 x2 x3 ξ = some (v, ξ1)) : MetXi l g yX0_quarrel (ws_ yX0_quarrel cX0_quarrel 4 (some .int)) { frames := 27, cells := 0, slots := 0, locals := 629 } [.ref (xa g 0), .int x1, .int x2, .int x3] ξ v ξ1 0 0 := by
  refine met_xi (lv0 := [(0, .ref (xa g 0)), (1, .int x1), (2, .int x2), (3, .int x3)]) (own := RX0) (by decide) rfl (Nat.le_of_ble_eq_true rfl) rfl ?_
  intro p e s m below meth c A Q E hq
  have hR : 27 ≤ ({ frames := 27, cells := 0, slots := 0, locals := 629 } : Room).frames ∧ 629 ≤ ({ frames := 27, cells := 0, slots := 0, locals := 629 } : Room).locals := ⟨Nat.le_refl _, Nat.le_refl _⟩
  unfold x0_quarrel at h
  refine cf_aload_n E dX0_quarrel_0 0 rfl rfl ?_
  refine cf_iload_n E dX0_quarrel_1 1 rfl rfl ?_
  refine xclX0_202 E (rmle hR rfl rfl) (Nat.le_of_ble_eq_true rfl) ⟨Nat.zero_le _, Nat.zero_le _⟩ dX0_quarrel_2 h rfl (fun v_2 s_1 h => ?_)
  refine cf_if_eq E dX0_quarrel_5 h rfl rfl (fun h => ?_) (fun h => ?_)
  · refine cf_sipush E dX0_quarrel_24 sp_m10001 rfl ?_
    exact xret_i dX0_quarrel_27 h rfl hq
  · refine cf_aload_n E dX0_quarrel_8 0 rfl rfl ?_
    refine cf_iload_n E dX0_quarrel_9 2 rfl rfl ?_
    refine xclX0_202 E (rmle hR rfl rfl) (Nat.le_of_ble_eq_true rfl) ⟨Nat.zero_le _, Nat.zero_le _⟩ dX0_quarrel_10 h rfl (fun v_4 s_3 h => ?_)
    refine cf_if_eq E dX0_quarrel_13 h rfl rfl (fun h => ?_) (fun h => ?_)
    · refine cf_sipush E dX0_quarrel_24 sp_m10001 rfl ?_
      exact xret_i dX0_quarrel_27 h rfl hq
    · refine cf_aload_n E dX0_quarrel_16 0 rfl rfl ?_
      refine cf_iload_n E dX0_quarrel_17 3 rfl rfl ?_
      refine xclX0_218 E (rmle hR rfl rfl) (Nat.le_of_ble_eq_true rfl) ⟨Nat.zero_le _, Nat.zero_le _⟩ dX0_quarrel_18 h rfl (fun v_6 s_5 h => ?_)
      refine cf_if_ne E dX0_quarrel_21 h rfl rfl (fun h => ?_) (fun h => ?_)
      · refine cf_iload_n E dX0_quarrel_28 1 rfl rfl ?_
        refine cf_iload_n E dX0_quarrel_29 2 rfl rfl ?_
        refine cf_icmp_ne E dX0_quarrel_30 h rfl rfl (fun h => ?_) (fun h => ?_)
        · refine cf_aload_n E dX0_quarrel_39 0 rfl rfl ?_
          refine cf_aload_n E dX0_quarrel_40 0 rfl rfl ?_
          refine xgX0_30 E dX0_quarrel_41 rfl ?_
          refine cf_iload_n E dX0_quarrel_44 1 rfl rfl ?_
          refine cf_iload_n E dX0_quarrel_45 3 rfl rfl ?_
          refine xclX0_221 (t1 := 0) E (by decide) (rmle hR rfl rfl) (Nat.le_of_ble_eq_true rfl) ⟨Nat.zero_le _, Nat.zero_le _⟩ dX0_quarrel_46 h rfl (fun v_8 s_7 h => ?_)
          refine cf_aload_n E dX0_quarrel_49 0 rfl rfl ?_
          refine cf_aload_n E dX0_quarrel_50 0 rfl rfl ?_
          refine xgX0_30 E dX0_quarrel_51 rfl ?_
          refine cf_iload_n E dX0_quarrel_54 2 rfl rfl ?_
          refine cf_iload_n E dX0_quarrel_55 3 rfl rfl ?_
          refine xclX0_221 (t1 := 0) E (by decide) (rmle hR rfl rfl) (Nat.le_of_ble_eq_true rfl) ⟨Nat.zero_le _, Nat.zero_le _⟩ dX0_quarrel_56 h rfl (fun v_10 s_9 h => ?_)
          refine cf_isub E dX0_quarrel_59 rfl ?_
          exact xret_i dX0_quarrel_60 h rfl hq
        · refine cf_sipush E dX0_quarrel_33 sp_m10002 rfl ?_
          refine cf_goto E dX0_quarrel_36 rfl ?_
          exact xret_i dX0_quarrel_60 h rfl hq
      · refine cf_sipush E dX0_quarrel_24 sp_m10001 rfl ?_
        exact xret_i dX0_quarrel_27 h rfl hq
def x0_wore (N : Nat) (g : XG)   (x1 : Int32) (ξ : XS) : Option (Int32 × XS) :=
  bnd (x0_isHat N g x1 ξ) fun v_2 s_1 =>
  if v_2 = 0 then (
    some ((-1 : Int32), s_1))
  else (
    bnv (x0_looksForDeeds N g s_1) fun s_3 =>
    bnd (x0_woreOf N g x1 s_3) fun v_5 s_4 =>
    some (v_5, s_4))
set_option maxHeartbeats 4000000 in
theorem met_x0_wore (l : Launch) (g : XG) (N : Nat)   (x1 : Int32) (ξ : XS) {v : Int32} {ξ1 : XS} (h : x0_wore N g  x1 ξ = some (v, ξ1)) : MetXi l g yX0_wore (ws_ yX0_wore cX0_wore 2 (some .int)) { frames := 28, cells := 0, slots := 0, locals := 651 } [.ref (xa g 0), .int x1] ξ v ξ1 0 0 := by
  refine met_xi (lv0 := [(0, .ref (xa g 0)), (1, .int x1)]) (own := RX0) (by decide) rfl (Nat.le_of_ble_eq_true rfl) rfl ?_
  intro p e s m below meth c A Q E hq
  have hR : 28 ≤ ({ frames := 28, cells := 0, slots := 0, locals := 651 } : Room).frames ∧ 651 ≤ ({ frames := 28, cells := 0, slots := 0, locals := 651 } : Room).locals := ⟨Nat.le_refl _, Nat.le_refl _⟩
  unfold x0_wore at h
  refine cf_aload_n E dX0_wore_0 0 rfl rfl ?_
  refine cf_iload_n E dX0_wore_1 1 rfl rfl ?_
  refine xclX0_202 E (rmle hR rfl rfl) (Nat.le_of_ble_eq_true rfl) ⟨Nat.zero_le _, Nat.zero_le _⟩ dX0_wore_2 h rfl (fun v_2 s_1 h => ?_)
  refine cf_if_ne E dX0_wore_5 h rfl rfl (fun h => ?_) (fun h => ?_)
  · refine cf_aload_n E dX0_wore_10 0 rfl rfl ?_
    refine xclX0_296 E (rmle hR rfl rfl) (Nat.le_of_ble_eq_true rfl) ⟨Nat.zero_le _, Nat.zero_le _⟩ dX0_wore_11 h rfl (fun s_3 h => ?_)
    refine cf_aload_n E dX0_wore_14 0 rfl rfl ?_
    refine cf_iload_n E dX0_wore_15 1 rfl rfl ?_
    refine xclX0_322 E (rmle hR rfl rfl) (Nat.le_of_ble_eq_true rfl) ⟨Nat.zero_le _, Nat.zero_le _⟩ dX0_wore_16 h rfl (fun v_5 s_4 h => ?_)
    exact xret_i dX0_wore_19 h rfl hq
  · refine cf_iconst E dX0_wore_8 ic_m1 rfl ?_
    exact xret_i dX0_wore_9 h rfl hq
def x0_who (N : Nat) (g : XG)    (ξ : XS) : Option (Int32 × XS) :=
  bnv (x0_looksForDeeds N g ξ) fun s_1 =>
  bnd (x0_waysSeen N g 8 (0 : Int32) (0 : Int32) s_1) fun v_3 s_2 =>
  some (v_3, s_2)
section XC
variable {p : Program} {l : Launch} {e : Env} {R : Room} {s : State} {m : MethodId} {args : Array Value} {below : List Frame} {meth : Method} {c : Code} {nL cells slots : Nat} {A : Nat → Prop} {g : XG} {ξ : XS} {Q : State → Prop} {pc n : Nat} {lv : List (Nat × Value)} {st : List Value} {cc : ByteArray} {ρ : Type} {res : ρ}
theorem xclX0_328 (E : EV p s m args c cc nL RX0) {N : Nat}   {x1 : Int32} {x2 : Int32} {kk : Int32 → XS → Option ρ} (hR : 11 ≤ R.frames ∧ 271 ≤ R.locals) (hcat : (st.map fun v => v.category).sum ≤ 8) (hf : cells ≤ R.cells ∧ slots ≤ R.slots) (d : decode cc pc = .ok (.invokevirtual 328, 3)) (h : bnd (x0_waysSeen N g 8  x1 x2 ξ) kk = some res) (hn : pc + 3 = n) (k : ∀ (v : Int32) (ξ1 : XS), kk v ξ1 = some res → CF p l e R s m args below meth c nL cells slots (XB g A s ξ1) Q n lv (.int v :: st)) : CF p l e R s m args below meth c nL cells slots (XB g A s ξ) Q pc lv (.int x2 :: .int x1 :: .ref (xa g 0) :: st) :=
  xcallV0_i (na := 2) E [.int x1, .int x2] (fun v ξ1 ho => met_x0_waysSeen l g N 8  x1 x2 ξ v ξ1 ho) (C := RX0) (lw_V q1209 q1211 qs31 q96 q1212) (by decide +kernel) ⟨0, 1, _, _, rfl, rfl, rfl⟩ rfl rfl hR rfl rfl hcat hf d h hn k
end XC
set_option maxHeartbeats 4000000 in
theorem met_x0_who (l : Launch) (g : XG) (N : Nat)    (ξ : XS) {v : Int32} {ξ1 : XS} (h : x0_who N g   ξ = some (v, ξ1)) : MetXi l g yX0_who (ws_ yX0_who cX0_who 1 (some .int)) { frames := 28, cells := 0, slots := 0, locals := 651 } [.ref (xa g 0)] ξ v ξ1 0 0 := by
  refine met_xi (lv0 := [(0, .ref (xa g 0))]) (own := RX0) (by decide) rfl (Nat.le_of_ble_eq_true rfl) rfl ?_
  intro p e s m below meth c A Q E hq
  have hR : 28 ≤ ({ frames := 28, cells := 0, slots := 0, locals := 651 } : Room).frames ∧ 651 ≤ ({ frames := 28, cells := 0, slots := 0, locals := 651 } : Room).locals := ⟨Nat.le_refl _, Nat.le_refl _⟩
  unfold x0_who at h
  refine cf_aload_n E dX0_who_0 0 rfl rfl ?_
  refine xclX0_296 E (rmle hR rfl rfl) (Nat.le_of_ble_eq_true rfl) ⟨Nat.zero_le _, Nat.zero_le _⟩ dX0_who_1 h rfl (fun s_1 h => ?_)
  refine cf_aload_n E dX0_who_4 0 rfl rfl ?_
  refine cf_iconst E dX0_who_5 ic_0 rfl ?_
  refine cf_iconst E dX0_who_6 ic_0 rfl ?_
  refine xclX0_328 E (rmle hR rfl rfl) (Nat.le_of_ble_eq_true rfl) ⟨Nat.zero_le _, Nat.zero_le _⟩ dX0_who_7 h rfl (fun v_3 s_2 h => ?_)
  exact xret_i dX0_who_10 h rfl hq
def x0_mean_36b (N : Nat) (g : XG)   (rec36 : Int32 → Int32 → Int64 → Int32 → XS → Option (Int64 × XS)) (x1 : Int32) (x2 : Int32) (x3 : Int64) (x5 : Int32) (ξ : XS) : Option (Int64 × XS) :=
  if (xF ξ 202) ≤ x5 then (
    bnd (x0_lowest N g x3 ((xF ξ 202).toInt64) x2 ξ) fun v_2 s_1 =>
    some (v_2, s_1))
  else (
    bnd (x0_deedOf N g 0 x1 x5 ξ) fun v_4 s_3 =>
    nx ((x3 + (v_4.toInt64)) : Int64) fun x3_5 =>
    nx (x5 + (1 : Int32)) fun x5_6 =>
    rec36 x1 x2 x3_5 x5_6 s_3)
def x0_mean_36 (N : Nat) (g : XG)   : Nat → Int32 → Int32 → Int64 → Int32 → XS → Option (Int64 × XS)
  | 0 => fun _ _ _ _ _ => none
  | k + 1 => fun x1 x2 x3 x5 ξ => x0_mean_36b N g   (x0_mean_36 N g   k) x1 x2 x3 x5 ξ
def x0_mean (N : Nat) (g : XG)   (x1 : Int32) (x2 : Int32) (ξ : XS) : Option (Int64 × XS) :=
  bnd (x0_isHat N g x1 ξ) fun v_2 s_1 =>
  if v_2 = 0 then (
    some ((-9223372036854775808 : Int64), s_1))
  else (
    bnd (x0_in N g x2 (0 : Int32) (1 : Int32) s_1) fun v_4 s_3 =>
    if v_4 = 0 then (
      some ((-9223372036854775808 : Int64), s_3))
    else (
      if (xF s_3 202) = 0 then (
        some ((-9223372036854775808 : Int64), s_3))
      else (
        nx ((0 : Int64) : Int64) fun x3_5 =>
        nx ((0 : Int32) : Int32) fun x5_6 =>
        x0_mean_36 N g N x1 x2 x3_5 x5_6 s_3)))
section XC
variable {p : Program} {l : Launch} {e : Env} {R : Room} {s : State} {m : MethodId} {args : Array Value} {below : List Frame} {meth : Method} {c : Code} {nL cells slots : Nat} {A : Nat → Prop} {g : XG} {ξ : XS} {Q : State → Prop} {pc n : Nat} {lv : List (Nat × Value)} {st : List Value} {cc : ByteArray} {ρ : Type} {res : ρ}
theorem xclX0_337 (E : EV p s m args c cc nL RX0) {N : Nat}   {x0 : Int64} {x2 : Int64} {x4 : Int32} {kk : Int64 → XS → Option ρ} (hR : 2 ≤ R.frames ∧ 51 ≤ R.locals) (hcat : (st.map fun v => v.category).sum ≤ 8) (hf : cells ≤ R.cells ∧ slots ≤ R.slots) (d : decode cc pc = .ok (.invokestatic 337, 3)) (h : bnd (x0_lowest N g  x0 x2 x4 ξ) kk = some res) (hn : pc + 3 = n) (k : ∀ (v : Int64) (ξ1 : XS), kk v ξ1 = some res → CF p l e R s m args below meth c nL cells slots (XB g A s ξ1) Q n lv (.long v :: st)) : CF p l e R s m args below meth c nL cells slots (XB g A s ξ) Q pc lv (.int x4 :: .long x2 :: .long x0 :: st) :=
  xcallS0_l (na := 3) E [.long x0, .long x2, .int x4] (fun v ξ1 ho => met_x0_lowest l g N   x0 x2 x4 ξ ho) (lw_S q1222 q1223 q96 q1224) (by decide +kernel) rfl rfl hR rfl rfl hcat hf d h hn k
end XC
set_option maxHeartbeats 4000000 in
theorem wx0_mean_36b {p : Program} {l : Launch} {e : Env} {R : Room} {s : State} {m : MethodId} {args : Array Value} {below : List Frame} {meth : Method} {c : Code} {A : Nat → Prop} {g : XG} {Q : State → Prop} (E : EV p s m args c cX0_mean 6 RX0) (hR : 27 ≤ R.frames ∧ 629 ≤ R.locals) {res : Int64 × XS} (hq : XTl p l e R s m args below meth c cX0_mean 6 0 0 A g Q res) (N : Nat)    {rec36 : Int32 → Int32 → Int64 → Int32 → XS → Option (Int64 × XS)} (ih36 : ∀ (x1 : Int32) (x2 : Int32) (x3 : Int64) (x5 : Int32) (ξ : XS), rec36 x1 x2 x3 x5 ξ = some res → CF p l e R s m args below meth c 6 0 0 (XB g A s ξ) Q 36 [(0, .ref (xa g 0)), (1, .int x1), (2, .int x2), (3, .long x3), (5, .int x5)] []) (x1 : Int32) (x2 : Int32) (x3 : Int64) (x5 : Int32) (ξ : XS) (h : x0_mean_36b N g   rec36 x1 x2 x3 x5 ξ = some res) : CF p l e R s m args below meth c 6 0 0 (XB g A s ξ) Q 36 [(0, .ref (xa g 0)), (1, .int x1), (2, .int x2), (3, .long x3), (5, .int x5)] [] := by
  unfold x0_mean_36b at h
  refine cf_iload E dX0_mean_36 4 rfl rfl ?_
  refine cf_aload_n E dX0_mean_38 0 rfl rfl ?_
  refine xgX0_30 E dX0_mean_39 rfl ?_
  refine xgX0_126_0 E dX0_mean_42 rfl ?_
  refine cf_icmp_ge E dX0_mean_45 h rfl rfl (fun h => ?_) (fun h => ?_)
  · refine cf_lload_n E dX0_mean_69 3 rfl rfl ?_
    refine cf_aload_n E dX0_mean_70 0 rfl rfl ?_
    refine xgX0_30 E dX0_mean_71 rfl ?_
    refine xgX0_126_0 E dX0_mean_74 rfl ?_
    refine cf_i2l E dX0_mean_77 rfl ?_
    refine cf_iload_n E dX0_mean_78 2 rfl rfl ?_
    refine xclX0_337 E (rmle hR rfl rfl) (Nat.le_of_ble_eq_true rfl) ⟨Nat.zero_le _, Nat.zero_le _⟩ dX0_mean_79 h rfl (fun v_2 s_1 h => ?_)
    exact xret_l dX0_mean_82 h hq
  · refine cf_lload_n E dX0_mean_48 3 rfl rfl ?_
    refine cf_aload_n E dX0_mean_49 0 rfl rfl ?_
    refine cf_aload_n E dX0_mean_50 0 rfl rfl ?_
    refine xgX0_30 E dX0_mean_51 rfl ?_
    refine cf_iload_n E dX0_mean_54 1 rfl rfl ?_
    refine cf_iload E dX0_mean_55 4 rfl rfl ?_
    refine xclX0_221 (t1 := 0) E (by decide) (rmle hR rfl rfl) (Nat.le_of_ble_eq_true rfl) ⟨Nat.zero_le _, Nat.zero_le _⟩ dX0_mean_57 h rfl (fun v_4 s_3 h => ?_)
    refine cf_i2l E dX0_mean_60 rfl ?_
    refine cf_ladd E dX0_mean_61 rfl ?_
    refine cf_lstore_n E dX0_mean_62 h (fun x3_5 => [(3, .long x3_5), (0, .ref (xa g 0)), (1, .int x1), (2, .int x2), (5, .int x5)]) (Nat.le_of_ble_eq_true rfl) (fun _ => rfl) rfl (fun x3_5 h => ?_)
    refine cf_iinc E dX0_mean_63 ic_1 h 4 rfl (fun x5_6 => [(5, .int x5_6), (3, .long x3_5), (0, .ref (xa g 0)), (1, .int x1), (2, .int x2)]) (Nat.le_of_ble_eq_true rfl) (fun _ => rfl) rfl (fun x5_6 h => ?_)
    refine cf_goto E dX0_mean_66 rfl ?_
    exact CF.sub [2, 3, 4, 1, 0] rfl (ih36 x1 x2 x3_5 x5_6 s_3 h)
set_option maxHeartbeats 4000000 in
theorem wx0_mean_36 {p : Program} {l : Launch} {e : Env} {R : Room} {s : State} {m : MethodId} {args : Array Value} {below : List Frame} {meth : Method} {c : Code} {A : Nat → Prop} {g : XG} {Q : State → Prop} (E : EV p s m args c cX0_mean 6 RX0) (hR : 27 ≤ R.frames ∧ 629 ≤ R.locals) {res : Int64 × XS} (hq : XTl p l e R s m args below meth c cX0_mean 6 0 0 A g Q res) (N : Nat)    : ∀ (k : Nat) (x1 : Int32) (x2 : Int32) (x3 : Int64) (x5 : Int32) (ξ : XS), x0_mean_36 N g   k x1 x2 x3 x5 ξ = some res → CF p l e R s m args below meth c 6 0 0 (XB g A s ξ) Q 36 [(0, .ref (xa g 0)), (1, .int x1), (2, .int x2), (3, .long x3), (5, .int x5)] [] := by
  intro k
  induction k with
  | zero => intro x1 x2 x3 x5 ξ h; have h : (none : Option (Int64 × XS)) = some res := h; cases h
  | succ k ih => intro x1 x2 x3 x5 ξ h; exact wx0_mean_36b E hR hq N    ih x1 x2 x3 x5 ξ h
set_option maxHeartbeats 4000000 in
theorem met_x0_mean (l : Launch) (g : XG) (N : Nat)   (x1 : Int32) (x2 : Int32) (ξ : XS) {v : Int64} {ξ1 : XS} (h : x0_mean N g  x1 x2 ξ = some (v, ξ1)) : MetXl l g yX0_mean (ws_ yX0_mean cX0_mean 6 (some .long)) { frames := 27, cells := 0, slots := 0, locals := 629 } [.ref (xa g 0), .int x1, .int x2] ξ v ξ1 0 0 := by
  refine met_xl (lv0 := [(0, .ref (xa g 0)), (1, .int x1), (2, .int x2)]) (own := RX0) (by decide) rfl (Nat.le_of_ble_eq_true rfl) rfl ?_
  intro p e s m below meth c A Q E hq
  have hR : 27 ≤ ({ frames := 27, cells := 0, slots := 0, locals := 629 } : Room).frames ∧ 629 ≤ ({ frames := 27, cells := 0, slots := 0, locals := 629 } : Room).locals := ⟨Nat.le_refl _, Nat.le_refl _⟩
  unfold x0_mean at h
  refine cf_aload_n E dX0_mean_0 0 rfl rfl ?_
  refine cf_iload_n E dX0_mean_1 1 rfl rfl ?_
  refine xclX0_202 E (rmle hR rfl rfl) (Nat.le_of_ble_eq_true rfl) ⟨Nat.zero_le _, Nat.zero_le _⟩ dX0_mean_2 h rfl (fun v_2 s_1 h => ?_)
  refine cf_if_eq E dX0_mean_5 h rfl rfl (fun h => ?_) (fun h => ?_)
  · refine cf_ldc2 E dX0_mean_27 q1221 rfl ?_
    exact xret_l dX0_mean_30 h hq
  · refine cf_iload_n E dX0_mean_8 2 rfl rfl ?_
    refine cf_iconst E dX0_mean_9 ic_0 rfl ?_
    refine cf_iconst E dX0_mean_10 ic_1 rfl ?_
    refine xclX0_130 E (rmle hR rfl rfl) (Nat.le_of_ble_eq_true rfl) ⟨Nat.zero_le _, Nat.zero_le _⟩ dX0_mean_11 h rfl (fun v_4 s_3 h => ?_)
    refine cf_if_eq E dX0_mean_14 h rfl rfl (fun h => ?_) (fun h => ?_)
    · refine cf_ldc2 E dX0_mean_27 q1221 rfl ?_
      exact xret_l dX0_mean_30 h hq
    · refine cf_aload_n E dX0_mean_17 0 rfl rfl ?_
      refine xgX0_30 E dX0_mean_18 rfl ?_
      refine xgX0_126_0 E dX0_mean_21 rfl ?_
      refine cf_if_ne E dX0_mean_24 h rfl rfl (fun h => ?_) (fun h => ?_)
      · refine cf_lconst E dX0_mean_31 lc_0 rfl ?_
        refine cf_lstore_n E dX0_mean_32 h (fun x3_5 => [(3, .long x3_5), (0, .ref (xa g 0)), (1, .int x1), (2, .int x2)]) (Nat.le_of_ble_eq_true rfl) (fun _ => rfl) rfl (fun x3_5 h => ?_)
        refine cf_iconst E dX0_mean_33 ic_0 rfl ?_
        refine cf_istore E dX0_mean_34 h (fun x5_6 => [(5, .int x5_6), (3, .long x3_5), (0, .ref (xa g 0)), (1, .int x1), (2, .int x2)]) (Nat.le_of_ble_eq_true rfl) (fun _ => rfl) rfl (fun x5_6 h => ?_)
        exact CF.sub [2, 3, 4, 1, 0] rfl (wx0_mean_36 E hR hq N N x1 x2 x3_5 x5_6 s_3 h)
      · refine cf_ldc2 E dX0_mean_27 q1221 rfl ?_
        exact xret_l dX0_mean_30 h hq
def x7_sits (N : Nat) (g : XG) (a0 : Nat)  (x1 : Int32) (ξ : XS) : Option (Int32 × XS) :=
  if dRs ξ a0 [8, 9, 10, 11, 12, 13, 14] 4 = some (xa g 0) then (
  bnv (x4_ran N g (10 : Int32) ξ) fun s_1 =>
  bno (dI s_1 a0 8 14 0) fun v_2 =>
  some ((x1 + v_2), s_1)) else none
section XC
variable {p : Program} {l : Launch} {e : Env} {R : Room} {s : State} {m : MethodId} {args : Array Value} {below : List Frame} {meth : Method} {c : Code} {nL cells slots : Nat} {A : Nat → Prop} {g : XG} {ξ : XS} {Q : State → Prop} {pc n : Nat} {lv : List (Nat × Value)} {st : List Value} {cc : ByteArray} {ρ : Type} {res : ρ}
theorem xclX7_42 (E : EV p s m args c cc nL RX7) {N : Nat}   {x1 : Int32} {kk : XS → Option ρ} (hR : 1 ≤ R.frames ∧ 21 ≤ R.locals) (hcat : (st.map fun v => v.category).sum ≤ 8) (hf : cells ≤ R.cells ∧ slots ≤ R.slots) (d : decode cc pc = .ok (.invokevirtual 42, 3)) (h : bnv (x4_ran N g  x1 ξ) kk = some res) (hn : pc + 3 = n) (k : ∀ (ξ1 : XS), kk ξ1 = some res → CF p l e R s m args below meth c nL cells slots (XB g A s ξ1) Q n lv st) : CF p l e R s m args below meth c nL cells slots (XB g A s ξ) Q pc lv (.int x1 :: .ref (xa g 310) :: st) :=
  xcallV0_v (na := 1) E [.int x1] (fun ξ1 ho => met_x4_ran l g N   x1 ξ ho) (C := RX4) (lw_V q1340 q1320 q1321 q103 q1322) (by decide +kernel) ⟨35, 6, _, _, rfl, rfl, rfl⟩ rfl rfl hR rfl rfl hcat hf d h hn k
end XC
set_option maxHeartbeats 4000000 in
theorem met_x7_sits (l : Launch) (g : XG) (N : Nat) (a0 : Nat)  (x1 : Int32) (ξ : XS) {v : Int32} {ξ1 : XS} (h : x7_sits N g a0 x1 ξ = some (v, ξ1)) : MetXi l g yX7_sits (ws_ yX7_sits cX7_sits 2 (some .int)) { frames := 1, cells := 0, slots := 0, locals := 21 } [.ref a0, .int x1] ξ v ξ1 0 0 := by
  refine met_xi (lv0 := [(0, .ref a0), (1, .int x1)]) (own := RX7) (by decide) rfl (Nat.le_of_ble_eq_true rfl) rfl ?_
  intro p e s m below meth c A Q E hq
  have hR : 1 ≤ ({ frames := 1, cells := 0, slots := 0, locals := 21 } : Room).frames ∧ 21 ≤ ({ frames := 1, cells := 0, slots := 0, locals := 21 } : Room).locals := ⟨Nat.le_refl _, Nat.le_refl _⟩
  unfold x7_sits at h
  refine cf_aload_n E dX7_sits_0 0 rfl rfl ?_
  refine xdgX7_1 E dX7_sits_1 h rfl (fun h => ?_)
  refine xgX7_38 E dX7_sits_4 rfl ?_
  refine cf_bipush E dX7_sits_7 bp_10 rfl ?_
  refine xclX7_42 E (rmle hR rfl rfl) (Nat.le_of_ble_eq_true rfl) ⟨Nat.zero_le _, Nat.zero_le _⟩ dX7_sits_9 h rfl (fun s_1 h => ?_)
  refine cf_iload_n E dX7_sits_12 1 rfl rfl ?_
  refine cf_aload_n E dX7_sits_13 0 rfl rfl ?_
  refine xdgX7_13 E dX7_sits_14 h rfl (fun v_2 h => ?_)
  refine cf_iadd E dX7_sits_17 rfl ?_
  exact xret_i dX7_sits_18 h rfl hq
def x9_sits (N : Nat) (g : XG) (a0 : Nat)  (x1 : Int32) (ξ : XS) : Option (Int32 × XS) :=
  if dRs ξ a0 [10, 13] 5 = some (xa g 0) then (
  bnv (x4_ran N g (30 : Int32) ξ) fun s_1 =>
  if isC s_1 a0 8 14 = true then bnd (x7_sits N g a0 (x1 * (3 : Int32)) s_1) (fun v_3 s_2 =>
  some (v_3, s_2)) else none) else none
section XC
variable {p : Program} {l : Launch} {e : Env} {R : Room} {s : State} {m : MethodId} {args : Array Value} {below : List Frame} {meth : Method} {c : Code} {nL cells slots : Nat} {A : Nat → Prop} {g : XG} {ξ : XS} {Q : State → Prop} {pc n : Nat} {lv : List (Nat × Value)} {st : List Value} {cc : ByteArray} {ρ : Type} {res : ρ}
theorem xclX9_39 (E : EV p s m args c cc nL RX9) {N : Nat}   {x1 : Int32} {kk : XS → Option ρ} (hR : 1 ≤ R.frames ∧ 21 ≤ R.locals) (hcat : (st.map fun v => v.category).sum ≤ 8) (hf : cells ≤ R.cells ∧ slots ≤ R.slots) (d : decode cc pc = .ok (.invokevirtual 39, 3)) (h : bnv (x4_ran N g  x1 ξ) kk = some res) (hn : pc + 3 = n) (k : ∀ (ξ1 : XS), kk ξ1 = some res → CF p l e R s m args below meth c nL cells slots (XB g A s ξ1) Q n lv st) : CF p l e R s m args below meth c nL cells slots (XB g A s ξ) Q pc lv (.int x1 :: .ref (xa g 310) :: st) :=
  xcallV0_v (na := 1) E [.int x1] (fun ξ1 ho => met_x4_ran l g N   x1 ξ ho) (C := RX4) (lw_V q1319 q1320 q1321 q103 q1322) (by decide +kernel) ⟨35, 6, _, _, rfl, rfl, rfl⟩ rfl rfl hR rfl rfl hcat hf d h hn k
theorem xscX9_45 (E : EV p s m args c cc nL RX9) {N a0 : Nat} {x1 : Int32} {kk : Int32 → XS → Option ρ} (hR : 2 ≤ R.frames ∧ 42 ≤ R.locals) (hcat : (st.map fun v => v.category).sum ≤ 8) (hf : cells ≤ R.cells ∧ slots ≤ R.slots) (d : decode cc pc = .ok (.invokespecial 45, 3)) (h : (if isC ξ a0 8 14 = true then bnd (x7_sits N g a0 x1 ξ) kk else none) = some res) (hn : pc + 3 = n) (k : ∀ (v : Int32) (ξ1 : XS), kk v ξ1 = some res → CF p l e R s m args below meth c nL cells slots (XB g A s ξ1) Q n lv (.int v :: st)) : CF p l e R s m args below meth c nL cells slots (XB g A s ξ) Q pc lv (.int x1 :: .ref a0 :: st) := by
  by_cases hi : isC ξ a0 8 14 = true
  · rw [if_pos hi] at h
    obtain ⟨ci, hci, h1, h2⟩ := isC_at hi
    obtain ⟨q9, hq9⟩ := vwAt (ci := ci) (by omega)
    exact xcallP0_i (na := 1) E [.int x1] (fun v ξ1 ho => met_x7_sits l g N a0 x1 ξ ho) (lw_SU q1323 q1314 q486 q1312 q106 q1339) (by decide +kernel) hci hq9 rfl rfl hR rfl rfl hcat hf d h hn k
  · rw [if_neg hi] at h; cases h
end XC
set_option maxHeartbeats 4000000 in
theorem met_x9_sits (l : Launch) (g : XG) (N : Nat) (a0 : Nat)  (x1 : Int32) (ξ : XS) {v : Int32} {ξ1 : XS} (h : x9_sits N g a0 x1 ξ = some (v, ξ1)) : MetXi l g yX9_sits (ws_ yX9_sits cX9_sits 2 (some .int)) { frames := 2, cells := 0, slots := 0, locals := 42 } [.ref a0, .int x1] ξ v ξ1 0 0 := by
  refine met_xi (lv0 := [(0, .ref a0), (1, .int x1)]) (own := RX9) (by decide) rfl (Nat.le_of_ble_eq_true rfl) rfl ?_
  intro p e s m below meth c A Q E hq
  have hR : 2 ≤ ({ frames := 2, cells := 0, slots := 0, locals := 42 } : Room).frames ∧ 42 ≤ ({ frames := 2, cells := 0, slots := 0, locals := 42 } : Room).locals := ⟨Nat.le_refl _, Nat.le_refl _⟩
  unfold x9_sits at h
  refine cf_aload_n E dX9_sits_0 0 rfl rfl ?_
  refine xdgX9_3 E dX9_sits_1 h rfl (fun h => ?_)
  refine xgX9_35 E dX9_sits_4 rfl ?_
  refine cf_bipush E dX9_sits_7 bp_30 rfl ?_
  refine xclX9_39 E (rmle hR rfl rfl) (Nat.le_of_ble_eq_true rfl) ⟨Nat.zero_le _, Nat.zero_le _⟩ dX9_sits_9 h rfl (fun s_1 h => ?_)
  refine cf_aload_n E dX9_sits_12 0 rfl rfl ?_
  refine cf_iload_n E dX9_sits_13 1 rfl rfl ?_
  refine cf_iconst E dX9_sits_14 ic_3 rfl ?_
  refine cf_imul E dX9_sits_15 rfl ?_
  refine xscX9_45 E (rmle hR rfl rfl) (Nat.le_of_ble_eq_true rfl) ⟨Nat.zero_le _, Nat.zero_le _⟩ dX9_sits_16 h rfl (fun v_3 s_2 h => ?_)
  exact xret_i dX9_sits_19 h rfl hq
def x11_sits (N : Nat) (g : XG) (a0 : Nat)  (x1 : Int32) (ξ : XS) : Option (Int32 × XS) :=
  if dRs ξ a0 [12] 6 = some (xa g 0) then (
  bnv (x4_ran N g (50 : Int32) ξ) fun s_1 =>
  if isC s_1 a0 8 14 = true then bnd (x7_sits N g a0 x1 s_1) (fun v_3 s_2 =>
  some ((-v_3), s_2)) else none) else none
section XC
variable {p : Program} {l : Launch} {e : Env} {R : Room} {s : State} {m : MethodId} {args : Array Value} {below : List Frame} {meth : Method} {c : Code} {nL cells slots : Nat} {A : Nat → Prop} {g : XG} {ξ : XS} {Q : State → Prop} {pc n : Nat} {lv : List (Nat × Value)} {st : List Value} {cc : ByteArray} {ρ : Type} {res : ρ}
theorem xclX11_27 (E : EV p s m args c cc nL RX11) {N : Nat}   {x1 : Int32} {kk : XS → Option ρ} (hR : 1 ≤ R.frames ∧ 21 ≤ R.locals) (hcat : (st.map fun v => v.category).sum ≤ 8) (hf : cells ≤ R.cells ∧ slots ≤ R.slots) (d : decode cc pc = .ok (.invokevirtual 27, 3)) (h : bnv (x4_ran N g  x1 ξ) kk = some res) (hn : pc + 3 = n) (k : ∀ (ξ1 : XS), kk ξ1 = some res → CF p l e R s m args below meth c nL cells slots (XB g A s ξ1) Q n lv st) : CF p l e R s m args below meth c nL cells slots (XB g A s ξ) Q pc lv (.int x1 :: .ref (xa g 310) :: st) :=
  xcallV0_v (na := 1) E [.int x1] (fun ξ1 ho => met_x4_ran l g N   x1 ξ ho) (C := RX4) (lw_V q1327 q1320 q1321 q103 q1322) (by decide +kernel) ⟨35, 6, _, _, rfl, rfl, rfl⟩ rfl rfl hR rfl rfl hcat hf d h hn k
theorem xscX11_33 (E : EV p s m args c cc nL RX11) {N a0 : Nat} {x1 : Int32} {kk : Int32 → XS → Option ρ} (hR : 2 ≤ R.frames ∧ 42 ≤ R.locals) (hcat : (st.map fun v => v.category).sum ≤ 8) (hf : cells ≤ R.cells ∧ slots ≤ R.slots) (d : decode cc pc = .ok (.invokespecial 33, 3)) (h : (if isC ξ a0 8 14 = true then bnd (x7_sits N g a0 x1 ξ) kk else none) = some res) (hn : pc + 3 = n) (k : ∀ (v : Int32) (ξ1 : XS), kk v ξ1 = some res → CF p l e R s m args below meth c nL cells slots (XB g A s ξ1) Q n lv (.int v :: st)) : CF p l e R s m args below meth c nL cells slots (XB g A s ξ) Q pc lv (.int x1 :: .ref a0 :: st) := by
  by_cases hi : isC ξ a0 8 14 = true
  · rw [if_pos hi] at h
    obtain ⟨ci, hci, h1, h2⟩ := isC_at hi
    obtain ⟨q9, hq9⟩ := vwAt (ci := ci) (by omega)
    exact xcallI0_i (na := 1) (x := ⟨"HatsDecide$Tight", "sits", "(I)I"⟩) E [.int x1] (fun v ξ1 ho => met_x7_sits l g N a0 x1 ξ ho) (lw_meth q1339) q1328 q1329 q517 q471 q1312 q106 q1339 ⟨rfl, rfl⟩ (by decide +kernel) hci hq9 rfl rfl hR rfl rfl hcat hf d h hn k
  · rw [if_neg hi] at h; cases h
end XC
set_option maxHeartbeats 4000000 in
theorem met_x11_sits (l : Launch) (g : XG) (N : Nat) (a0 : Nat)  (x1 : Int32) (ξ : XS) {v : Int32} {ξ1 : XS} (h : x11_sits N g a0 x1 ξ = some (v, ξ1)) : MetXi l g yX11_sits (ws_ yX11_sits cX11_sits 2 (some .int)) { frames := 2, cells := 0, slots := 0, locals := 42 } [.ref a0, .int x1] ξ v ξ1 0 0 := by
  refine met_xi (lv0 := [(0, .ref a0), (1, .int x1)]) (own := RX11) (by decide) rfl (Nat.le_of_ble_eq_true rfl) rfl ?_
  intro p e s m below meth c A Q E hq
  have hR : 2 ≤ ({ frames := 2, cells := 0, slots := 0, locals := 42 } : Room).frames ∧ 42 ≤ ({ frames := 2, cells := 0, slots := 0, locals := 42 } : Room).locals := ⟨Nat.le_refl _, Nat.le_refl _⟩
  unfold x11_sits at h
  refine cf_aload_n E dX11_sits_0 0 rfl rfl ?_
  refine xdgX11_3 E dX11_sits_1 h rfl (fun h => ?_)
  refine xgX11_23 E dX11_sits_4 rfl ?_
  refine cf_bipush E dX11_sits_7 bp_50 rfl ?_
  refine xclX11_27 E (rmle hR rfl rfl) (Nat.le_of_ble_eq_true rfl) ⟨Nat.zero_le _, Nat.zero_le _⟩ dX11_sits_9 h rfl (fun s_1 h => ?_)
  refine cf_aload_n E dX11_sits_12 0 rfl rfl ?_
  refine cf_iload_n E dX11_sits_13 1 rfl rfl ?_
  refine xscX11_33 E (rmle hR rfl rfl) (Nat.le_of_ble_eq_true rfl) ⟨Nat.zero_le _, Nat.zero_le _⟩ dX11_sits_14 h rfl (fun v_3 s_2 h => ?_)
  refine cf_ineg E dX11_sits_17 rfl ?_
  exact xret_i dX11_sits_18 h rfl hq
def x13_sits (N : Nat) (g : XG) (a0 : Nat)  (x1 : Int32) (ξ : XS) : Option (Int32 × XS) :=
  if dRs ξ a0 [14] 7 = some (xa g 0) then (
  bnv (x4_ran N g (71 : Int32) ξ) fun s_1 =>
  if isC s_1 a0 8 14 = true then bnd (x7_sits N g a0 x1 s_1) (fun v_3 s_2 =>
  bno (dI s_2 a0 8 14 1) fun v_4 =>
  some ((v_3 ^^^ v_4), s_2)) else none) else none
section XC
variable {p : Program} {l : Launch} {e : Env} {R : Room} {s : State} {m : MethodId} {args : Array Value} {below : List Frame} {meth : Method} {c : Code} {nL cells slots : Nat} {A : Nat → Prop} {g : XG} {ξ : XS} {Q : State → Prop} {pc n : Nat} {lv : List (Nat × Value)} {st : List Value} {cc : ByteArray} {ρ : Type} {res : ρ}
theorem xclX13_27 (E : EV p s m args c cc nL RX13) {N : Nat}   {x1 : Int32} {kk : XS → Option ρ} (hR : 1 ≤ R.frames ∧ 21 ≤ R.locals) (hcat : (st.map fun v => v.category).sum ≤ 8) (hf : cells ≤ R.cells ∧ slots ≤ R.slots) (d : decode cc pc = .ok (.invokevirtual 27, 3)) (h : bnv (x4_ran N g  x1 ξ) kk = some res) (hn : pc + 3 = n) (k : ∀ (ξ1 : XS), kk ξ1 = some res → CF p l e R s m args below meth c nL cells slots (XB g A s ξ1) Q n lv st) : CF p l e R s m args below meth c nL cells slots (XB g A s ξ) Q pc lv (.int x1 :: .ref (xa g 310) :: st) :=
  xcallV0_v (na := 1) E [.int x1] (fun ξ1 ho => met_x4_ran l g N   x1 ξ ho) (C := RX4) (lw_V q1335 q1320 q1321 q103 q1322) (by decide +kernel) ⟨35, 6, _, _, rfl, rfl, rfl⟩ rfl rfl hR rfl rfl hcat hf d h hn k
theorem xscX13_37 (E : EV p s m args c cc nL RX13) {N a0 : Nat} {x1 : Int32} {kk : Int32 → XS → Option ρ} (hR : 2 ≤ R.frames ∧ 42 ≤ R.locals) (hcat : (st.map fun v => v.category).sum ≤ 8) (hf : cells ≤ R.cells ∧ slots ≤ R.slots) (d : decode cc pc = .ok (.invokespecial 37, 3)) (h : (if isC ξ a0 8 14 = true then bnd (x7_sits N g a0 x1 ξ) kk else none) = some res) (hn : pc + 3 = n) (k : ∀ (v : Int32) (ξ1 : XS), kk v ξ1 = some res → CF p l e R s m args below meth c nL cells slots (XB g A s ξ1) Q n lv (.int v :: st)) : CF p l e R s m args below meth c nL cells slots (XB g A s ξ) Q pc lv (.int x1 :: .ref a0 :: st) := by
  by_cases hi : isC ξ a0 8 14 = true
  · rw [if_pos hi] at h
    obtain ⟨ci, hci, h1, h2⟩ := isC_at hi
    obtain ⟨q9, hq9⟩ := vwAt (ci := ci) (by omega)
    exact xcallI0_i (na := 1) (x := ⟨"HatsDecide$Crown", "sits", "(I)I"⟩) E [.int x1] (fun v ξ1 ho => met_x7_sits l g N a0 x1 ξ ho) (lw_meth q1339) q1336 q1337 q553 q501 q1312 q106 q1339 ⟨rfl, rfl⟩ (by decide +kernel) hci hq9 rfl rfl hR rfl rfl hcat hf d h hn k
  · rw [if_neg hi] at h; cases h
end XC
set_option maxHeartbeats 4000000 in
theorem met_x13_sits (l : Launch) (g : XG) (N : Nat) (a0 : Nat)  (x1 : Int32) (ξ : XS) {v : Int32} {ξ1 : XS} (h : x13_sits N g a0 x1 ξ = some (v, ξ1)) : MetXi l g yX13_sits (ws_ yX13_sits cX13_sits 2 (some .int)) { frames := 2, cells := 0, slots := 0, locals := 42 } [.ref a0, .int x1] ξ v ξ1 0 0 := by
  refine met_xi (lv0 := [(0, .ref a0), (1, .int x1)]) (own := RX13) (by decide) rfl (Nat.le_of_ble_eq_true rfl) rfl ?_
  intro p e s m below meth c A Q E hq
  have hR : 2 ≤ ({ frames := 2, cells := 0, slots := 0, locals := 42 } : Room).frames ∧ 42 ≤ ({ frames := 2, cells := 0, slots := 0, locals := 42 } : Room).locals := ⟨Nat.le_refl _, Nat.le_refl _⟩
  unfold x13_sits at h
  refine cf_aload_n E dX13_sits_0 0 rfl rfl ?_
  refine xdgX13_3 E dX13_sits_1 h rfl (fun h => ?_)
  refine xgX13_23 E dX13_sits_4 rfl ?_
  refine cf_bipush E dX13_sits_7 bp_71 rfl ?_
  refine xclX13_27 E (rmle hR rfl rfl) (Nat.le_of_ble_eq_true rfl) ⟨Nat.zero_le _, Nat.zero_le _⟩ dX13_sits_9 h rfl (fun s_1 h => ?_)
  refine cf_aload_n E dX13_sits_12 0 rfl rfl ?_
  refine cf_iload_n E dX13_sits_13 1 rfl rfl ?_
  refine xscX13_37 E (rmle hR rfl rfl) (Nat.le_of_ble_eq_true rfl) ⟨Nat.zero_le _, Nat.zero_le _⟩ dX13_sits_14 h rfl (fun v_3 s_2 h => ?_)
  refine cf_aload_n E dX13_sits_17 0 rfl rfl ?_
  refine xdgX13_40 E dX13_sits_18 h rfl (fun v_4 h => ?_)
  refine cf_ixor E dX13_sits_21 rfl ?_
  exact xret_i dX13_sits_22 h rfl hq
def xv_sits (N : Nat) (g : XG) (a0 : Nat) (x1 : Int32) (ξ : XS) : Option (Int32 × XS) :=
  bno (dCi ξ a0) fun ci =>
  if ci = 8 then x7_sits N g a0 x1 ξ else
  if ci = 9 then x7_sits N g a0 x1 ξ else
  if ci = 10 then x9_sits N g a0 x1 ξ else
  if ci = 11 then x7_sits N g a0 x1 ξ else
  if ci = 12 then x11_sits N g a0 x1 ξ else
  if ci = 13 then x9_sits N g a0 x1 ξ else
  if ci = 14 then x13_sits N g a0 x1 ξ else
  none
def x7_does (N : Nat) (g : XG) (a0 : Nat)  (x1 : Int32) (ξ : XS) : Option (Int32 × XS) :=
  if dRs ξ a0 [8, 9, 10, 11, 12, 13, 14] 4 = some (xa g 0) then (
  bnv (x4_ran N g (11 : Int32) ξ) fun s_1 =>
  bnd (xv_sits N g a0 x1 s_1) fun v_3 s_2 =>
  bno (dI s_2 a0 8 14 1) fun v_4 =>
  some ((v_3 - v_4), s_2)) else none
section XC
variable {p : Program} {l : Launch} {e : Env} {R : Room} {s : State} {m : MethodId} {args : Array Value} {below : List Frame} {meth : Method} {c : Code} {nL cells slots : Nat} {A : Nat → Prop} {g : XG} {ξ : XS} {Q : State → Prop} {pc n : Nat} {lv : List (Nat × Value)} {st : List Value} {cc : ByteArray} {ρ : Type} {res : ρ}
theorem xvcX7_48 (E : EV p s m args c cc nL RX7) {N a0 : Nat} {x1 : Int32} {kk : Int32 → XS → Option ρ} (hR : 3 ≤ R.frames ∧ 63 ≤ R.locals) (hcat : (st.map fun v => v.category).sum ≤ 8) (hf : cells ≤ R.cells ∧ slots ≤ R.slots) (d : decode cc pc = .ok (.invokevirtual 48, 3)) (h : bnd (xv_sits N g a0 x1 ξ) kk = some res) (hn : pc + 3 = n) (k : ∀ (v : Int32) (ξ1 : XS), kk v ξ1 = some res → CF p l e R s m args below meth c nL cells slots (XB g A s ξ1) Q n lv (.int v :: st)) : CF p l e R s m args below meth c nL cells slots (XB g A s ξ) Q pc lv (.int x1 :: .ref a0 :: st) := by
  obtain ⟨v, ξ1, ho, hk⟩ := bnd_some h
  unfold xv_sits at ho
  obtain ⟨ci, hci, ho⟩ := bno_some ho
  by_cases e8 : ci = 8
  · subst e8
    have ho : x7_sits N g a0 x1 ξ = some (v, ξ1) := by
      simpa using ho
    exact xcallV0_i (na := 1) E [.int x1] (fun v ξ1 ho => met_x7_sits l g N a0 x1 ξ ho) (C := RX7) (lw_V q1364 q1312 q1313 q106 q1339) (by decide +kernel) (xrecv_d (q := (RX7, TX7, 5)) hci rfl) rfl rfl (rmle hR rfl rfl) rfl rfl hcat hf d (o := x7_sits N g a0 x1 ξ) (by rw [ho]; exact hk) hn k
  by_cases e9 : ci = 9
  · subst e9
    have ho : x7_sits N g a0 x1 ξ = some (v, ξ1) := by
      simpa using ho
    exact xcallU0_i (na := 1) (x := ⟨"HatsDecide$Hat", "sits", "(I)I"⟩) (owner := "HatsDecide$Hat") E [.int x1] (fun v ξ1 ho => met_x7_sits l g N a0 x1 ξ ho) (C := RX8) (lw_U q1364 q1314 q1331 q1312 q106 q1339) rfl (by decide +kernel) (xrecv_d (q := (RX8, TX8, 6)) hci rfl) rfl rfl (rmle hR rfl rfl) rfl rfl hcat hf d (o := x7_sits N g a0 x1 ξ) (by rw [ho]; exact hk) hn k
  by_cases e10 : ci = 10
  · subst e10
    have ho : x9_sits N g a0 x1 ξ = some (v, ξ1) := by
      simpa using ho
    exact xcallO0_i (na := 1) (x := ⟨"HatsDecide$Hat", "sits", "(I)I"⟩) (owner := "HatsDecide$Hat") E [.int x1] (fun v ξ1 ho => met_x9_sits l g N a0 x1 ξ ho) (C := RX9) (lw_O q1364 q1314 q1312 q1338 q1317 q108 q1318) q1339 (by decide +kernel) (xrecv_d (q := (RX9, TX9, 6)) hci rfl) rfl rfl (rmle hR rfl rfl) rfl rfl hcat hf d (o := x9_sits N g a0 x1 ξ) (by rw [ho]; exact hk) hn k
  by_cases e11 : ci = 11
  · subst e11
    have ho : x7_sits N g a0 x1 ξ = some (v, ξ1) := by
      simpa using ho
    exact xcallU0_i (na := 1) (x := ⟨"HatsDecide$Hat", "sits", "(I)I"⟩) (owner := "HatsDecide$Hat") E [.int x1] (fun v ξ1 ho => met_x7_sits l g N a0 x1 ξ ho) (C := RX10) (lw_U q1364 q1314 q1315 q1312 q106 q1339) rfl (by decide +kernel) (xrecv_d (q := (RX10, TX10, 6)) hci rfl) rfl rfl (rmle hR rfl rfl) rfl rfl hcat hf d (o := x7_sits N g a0 x1 ξ) (by rw [ho]; exact hk) hn k
  by_cases e12 : ci = 12
  · subst e12
    have ho : x11_sits N g a0 x1 ξ = some (v, ξ1) := by
      simpa using ho
    exact xcallO0_i (na := 1) (x := ⟨"HatsDecide$Hat", "sits", "(I)I"⟩) (owner := "HatsDecide$Hat") E [.int x1] (fun v ξ1 ho => met_x11_sits l g N a0 x1 ξ ho) (C := RX11) (lw_O q1364 q1314 q1312 q1324 q1325 q110 q1326) q1339 (by decide +kernel) (xrecv_d (q := (RX11, TX11, 7)) hci rfl) rfl rfl (rmle hR rfl rfl) rfl rfl hcat hf d (o := x11_sits N g a0 x1 ξ) (by rw [ho]; exact hk) hn k
  by_cases e13 : ci = 13
  · subst e13
    have ho : x9_sits N g a0 x1 ξ = some (v, ξ1) := by
      simpa using ho
    exact xcallO0_i (na := 1) (x := ⟨"HatsDecide$Hat", "sits", "(I)I"⟩) (owner := "HatsDecide$Hat") E [.int x1] (fun v ξ1 ho => met_x9_sits l g N a0 x1 ξ ho) (C := RX12) (lw_O q1364 q1314 q1312 q1316 q1317 q108 q1318) q1339 (by decide +kernel) (xrecv_d (q := (RX12, TX12, 7)) hci rfl) rfl rfl (rmle hR rfl rfl) rfl rfl hcat hf d (o := x9_sits N g a0 x1 ξ) (by rw [ho]; exact hk) hn k
  by_cases e14 : ci = 14
  · subst e14
    have ho : x13_sits N g a0 x1 ξ = some (v, ξ1) := by
      simpa using ho
    exact xcallO0_i (na := 1) (x := ⟨"HatsDecide$Hat", "sits", "(I)I"⟩) (owner := "HatsDecide$Hat") E [.int x1] (fun v ξ1 ho => met_x13_sits l g N a0 x1 ξ ho) (C := RX13) (lw_O q1364 q1314 q1312 q1332 q1333 q112 q1334) q1339 (by decide +kernel) (xrecv_d (q := (RX13, TX13, 8)) hci rfl) rfl rfl (rmle hR rfl rfl) rfl rfl hcat hf d (o := x13_sits N g a0 x1 ξ) (by rw [ho]; exact hk) hn k
  · simp [e8, e9, e10, e11, e12, e13, e14] at ho
end XC
set_option maxHeartbeats 4000000 in
theorem met_x7_does (l : Launch) (g : XG) (N : Nat) (a0 : Nat)  (x1 : Int32) (ξ : XS) {v : Int32} {ξ1 : XS} (h : x7_does N g a0 x1 ξ = some (v, ξ1)) : MetXi l g yX7_does (ws_ yX7_does cX7_does 2 (some .int)) { frames := 3, cells := 0, slots := 0, locals := 63 } [.ref a0, .int x1] ξ v ξ1 0 0 := by
  refine met_xi (lv0 := [(0, .ref a0), (1, .int x1)]) (own := RX7) (by decide) rfl (Nat.le_of_ble_eq_true rfl) rfl ?_
  intro p e s m below meth c A Q E hq
  have hR : 3 ≤ ({ frames := 3, cells := 0, slots := 0, locals := 63 } : Room).frames ∧ 63 ≤ ({ frames := 3, cells := 0, slots := 0, locals := 63 } : Room).locals := ⟨Nat.le_refl _, Nat.le_refl _⟩
  unfold x7_does at h
  refine cf_aload_n E dX7_does_0 0 rfl rfl ?_
  refine xdgX7_1 E dX7_does_1 h rfl (fun h => ?_)
  refine xgX7_38 E dX7_does_4 rfl ?_
  refine cf_bipush E dX7_does_7 bp_11 rfl ?_
  refine xclX7_42 E (rmle hR rfl rfl) (Nat.le_of_ble_eq_true rfl) ⟨Nat.zero_le _, Nat.zero_le _⟩ dX7_does_9 h rfl (fun s_1 h => ?_)
  refine cf_aload_n E dX7_does_12 0 rfl rfl ?_
  refine cf_iload_n E dX7_does_13 1 rfl rfl ?_
  refine xvcX7_48 E (rmle hR rfl rfl) (Nat.le_of_ble_eq_true rfl) ⟨Nat.zero_le _, Nat.zero_le _⟩ dX7_does_14 h rfl (fun v_3 s_2 h => ?_)
  refine cf_aload_n E dX7_does_17 0 rfl rfl ?_
  refine xdgX7_17 E dX7_does_18 h rfl (fun v_4 h => ?_)
  refine cf_isub E dX7_does_21 rfl ?_
  exact xret_i dX7_does_22 h rfl hq
def x8_does (N : Nat) (g : XG) (a0 : Nat)  (x1 : Int32) (ξ : XS) : Option (Int32 × XS) :=
  if dRs ξ a0 [9, 12] 5 = some (xa g 0) then (
  bnv (x4_ran N g (20 : Int32) ξ) fun s_1 =>
  if isC s_1 a0 8 14 = true then bnd (x7_does N g a0 x1 s_1) (fun v_3 s_2 =>
  some ((v_3 ^^^ (6 : Int32)), s_2)) else none) else none
section XC
variable {p : Program} {l : Launch} {e : Env} {R : Room} {s : State} {m : MethodId} {args : Array Value} {below : List Frame} {meth : Method} {c : Code} {nL cells slots : Nat} {A : Nat → Prop} {g : XG} {ξ : XS} {Q : State → Prop} {pc n : Nat} {lv : List (Nat × Value)} {st : List Value} {cc : ByteArray} {ρ : Type} {res : ρ}
theorem xclX8_37 (E : EV p s m args c cc nL RX8) {N : Nat}   {x1 : Int32} {kk : XS → Option ρ} (hR : 1 ≤ R.frames ∧ 21 ≤ R.locals) (hcat : (st.map fun v => v.category).sum ≤ 8) (hf : cells ≤ R.cells ∧ slots ≤ R.slots) (d : decode cc pc = .ok (.invokevirtual 37, 3)) (h : bnv (x4_ran N g  x1 ξ) kk = some res) (hn : pc + 3 = n) (k : ∀ (ξ1 : XS), kk ξ1 = some res → CF p l e R s m args below meth c nL cells slots (XB g A s ξ1) Q n lv st) : CF p l e R s m args below meth c nL cells slots (XB g A s ξ) Q pc lv (.int x1 :: .ref (xa g 310) :: st) :=
  xcallV0_v (na := 1) E [.int x1] (fun ξ1 ho => met_x4_ran l g N   x1 ξ ho) (C := RX4) (lw_V q1353 q1320 q1321 q103 q1322) (by decide +kernel) ⟨35, 6, _, _, rfl, rfl, rfl⟩ rfl rfl hR rfl rfl hcat hf d h hn k
theorem xscX8_43 (E : EV p s m args c cc nL RX8) {N a0 : Nat} {x1 : Int32} {kk : Int32 → XS → Option ρ} (hR : 4 ≤ R.frames ∧ 84 ≤ R.locals) (hcat : (st.map fun v => v.category).sum ≤ 8) (hf : cells ≤ R.cells ∧ slots ≤ R.slots) (d : decode cc pc = .ok (.invokespecial 43, 3)) (h : (if isC ξ a0 8 14 = true then bnd (x7_does N g a0 x1 ξ) kk else none) = some res) (hn : pc + 3 = n) (k : ∀ (v : Int32) (ξ1 : XS), kk v ξ1 = some res → CF p l e R s m args below meth c nL cells slots (XB g A s ξ1) Q n lv (.int v :: st)) : CF p l e R s m args below meth c nL cells slots (XB g A s ξ) Q pc lv (.int x1 :: .ref a0 :: st) := by
  by_cases hi : isC ξ a0 8 14 = true
  · rw [if_pos hi] at h
    obtain ⟨ci, hci, h1, h2⟩ := isC_at hi
    obtain ⟨q9, hq9⟩ := vwAt (ci := ci) (by omega)
    exact xcallP0_i (na := 1) E [.int x1] (fun v ξ1 ho => met_x7_does l g N a0 x1 ξ ho) (lw_SU q1354 q1344 q471 q1342 q106 q1363) (by decide +kernel) hci hq9 rfl rfl hR rfl rfl hcat hf d h hn k
  · rw [if_neg hi] at h; cases h
end XC
set_option maxHeartbeats 4000000 in
theorem met_x8_does (l : Launch) (g : XG) (N : Nat) (a0 : Nat)  (x1 : Int32) (ξ : XS) {v : Int32} {ξ1 : XS} (h : x8_does N g a0 x1 ξ = some (v, ξ1)) : MetXi l g yX8_does (ws_ yX8_does cX8_does 2 (some .int)) { frames := 4, cells := 0, slots := 0, locals := 84 } [.ref a0, .int x1] ξ v ξ1 0 0 := by
  refine met_xi (lv0 := [(0, .ref a0), (1, .int x1)]) (own := RX8) (by decide) rfl (Nat.le_of_ble_eq_true rfl) rfl ?_
  intro p e s m below meth c A Q E hq
  have hR : 4 ≤ ({ frames := 4, cells := 0, slots := 0, locals := 84 } : Room).frames ∧ 84 ≤ ({ frames := 4, cells := 0, slots := 0, locals := 84 } : Room).locals := ⟨Nat.le_refl _, Nat.le_refl _⟩
  unfold x8_does at h
  refine cf_aload_n E dX8_does_0 0 rfl rfl ?_
  refine xdgX8_3 E dX8_does_1 h rfl (fun h => ?_)
  refine xgX8_33 E dX8_does_4 rfl ?_
  refine cf_bipush E dX8_does_7 bp_20 rfl ?_
  refine xclX8_37 E (rmle hR rfl rfl) (Nat.le_of_ble_eq_true rfl) ⟨Nat.zero_le _, Nat.zero_le _⟩ dX8_does_9 h rfl (fun s_1 h => ?_)
  refine cf_aload_n E dX8_does_12 0 rfl rfl ?_
  refine cf_iload_n E dX8_does_13 1 rfl rfl ?_
  refine xscX8_43 E (rmle hR rfl rfl) (Nat.le_of_ble_eq_true rfl) ⟨Nat.zero_le _, Nat.zero_le _⟩ dX8_does_14 h rfl (fun v_3 s_2 h => ?_)
  refine cf_bipush E dX8_does_17 bp_6 rfl ?_
  refine cf_ixor E dX8_does_19 rfl ?_
  exact xret_i dX8_does_20 h rfl hq
def x11_does (N : Nat) (g : XG) (a0 : Nat)  (x1 : Int32) (ξ : XS) : Option (Int32 × XS) :=
  if dRs ξ a0 [12] 6 = some (xa g 0) then (
  bnv (x4_ran N g (51 : Int32) ξ) fun s_1 =>
  if isC s_1 a0 8 14 = true then bnd (x8_does N g a0 (x1 + (1 : Int32)) s_1) (fun v_3 s_2 =>
  some (v_3, s_2)) else none) else none
section XC
variable {p : Program} {l : Launch} {e : Env} {R : Room} {s : State} {m : MethodId} {args : Array Value} {below : List Frame} {meth : Method} {c : Code} {nL cells slots : Nat} {A : Nat → Prop} {g : XG} {ξ : XS} {Q : State → Prop} {pc n : Nat} {lv : List (Nat × Value)} {st : List Value} {cc : ByteArray} {ρ : Type} {res : ρ}
theorem xscX11_37 (E : EV p s m args c cc nL RX11) {N a0 : Nat} {x1 : Int32} {kk : Int32 → XS → Option ρ} (hR : 5 ≤ R.frames ∧ 105 ≤ R.locals) (hcat : (st.map fun v => v.category).sum ≤ 8) (hf : cells ≤ R.cells ∧ slots ≤ R.slots) (d : decode cc pc = .ok (.invokespecial 37, 3)) (h : (if isC ξ a0 8 14 = true then bnd (x8_does N g a0 x1 ξ) kk else none) = some res) (hn : pc + 3 = n) (k : ∀ (v : Int32) (ξ1 : XS), kk v ξ1 = some res → CF p l e R s m args below meth c nL cells slots (XB g A s ξ1) Q n lv (.int v :: st)) : CF p l e R s m args below meth c nL cells slots (XB g A s ξ) Q pc lv (.int x1 :: .ref a0 :: st) := by
  by_cases hi : isC ξ a0 8 14 = true
  · rw [if_pos hi] at h
    obtain ⟨ci, hci, h1, h2⟩ := isC_at hi
    obtain ⟨q9, hq9⟩ := vwAt (ci := ci) (by omega)
    exact xcallP0_i (na := 1) E [.int x1] (fun v ξ1 ho => met_x8_does l g N a0 x1 ξ ho) (lw_SU q1350 q2160 q517 q1351 q107 q1352) (by decide +kernel) hci hq9 rfl rfl hR rfl rfl hcat hf d h hn k
  · rw [if_neg hi] at h; cases h
end XC
set_option maxHeartbeats 4000000 in
theorem met_x11_does (l : Launch) (g : XG) (N : Nat) (a0 : Nat)  (x1 : Int32) (ξ : XS) {v : Int32} {ξ1 : XS} (h : x11_does N g a0 x1 ξ = some (v, ξ1)) : MetXi l g yX11_does (ws_ yX11_does cX11_does 2 (some .int)) { frames := 5, cells := 0, slots := 0, locals := 105 } [.ref a0, .int x1] ξ v ξ1 0 0 := by
  refine met_xi (lv0 := [(0, .ref a0), (1, .int x1)]) (own := RX11) (by decide) rfl (Nat.le_of_ble_eq_true rfl) rfl ?_
  intro p e s m below meth c A Q E hq
  have hR : 5 ≤ ({ frames := 5, cells := 0, slots := 0, locals := 105 } : Room).frames ∧ 105 ≤ ({ frames := 5, cells := 0, slots := 0, locals := 105 } : Room).locals := ⟨Nat.le_refl _, Nat.le_refl _⟩
  unfold x11_does at h
  refine cf_aload_n E dX11_does_0 0 rfl rfl ?_
  refine xdgX11_3 E dX11_does_1 h rfl (fun h => ?_)
  refine xgX11_23 E dX11_does_4 rfl ?_
  refine cf_bipush E dX11_does_7 bp_51 rfl ?_
  refine xclX11_27 E (rmle hR rfl rfl) (Nat.le_of_ble_eq_true rfl) ⟨Nat.zero_le _, Nat.zero_le _⟩ dX11_does_9 h rfl (fun s_1 h => ?_)
  refine cf_aload_n E dX11_does_12 0 rfl rfl ?_
  refine cf_iload_n E dX11_does_13 1 rfl rfl ?_
  refine cf_iconst E dX11_does_14 ic_1 rfl ?_
  refine cf_iadd E dX11_does_15 rfl ?_
  refine xscX11_37 E (rmle hR rfl rfl) (Nat.le_of_ble_eq_true rfl) ⟨Nat.zero_le _, Nat.zero_le _⟩ dX11_does_16 h rfl (fun v_3 s_2 h => ?_)
  exact xret_i dX11_does_19 h rfl hq
def x13_does (N : Nat) (g : XG) (a0 : Nat)  (x1 : Int32) (ξ : XS) : Option (Int32 × XS) :=
  if dRs ξ a0 [14] 7 = some (xa g 0) then (
  bnv (x4_ran N g (70 : Int32) ξ) fun s_1 =>
  if isC s_1 a0 8 14 = true then bnd (x7_does N g a0 x1 s_1) (fun v_3 s_2 =>
  nx (v_3 : Int32) fun x2_4 =>
  if isC s_2 a0 8 14 = true then bnd (x7_sits N g a0 (2 : Int32) s_2) (fun v_6 s_5 =>
  some ((x2_4 + v_6), s_5)) else none) else none) else none
section XC
variable {p : Program} {l : Launch} {e : Env} {R : Room} {s : State} {m : MethodId} {args : Array Value} {below : List Frame} {meth : Method} {c : Code} {nL cells slots : Nat} {A : Nat → Prop} {g : XG} {ξ : XS} {Q : State → Prop} {pc n : Nat} {lv : List (Nat × Value)} {st : List Value} {cc : ByteArray} {ρ : Type} {res : ρ}
theorem xscX13_33 (E : EV p s m args c cc nL RX13) {N a0 : Nat} {x1 : Int32} {kk : Int32 → XS → Option ρ} (hR : 4 ≤ R.frames ∧ 84 ≤ R.locals) (hcat : (st.map fun v => v.category).sum ≤ 8) (hf : cells ≤ R.cells ∧ slots ≤ R.slots) (d : decode cc pc = .ok (.invokespecial 33, 3)) (h : (if isC ξ a0 8 14 = true then bnd (x7_does N g a0 x1 ξ) kk else none) = some res) (hn : pc + 3 = n) (k : ∀ (v : Int32) (ξ1 : XS), kk v ξ1 = some res → CF p l e R s m args below meth c nL cells slots (XB g A s ξ1) Q n lv (.int v :: st)) : CF p l e R s m args below meth c nL cells slots (XB g A s ξ) Q pc lv (.int x1 :: .ref a0 :: st) := by
  by_cases hi : isC ξ a0 8 14 = true
  · rw [if_pos hi] at h
    obtain ⟨ci, hci, h1, h2⟩ := isC_at hi
    obtain ⟨q9, hq9⟩ := vwAt (ci := ci) (by omega)
    exact xcallI0_i (na := 1) (x := ⟨"HatsDecide$Crown", "does", "(I)I"⟩) E [.int x1] (fun v ξ1 ho => met_x7_does l g N a0 x1 ξ ho) (lw_meth q1363) q1359 q1360 q553 q501 q1342 q106 q1363 ⟨rfl, rfl⟩ (by decide +kernel) hci hq9 rfl rfl hR rfl rfl hcat hf d h hn k
  · rw [if_neg hi] at h; cases h
end XC
set_option maxHeartbeats 4000000 in
theorem met_x13_does (l : Launch) (g : XG) (N : Nat) (a0 : Nat)  (x1 : Int32) (ξ : XS) {v : Int32} {ξ1 : XS} (h : x13_does N g a0 x1 ξ = some (v, ξ1)) : MetXi l g yX13_does (ws_ yX13_does cX13_does 3 (some .int)) { frames := 4, cells := 0, slots := 0, locals := 84 } [.ref a0, .int x1] ξ v ξ1 0 0 := by
  refine met_xi (lv0 := [(0, .ref a0), (1, .int x1)]) (own := RX13) (by decide) rfl (Nat.le_of_ble_eq_true rfl) rfl ?_
  intro p e s m below meth c A Q E hq
  have hR : 4 ≤ ({ frames := 4, cells := 0, slots := 0, locals := 84 } : Room).frames ∧ 84 ≤ ({ frames := 4, cells := 0, slots := 0, locals := 84 } : Room).locals := ⟨Nat.le_refl _, Nat.le_refl _⟩
  unfold x13_does at h
  refine cf_aload_n E dX13_does_0 0 rfl rfl ?_
  refine xdgX13_3 E dX13_does_1 h rfl (fun h => ?_)
  refine xgX13_23 E dX13_does_4 rfl ?_
  refine cf_bipush E dX13_does_7 bp_70 rfl ?_
  refine xclX13_27 E (rmle hR rfl rfl) (Nat.le_of_ble_eq_true rfl) ⟨Nat.zero_le _, Nat.zero_le _⟩ dX13_does_9 h rfl (fun s_1 h => ?_)
  refine cf_aload_n E dX13_does_12 0 rfl rfl ?_
  refine cf_iload_n E dX13_does_13 1 rfl rfl ?_
  refine xscX13_33 E (rmle hR rfl rfl) (Nat.le_of_ble_eq_true rfl) ⟨Nat.zero_le _, Nat.zero_le _⟩ dX13_does_14 h rfl (fun v_3 s_2 h => ?_)
  refine cf_istore_n E dX13_does_17 h (fun x2_4 => [(2, .int x2_4), (0, .ref a0), (1, .int x1)]) (Nat.le_of_ble_eq_true rfl) (fun _ => rfl) rfl (fun x2_4 h => ?_)
  refine cf_iload_n E dX13_does_18 0 rfl rfl ?_
  refine cf_aload_n E dX13_does_19 1 rfl rfl ?_
  refine cf_iconst E dX13_does_20 ic_2 rfl ?_
  refine xscX13_37 E (rmle hR rfl rfl) (Nat.le_of_ble_eq_true rfl) ⟨Nat.zero_le _, Nat.zero_le _⟩ dX13_does_21 h rfl (fun v_6 s_5 h => ?_)
  refine cf_iadd E dX13_does_24 rfl ?_
  exact xret_i dX13_does_25 h rfl hq
def xv_does (N : Nat) (g : XG) (a0 : Nat) (x1 : Int32) (ξ : XS) : Option (Int32 × XS) :=
  bno (dCi ξ a0) fun ci =>
  if ci = 8 then x7_does N g a0 x1 ξ else
  if ci = 9 then x8_does N g a0 x1 ξ else
  if ci = 10 then x7_does N g a0 x1 ξ else
  if ci = 11 then x7_does N g a0 x1 ξ else
  if ci = 12 then x11_does N g a0 x1 ξ else
  if ci = 13 then x7_does N g a0 x1 ξ else
  if ci = 14 then x13_does N g a0 x1 ξ else
  none
def x7_tells (N : Nat) (g : XG) (a0 : Nat)  (x1 : Int32) (ξ : XS) : Option (Int32 × XS) :=
  if dRs ξ a0 [8, 9, 10, 11, 12, 13, 14] 4 = some (xa g 0) then (
  bnv (x4_ran N g (12 : Int32) ξ) fun s_1 =>
  bnd (xv_does N g a0 x1 s_1) fun v_3 s_2 =>
  some ((v_3 * (2 : Int32)), s_2)) else none
section XC
variable {p : Program} {l : Launch} {e : Env} {R : Room} {s : State} {m : MethodId} {args : Array Value} {below : List Frame} {meth : Method} {c : Code} {nL cells slots : Nat} {A : Nat → Prop} {g : XG} {ξ : XS} {Q : State → Prop} {pc n : Nat} {lv : List (Nat × Value)} {st : List Value} {cc : ByteArray} {ρ : Type} {res : ρ}
theorem xvcX7_52 (E : EV p s m args c cc nL RX7) {N a0 : Nat} {x1 : Int32} {kk : Int32 → XS → Option ρ} (hR : 6 ≤ R.frames ∧ 126 ≤ R.locals) (hcat : (st.map fun v => v.category).sum ≤ 8) (hf : cells ≤ R.cells ∧ slots ≤ R.slots) (d : decode cc pc = .ok (.invokevirtual 52, 3)) (h : bnd (xv_does N g a0 x1 ξ) kk = some res) (hn : pc + 3 = n) (k : ∀ (v : Int32) (ξ1 : XS), kk v ξ1 = some res → CF p l e R s m args below meth c nL cells slots (XB g A s ξ1) Q n lv (.int v :: st)) : CF p l e R s m args below meth c nL cells slots (XB g A s ξ) Q pc lv (.int x1 :: .ref a0 :: st) := by
  obtain ⟨v, ξ1, ho, hk⟩ := bnd_some h
  unfold xv_does at ho
  obtain ⟨ci, hci, ho⟩ := bno_some ho
  by_cases e8 : ci = 8
  · subst e8
    have ho : x7_does N g a0 x1 ξ = some (v, ξ1) := by
      simpa using ho
    exact xcallV0_i (na := 1) E [.int x1] (fun v ξ1 ho => met_x7_does l g N a0 x1 ξ ho) (C := RX7) (lw_V q1389 q1342 q1343 q106 q1363) (by decide +kernel) (xrecv_d (q := (RX7, TX7, 5)) hci rfl) rfl rfl (rmle hR rfl rfl) rfl rfl hcat hf d (o := x7_does N g a0 x1 ξ) (by rw [ho]; exact hk) hn k
  by_cases e9 : ci = 9
  · subst e9
    have ho : x8_does N g a0 x1 ξ = some (v, ξ1) := by
      simpa using ho
    exact xcallO0_i (na := 1) (x := ⟨"HatsDecide$Hat", "does", "(I)I"⟩) (owner := "HatsDecide$Hat") E [.int x1] (fun v ξ1 ho => met_x8_does l g N a0 x1 ξ ho) (C := RX8) (lw_O q1389 q1344 q1342 q1355 q1351 q107 q1352) q1363 (by decide +kernel) (xrecv_d (q := (RX8, TX8, 6)) hci rfl) rfl rfl (rmle hR rfl rfl) rfl rfl hcat hf d (o := x8_does N g a0 x1 ξ) (by rw [ho]; exact hk) hn k
  by_cases e10 : ci = 10
  · subst e10
    have ho : x7_does N g a0 x1 ξ = some (v, ξ1) := by
      simpa using ho
    exact xcallU0_i (na := 1) (x := ⟨"HatsDecide$Hat", "does", "(I)I"⟩) (owner := "HatsDecide$Hat") E [.int x1] (fun v ξ1 ho => met_x7_does l g N a0 x1 ξ ho) (C := RX9) (lw_U q1389 q1344 q1362 q1342 q106 q1363) rfl (by decide +kernel) (xrecv_d (q := (RX9, TX9, 6)) hci rfl) rfl rfl (rmle hR rfl rfl) rfl rfl hcat hf d (o := x7_does N g a0 x1 ξ) (by rw [ho]; exact hk) hn k
  by_cases e11 : ci = 11
  · subst e11
    have ho : x7_does N g a0 x1 ξ = some (v, ξ1) := by
      simpa using ho
    exact xcallU0_i (na := 1) (x := ⟨"HatsDecide$Hat", "does", "(I)I"⟩) (owner := "HatsDecide$Hat") E [.int x1] (fun v ξ1 ho => met_x7_does l g N a0 x1 ξ ho) (C := RX10) (lw_U q1389 q1344 q1345 q1342 q106 q1363) rfl (by decide +kernel) (xrecv_d (q := (RX10, TX10, 6)) hci rfl) rfl rfl (rmle hR rfl rfl) rfl rfl hcat hf d (o := x7_does N g a0 x1 ξ) (by rw [ho]; exact hk) hn k
  by_cases e12 : ci = 12
  · subst e12
    have ho : x11_does N g a0 x1 ξ = some (v, ξ1) := by
      simpa using ho
    exact xcallO0_i (na := 1) (x := ⟨"HatsDecide$Hat", "does", "(I)I"⟩) (owner := "HatsDecide$Hat") E [.int x1] (fun v ξ1 ho => met_x11_does l g N a0 x1 ξ ho) (C := RX11) (lw_O q1389 q1344 q1342 q1347 q1348 q110 q1349) q1363 (by decide +kernel) (xrecv_d (q := (RX11, TX11, 7)) hci rfl) rfl rfl (rmle hR rfl rfl) rfl rfl hcat hf d (o := x11_does N g a0 x1 ξ) (by rw [ho]; exact hk) hn k
  by_cases e13 : ci = 13
  · subst e13
    have ho : x7_does N g a0 x1 ξ = some (v, ξ1) := by
      simpa using ho
    exact xcallU0_i (na := 1) (x := ⟨"HatsDecide$Hat", "does", "(I)I"⟩) (owner := "HatsDecide$Hat") E [.int x1] (fun v ξ1 ho => met_x7_does l g N a0 x1 ξ ho) (C := RX12) (lw_U q1389 q1344 q1346 q1342 q106 q1363) rfl (by decide +kernel) (xrecv_d (q := (RX12, TX12, 7)) hci rfl) rfl rfl (rmle hR rfl rfl) rfl rfl hcat hf d (o := x7_does N g a0 x1 ξ) (by rw [ho]; exact hk) hn k
  by_cases e14 : ci = 14
  · subst e14
    have ho : x13_does N g a0 x1 ξ = some (v, ξ1) := by
      simpa using ho
    exact xcallO0_i (na := 1) (x := ⟨"HatsDecide$Hat", "does", "(I)I"⟩) (owner := "HatsDecide$Hat") E [.int x1] (fun v ξ1 ho => met_x13_does l g N a0 x1 ξ ho) (C := RX13) (lw_O q1389 q1344 q1342 q1356 q1357 q112 q1358) q1363 (by decide +kernel) (xrecv_d (q := (RX13, TX13, 8)) hci rfl) rfl rfl (rmle hR rfl rfl) rfl rfl hcat hf d (o := x13_does N g a0 x1 ξ) (by rw [ho]; exact hk) hn k
  · simp [e8, e9, e10, e11, e12, e13, e14] at ho
end XC
set_option maxHeartbeats 4000000 in
theorem met_x7_tells (l : Launch) (g : XG) (N : Nat) (a0 : Nat)  (x1 : Int32) (ξ : XS) {v : Int32} {ξ1 : XS} (h : x7_tells N g a0 x1 ξ = some (v, ξ1)) : MetXi l g yX7_tells (ws_ yX7_tells cX7_tells 2 (some .int)) { frames := 6, cells := 0, slots := 0, locals := 126 } [.ref a0, .int x1] ξ v ξ1 0 0 := by
  refine met_xi (lv0 := [(0, .ref a0), (1, .int x1)]) (own := RX7) (by decide) rfl (Nat.le_of_ble_eq_true rfl) rfl ?_
  intro p e s m below meth c A Q E hq
  have hR : 6 ≤ ({ frames := 6, cells := 0, slots := 0, locals := 126 } : Room).frames ∧ 126 ≤ ({ frames := 6, cells := 0, slots := 0, locals := 126 } : Room).locals := ⟨Nat.le_refl _, Nat.le_refl _⟩
  unfold x7_tells at h
  refine cf_aload_n E dX7_tells_0 0 rfl rfl ?_
  refine xdgX7_1 E dX7_tells_1 h rfl (fun h => ?_)
  refine xgX7_38 E dX7_tells_4 rfl ?_
  refine cf_bipush E dX7_tells_7 bp_12 rfl ?_
  refine xclX7_42 E (rmle hR rfl rfl) (Nat.le_of_ble_eq_true rfl) ⟨Nat.zero_le _, Nat.zero_le _⟩ dX7_tells_9 h rfl (fun s_1 h => ?_)
  refine cf_aload_n E dX7_tells_12 0 rfl rfl ?_
  refine cf_iload_n E dX7_tells_13 1 rfl rfl ?_
  refine xvcX7_52 E (rmle hR rfl rfl) (Nat.le_of_ble_eq_true rfl) ⟨Nat.zero_le _, Nat.zero_le _⟩ dX7_tells_14 h rfl (fun v_3 s_2 h => ?_)
  refine cf_iconst E dX7_tells_17 ic_2 rfl ?_
  refine cf_imul E dX7_tells_18 rfl ?_
  exact xret_i dX7_tells_19 h rfl hq
def x10_tells (N : Nat) (g : XG) (a0 : Nat)  (x1 : Int32) (ξ : XS) : Option (Int32 × XS) :=
  if dRs ξ a0 [11, 14] 5 = some (xa g 0) then (
  bnv (x4_ran N g (40 : Int32) ξ) fun s_1 =>
  if isC s_1 a0 8 14 = true then bnd (x7_tells N g a0 x1 s_1) (fun v_3 s_2 =>
  nx (v_3 : Int32) fun x2_4 =>
  if isH s_2 a0 [11, 14] = true then bnd (xv_does N g a0 (1 : Int32) s_2) (fun v_6 s_5 =>
  some ((x2_4 + v_6), s_5)) else none) else none) else none
section XC
variable {p : Program} {l : Launch} {e : Env} {R : Room} {s : State} {m : MethodId} {args : Array Value} {below : List Frame} {meth : Method} {c : Code} {nL cells slots : Nat} {A : Nat → Prop} {g : XG} {ξ : XS} {Q : State → Prop} {pc n : Nat} {lv : List (Nat × Value)} {st : List Value} {cc : ByteArray} {ρ : Type} {res : ρ}
theorem xclX10_27 (E : EV p s m args c cc nL RX10) {N : Nat}   {x1 : Int32} {kk : XS → Option ρ} (hR : 1 ≤ R.frames ∧ 21 ≤ R.locals) (hcat : (st.map fun v => v.category).sum ≤ 8) (hf : cells ≤ R.cells ∧ slots ≤ R.slots) (d : decode cc pc = .ok (.invokevirtual 27, 3)) (h : bnv (x4_ran N g  x1 ξ) kk = some res) (hn : pc + 3 = n) (k : ∀ (ξ1 : XS), kk ξ1 = some res → CF p l e R s m args below meth c nL cells slots (XB g A s ξ1) Q n lv st) : CF p l e R s m args below meth c nL cells slots (XB g A s ξ) Q pc lv (.int x1 :: .ref (xa g 310) :: st) :=
  xcallV0_v (na := 1) E [.int x1] (fun ξ1 ho => met_x4_ran l g N   x1 ξ ho) (C := RX4) (lw_V q1372 q1320 q1321 q103 q1322) (by decide +kernel) ⟨35, 6, _, _, rfl, rfl, rfl⟩ rfl rfl hR rfl rfl hcat hf d h hn k
theorem xscX10_33 (E : EV p s m args c cc nL RX10) {N a0 : Nat} {x1 : Int32} {kk : Int32 → XS → Option ρ} (hR : 7 ≤ R.frames ∧ 147 ≤ R.locals) (hcat : (st.map fun v => v.category).sum ≤ 8) (hf : cells ≤ R.cells ∧ slots ≤ R.slots) (d : decode cc pc = .ok (.invokespecial 33, 3)) (h : (if isC ξ a0 8 14 = true then bnd (x7_tells N g a0 x1 ξ) kk else none) = some res) (hn : pc + 3 = n) (k : ∀ (v : Int32) (ξ1 : XS), kk v ξ1 = some res → CF p l e R s m args below meth c nL cells slots (XB g A s ξ1) Q n lv (.int v :: st)) : CF p l e R s m args below meth c nL cells slots (XB g A s ξ) Q pc lv (.int x1 :: .ref a0 :: st) := by
  by_cases hi : isC ξ a0 8 14 = true
  · rw [if_pos hi] at h
    obtain ⟨ci, hci, h1, h2⟩ := isC_at hi
    obtain ⟨q9, hq9⟩ := vwAt (ci := ci) (by omega)
    exact xcallP0_i (na := 1) E [.int x1] (fun v ξ1 ho => met_x7_tells l g N a0 x1 ξ ho) (lw_SU q1373 q1368 q501 q1366 q106 q1388) (by decide +kernel) hci hq9 rfl rfl hR rfl rfl hcat hf d h hn k
  · rw [if_neg hi] at h; cases h
theorem xvcX10_37 (E : EV p s m args c cc nL RX10) {N a0 : Nat} {x1 : Int32} {kk : Int32 → XS → Option ρ} (hR : 5 ≤ R.frames ∧ 106 ≤ R.locals) (hcat : (st.map fun v => v.category).sum ≤ 8) (hf : cells ≤ R.cells ∧ slots ≤ R.slots) (d : decode cc pc = .ok (.invokevirtual 37, 3)) (h : (if isH ξ a0 [11, 14] = true then bnd (xv_does N g a0 x1 ξ) kk else none) = some res) (hn : pc + 3 = n) (k : ∀ (v : Int32) (ξ1 : XS), kk v ξ1 = some res → CF p l e R s m args below meth c nL cells slots (XB g A s ξ1) Q n lv (.int v :: st)) : CF p l e R s m args below meth c nL cells slots (XB g A s ξ) Q pc lv (.int x1 :: .ref a0 :: st) := by
  by_cases hi : ¬ isH ξ a0 [11, 14] = true
  · rw [if_neg hi] at h; cases h
  have hi : isH ξ a0 [11, 14] = true := Decidable.not_not.mp hi
  rw [if_pos hi] at h
  obtain ⟨c1, hc1, hfam⟩ := isH_at hi
  obtain ⟨v, ξ1, ho, hk⟩ := bnd_some h
  unfold xv_does at ho
  obtain ⟨ci, hci, ho⟩ := bno_some ho
  have e0 : ci = c1 := Option.some.inj (hci.symm.trans hc1)
  subst e0
  by_cases e8 : ci = 8
  · subst e8
    exact absurd hfam (by decide)
  by_cases e9 : ci = 9
  · subst e9
    exact absurd hfam (by decide)
  by_cases e10 : ci = 10
  · subst e10
    exact absurd hfam (by decide)
  by_cases e11 : ci = 11
  · subst e11
    have ho : x7_does N g a0 x1 ξ = some (v, ξ1) := by
      simpa using ho
    exact xcallU0_i (na := 1) (x := ⟨"HatsDecide$Crown", "does", "(I)I"⟩) (owner := "HatsDecide$Hat") E [.int x1] (fun v ξ1 ho => met_x7_does l g N a0 x1 ξ ho) (C := RX10) (lw_U q1374 q1360 q1375 q1342 q106 q1363) rfl (by decide +kernel) (xrecv_d (q := (RX10, TX10, 6)) hci rfl) rfl rfl (rmle hR rfl rfl) rfl rfl hcat hf d (o := x7_does N g a0 x1 ξ) (by rw [ho]; exact hk) hn k
  by_cases e12 : ci = 12
  · subst e12
    exact absurd hfam (by decide)
  by_cases e13 : ci = 13
  · subst e13
    exact absurd hfam (by decide)
  by_cases e14 : ci = 14
  · subst e14
    have ho : x13_does N g a0 x1 ξ = some (v, ξ1) := by
      simpa using ho
    exact xcallO0_i (na := 1) (x := ⟨"HatsDecide$Crown", "does", "(I)I"⟩) (owner := "HatsDecide$Hat") E [.int x1] (fun v ξ1 ho => met_x13_does l g N a0 x1 ξ ho) (C := RX13) (lw_O q1374 q1360 q1342 q1376 q1357 q112 q1358) q1363 (by decide +kernel) (xrecv_d (q := (RX13, TX13, 8)) hci rfl) rfl rfl (rmle hR rfl rfl) rfl rfl hcat hf d (o := x13_does N g a0 x1 ξ) (by rw [ho]; exact hk) hn k
  · simp [e8, e9, e10, e11, e12, e13, e14] at ho
end XC
set_option maxHeartbeats 4000000 in
theorem met_x10_tells (l : Launch) (g : XG) (N : Nat) (a0 : Nat)  (x1 : Int32) (ξ : XS) {v : Int32} {ξ1 : XS} (h : x10_tells N g a0 x1 ξ = some (v, ξ1)) : MetXi l g yX10_tells (ws_ yX10_tells cX10_tells 3 (some .int)) { frames := 7, cells := 0, slots := 0, locals := 147 } [.ref a0, .int x1] ξ v ξ1 0 0 := by
  refine met_xi (lv0 := [(0, .ref a0), (1, .int x1)]) (own := RX10) (by decide) rfl (Nat.le_of_ble_eq_true rfl) rfl ?_
  intro p e s m below meth c A Q E hq
  have hR : 7 ≤ ({ frames := 7, cells := 0, slots := 0, locals := 147 } : Room).frames ∧ 147 ≤ ({ frames := 7, cells := 0, slots := 0, locals := 147 } : Room).locals := ⟨Nat.le_refl _, Nat.le_refl _⟩
  unfold x10_tells at h
  refine cf_aload_n E dX10_tells_0 0 rfl rfl ?_
  refine xdgX10_3 E dX10_tells_1 h rfl (fun h => ?_)
  refine xgX10_23 E dX10_tells_4 rfl ?_
  refine cf_bipush E dX10_tells_7 bp_40 rfl ?_
  refine xclX10_27 E (rmle hR rfl rfl) (Nat.le_of_ble_eq_true rfl) ⟨Nat.zero_le _, Nat.zero_le _⟩ dX10_tells_9 h rfl (fun s_1 h => ?_)
  refine cf_aload_n E dX10_tells_12 0 rfl rfl ?_
  refine cf_iload_n E dX10_tells_13 1 rfl rfl ?_
  refine xscX10_33 E (rmle hR rfl rfl) (Nat.le_of_ble_eq_true rfl) ⟨Nat.zero_le _, Nat.zero_le _⟩ dX10_tells_14 h rfl (fun v_3 s_2 h => ?_)
  refine cf_istore_n E dX10_tells_17 h (fun x2_4 => [(2, .int x2_4), (0, .ref a0), (1, .int x1)]) (Nat.le_of_ble_eq_true rfl) (fun _ => rfl) rfl (fun x2_4 h => ?_)
  refine cf_iload_n E dX10_tells_18 0 rfl rfl ?_
  refine cf_aload_n E dX10_tells_19 1 rfl rfl ?_
  refine cf_iconst E dX10_tells_20 ic_1 rfl ?_
  refine xvcX10_37 E (rmle hR rfl rfl) (Nat.le_of_ble_eq_true rfl) ⟨Nat.zero_le _, Nat.zero_le _⟩ dX10_tells_21 h rfl (fun v_6 s_5 h => ?_)
  refine cf_iadd E dX10_tells_24 rfl ?_
  exact xret_i dX10_tells_25 h rfl hq
def x12_tells (N : Nat) (g : XG) (a0 : Nat)  (x1 : Int32) (ξ : XS) : Option (Int32 × XS) :=
  if dRs ξ a0 [13] 6 = some (xa g 0) then (
  bnv (x4_ran N g (60 : Int32) ξ) fun s_1 =>
  bno (dI s_1 a0 8 14 0) fun v_2 =>
  if isC s_1 a0 8 14 = true then bnd (x7_tells N g a0 (x1 - v_2) s_1) (fun v_4 s_3 =>
  some (v_4, s_3)) else none) else none
section XC
variable {p : Program} {l : Launch} {e : Env} {R : Room} {s : State} {m : MethodId} {args : Array Value} {below : List Frame} {meth : Method} {c : Code} {nL cells slots : Nat} {A : Nat → Prop} {g : XG} {ξ : XS} {Q : State → Prop} {pc n : Nat} {lv : List (Nat × Value)} {st : List Value} {cc : ByteArray} {ρ : Type} {res : ρ}
theorem xclX12_33 (E : EV p s m args c cc nL RX12) {N : Nat}   {x1 : Int32} {kk : XS → Option ρ} (hR : 1 ≤ R.frames ∧ 21 ≤ R.locals) (hcat : (st.map fun v => v.category).sum ≤ 8) (hf : cells ≤ R.cells ∧ slots ≤ R.slots) (d : decode cc pc = .ok (.invokevirtual 33, 3)) (h : bnv (x4_ran N g  x1 ξ) kk = some res) (hn : pc + 3 = n) (k : ∀ (ξ1 : XS), kk ξ1 = some res → CF p l e R s m args below meth c nL cells slots (XB g A s ξ1) Q n lv st) : CF p l e R s m args below meth c nL cells slots (XB g A s ξ) Q pc lv (.int x1 :: .ref (xa g 310) :: st) :=
  xcallV0_v (na := 1) E [.int x1] (fun ξ1 ho => met_x4_ran l g N   x1 ξ ho) (C := RX4) (lw_V q1380 q1320 q1321 q103 q1322) (by decide +kernel) ⟨35, 6, _, _, rfl, rfl, rfl⟩ rfl rfl hR rfl rfl hcat hf d h hn k
theorem xscX12_42 (E : EV p s m args c cc nL RX12) {N a0 : Nat} {x1 : Int32} {kk : Int32 → XS → Option ρ} (hR : 7 ≤ R.frames ∧ 147 ≤ R.locals) (hcat : (st.map fun v => v.category).sum ≤ 8) (hf : cells ≤ R.cells ∧ slots ≤ R.slots) (d : decode cc pc = .ok (.invokespecial 42, 3)) (h : (if isC ξ a0 8 14 = true then bnd (x7_tells N g a0 x1 ξ) kk else none) = some res) (hn : pc + 3 = n) (k : ∀ (v : Int32) (ξ1 : XS), kk v ξ1 = some res → CF p l e R s m args below meth c nL cells slots (XB g A s ξ1) Q n lv (.int v :: st)) : CF p l e R s m args below meth c nL cells slots (XB g A s ξ) Q pc lv (.int x1 :: .ref a0 :: st) := by
  by_cases hi : isC ξ a0 8 14 = true
  · rw [if_pos hi] at h
    obtain ⟨ci, hci, h1, h2⟩ := isC_at hi
    obtain ⟨q9, hq9⟩ := vwAt (ci := ci) (by omega)
    exact xcallI0_i (na := 1) (x := ⟨"HatsDecide$Worn", "tells", "(I)I"⟩) E [.int x1] (fun v ξ1 ho => met_x7_tells l g N a0 x1 ξ ho) (lw_meth q1388) q1381 q1382 q533 q486 q1366 q106 q1388 ⟨rfl, rfl⟩ (by decide +kernel) hci hq9 rfl rfl hR rfl rfl hcat hf d h hn k
  · rw [if_neg hi] at h; cases h
end XC
set_option maxHeartbeats 4000000 in
theorem met_x12_tells (l : Launch) (g : XG) (N : Nat) (a0 : Nat)  (x1 : Int32) (ξ : XS) {v : Int32} {ξ1 : XS} (h : x12_tells N g a0 x1 ξ = some (v, ξ1)) : MetXi l g yX12_tells (ws_ yX12_tells cX12_tells 2 (some .int)) { frames := 7, cells := 0, slots := 0, locals := 147 } [.ref a0, .int x1] ξ v ξ1 0 0 := by
  refine met_xi (lv0 := [(0, .ref a0), (1, .int x1)]) (own := RX12) (by decide) rfl (Nat.le_of_ble_eq_true rfl) rfl ?_
  intro p e s m below meth c A Q E hq
  have hR : 7 ≤ ({ frames := 7, cells := 0, slots := 0, locals := 147 } : Room).frames ∧ 147 ≤ ({ frames := 7, cells := 0, slots := 0, locals := 147 } : Room).locals := ⟨Nat.le_refl _, Nat.le_refl _⟩
  unfold x12_tells at h
  refine cf_aload_n E dX12_tells_0 0 rfl rfl ?_
  refine xdgX12_3 E dX12_tells_1 h rfl (fun h => ?_)
  refine xgX12_29 E dX12_tells_4 rfl ?_
  refine cf_bipush E dX12_tells_7 bp_60 rfl ?_
  refine xclX12_33 E (rmle hR rfl rfl) (Nat.le_of_ble_eq_true rfl) ⟨Nat.zero_le _, Nat.zero_le _⟩ dX12_tells_9 h rfl (fun s_1 h => ?_)
  refine cf_aload_n E dX12_tells_12 0 rfl rfl ?_
  refine cf_iload_n E dX12_tells_13 1 rfl rfl ?_
  refine cf_aload_n E dX12_tells_14 0 rfl rfl ?_
  refine xdgX12_39 E dX12_tells_15 h rfl (fun v_2 h => ?_)
  refine cf_isub E dX12_tells_18 rfl ?_
  refine xscX12_42 E (rmle hR rfl rfl) (Nat.le_of_ble_eq_true rfl) ⟨Nat.zero_le _, Nat.zero_le _⟩ dX12_tells_19 h rfl (fun v_4 s_3 h => ?_)
  exact xret_i dX12_tells_22 h rfl hq
def xv_tells (N : Nat) (g : XG) (a0 : Nat) (x1 : Int32) (ξ : XS) : Option (Int32 × XS) :=
  bno (dCi ξ a0) fun ci =>
  if ci = 8 then x7_tells N g a0 x1 ξ else
  if ci = 9 then x7_tells N g a0 x1 ξ else
  if ci = 10 then x7_tells N g a0 x1 ξ else
  if ci = 11 then x10_tells N g a0 x1 ξ else
  if ci = 12 then x7_tells N g a0 x1 ξ else
  if ci = 13 then x12_tells N g a0 x1 ξ else
  if ci = 14 then x10_tells N g a0 x1 ξ else
  none
def x0_act (N : Nat) (g : XG)   (x1 : Int32) (x2 : Int32) (x3 : Int32) (ξ : XS) : Option (Int32 × XS) :=
  nx (sXF ξ 311 (0 : Int32)) fun s_1 =>
  bnd (x0_isHat N g x1 s_1) fun v_3 s_2 =>
  if v_3 = 0 then (
    some ((0 : Int32), s_2))
  else (
    bnd (x0_in N g x2 (0 : Int32) (2 : Int32) s_2) fun v_5 s_4 =>
    if v_5 = 0 then (
      some ((0 : Int32), s_4))
    else (
      if inb x1 6 = true then bno (xQ s_4 3 x1.toNatClampNeg) (fun b_6 =>
      if x2 = 0 then (
        bnd (xv_sits N g b_6 x3 s_4) fun v_12 s_11 =>
        some (v_12, s_11))
      else (
        if x2 = (1 : Int32) then (
          bnd (xv_does N g b_6 x3 s_4) fun v_10 s_9 =>
          some (v_10, s_9))
        else (
          bnd (xv_tells N g b_6 x3 s_4) fun v_8 s_7 =>
          some (v_8, s_7)))) else none))
section XC
variable {p : Program} {l : Launch} {e : Env} {R : Room} {s : State} {m : MethodId} {args : Array Value} {below : List Frame} {meth : Method} {c : Code} {nL cells slots : Nat} {A : Nat → Prop} {g : XG} {ξ : XS} {Q : State → Prop} {pc n : Nat} {lv : List (Nat × Value)} {st : List Value} {cc : ByteArray} {ρ : Type} {res : ρ}
theorem xvcX0_382 (E : EV p s m args c cc nL RX0) {N a0 : Nat} {x1 : Int32} {kk : Int32 → XS → Option ρ} (hR : 8 ≤ R.frames ∧ 169 ≤ R.locals) (hcat : (st.map fun v => v.category).sum ≤ 8) (hf : cells ≤ R.cells ∧ slots ≤ R.slots) (d : decode cc pc = .ok (.invokevirtual 382, 3)) (h : bnd (xv_tells N g a0 x1 ξ) kk = some res) (hn : pc + 3 = n) (k : ∀ (v : Int32) (ξ1 : XS), kk v ξ1 = some res → CF p l e R s m args below meth c nL cells slots (XB g A s ξ1) Q n lv (.int v :: st)) : CF p l e R s m args below meth c nL cells slots (XB g A s ξ) Q pc lv (.int x1 :: .ref a0 :: st) := by
  obtain ⟨v, ξ1, ho, hk⟩ := bnd_some h
  unfold xv_tells at ho
  obtain ⟨ci, hci, ho⟩ := bno_some ho
  by_cases e8 : ci = 8
  · subst e8
    have ho : x7_tells N g a0 x1 ξ = some (v, ξ1) := by
      simpa using ho
    exact xcallV0_i (na := 1) E [.int x1] (fun v ξ1 ho => met_x7_tells l g N a0 x1 ξ ho) (C := RX7) (lw_V q1365 q1366 q1367 q106 q1388) (by decide +kernel) (xrecv_d (q := (RX7, TX7, 5)) hci rfl) rfl rfl (rmle hR rfl rfl) rfl rfl hcat hf d (o := x7_tells N g a0 x1 ξ) (by rw [ho]; exact hk) hn k
  by_cases e9 : ci = 9
  · subst e9
    have ho : x7_tells N g a0 x1 ξ = some (v, ξ1) := by
      simpa using ho
    exact xcallU0_i (na := 1) (x := ⟨"HatsDecide$Hat", "tells", "(I)I"⟩) (owner := "HatsDecide$Hat") E [.int x1] (fun v ξ1 ho => met_x7_tells l g N a0 x1 ξ ho) (C := RX8) (lw_U q1365 q1368 q1385 q1366 q106 q1388) rfl (by decide +kernel) (xrecv_d (q := (RX8, TX8, 6)) hci rfl) rfl rfl (rmle hR rfl rfl) rfl rfl hcat hf d (o := x7_tells N g a0 x1 ξ) (by rw [ho]; exact hk) hn k
  by_cases e10 : ci = 10
  · subst e10
    have ho : x7_tells N g a0 x1 ξ = some (v, ξ1) := by
      simpa using ho
    exact xcallU0_i (na := 1) (x := ⟨"HatsDecide$Hat", "tells", "(I)I"⟩) (owner := "HatsDecide$Hat") E [.int x1] (fun v ξ1 ho => met_x7_tells l g N a0 x1 ξ ho) (C := RX9) (lw_U q1365 q1368 q1387 q1366 q106 q1388) rfl (by decide +kernel) (xrecv_d (q := (RX9, TX9, 6)) hci rfl) rfl rfl (rmle hR rfl rfl) rfl rfl hcat hf d (o := x7_tells N g a0 x1 ξ) (by rw [ho]; exact hk) hn k
  by_cases e11 : ci = 11
  · subst e11
    have ho : x10_tells N g a0 x1 ξ = some (v, ξ1) := by
      simpa using ho
    exact xcallO0_i (na := 1) (x := ⟨"HatsDecide$Hat", "tells", "(I)I"⟩) (owner := "HatsDecide$Hat") E [.int x1] (fun v ξ1 ho => met_x10_tells l g N a0 x1 ξ ho) (C := RX10) (lw_O q1365 q1368 q1366 q1369 q1370 q109 q1371) q1388 (by decide +kernel) (xrecv_d (q := (RX10, TX10, 6)) hci rfl) rfl rfl (rmle hR rfl rfl) rfl rfl hcat hf d (o := x10_tells N g a0 x1 ξ) (by rw [ho]; exact hk) hn k
  by_cases e12 : ci = 12
  · subst e12
    have ho : x7_tells N g a0 x1 ξ = some (v, ξ1) := by
      simpa using ho
    exact xcallU0_i (na := 1) (x := ⟨"HatsDecide$Hat", "tells", "(I)I"⟩) (owner := "HatsDecide$Hat") E [.int x1] (fun v ξ1 ho => met_x7_tells l g N a0 x1 ξ ho) (C := RX11) (lw_U q1365 q1368 q1384 q1366 q106 q1388) rfl (by decide +kernel) (xrecv_d (q := (RX11, TX11, 7)) hci rfl) rfl rfl (rmle hR rfl rfl) rfl rfl hcat hf d (o := x7_tells N g a0 x1 ξ) (by rw [ho]; exact hk) hn k
  by_cases e13 : ci = 13
  · subst e13
    have ho : x12_tells N g a0 x1 ξ = some (v, ξ1) := by
      simpa using ho
    exact xcallO0_i (na := 1) (x := ⟨"HatsDecide$Hat", "tells", "(I)I"⟩) (owner := "HatsDecide$Hat") E [.int x1] (fun v ξ1 ho => met_x12_tells l g N a0 x1 ξ ho) (C := RX12) (lw_O q1365 q1368 q1366 q1377 q1378 q111 q1379) q1388 (by decide +kernel) (xrecv_d (q := (RX12, TX12, 7)) hci rfl) rfl rfl (rmle hR rfl rfl) rfl rfl hcat hf d (o := x12_tells N g a0 x1 ξ) (by rw [ho]; exact hk) hn k
  by_cases e14 : ci = 14
  · subst e14
    have ho : x10_tells N g a0 x1 ξ = some (v, ξ1) := by
      simpa using ho
    exact xcallO0_i (na := 1) (x := ⟨"HatsDecide$Hat", "tells", "(I)I"⟩) (owner := "HatsDecide$Hat") E [.int x1] (fun v ξ1 ho => met_x10_tells l g N a0 x1 ξ ho) (C := RX13) (lw_O q1365 q1368 q1366 q1386 q1370 q109 q1371) q1388 (by decide +kernel) (xrecv_d (q := (RX13, TX13, 8)) hci rfl) rfl rfl (rmle hR rfl rfl) rfl rfl hcat hf d (o := x10_tells N g a0 x1 ξ) (by rw [ho]; exact hk) hn k
  · simp [e8, e9, e10, e11, e12, e13, e14] at ho
theorem xvcX0_379 (E : EV p s m args c cc nL RX0) {N a0 : Nat} {x1 : Int32} {kk : Int32 → XS → Option ρ} (hR : 6 ≤ R.frames ∧ 126 ≤ R.locals) (hcat : (st.map fun v => v.category).sum ≤ 8) (hf : cells ≤ R.cells ∧ slots ≤ R.slots) (d : decode cc pc = .ok (.invokevirtual 379, 3)) (h : bnd (xv_does N g a0 x1 ξ) kk = some res) (hn : pc + 3 = n) (k : ∀ (v : Int32) (ξ1 : XS), kk v ξ1 = some res → CF p l e R s m args below meth c nL cells slots (XB g A s ξ1) Q n lv (.int v :: st)) : CF p l e R s m args below meth c nL cells slots (XB g A s ξ) Q pc lv (.int x1 :: .ref a0 :: st) := by
  obtain ⟨v, ξ1, ho, hk⟩ := bnd_some h
  unfold xv_does at ho
  obtain ⟨ci, hci, ho⟩ := bno_some ho
  by_cases e8 : ci = 8
  · subst e8
    have ho : x7_does N g a0 x1 ξ = some (v, ξ1) := by
      simpa using ho
    exact xcallV0_i (na := 1) E [.int x1] (fun v ξ1 ho => met_x7_does l g N a0 x1 ξ ho) (C := RX7) (lw_V q1341 q1342 q1343 q106 q1363) (by decide +kernel) (xrecv_d (q := (RX7, TX7, 5)) hci rfl) rfl rfl (rmle hR rfl rfl) rfl rfl hcat hf d (o := x7_does N g a0 x1 ξ) (by rw [ho]; exact hk) hn k
  by_cases e9 : ci = 9
  · subst e9
    have ho : x8_does N g a0 x1 ξ = some (v, ξ1) := by
      simpa using ho
    exact xcallO0_i (na := 1) (x := ⟨"HatsDecide$Hat", "does", "(I)I"⟩) (owner := "HatsDecide$Hat") E [.int x1] (fun v ξ1 ho => met_x8_does l g N a0 x1 ξ ho) (C := RX8) (lw_O q1341 q1344 q1342 q1355 q1351 q107 q1352) q1363 (by decide +kernel) (xrecv_d (q := (RX8, TX8, 6)) hci rfl) rfl rfl (rmle hR rfl rfl) rfl rfl hcat hf d (o := x8_does N g a0 x1 ξ) (by rw [ho]; exact hk) hn k
  by_cases e10 : ci = 10
  · subst e10
    have ho : x7_does N g a0 x1 ξ = some (v, ξ1) := by
      simpa using ho
    exact xcallU0_i (na := 1) (x := ⟨"HatsDecide$Hat", "does", "(I)I"⟩) (owner := "HatsDecide$Hat") E [.int x1] (fun v ξ1 ho => met_x7_does l g N a0 x1 ξ ho) (C := RX9) (lw_U q1341 q1344 q1362 q1342 q106 q1363) rfl (by decide +kernel) (xrecv_d (q := (RX9, TX9, 6)) hci rfl) rfl rfl (rmle hR rfl rfl) rfl rfl hcat hf d (o := x7_does N g a0 x1 ξ) (by rw [ho]; exact hk) hn k
  by_cases e11 : ci = 11
  · subst e11
    have ho : x7_does N g a0 x1 ξ = some (v, ξ1) := by
      simpa using ho
    exact xcallU0_i (na := 1) (x := ⟨"HatsDecide$Hat", "does", "(I)I"⟩) (owner := "HatsDecide$Hat") E [.int x1] (fun v ξ1 ho => met_x7_does l g N a0 x1 ξ ho) (C := RX10) (lw_U q1341 q1344 q1345 q1342 q106 q1363) rfl (by decide +kernel) (xrecv_d (q := (RX10, TX10, 6)) hci rfl) rfl rfl (rmle hR rfl rfl) rfl rfl hcat hf d (o := x7_does N g a0 x1 ξ) (by rw [ho]; exact hk) hn k
  by_cases e12 : ci = 12
  · subst e12
    have ho : x11_does N g a0 x1 ξ = some (v, ξ1) := by
      simpa using ho
    exact xcallO0_i (na := 1) (x := ⟨"HatsDecide$Hat", "does", "(I)I"⟩) (owner := "HatsDecide$Hat") E [.int x1] (fun v ξ1 ho => met_x11_does l g N a0 x1 ξ ho) (C := RX11) (lw_O q1341 q1344 q1342 q1347 q1348 q110 q1349) q1363 (by decide +kernel) (xrecv_d (q := (RX11, TX11, 7)) hci rfl) rfl rfl (rmle hR rfl rfl) rfl rfl hcat hf d (o := x11_does N g a0 x1 ξ) (by rw [ho]; exact hk) hn k
  by_cases e13 : ci = 13
  · subst e13
    have ho : x7_does N g a0 x1 ξ = some (v, ξ1) := by
      simpa using ho
    exact xcallU0_i (na := 1) (x := ⟨"HatsDecide$Hat", "does", "(I)I"⟩) (owner := "HatsDecide$Hat") E [.int x1] (fun v ξ1 ho => met_x7_does l g N a0 x1 ξ ho) (C := RX12) (lw_U q1341 q1344 q1346 q1342 q106 q1363) rfl (by decide +kernel) (xrecv_d (q := (RX12, TX12, 7)) hci rfl) rfl rfl (rmle hR rfl rfl) rfl rfl hcat hf d (o := x7_does N g a0 x1 ξ) (by rw [ho]; exact hk) hn k
  by_cases e14 : ci = 14
  · subst e14
    have ho : x13_does N g a0 x1 ξ = some (v, ξ1) := by
      simpa using ho
    exact xcallO0_i (na := 1) (x := ⟨"HatsDecide$Hat", "does", "(I)I"⟩) (owner := "HatsDecide$Hat") E [.int x1] (fun v ξ1 ho => met_x13_does l g N a0 x1 ξ ho) (C := RX13) (lw_O q1341 q1344 q1342 q1356 q1357 q112 q1358) q1363 (by decide +kernel) (xrecv_d (q := (RX13, TX13, 8)) hci rfl) rfl rfl (rmle hR rfl rfl) rfl rfl hcat hf d (o := x13_does N g a0 x1 ξ) (by rw [ho]; exact hk) hn k
  · simp [e8, e9, e10, e11, e12, e13, e14] at ho
theorem xvcX0_376 (E : EV p s m args c cc nL RX0) {N a0 : Nat} {x1 : Int32} {kk : Int32 → XS → Option ρ} (hR : 3 ≤ R.frames ∧ 63 ≤ R.locals) (hcat : (st.map fun v => v.category).sum ≤ 8) (hf : cells ≤ R.cells ∧ slots ≤ R.slots) (d : decode cc pc = .ok (.invokevirtual 376, 3)) (h : bnd (xv_sits N g a0 x1 ξ) kk = some res) (hn : pc + 3 = n) (k : ∀ (v : Int32) (ξ1 : XS), kk v ξ1 = some res → CF p l e R s m args below meth c nL cells slots (XB g A s ξ1) Q n lv (.int v :: st)) : CF p l e R s m args below meth c nL cells slots (XB g A s ξ) Q pc lv (.int x1 :: .ref a0 :: st) := by
  obtain ⟨v, ξ1, ho, hk⟩ := bnd_some h
  unfold xv_sits at ho
  obtain ⟨ci, hci, ho⟩ := bno_some ho
  by_cases e8 : ci = 8
  · subst e8
    have ho : x7_sits N g a0 x1 ξ = some (v, ξ1) := by
      simpa using ho
    exact xcallV0_i (na := 1) E [.int x1] (fun v ξ1 ho => met_x7_sits l g N a0 x1 ξ ho) (C := RX7) (lw_V q1311 q1312 q1313 q106 q1339) (by decide +kernel) (xrecv_d (q := (RX7, TX7, 5)) hci rfl) rfl rfl (rmle hR rfl rfl) rfl rfl hcat hf d (o := x7_sits N g a0 x1 ξ) (by rw [ho]; exact hk) hn k
  by_cases e9 : ci = 9
  · subst e9
    have ho : x7_sits N g a0 x1 ξ = some (v, ξ1) := by
      simpa using ho
    exact xcallU0_i (na := 1) (x := ⟨"HatsDecide$Hat", "sits", "(I)I"⟩) (owner := "HatsDecide$Hat") E [.int x1] (fun v ξ1 ho => met_x7_sits l g N a0 x1 ξ ho) (C := RX8) (lw_U q1311 q1314 q1331 q1312 q106 q1339) rfl (by decide +kernel) (xrecv_d (q := (RX8, TX8, 6)) hci rfl) rfl rfl (rmle hR rfl rfl) rfl rfl hcat hf d (o := x7_sits N g a0 x1 ξ) (by rw [ho]; exact hk) hn k
  by_cases e10 : ci = 10
  · subst e10
    have ho : x9_sits N g a0 x1 ξ = some (v, ξ1) := by
      simpa using ho
    exact xcallO0_i (na := 1) (x := ⟨"HatsDecide$Hat", "sits", "(I)I"⟩) (owner := "HatsDecide$Hat") E [.int x1] (fun v ξ1 ho => met_x9_sits l g N a0 x1 ξ ho) (C := RX9) (lw_O q1311 q1314 q1312 q1338 q1317 q108 q1318) q1339 (by decide +kernel) (xrecv_d (q := (RX9, TX9, 6)) hci rfl) rfl rfl (rmle hR rfl rfl) rfl rfl hcat hf d (o := x9_sits N g a0 x1 ξ) (by rw [ho]; exact hk) hn k
  by_cases e11 : ci = 11
  · subst e11
    have ho : x7_sits N g a0 x1 ξ = some (v, ξ1) := by
      simpa using ho
    exact xcallU0_i (na := 1) (x := ⟨"HatsDecide$Hat", "sits", "(I)I"⟩) (owner := "HatsDecide$Hat") E [.int x1] (fun v ξ1 ho => met_x7_sits l g N a0 x1 ξ ho) (C := RX10) (lw_U q1311 q1314 q1315 q1312 q106 q1339) rfl (by decide +kernel) (xrecv_d (q := (RX10, TX10, 6)) hci rfl) rfl rfl (rmle hR rfl rfl) rfl rfl hcat hf d (o := x7_sits N g a0 x1 ξ) (by rw [ho]; exact hk) hn k
  by_cases e12 : ci = 12
  · subst e12
    have ho : x11_sits N g a0 x1 ξ = some (v, ξ1) := by
      simpa using ho
    exact xcallO0_i (na := 1) (x := ⟨"HatsDecide$Hat", "sits", "(I)I"⟩) (owner := "HatsDecide$Hat") E [.int x1] (fun v ξ1 ho => met_x11_sits l g N a0 x1 ξ ho) (C := RX11) (lw_O q1311 q1314 q1312 q1324 q1325 q110 q1326) q1339 (by decide +kernel) (xrecv_d (q := (RX11, TX11, 7)) hci rfl) rfl rfl (rmle hR rfl rfl) rfl rfl hcat hf d (o := x11_sits N g a0 x1 ξ) (by rw [ho]; exact hk) hn k
  by_cases e13 : ci = 13
  · subst e13
    have ho : x9_sits N g a0 x1 ξ = some (v, ξ1) := by
      simpa using ho
    exact xcallO0_i (na := 1) (x := ⟨"HatsDecide$Hat", "sits", "(I)I"⟩) (owner := "HatsDecide$Hat") E [.int x1] (fun v ξ1 ho => met_x9_sits l g N a0 x1 ξ ho) (C := RX12) (lw_O q1311 q1314 q1312 q1316 q1317 q108 q1318) q1339 (by decide +kernel) (xrecv_d (q := (RX12, TX12, 7)) hci rfl) rfl rfl (rmle hR rfl rfl) rfl rfl hcat hf d (o := x9_sits N g a0 x1 ξ) (by rw [ho]; exact hk) hn k
  by_cases e14 : ci = 14
  · subst e14
    have ho : x13_sits N g a0 x1 ξ = some (v, ξ1) := by
      simpa using ho
    exact xcallO0_i (na := 1) (x := ⟨"HatsDecide$Hat", "sits", "(I)I"⟩) (owner := "HatsDecide$Hat") E [.int x1] (fun v ξ1 ho => met_x13_sits l g N a0 x1 ξ ho) (C := RX13) (lw_O q1311 q1314 q1312 q1332 q1333 q112 q1334) q1339 (by decide +kernel) (xrecv_d (q := (RX13, TX13, 8)) hci rfl) rfl rfl (rmle hR rfl rfl) rfl rfl hcat hf d (o := x13_sits N g a0 x1 ξ) (by rw [ho]; exact hk) hn k
  · simp [e8, e9, e10, e11, e12, e13, e14] at ho
end XC
set_option maxHeartbeats 4000000 in
theorem met_x0_act (l : Launch) (g : XG) (N : Nat)   (x1 : Int32) (x2 : Int32) (x3 : Int32) (ξ : XS) {v : Int32} {ξ1 : XS} (h : x0_act N g  x1 x2 x3 ξ = some (v, ξ1)) : MetXi l g yX0_act (ws_ yX0_act cX0_act 5 (some .int)) { frames := 8, cells := 0, slots := 0, locals := 169 } [.ref (xa g 0), .int x1, .int x2, .int x3] ξ v ξ1 0 0 := by
  refine met_xi (lv0 := [(0, .ref (xa g 0)), (1, .int x1), (2, .int x2), (3, .int x3)]) (own := RX0) (by decide) rfl (Nat.le_of_ble_eq_true rfl) rfl ?_
  intro p e s m below meth c A Q E hq
  have hR : 8 ≤ ({ frames := 8, cells := 0, slots := 0, locals := 169 } : Room).frames ∧ 169 ≤ ({ frames := 8, cells := 0, slots := 0, locals := 169 } : Room).locals := ⟨Nat.le_refl _, Nat.le_refl _⟩
  unfold x0_act at h
  refine cf_aload_n E dX0_act_0 0 rfl rfl ?_
  refine xgX0_61 E dX0_act_1 rfl ?_
  refine cf_iconst E dX0_act_4 ic_0 rfl ?_
  refine xpX0_373 E dX0_act_5 h rfl (fun s_1 h => ?_)
  refine cf_aload_n E dX0_act_8 0 rfl rfl ?_
  refine cf_iload_n E dX0_act_9 1 rfl rfl ?_
  refine xclX0_202 E (rmle hR rfl rfl) (Nat.le_of_ble_eq_true rfl) ⟨Nat.zero_le _, Nat.zero_le _⟩ dX0_act_10 h rfl (fun v_3 s_2 h => ?_)
  refine cf_if_eq E dX0_act_13 h rfl rfl (fun h => ?_) (fun h => ?_)
  · refine cf_iconst E dX0_act_25 ic_0 rfl ?_
    exact xret_i dX0_act_26 h rfl hq
  · refine cf_iload_n E dX0_act_16 2 rfl rfl ?_
    refine cf_iconst E dX0_act_17 ic_0 rfl ?_
    refine cf_iconst E dX0_act_18 ic_2 rfl ?_
    refine xclX0_130 E (rmle hR rfl rfl) (Nat.le_of_ble_eq_true rfl) ⟨Nat.zero_le _, Nat.zero_le _⟩ dX0_act_19 h rfl (fun v_5 s_4 h => ?_)
    refine cf_if_ne E dX0_act_22 h rfl rfl (fun h => ?_) (fun h => ?_)
    · refine cf_aload_n E dX0_act_27 0 rfl rfl ?_
      refine xgX0_23 E dX0_act_28 rfl ?_
      refine cf_iload_n E dX0_act_31 1 rfl rfl ?_
      refine xaldq_3 E dX0_act_32 h rfl (fun b_6 h => ?_)
      refine cf_astore E dX0_act_33 [(4, .ref b_6), (0, .ref (xa g 0)), (1, .int x1), (2, .int x2), (3, .int x3)] (Nat.le_of_ble_eq_true rfl) rfl rfl ?_
      refine cf_iload_n E dX0_act_35 3 rfl rfl ?_
      refine cf_if_ne E dX0_act_36 h rfl rfl (fun h => ?_) (fun h => ?_)
      · refine cf_iload_n E dX0_act_48 3 rfl rfl ?_
        refine cf_iconst E dX0_act_49 ic_1 rfl ?_
        refine cf_icmp_ne E dX0_act_50 h rfl rfl (fun h => ?_) (fun h => ?_)
        · refine cf_aload E dX0_act_62 0 rfl rfl ?_
          refine cf_iload_n E dX0_act_64 4 rfl rfl ?_
          refine xvcX0_382 E (rmle hR rfl rfl) (Nat.le_of_ble_eq_true rfl) ⟨Nat.zero_le _, Nat.zero_le _⟩ dX0_act_65 h rfl (fun v_8 s_7 h => ?_)
          exact xret_i dX0_act_68 h rfl hq
        · refine cf_aload E dX0_act_53 0 rfl rfl ?_
          refine cf_iload_n E dX0_act_55 4 rfl rfl ?_
          refine xvcX0_379 E (rmle hR rfl rfl) (Nat.le_of_ble_eq_true rfl) ⟨Nat.zero_le _, Nat.zero_le _⟩ dX0_act_56 h rfl (fun v_10 s_9 h => ?_)
          refine cf_goto E dX0_act_59 rfl ?_
          exact xret_i dX0_act_68 h rfl hq
      · refine cf_aload E dX0_act_39 0 rfl rfl ?_
        refine cf_iload_n E dX0_act_41 4 rfl rfl ?_
        refine xvcX0_376 E (rmle hR rfl rfl) (Nat.le_of_ble_eq_true rfl) ⟨Nat.zero_le _, Nat.zero_le _⟩ dX0_act_42 h rfl (fun v_12 s_11 h => ?_)
        refine cf_goto E dX0_act_45 rfl ?_
        exact xret_i dX0_act_68 h rfl hq
    · refine cf_iconst E dX0_act_25 ic_0 rfl ?_
      exact xret_i dX0_act_26 h rfl hq
