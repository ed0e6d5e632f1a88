/-! HatsDecide, group g3: rows, functions, walks -/
set_option maxRecDepth 100000
section XC
variable {p : Program} {l : Launch} {e : Env} {R : Room} {s : State} {m : MethodId} {args : Array Value} {below : List Frame} {meth : Method} {c : Code} {nL cells slots : Nat} {A : Nat → Prop} {g : XG} {ξ : XS} {Q : State → Prop} {pc n : Nat} {lv : List (Nat × Value)} {st : List Value} {cc : ByteArray} {ρ : Type} {res : ρ}
theorem xckX0_157 (E : EV p s m args c cc nL RX0) {a : Nat} {A9 : Option ρ} (d : decode cc pc = .ok (.checkcast 157, 3)) (h : (if isC ξ a 14 14 = true then A9 else none) = some res) (hn : pc + 3 = n) (k : A9 = some res → CF p l e R s m args below meth c nL cells slots (XB g A s ξ) Q n lv (.ref a :: st)) : CF p l e R s m args below meth c nL cells slots (XB g A s ξ) Q pc lv (.ref a :: st) := by
  by_cases hi : isC ξ a 14 14 = true
  · rw [if_pos hi] at h
    obtain ⟨ci, hci, h1, h2⟩ := isC_at hi
    have e9 : ci = 14 := by omega
    subst e9
    exact xcastS E (ci := 14) (q9 := (RX13, TX13, 8)) rfl q534 hci d hn (k h)
  · rw [if_neg hi] at h; cases h
theorem xdgX0_225 (E : EV p s m args c cc nL RX0) {a : Nat} {kk : Nat → Option ρ} (d : decode cc pc = .ok (.getfield 225, 3)) (h : bno (dR ξ a 14 14 6) kk = some res) (hn : pc + 3 = n) (k : ∀ v : Nat, kk v = some res → CF p l e R s m args below meth c nL cells slots (XB g A s ξ) Q n lv (.ref v :: st)) : CF p l e R s m args below meth c nL cells slots (XB g A s ξ) Q pc lv (.ref a :: st) := by
  subst hn
  obtain ⟨v, hi, h⟩ := bno_some h
  obtain ⟨ci, fs, he, h1, h2, hv⟩ := dR_at hi
  obtain ⟨q0, hq⟩ := dE_at (g := g) he
  intro H locs ls hB hl
  have hci : ci = 14 := by omega
  subst hci
  exact va_get (D := g.1) (ci := 14) (C := RX13) (T := TX13) (N := 8) E.1 E.2.1 E.2.2.2.2 in_X13 E.2.2.2.1 hB.2.2.2.1 hB.1 q0 hq rfl 6 (Nat.le_of_ble_eq_true rfl) (E.2.2.2.2 _ q541) (fun _ h9 => h9) hv d (k v h H locs ls hB hl)
theorem xgX0_101 (E : EV p s m args c cc nL RX0) (d : decode cc pc = .ok (.getfield 101, 3)) (hn : pc + 3 = n) (k : CF p l e R s m args below meth c nL cells slots (XB g A s ξ) Q n lv (.ref (xa g 128) :: st)) : CF p l e R s m args below meth c nL cells slots (XB g A s ξ) Q pc lv (.ref (xa g 0) :: st) := by
  subst hn
  intro H locs ls hB hl
  exact va_get (D := g.1) (ci := 1) (C := RX0) (T := TX0) (N := 40) E.1 E.2.1 E.2.2.2.2 in_X0 E.2.2.2.1 hB.2.2.2.1 hB.1 0 rfl rfl 28 (Nat.le_of_ble_eq_true rfl) (E.2.2.2.2 _ q318) (fun _ h9 => h9) rfl d (k H locs ls hB hl)
theorem xcpX0_0_28 (E : EV p s m args c cc nL RX0) {sp dp nn : Int32} {kk : XS → Option ρ} (hR : 1 ≤ R.frames ∧ 40 ≤ R.locals) (hcat : (st.map fun v => v.category).sum ≤ 8) (d : decode cc pc = .ok (.invokestatic 286, 3)) (h : (if cpk sp dp nn 6 6 = true then nx (sXC ξ 28 (va_cpy (xR ξ 0) (xR ξ 28) sp.toNatClampNeg dp.toNatClampNeg nn.toNatClampNeg)) kk else none) = some res) (hn : pc + 3 = n) (k : ∀ ξ1 : XS, kk ξ1 = some res → CF p l e R s m args below meth c nL cells slots (XB g A s ξ1) Q n lv st) : CF p l e R s m args below meth c nL cells slots (XB g A s ξ) Q pc lv (.int nn :: .int dp :: .ref (xa g 128) :: .int sp :: .ref (xa g 100) :: st) := by
  subst hn
  by_cases hi : cpk sp dp nn 6 6 = true
  · rw [if_pos hi] at h
    have hc := cpk_at hi
    intro H locs ls hB hl
    exact va_copyi E.1 E.2.1 (E.2.2.1.trans hl.1.symm) E.2.2.2.1 (E.2.2.2.2 _ q1143) (E.2.2.2.2 _ q1038) (E.2.2.2.2 _ q1037) (E.2.2.2.2 _ q131) hB.2.2.2.1 hB.1 hB.2.1 hB.2.2.1 1 17 0 0 (ty := .int) rfl rfl rfl rfl rfl hc.1 hc.2.1 hc.2.2.1 hc.2.2.2.1 hc.2.2.2.2 (fun _ _ => rfl) hR.1 (Nat.le_trans (Nat.add_le_add hcat (Nat.le_of_ble_eq_true (m := 32) rfl)) hR.2) d (fun H1 locs1 hP hD hS => k _ h H1 locs1 ls ⟨hP, hD, hS, hB.2.2.2⟩ hl)
  · rw [if_neg hi] at h; cases h
theorem xgX0_104 (E : EV p s m args c cc nL RX0) (d : decode cc pc = .ok (.getfield 104, 3)) (hn : pc + 3 = n) (k : CF p l e R s m args below meth c nL cells slots (XB g A s ξ) Q n lv (.ref (xa g 129) :: st)) : CF p l e R s m args below meth c nL cells slots (XB g A s ξ) Q pc lv (.ref (xa g 0) :: st) := by
  subst hn
  intro H locs ls hB hl
  exact va_get (D := g.1) (ci := 1) (C := RX0) (T := TX0) (N := 40) E.1 E.2.1 E.2.2.2.2 in_X0 E.2.2.2.1 hB.2.2.2.1 hB.1 0 rfl rfl 29 (Nat.le_of_ble_eq_true rfl) (E.2.2.2.2 _ q319) (fun _ h9 => h9) rfl d (k H locs ls hB hl)
theorem xcpX0_1_29 (E : EV p s m args c cc nL RX0) {sp dp nn : Int32} {kk : XS → Option ρ} (hR : 1 ≤ R.frames ∧ 40 ≤ R.locals) (hcat : (st.map fun v => v.category).sum ≤ 8) (d : decode cc pc = .ok (.invokestatic 286, 3)) (h : (if cpk sp dp nn 6 6 = true then nx (sXC ξ 29 (va_cpy (xR ξ 1) (xR ξ 29) sp.toNatClampNeg dp.toNatClampNeg nn.toNatClampNeg)) kk else none) = some res) (hn : pc + 3 = n) (k : ∀ ξ1 : XS, kk ξ1 = some res → CF p l e R s m args below meth c nL cells slots (XB g A s ξ1) Q n lv st) : CF p l e R s m args below meth c nL cells slots (XB g A s ξ) Q pc lv (.int nn :: .int dp :: .ref (xa g 129) :: .int sp :: .ref (xa g 101) :: st) := by
  subst hn
  by_cases hi : cpk sp dp nn 6 6 = true
  · rw [if_pos hi] at h
    have hc := cpk_at hi
    intro H locs ls hB hl
    exact va_copyi E.1 E.2.1 (E.2.2.1.trans hl.1.symm) E.2.2.2.1 (E.2.2.2.2 _ q1143) (E.2.2.2.2 _ q1038) (E.2.2.2.2 _ q1037) (E.2.2.2.2 _ q131) hB.2.2.2.1 hB.1 hB.2.1 hB.2.2.1 2 18 0 0 (ty := .int) rfl rfl rfl rfl rfl hc.1 hc.2.1 hc.2.2.1 hc.2.2.2.1 hc.2.2.2.2 (fun _ _ => rfl) hR.1 (Nat.le_trans (Nat.add_le_add hcat (Nat.le_of_ble_eq_true (m := 32) rfl)) hR.2) d (fun H1 locs1 hP hD hS => k _ h H1 locs1 ls ⟨hP, hD, hS, hB.2.2.2⟩ hl)
  · rw [if_neg hi] at h; cases h
theorem xgX0_107 (E : EV p s m args c cc nL RX0) (d : decode cc pc = .ok (.getfield 107, 3)) (hn : pc + 3 = n) (k : CF p l e R s m args below meth c nL cells slots (XB g A s ξ) Q n lv (.ref (xa g 130) :: st)) : CF p l e R s m args below meth c nL cells slots (XB g A s ξ) Q pc lv (.ref (xa g 0) :: st) := by
  subst hn
  intro H locs ls hB hl
  exact va_get (D := g.1) (ci := 1) (C := RX0) (T := TX0) (N := 40) E.1 E.2.1 E.2.2.2.2 in_X0 E.2.2.2.1 hB.2.2.2.1 hB.1 0 rfl rfl 30 (Nat.le_of_ble_eq_true rfl) (E.2.2.2.2 _ q320) (fun _ h9 => h9) rfl d (k H locs ls hB hl)
theorem xcpX0_2_30 (E : EV p s m args c cc nL RX0) {sp dp nn : Int32} {kk : XS → Option ρ} (hR : 1 ≤ R.frames ∧ 40 ≤ R.locals) (hcat : (st.map fun v => v.category).sum ≤ 8) (d : decode cc pc = .ok (.invokestatic 286, 3)) (h : (if cpk sp dp nn 6 6 = true then nx (sXC ξ 30 (va_cpy (xR ξ 2) (xR ξ 30) sp.toNatClampNeg dp.toNatClampNeg nn.toNatClampNeg)) kk else none) = some res) (hn : pc + 3 = n) (k : ∀ ξ1 : XS, kk ξ1 = some res → CF p l e R s m args below meth c nL cells slots (XB g A s ξ1) Q n lv st) : CF p l e R s m args below meth c nL cells slots (XB g A s ξ) Q pc lv (.int nn :: .int dp :: .ref (xa g 130) :: .int sp :: .ref (xa g 102) :: st) := by
  subst hn
  by_cases hi : cpk sp dp nn 6 6 = true
  · rw [if_pos hi] at h
    have hc := cpk_at hi
    intro H locs ls hB hl
    exact va_copyi E.1 E.2.1 (E.2.2.1.trans hl.1.symm) E.2.2.2.1 (E.2.2.2.2 _ q1143) (E.2.2.2.2 _ q1038) (E.2.2.2.2 _ q1037) (E.2.2.2.2 _ q131) hB.2.2.2.1 hB.1 hB.2.1 hB.2.2.1 3 19 0 0 (ty := .int) rfl rfl rfl rfl rfl hc.1 hc.2.1 hc.2.2.1 hc.2.2.2.1 hc.2.2.2.2 (fun _ _ => rfl) hR.1 (Nat.le_trans (Nat.add_le_add hcat (Nat.le_of_ble_eq_true (m := 32) rfl)) hR.2) d (fun H1 locs1 hP hD hS => k _ h H1 locs1 ls ⟨hP, hD, hS, hB.2.2.2⟩ hl)
  · rw [if_neg hi] at h; cases h
theorem xgX0_110 (E : EV p s m args c cc nL RX0) (d : decode cc pc = .ok (.getfield 110, 3)) (hn : pc + 3 = n) (k : CF p l e R s m args below meth c nL cells slots (XB g A s ξ) Q n lv (.ref (xa g 131) :: st)) : CF p l e R s m args below meth c nL cells slots (XB g A s ξ) Q pc lv (.ref (xa g 0) :: st) := by
  subst hn
  intro H locs ls hB hl
  exact va_get (D := g.1) (ci := 1) (C := RX0) (T := TX0) (N := 40) E.1 E.2.1 E.2.2.2.2 in_X0 E.2.2.2.1 hB.2.2.2.1 hB.1 0 rfl rfl 31 (Nat.le_of_ble_eq_true rfl) (E.2.2.2.2 _ q321) (fun _ h9 => h9) rfl d (k H locs ls hB hl)
theorem xcpX0_7_31 (E : EV p s m args c cc nL RX0) {sp dp nn : Int32} {kk : XS → Option ρ} (hR : 1 ≤ R.frames ∧ 40 ≤ R.locals) (hcat : (st.map fun v => v.category).sum ≤ 8) (d : decode cc pc = .ok (.invokestatic 286, 3)) (h : (if cpk sp dp nn 5 5 = true then nx (sXC ξ 31 (va_cpy (xR ξ 7) (xR ξ 31) sp.toNatClampNeg dp.toNatClampNeg nn.toNatClampNeg)) kk else none) = some res) (hn : pc + 3 = n) (k : ∀ ξ1 : XS, kk ξ1 = some res → CF p l e R s m args below meth c nL cells slots (XB g A s ξ1) Q n lv st) : CF p l e R s m args below meth c nL cells slots (XB g A s ξ) Q pc lv (.int nn :: .int dp :: .ref (xa g 131) :: .int sp :: .ref (xa g 107) :: st) := by
  subst hn
  by_cases hi : cpk sp dp nn 5 5 = true
  · rw [if_pos hi] at h
    have hc := cpk_at hi
    intro H locs ls hB hl
    exact va_copyi E.1 E.2.1 (E.2.2.1.trans hl.1.symm) E.2.2.2.1 (E.2.2.2.2 _ q1143) (E.2.2.2.2 _ q1038) (E.2.2.2.2 _ q1037) (E.2.2.2.2 _ q131) hB.2.2.2.1 hB.1 hB.2.1 hB.2.2.1 5 20 0 0 (ty := .int) rfl rfl rfl rfl rfl hc.1 hc.2.1 hc.2.2.1 hc.2.2.2.1 hc.2.2.2.2 (fun _ _ => rfl) hR.1 (Nat.le_trans (Nat.add_le_add hcat (Nat.le_of_ble_eq_true (m := 32) rfl)) hR.2) d (fun H1 locs1 hP hD hS => k _ h H1 locs1 ls ⟨hP, hD, hS, hB.2.2.2⟩ hl)
  · rw [if_neg hi] at h; cases h
theorem xgX0_113 (E : EV p s m args c cc nL RX0) (d : decode cc pc = .ok (.getfield 113, 3)) (hn : pc + 3 = n) (k : CF p l e R s m args below meth c nL cells slots (XB g A s ξ) Q n lv (.ref (xa g 132) :: st)) : CF p l e R s m args below meth c nL cells slots (XB g A s ξ) Q pc lv (.ref (xa g 0) :: st) := by
  subst hn
  intro H locs ls hB hl
  exact va_get (D := g.1) (ci := 1) (C := RX0) (T := TX0) (N := 40) E.1 E.2.1 E.2.2.2.2 in_X0 E.2.2.2.1 hB.2.2.2.1 hB.1 0 rfl rfl 32 (Nat.le_of_ble_eq_true rfl) (E.2.2.2.2 _ q322) (fun _ h9 => h9) rfl d (k H locs ls hB hl)
theorem xcpX0_14_32 (E : EV p s m args c cc nL RX0) {sp dp nn : Int32} {kk : XS → Option ρ} (hR : 1 ≤ R.frames ∧ 40 ≤ R.locals) (hcat : (st.map fun v => v.category).sum ≤ 8) (d : decode cc pc = .ok (.invokestatic 286, 3)) (h : (if cpk sp dp nn 6 6 = true then nx (sXC ξ 32 (va_cpy (xR ξ 14) (xR ξ 32) sp.toNatClampNeg dp.toNatClampNeg nn.toNatClampNeg)) kk else none) = some res) (hn : pc + 3 = n) (k : ∀ ξ1 : XS, kk ξ1 = some res → CF p l e R s m args below meth c nL cells slots (XB g A s ξ1) Q n lv st) : CF p l e R s m args below meth c nL cells slots (XB g A s ξ) Q pc lv (.int nn :: .int dp :: .ref (xa g 132) :: .int sp :: .ref (xa g 114) :: st) := by
  subst hn
  by_cases hi : cpk sp dp nn 6 6 = true
  · rw [if_pos hi] at h
    have hc := cpk_at hi
    intro H locs ls hB hl
    exact va_copyi E.1 E.2.1 (E.2.2.1.trans hl.1.symm) E.2.2.2.1 (E.2.2.2.2 _ q1143) (E.2.2.2.2 _ q1038) (E.2.2.2.2 _ q1037) (E.2.2.2.2 _ q131) hB.2.2.2.1 hB.1 hB.2.1 hB.2.2.1 7 21 0 0 (ty := .int) rfl rfl rfl rfl rfl hc.1 hc.2.1 hc.2.2.1 hc.2.2.2.1 hc.2.2.2.2 (fun _ _ => rfl) hR.1 (Nat.le_trans (Nat.add_le_add hcat (Nat.le_of_ble_eq_true (m := 32) rfl)) hR.2) d (fun H1 locs1 hP hD hS => k _ h H1 locs1 ls ⟨hP, hD, hS, hB.2.2.2⟩ hl)
  · rw [if_neg hi] at h; cases h
theorem xgX0_116 (E : EV p s m args c cc nL RX0) (d : decode cc pc = .ok (.getfield 116, 3)) (hn : pc + 3 = n) (k : CF p l e R s m args below meth c nL cells slots (XB g A s ξ) Q n lv (.ref (xa g 133) :: st)) : CF p l e R s m args below meth c nL cells slots (XB g A s ξ) Q pc lv (.ref (xa g 0) :: st) := by
  subst hn
  intro H locs ls hB hl
  exact va_get (D := g.1) (ci := 1) (C := RX0) (T := TX0) (N := 40) E.1 E.2.1 E.2.2.2.2 in_X0 E.2.2.2.1 hB.2.2.2.1 hB.1 0 rfl rfl 33 (Nat.le_of_ble_eq_true rfl) (E.2.2.2.2 _ q323) (fun _ h9 => h9) rfl d (k H locs ls hB hl)
theorem xcpX0_15_33 (E : EV p s m args c cc nL RX0) {sp dp nn : Int32} {kk : XS → Option ρ} (hR : 1 ≤ R.frames ∧ 40 ≤ R.locals) (hcat : (st.map fun v => v.category).sum ≤ 8) (d : decode cc pc = .ok (.invokestatic 286, 3)) (h : (if cpk sp dp nn 6 6 = true then nx (sXC ξ 33 (va_cpy (xR ξ 15) (xR ξ 33) sp.toNatClampNeg dp.toNatClampNeg nn.toNatClampNeg)) kk else none) = some res) (hn : pc + 3 = n) (k : ∀ ξ1 : XS, kk ξ1 = some res → CF p l e R s m args below meth c nL cells slots (XB g A s ξ1) Q n lv st) : CF p l e R s m args below meth c nL cells slots (XB g A s ξ) Q pc lv (.int nn :: .int dp :: .ref (xa g 133) :: .int sp :: .ref (xa g 115) :: st) := by
  subst hn
  by_cases hi : cpk sp dp nn 6 6 = true
  · rw [if_pos hi] at h
    have hc := cpk_at hi
    intro H locs ls hB hl
    exact va_copyi E.1 E.2.1 (E.2.2.1.trans hl.1.symm) E.2.2.2.1 (E.2.2.2.2 _ q1143) (E.2.2.2.2 _ q1038) (E.2.2.2.2 _ q1037) (E.2.2.2.2 _ q131) hB.2.2.2.1 hB.1 hB.2.1 hB.2.2.1 8 22 0 0 (ty := .int) rfl rfl rfl rfl rfl hc.1 hc.2.1 hc.2.2.1 hc.2.2.2.1 hc.2.2.2.2 (fun _ _ => rfl) hR.1 (Nat.le_trans (Nat.add_le_add hcat (Nat.le_of_ble_eq_true (m := 32) rfl)) hR.2) d (fun H1 locs1 hP hD hS => k _ h H1 locs1 ls ⟨hP, hD, hS, hB.2.2.2⟩ hl)
  · rw [if_neg hi] at h; cases h
theorem xgX0_119 (E : EV p s m args c cc nL RX0) (d : decode cc pc = .ok (.getfield 119, 3)) (hn : pc + 3 = n) (k : CF p l e R s m args below meth c nL cells slots (XB g A s ξ) Q n lv (.ref (xa g 134) :: st)) : CF p l e R s m args below meth c nL cells slots (XB g A s ξ) Q pc lv (.ref (xa g 0) :: st) := by
  subst hn
  intro H locs ls hB hl
  exact va_get (D := g.1) (ci := 1) (C := RX0) (T := TX0) (N := 40) E.1 E.2.1 E.2.2.2.2 in_X0 E.2.2.2.1 hB.2.2.2.1 hB.1 0 rfl rfl 34 (Nat.le_of_ble_eq_true rfl) (E.2.2.2.2 _ q324) (fun _ h9 => h9) rfl d (k H locs ls hB hl)
theorem xcpX0_16_34 (E : EV p s m args c cc nL RX0) {sp dp nn : Int32} {kk : XS → Option ρ} (hR : 1 ≤ R.frames ∧ 40 ≤ R.locals) (hcat : (st.map fun v => v.category).sum ≤ 8) (d : decode cc pc = .ok (.invokestatic 286, 3)) (h : (if cpk sp dp nn 8 8 = true then nx (sXC ξ 34 (va_cpy (xR ξ 16) (xR ξ 34) sp.toNatClampNeg dp.toNatClampNeg nn.toNatClampNeg)) kk else none) = some res) (hn : pc + 3 = n) (k : ∀ ξ1 : XS, kk ξ1 = some res → CF p l e R s m args below meth c nL cells slots (XB g A s ξ1) Q n lv st) : CF p l e R s m args below meth c nL cells slots (XB g A s ξ) Q pc lv (.int nn :: .int dp :: .ref (xa g 134) :: .int sp :: .ref (xa g 116) :: st) := by
  subst hn
  by_cases hi : cpk sp dp nn 8 8 = true
  · rw [if_pos hi] at h
    have hc := cpk_at hi
    intro H locs ls hB hl
    exact va_copyi E.1 E.2.1 (E.2.2.1.trans hl.1.symm) E.2.2.2.1 (E.2.2.2.2 _ q1143) (E.2.2.2.2 _ q1038) (E.2.2.2.2 _ q1037) (E.2.2.2.2 _ q131) hB.2.2.2.1 hB.1 hB.2.1 hB.2.2.1 9 23 0 0 (ty := .int) rfl rfl rfl rfl rfl hc.1 hc.2.1 hc.2.2.1 hc.2.2.2.1 hc.2.2.2.2 (fun _ _ => rfl) hR.1 (Nat.le_trans (Nat.add_le_add hcat (Nat.le_of_ble_eq_true (m := 32) rfl)) hR.2) d (fun H1 locs1 hP hD hS => k _ h H1 locs1 ls ⟨hP, hD, hS, hB.2.2.2⟩ hl)
  · rw [if_neg hi] at h; cases h
theorem xgX0_122 (E : EV p s m args c cc nL RX0) (d : decode cc pc = .ok (.getfield 122, 3)) (hn : pc + 3 = n) (k : CF p l e R s m args below meth c nL cells slots (XB g A s ξ) Q n lv (.ref (xa g 135) :: st)) : CF p l e R s m args below meth c nL cells slots (XB g A s ξ) Q pc lv (.ref (xa g 0) :: st) := by
  subst hn
  intro H locs ls hB hl
  exact va_get (D := g.1) (ci := 1) (C := RX0) (T := TX0) (N := 40) E.1 E.2.1 E.2.2.2.2 in_X0 E.2.2.2.1 hB.2.2.2.1 hB.1 0 rfl rfl 35 (Nat.le_of_ble_eq_true rfl) (E.2.2.2.2 _ q325) (fun _ h9 => h9) rfl d (k H locs ls hB hl)
theorem xcpX0_17_35 (E : EV p s m args c cc nL RX0) {sp dp nn : Int32} {kk : XS → Option ρ} (hR : 1 ≤ R.frames ∧ 40 ≤ R.locals) (hcat : (st.map fun v => v.category).sum ≤ 8) (d : decode cc pc = .ok (.invokestatic 286, 3)) (h : (if cpk sp dp nn 8 8 = true then nx (sXC ξ 35 (va_cpy (xR ξ 17) (xR ξ 35) sp.toNatClampNeg dp.toNatClampNeg nn.toNatClampNeg)) kk else none) = some res) (hn : pc + 3 = n) (k : ∀ ξ1 : XS, kk ξ1 = some res → CF p l e R s m args below meth c nL cells slots (XB g A s ξ1) Q n lv st) : CF p l e R s m args below meth c nL cells slots (XB g A s ξ) Q pc lv (.int nn :: .int dp :: .ref (xa g 135) :: .int sp :: .ref (xa g 117) :: st) := by
  subst hn
  by_cases hi : cpk sp dp nn 8 8 = true
  · rw [if_pos hi] at h
    have hc := cpk_at hi
    intro H locs ls hB hl
    exact va_copyi E.1 E.2.1 (E.2.2.1.trans hl.1.symm) E.2.2.2.1 (E.2.2.2.2 _ q1143) (E.2.2.2.2 _ q1038) (E.2.2.2.2 _ q1037) (E.2.2.2.2 _ q131) hB.2.2.2.1 hB.1 hB.2.1 hB.2.2.1 10 24 0 0 (ty := .int) rfl rfl rfl rfl rfl hc.1 hc.2.1 hc.2.2.1 hc.2.2.2.1 hc.2.2.2.2 (fun _ _ => rfl) hR.1 (Nat.le_trans (Nat.add_le_add hcat (Nat.le_of_ble_eq_true (m := 32) rfl)) hR.2) d (fun H1 locs1 hP hD hS => k _ h H1 locs1 ls ⟨hP, hD, hS, hB.2.2.2⟩ hl)
  · rw [if_neg hi] at h; cases h
theorem xpX0_361 (E : EV p s m args c cc nL RX0) {v : Int32} {kk : XS → Option ρ} (d : decode cc pc = .ok (.putfield 361, 3)) (h : nx (sXF ξ 36 v) kk = some res) (hn : pc + 3 = n) (k : ∀ ξ1 : XS, kk ξ1 = some res → CF p l e R s m args below meth c nL cells slots (XB g A s ξ1) Q n lv st) : CF p l e R s m args below meth c nL cells slots (XB g A s ξ) Q pc lv (.int v :: .ref (xa g 0) :: st) := by
  subst hn
  intro H locs ls hB hl
  exact va_put (D := g.1) (ci := 1) (v := .int v) (ty := .int) (C := RX0) (T := TX0) (N := 40) E.1 E.2.1 E.2.2.2.2 in_X0 tyX0 tyX0_ok nmX0 E.2.2.2.1 hB.2.2.2.1 hB.1 hB.2.1 hB.2.2.1 0 rfl rfl 36 (Nat.le_of_ble_eq_true rfl) (E.2.2.2.2 _ q326) (fun _ h9 => h9) rfl (by decide +kernel) rfl rfl (Nat.le_of_ble_eq_true rfl) d (fun H1 locs1 hP hD hS => k _ h H1 locs1 ls ⟨hP, hD, hS, hB.2.2.2⟩ hl)
theorem xpX0_364 (E : EV p s m args c cc nL RX0) {v : Int32} {kk : XS → Option ρ} (d : decode cc pc = .ok (.putfield 364, 3)) (h : nx (sXF ξ 37 v) kk = some res) (hn : pc + 3 = n) (k : ∀ ξ1 : XS, kk ξ1 = some res → CF p l e R s m args below meth c nL cells slots (XB g A s ξ1) Q n lv st) : CF p l e R s m args below meth c nL cells slots (XB g A s ξ) Q pc lv (.int v :: .ref (xa g 0) :: st) := by
  subst hn
  intro H locs ls hB hl
  exact va_put (D := g.1) (ci := 1) (v := .int v) (ty := .int) (C := RX0) (T := TX0) (N := 40) E.1 E.2.1 E.2.2.2.2 in_X0 tyX0 tyX0_ok nmX0 E.2.2.2.1 hB.2.2.2.1 hB.1 hB.2.1 hB.2.2.1 0 rfl rfl 37 (Nat.le_of_ble_eq_true rfl) (E.2.2.2.2 _ q327) (fun _ h9 => h9) rfl (by decide +kernel) rfl rfl (Nat.le_of_ble_eq_true rfl) d (fun H1 locs1 hP hD hS => k _ h H1 locs1 ls ⟨hP, hD, hS, hB.2.2.2⟩ hl)
theorem xpX0_367 (E : EV p s m args c cc nL RX0) {v : Int32} {kk : XS → Option ρ} (d : decode cc pc = .ok (.putfield 367, 3)) (h : nx (sXF ξ 38 v) kk = some res) (hn : pc + 3 = n) (k : ∀ ξ1 : XS, kk ξ1 = some res → CF p l e R s m args below meth c nL cells slots (XB g A s ξ1) Q n lv st) : CF p l e R s m args below meth c nL cells slots (XB g A s ξ) Q pc lv (.int v :: .ref (xa g 0) :: st) := by
  subst hn
  intro H locs ls hB hl
  exact va_put (D := g.1) (ci := 1) (v := .int v) (ty := .int) (C := RX0) (T := TX0) (N := 40) E.1 E.2.1 E.2.2.2.2 in_X0 tyX0 tyX0_ok nmX0 E.2.2.2.1 hB.2.2.2.1 hB.1 hB.2.1 hB.2.2.1 0 rfl rfl 38 (Nat.le_of_ble_eq_true rfl) (E.2.2.2.2 _ q328) (fun _ h9 => h9) rfl (by decide +kernel) rfl rfl (Nat.le_of_ble_eq_true rfl) d (fun H1 locs1 hP hD hS => k _ h H1 locs1 ls ⟨hP, hD, hS, hB.2.2.2⟩ hl)
theorem xpoX0_370 (E : EV p s m args c cc nL RX0) {v : Option Nat} {kk : XS → Option ρ} (d : decode cc pc = .ok (.putfield 370, 3)) (h : nx (sXo ξ 39 v) kk = some res) (hn : pc + 3 = n) (k : ∀ ξ1 : XS, kk ξ1 = some res → CF p l e R s m args below meth c nL cells slots (XB g A s ξ1) Q n lv st) : CF p l e R s m args below meth c nL cells slots (XB g A s ξ) Q pc lv (va_rf v :: .ref (xa g 0) :: st) := by
  subst hn
  intro H locs ls hB hl
  exact va_put (D := g.1) (ci := 1) (v := va_rf v) (ty := .object "HatsDecide$Town") (C := RX0) (T := TX0) (N := 40) E.1 E.2.1 E.2.2.2.2 in_X0 tyX0 tyX0_ok nmX0 E.2.2.2.1 hB.2.2.2.1 hB.1 hB.2.1 hB.2.2.1 0 rfl rfl 39 (Nat.le_of_ble_eq_true rfl) (E.2.2.2.2 _ q329) (fun _ h9 => h9) rfl (by decide +kernel) (narq v) (fitq v) (Nat.le_of_ble_eq_true rfl) d (fun H1 locs1 hP hD hS => k _ h H1 locs1 ls ⟨hP, hD, hS, hB.2.2.2⟩ hl)
theorem xgX0_98 (E : EV p s m args c cc nL RX0) (d : decode cc pc = .ok (.getfield 98, 3)) (hn : pc + 3 = n) (k : CF p l e R s m args below meth c nL cells slots (XB g A s ξ) Q n lv (.ref (xa g 127) :: st)) : CF p l e R s m args below meth c nL cells slots (XB g A s ξ) Q pc lv (.ref (xa g 0) :: st) := by
  subst hn
  intro H locs ls hB hl
  exact va_get (D := g.1) (ci := 1) (C := RX0) (T := TX0) (N := 40) E.1 E.2.1 E.2.2.2.2 in_X0 E.2.2.2.1 hB.2.2.2.1 hB.1 0 rfl rfl 27 (Nat.le_of_ble_eq_true rfl) (E.2.2.2.2 _ q317) (fun _ h9 => h9) rfl d (k H locs ls hB hl)
theorem xgX0_92 (E : EV p s m args c cc nL RX0) (d : decode cc pc = .ok (.getfield 92, 3)) (hn : pc + 3 = n) (k : CF p l e R s m args below meth c nL cells slots (XB g A s ξ) Q n lv (.ref (xa g 220) :: st)) : CF p l e R s m args below meth c nL cells slots (XB g A s ξ) Q pc lv (.ref (xa g 0) :: st) := by
  subst hn
  intro H locs ls hB hl
  exact va_get (D := g.1) (ci := 1) (C := RX0) (T := TX0) (N := 40) E.1 E.2.1 E.2.2.2.2 in_X0 E.2.2.2.1 hB.2.2.2.1 hB.1 0 rfl rfl 25 (Nat.le_of_ble_eq_true rfl) (E.2.2.2.2 _ q315) (fun _ h9 => h9) rfl d (k H locs ls hB hl)
theorem xgX0_95 (E : EV p s m args c cc nL RX0) (d : decode cc pc = .ok (.getfield 95, 3)) (hn : pc + 3 = n) (k : CF p l e R s m args below meth c nL cells slots (XB g A s ξ) Q n lv (.ref (xa g 126) :: st)) : CF p l e R s m args below meth c nL cells slots (XB g A s ξ) Q pc lv (.ref (xa g 0) :: st) := by
  subst hn
  intro H locs ls hB hl
  exact va_get (D := g.1) (ci := 1) (C := RX0) (T := TX0) (N := 40) E.1 E.2.1 E.2.2.2.2 in_X0 E.2.2.2.1 hB.2.2.2.1 hB.1 0 rfl rfl 26 (Nat.le_of_ble_eq_true rfl) (E.2.2.2.2 _ q316) (fun _ h9 => h9) rfl d (k H locs ls hB hl)
theorem xcpX0_28_0 (E : EV p s m args c cc nL RX0) {sp dp nn : Int32} {kk : XS → Option ρ} (hR : 1 ≤ R.frames ∧ 40 ≤ R.locals) (hcat : (st.map fun v => v.category).sum ≤ 8) (d : decode cc pc = .ok (.invokestatic 286, 3)) (h : (if cpk sp dp nn 6 6 = true then nx (sXC ξ 0 (va_cpy (xR ξ 28) (xR ξ 0) sp.toNatClampNeg dp.toNatClampNeg nn.toNatClampNeg)) kk else none) = some res) (hn : pc + 3 = n) (k : ∀ ξ1 : XS, kk ξ1 = some res → CF p l e R s m args below meth c nL cells slots (XB g A s ξ1) Q n lv st) : CF p l e R s m args below meth c nL cells slots (XB g A s ξ) Q pc lv (.int nn :: .int dp :: .ref (xa g 100) :: .int sp :: .ref (xa g 128) :: st) := by
  subst hn
  by_cases hi : cpk sp dp nn 6 6 = true
  · rw [if_pos hi] at h
    have hc := cpk_at hi
    intro H locs ls hB hl
    exact va_copyi E.1 E.2.1 (E.2.2.1.trans hl.1.symm) E.2.2.2.1 (E.2.2.2.2 _ q1143) (E.2.2.2.2 _ q1038) (E.2.2.2.2 _ q1037) (E.2.2.2.2 _ q131) hB.2.2.2.1 hB.1 hB.2.1 hB.2.2.1 17 1 0 0 (ty := .int) rfl rfl rfl rfl rfl hc.1 hc.2.1 hc.2.2.1 hc.2.2.2.1 hc.2.2.2.2 (fun _ _ => rfl) hR.1 (Nat.le_trans (Nat.add_le_add hcat (Nat.le_of_ble_eq_true (m := 32) rfl)) hR.2) d (fun H1 locs1 hP hD hS => k _ h H1 locs1 ls ⟨hP, hD, hS, hB.2.2.2⟩ hl)
  · rw [if_neg hi] at h; cases h
theorem xcpX0_29_1 (E : EV p s m args c cc nL RX0) {sp dp nn : Int32} {kk : XS → Option ρ} (hR : 1 ≤ R.frames ∧ 40 ≤ R.locals) (hcat : (st.map fun v => v.category).sum ≤ 8) (d : decode cc pc = .ok (.invokestatic 286, 3)) (h : (if cpk sp dp nn 6 6 = true then nx (sXC ξ 1 (va_cpy (xR ξ 29) (xR ξ 1) sp.toNatClampNeg dp.toNatClampNeg nn.toNatClampNeg)) kk else none) = some res) (hn : pc + 3 = n) (k : ∀ ξ1 : XS, kk ξ1 = some res → CF p l e R s m args below meth c nL cells slots (XB g A s ξ1) Q n lv st) : CF p l e R s m args below meth c nL cells slots (XB g A s ξ) Q pc lv (.int nn :: .int dp :: .ref (xa g 101) :: .int sp :: .ref (xa g 129) :: st) := by
  subst hn
  by_cases hi : cpk sp dp nn 6 6 = true
  · rw [if_pos hi] at h
    have hc := cpk_at hi
    intro H locs ls hB hl
    exact va_copyi E.1 E.2.1 (E.2.2.1.trans hl.1.symm) E.2.2.2.1 (E.2.2.2.2 _ q1143) (E.2.2.2.2 _ q1038) (E.2.2.2.2 _ q1037) (E.2.2.2.2 _ q131) hB.2.2.2.1 hB.1 hB.2.1 hB.2.2.1 18 2 0 0 (ty := .int) rfl rfl rfl rfl rfl hc.1 hc.2.1 hc.2.2.1 hc.2.2.2.1 hc.2.2.2.2 (fun _ _ => rfl) hR.1 (Nat.le_trans (Nat.add_le_add hcat (Nat.le_of_ble_eq_true (m := 32) rfl)) hR.2) d (fun H1 locs1 hP hD hS => k _ h H1 locs1 ls ⟨hP, hD, hS, hB.2.2.2⟩ hl)
  · rw [if_neg hi] at h; cases h
theorem xcpX0_30_2 (E : EV p s m args c cc nL RX0) {sp dp nn : Int32} {kk : XS → Option ρ} (hR : 1 ≤ R.frames ∧ 40 ≤ R.locals) (hcat : (st.map fun v => v.category).sum ≤ 8) (d : decode cc pc = .ok (.invokestatic 286, 3)) (h : (if cpk sp dp nn 6 6 = true then nx (sXC ξ 2 (va_cpy (xR ξ 30) (xR ξ 2) sp.toNatClampNeg dp.toNatClampNeg nn.toNatClampNeg)) kk else none) = some res) (hn : pc + 3 = n) (k : ∀ ξ1 : XS, kk ξ1 = some res → CF p l e R s m args below meth c nL cells slots (XB g A s ξ1) Q n lv st) : CF p l e R s m args below meth c nL cells slots (XB g A s ξ) Q pc lv (.int nn :: .int dp :: .ref (xa g 102) :: .int sp :: .ref (xa g 130) :: st) := by
  subst hn
  by_cases hi : cpk sp dp nn 6 6 = true
  · rw [if_pos hi] at h
    have hc := cpk_at hi
    intro H locs ls hB hl
    exact va_copyi E.1 E.2.1 (E.2.2.1.trans hl.1.symm) E.2.2.2.1 (E.2.2.2.2 _ q1143) (E.2.2.2.2 _ q1038) (E.2.2.2.2 _ q1037) (E.2.2.2.2 _ q131) hB.2.2.2.1 hB.1 hB.2.1 hB.2.2.1 19 3 0 0 (ty := .int) rfl rfl rfl rfl rfl hc.1 hc.2.1 hc.2.2.1 hc.2.2.2.1 hc.2.2.2.2 (fun _ _ => rfl) hR.1 (Nat.le_trans (Nat.add_le_add hcat (Nat.le_of_ble_eq_true (m := 32) rfl)) hR.2) d (fun H1 locs1 hP hD hS => k _ h H1 locs1 ls ⟨hP, hD, hS, hB.2.2.2⟩ hl)
  · rw [if_neg hi] at h; cases h
theorem xcpX0_31_7 (E : EV p s m args c cc nL RX0) {sp dp nn : Int32} {kk : XS → Option ρ} (hR : 1 ≤ R.frames ∧ 40 ≤ R.locals) (hcat : (st.map fun v => v.category).sum ≤ 8) (d : decode cc pc = .ok (.invokestatic 286, 3)) (h : (if cpk sp dp nn 5 5 = true then nx (sXC ξ 7 (va_cpy (xR ξ 31) (xR ξ 7) sp.toNatClampNeg dp.toNatClampNeg nn.toNatClampNeg)) kk else none) = some res) (hn : pc + 3 = n) (k : ∀ ξ1 : XS, kk ξ1 = some res → CF p l e R s m args below meth c nL cells slots (XB g A s ξ1) Q n lv st) : CF p l e R s m args below meth c nL cells slots (XB g A s ξ) Q pc lv (.int nn :: .int dp :: .ref (xa g 107) :: .int sp :: .ref (xa g 131) :: st) := by
  subst hn
  by_cases hi : cpk sp dp nn 5 5 = true
  · rw [if_pos hi] at h
    have hc := cpk_at hi
    intro H locs ls hB hl
    exact va_copyi E.1 E.2.1 (E.2.2.1.trans hl.1.symm) E.2.2.2.1 (E.2.2.2.2 _ q1143) (E.2.2.2.2 _ q1038) (E.2.2.2.2 _ q1037) (E.2.2.2.2 _ q131) hB.2.2.2.1 hB.1 hB.2.1 hB.2.2.1 20 5 0 0 (ty := .int) rfl rfl rfl rfl rfl hc.1 hc.2.1 hc.2.2.1 hc.2.2.2.1 hc.2.2.2.2 (fun _ _ => rfl) hR.1 (Nat.le_trans (Nat.add_le_add hcat (Nat.le_of_ble_eq_true (m := 32) rfl)) hR.2) d (fun H1 locs1 hP hD hS => k _ h H1 locs1 ls ⟨hP, hD, hS, hB.2.2.2⟩ hl)
  · rw [if_neg hi] at h; cases h
theorem xcpX0_32_14 (E : EV p s m args c cc nL RX0) {sp dp nn : Int32} {kk : XS → Option ρ} (hR : 1 ≤ R.frames ∧ 40 ≤ R.locals) (hcat : (st.map fun v => v.category).sum ≤ 8) (d : decode cc pc = .ok (.invokestatic 286, 3)) (h : (if cpk sp dp nn 6 6 = true then nx (sXC ξ 14 (va_cpy (xR ξ 32) (xR ξ 14) sp.toNatClampNeg dp.toNatClampNeg nn.toNatClampNeg)) kk else none) = some res) (hn : pc + 3 = n) (k : ∀ ξ1 : XS, kk ξ1 = some res → CF p l e R s m args below meth c nL cells slots (XB g A s ξ1) Q n lv st) : CF p l e R s m args below meth c nL cells slots (XB g A s ξ) Q pc lv (.int nn :: .int dp :: .ref (xa g 114) :: .int sp :: .ref (xa g 132) :: st) := by
  subst hn
  by_cases hi : cpk sp dp nn 6 6 = true
  · rw [if_pos hi] at h
    have hc := cpk_at hi
    intro H locs ls hB hl
    exact va_copyi E.1 E.2.1 (E.2.2.1.trans hl.1.symm) E.2.2.2.1 (E.2.2.2.2 _ q1143) (E.2.2.2.2 _ q1038) (E.2.2.2.2 _ q1037) (E.2.2.2.2 _ q131) hB.2.2.2.1 hB.1 hB.2.1 hB.2.2.1 21 7 0 0 (ty := .int) rfl rfl rfl rfl rfl hc.1 hc.2.1 hc.2.2.1 hc.2.2.2.1 hc.2.2.2.2 (fun _ _ => rfl) hR.1 (Nat.le_trans (Nat.add_le_add hcat (Nat.le_of_ble_eq_true (m := 32) rfl)) hR.2) d (fun H1 locs1 hP hD hS => k _ h H1 locs1 ls ⟨hP, hD, hS, hB.2.2.2⟩ hl)
  · rw [if_neg hi] at h; cases h
theorem xcpX0_33_15 (E : EV p s m args c cc nL RX0) {sp dp nn : Int32} {kk : XS → Option ρ} (hR : 1 ≤ R.frames ∧ 40 ≤ R.locals) (hcat : (st.map fun v => v.category).sum ≤ 8) (d : decode cc pc = .ok (.invokestatic 286, 3)) (h : (if cpk sp dp nn 6 6 = true then nx (sXC ξ 15 (va_cpy (xR ξ 33) (xR ξ 15) sp.toNatClampNeg dp.toNatClampNeg nn.toNatClampNeg)) kk else none) = some res) (hn : pc + 3 = n) (k : ∀ ξ1 : XS, kk ξ1 = some res → CF p l e R s m args below meth c nL cells slots (XB g A s ξ1) Q n lv st) : CF p l e R s m args below meth c nL cells slots (XB g A s ξ) Q pc lv (.int nn :: .int dp :: .ref (xa g 115) :: .int sp :: .ref (xa g 133) :: st) := by
  subst hn
  by_cases hi : cpk sp dp nn 6 6 = true
  · rw [if_pos hi] at h
    have hc := cpk_at hi
    intro H locs ls hB hl
    exact va_copyi E.1 E.2.1 (E.2.2.1.trans hl.1.symm) E.2.2.2.1 (E.2.2.2.2 _ q1143) (E.2.2.2.2 _ q1038) (E.2.2.2.2 _ q1037) (E.2.2.2.2 _ q131) hB.2.2.2.1 hB.1 hB.2.1 hB.2.2.1 22 8 0 0 (ty := .int) rfl rfl rfl rfl rfl hc.1 hc.2.1 hc.2.2.1 hc.2.2.2.1 hc.2.2.2.2 (fun _ _ => rfl) hR.1 (Nat.le_trans (Nat.add_le_add hcat (Nat.le_of_ble_eq_true (m := 32) rfl)) hR.2) d (fun H1 locs1 hP hD hS => k _ h H1 locs1 ls ⟨hP, hD, hS, hB.2.2.2⟩ hl)
  · rw [if_neg hi] at h; cases h
theorem xcpX0_34_16 (E : EV p s m args c cc nL RX0) {sp dp nn : Int32} {kk : XS → Option ρ} (hR : 1 ≤ R.frames ∧ 40 ≤ R.locals) (hcat : (st.map fun v => v.category).sum ≤ 8) (d : decode cc pc = .ok (.invokestatic 286, 3)) (h : (if cpk sp dp nn 8 8 = true then nx (sXC ξ 16 (va_cpy (xR ξ 34) (xR ξ 16) sp.toNatClampNeg dp.toNatClampNeg nn.toNatClampNeg)) kk else none) = some res) (hn : pc + 3 = n) (k : ∀ ξ1 : XS, kk ξ1 = some res → CF p l e R s m args below meth c nL cells slots (XB g A s ξ1) Q n lv st) : CF p l e R s m args below meth c nL cells slots (XB g A s ξ) Q pc lv (.int nn :: .int dp :: .ref (xa g 116) :: .int sp :: .ref (xa g 134) :: st) := by
  subst hn
  by_cases hi : cpk sp dp nn 8 8 = true
  · rw [if_pos hi] at h
    have hc := cpk_at hi
    intro H locs ls hB hl
    exact va_copyi E.1 E.2.1 (E.2.2.1.trans hl.1.symm) E.2.2.2.1 (E.2.2.2.2 _ q1143) (E.2.2.2.2 _ q1038) (E.2.2.2.2 _ q1037) (E.2.2.2.2 _ q131) hB.2.2.2.1 hB.1 hB.2.1 hB.2.2.1 23 9 0 0 (ty := .int) rfl rfl rfl rfl rfl hc.1 hc.2.1 hc.2.2.1 hc.2.2.2.1 hc.2.2.2.2 (fun _ _ => rfl) hR.1 (Nat.le_trans (Nat.add_le_add hcat (Nat.le_of_ble_eq_true (m := 32) rfl)) hR.2) d (fun H1 locs1 hP hD hS => k _ h H1 locs1 ls ⟨hP, hD, hS, hB.2.2.2⟩ hl)
  · rw [if_neg hi] at h; cases h
theorem xcpX0_35_17 (E : EV p s m args c cc nL RX0) {sp dp nn : Int32} {kk : XS → Option ρ} (hR : 1 ≤ R.frames ∧ 40 ≤ R.locals) (hcat : (st.map fun v => v.category).sum ≤ 8) (d : decode cc pc = .ok (.invokestatic 286, 3)) (h : (if cpk sp dp nn 8 8 = true then nx (sXC ξ 17 (va_cpy (xR ξ 35) (xR ξ 17) sp.toNatClampNeg dp.toNatClampNeg nn.toNatClampNeg)) kk else none) = some res) (hn : pc + 3 = n) (k : ∀ ξ1 : XS, kk ξ1 = some res → CF p l e R s m args below meth c nL cells slots (XB g A s ξ1) Q n lv st) : CF p l e R s m args below meth c nL cells slots (XB g A s ξ) Q pc lv (.int nn :: .int dp :: .ref (xa g 117) :: .int sp :: .ref (xa g 135) :: st) := by
  subst hn
  by_cases hi : cpk sp dp nn 8 8 = true
  · rw [if_pos hi] at h
    have hc := cpk_at hi
    intro H locs ls hB hl
    exact va_copyi E.1 E.2.1 (E.2.2.1.trans hl.1.symm) E.2.2.2.1 (E.2.2.2.2 _ q1143) (E.2.2.2.2 _ q1038) (E.2.2.2.2 _ q1037) (E.2.2.2.2 _ q131) hB.2.2.2.1 hB.1 hB.2.1 hB.2.2.1 24 10 0 0 (ty := .int) rfl rfl rfl rfl rfl hc.1 hc.2.1 hc.2.2.1 hc.2.2.2.1 hc.2.2.2.2 (fun _ _ => rfl) hR.1 (Nat.le_trans (Nat.add_le_add hcat (Nat.le_of_ble_eq_true (m := 32) rfl)) hR.2) d (fun H1 locs1 hP hD hS => k _ h H1 locs1 ls ⟨hP, hD, hS, hB.2.2.2⟩ hl)
  · rw [if_neg hi] at h; cases h
theorem xgX0_364 (E : EV p s m args c cc nL RX0) (d : decode cc pc = .ok (.getfield 364, 3)) (hn : pc + 3 = n) (k : CF p l e R s m args below meth c nL cells slots (XB g A s ξ) Q n lv (.int (xF ξ 37) :: st)) : CF p l e R s m args below meth c nL cells slots (XB g A s ξ) Q pc lv (.ref (xa g 0) :: st) := by
  subst hn
  intro H locs ls hB hl
  exact va_get (D := g.1) (ci := 1) (C := RX0) (T := TX0) (N := 40) E.1 E.2.1 E.2.2.2.2 in_X0 E.2.2.2.1 hB.2.2.2.1 hB.1 0 rfl rfl 37 (Nat.le_of_ble_eq_true rfl) (E.2.2.2.2 _ q327) (fun _ h9 => h9) rfl d (k H locs ls hB hl)
theorem xgX0_367 (E : EV p s m args c cc nL RX0) (d : decode cc pc = .ok (.getfield 367, 3)) (hn : pc + 3 = n) (k : CF p l e R s m args below meth c nL cells slots (XB g A s ξ) Q n lv (.int (xF ξ 38) :: st)) : CF p l e R s m args below meth c nL cells slots (XB g A s ξ) Q pc lv (.ref (xa g 0) :: st) := by
  subst hn
  intro H locs ls hB hl
  exact va_get (D := g.1) (ci := 1) (C := RX0) (T := TX0) (N := 40) E.1 E.2.1 E.2.2.2.2 in_X0 E.2.2.2.1 hB.2.2.2.1 hB.1 0 rfl rfl 38 (Nat.le_of_ble_eq_true rfl) (E.2.2.2.2 _ q328) (fun _ h9 => h9) rfl d (k H locs ls hB hl)
theorem xgX0_370 (E : EV p s m args c cc nL RX0) (d : decode cc pc = .ok (.getfield 370, 3)) (hn : pc + 3 = n) (k : CF p l e R s m args below meth c nL cells slots (XB g A s ξ) Q n lv (va_rf (xo ξ 39) :: st)) : CF p l e R s m args below meth c nL cells slots (XB g A s ξ) Q pc lv (.ref (xa g 0) :: st) := by
  subst hn
  intro H locs ls hB hl
  exact va_get (D := g.1) (ci := 1) (C := RX0) (T := TX0) (N := 40) E.1 E.2.1 E.2.2.2.2 in_X0 E.2.2.2.1 hB.2.2.2.1 hB.1 0 rfl rfl 39 (Nat.le_of_ble_eq_true rfl) (E.2.2.2.2 _ q329) (fun _ h9 => h9) rfl d (k H locs ls hB hl)
theorem xpoX0_47 (E : EV p s m args c cc nL RX0) {v : Option Nat} {kk : XS → Option ρ} (d : decode cc pc = .ok (.putfield 47, 3)) (h : nx (sXo ξ 11 v) kk = some res) (hn : pc + 3 = n) (k : ∀ ξ1 : XS, kk ξ1 = some res → CF p l e R s m args below meth c nL cells slots (XB g A s ξ1) Q n lv st) : CF p l e R s m args below meth c nL cells slots (XB g A s ξ) Q pc lv (va_rf v :: .ref (xa g 0) :: st) := by
  subst hn
  intro H locs ls hB hl
  exact va_put (D := g.1) (ci := 1) (v := va_rf v) (ty := .object "HatsDecide$Town") (C := RX0) (T := TX0) (N := 40) E.1 E.2.1 E.2.2.2.2 in_X0 tyX0 tyX0_ok nmX0 E.2.2.2.1 hB.2.2.2.1 hB.1 hB.2.1 hB.2.2.1 0 rfl rfl 11 (Nat.le_of_ble_eq_true rfl) (E.2.2.2.2 _ q294) (fun _ h9 => h9) rfl (by decide +kernel) (narq v) (fitq v) (Nat.le_of_ble_eq_true rfl) d (fun H1 locs1 hP hD hS => k _ h H1 locs1 ls ⟨hP, hD, hS, hB.2.2.2⟩ hl)
theorem xgX0_361 (E : EV p s m args c cc nL RX0) (d : decode cc pc = .ok (.getfield 361, 3)) (hn : pc + 3 = n) (k : CF p l e R s m args below meth c nL cells slots (XB g A s ξ) Q n lv (.int (xF ξ 36) :: st)) : CF p l e R s m args below meth c nL cells slots (XB g A s ξ) Q pc lv (.ref (xa g 0) :: st) := by
  subst hn
  intro H locs ls hB hl
  exact va_get (D := g.1) (ci := 1) (C := RX0) (T := TX0) (N := 40) E.1 E.2.1 E.2.2.2.2 in_X0 E.2.2.2.1 hB.2.2.2.1 hB.1 0 rfl rfl 36 (Nat.le_of_ble_eq_true rfl) (E.2.2.2.2 _ q326) (fun _ h9 => h9) rfl d (k H locs ls hB hl)
theorem xpX0_134 (E : EV p s m args c cc nL RX0) {v : Int32} {kk : XS → Option ρ} (d : decode cc pc = .ok (.putfield 134, 3)) (h : nx (sXF ξ 4 v) kk = some res) (hn : pc + 3 = n) (k : ∀ ξ1 : XS, kk ξ1 = some res → CF p l e R s m args below meth c nL cells slots (XB g A s ξ1) Q n lv st) : CF p l e R s m args below meth c nL cells slots (XB g A s ξ) Q pc lv (.int v :: .ref (xa g 0) :: st) := by
  subst hn
  intro H locs ls hB hl
  exact va_put (D := g.1) (ci := 1) (v := .int v) (ty := .int) (C := RX0) (T := TX0) (N := 40) E.1 E.2.1 E.2.2.2.2 in_X0 tyX0 tyX0_ok nmX0 E.2.2.2.1 hB.2.2.2.1 hB.1 hB.2.1 hB.2.2.1 0 rfl rfl 4 (Nat.le_of_ble_eq_true rfl) (E.2.2.2.2 _ q286) (fun _ h9 => h9) rfl (by decide +kernel) rfl rfl (Nat.le_of_ble_eq_true rfl) d (fun H1 locs1 hP hD hS => k _ h H1 locs1 ls ⟨hP, hD, hS, hB.2.2.2⟩ hl)
end XC
def x0_row (N : Nat) (g : XG)   (x1 : Int32) (x2 : Int32) (x3 : Int32) (ξ : XS) : Option (Int32 × XS) :=
  bnd (x0_isHat N g x1 ξ) fun v_2 s_1 =>
  if v_2 = 0 then (
    some ((-1 : Int32), s_1))
  else (
    bnd (x0_in N g x2 (0 : Int32) (3 : Int32) s_1) fun v_4 s_3 =>
    if v_4 = 0 then (
      some ((-1 : Int32), s_3))
    else (
      bnd (x0_in N g x3 (0 : Int32) (9 : Int32) s_3) fun v_6 s_5 =>
      if v_6 = 0 then (
        some ((-2 : Int32), s_5))
      else (
        if inb x1 6 = true then bno (xQ s_5 3 x1.toNatClampNeg) (fun b_7 =>
        bnd (xv_kind N g b_7 s_5) fun v_9 s_8 =>
        if v_9 = (6 : Int32) then (
          if inb x1 6 = true then bno (xQ s_8 3 x1.toNatClampNeg) (fun b_10 =>
          if isC s_8 b_10 14 14 = true then (
          bno (dR s_8 b_10 14 14 6) fun b_11 =>
          bnd (dA s_8 b_11 (xc g 1)) fun n_12 f_13 =>
          if inb x2 n_12 = true then (
          nx ((f_13 x2.toNatClampNeg) : Int32) fun x5_14 =>
          bnd (dA s_8 b_11 (xc g 1)) fun n_16 f_17 => if inb x2 n_16 = true then nx (sXd s_8 b_11 (.inl (xc g 1, n_16, .inl (upd f_17 x2.toNatClampNeg (vp_nar .byte (x3.toInt8.toInt32)))))) (fun s_15 =>
          some (x5_14, s_15)) else none) else none) else none) else none)
        else (
          some ((-3 : Int32), s_8))) else none)))
set_option maxHeartbeats 4000000 in
theorem met_x0_row (l : Launch) (g : XG) (N : Nat)   (x1 : Int32) (x2 : Int32) (x3 : Int32) (ξ : XS) {v : Int32} {ξ1 : XS} (h : x0_row N g  x1 x2 x3 ξ = some (v, ξ1)) : MetXi l g yX0_row (ws_ yX0_row cX0_row 6 (some .int)) { frames := 2, cells := 0, slots := 0, locals := 43 } [.ref (xa g 0), .int x1, .int x2, .int x3] ξ v ξ1 0 0 := by
  refine met_xi (lv0 := [(0, .ref (xa g 0)), (1, .int x1), (2, .int x2), (3, .int x3)]) (own := RX0) (by decide) rfl (Nat.le_of_ble_eq_true rfl) rfl ?_
  intro p e s m below meth c A Q E hq
  have hR : 2 ≤ ({ frames := 2, cells := 0, slots := 0, locals := 43 } : Room).frames ∧ 43 ≤ ({ frames := 2, cells := 0, slots := 0, locals := 43 } : Room).locals := ⟨Nat.le_refl _, Nat.le_refl _⟩
  unfold x0_row at h
  refine cf_aload_n E dX0_row_0 0 rfl rfl ?_
  refine cf_iload_n E dX0_row_1 1 rfl rfl ?_
  refine xclX0_202 E (rmle hR rfl rfl) (Nat.le_of_ble_eq_true rfl) ⟨Nat.zero_le _, Nat.zero_le _⟩ dX0_row_2 h rfl (fun v_2 s_1 h => ?_)
  refine cf_if_eq E dX0_row_5 h rfl rfl (fun h => ?_) (fun h => ?_)
  · refine cf_iconst E dX0_row_17 ic_m1 rfl ?_
    exact xret_i dX0_row_18 h rfl hq
  · refine cf_iload_n E dX0_row_8 2 rfl rfl ?_
    refine cf_iconst E dX0_row_9 ic_0 rfl ?_
    refine cf_iconst E dX0_row_10 ic_3 rfl ?_
    refine xclX0_130 E (rmle hR rfl rfl) (Nat.le_of_ble_eq_true rfl) ⟨Nat.zero_le _, Nat.zero_le _⟩ dX0_row_11 h rfl (fun v_4 s_3 h => ?_)
    refine cf_if_ne E dX0_row_14 h rfl rfl (fun h => ?_) (fun h => ?_)
    · refine cf_iload_n E dX0_row_19 3 rfl rfl ?_
      refine cf_iconst E dX0_row_20 ic_0 rfl ?_
      refine cf_bipush E dX0_row_21 bp_9 rfl ?_
      refine xclX0_130 E (rmle hR rfl rfl) (Nat.le_of_ble_eq_true rfl) ⟨Nat.zero_le _, Nat.zero_le _⟩ dX0_row_23 h rfl (fun v_6 s_5 h => ?_)
      refine cf_if_ne E dX0_row_26 h rfl rfl (fun h => ?_) (fun h => ?_)
      · refine cf_aload_n E dX0_row_32 0 rfl rfl ?_
        refine xgX0_23 E dX0_row_33 rfl ?_
        refine cf_iload_n E dX0_row_36 1 rfl rfl ?_
        refine xaldq_3 E dX0_row_37 h rfl (fun b_7 h => ?_)
        refine xvcX0_178 E (rmle hR rfl rfl) (Nat.le_of_ble_eq_true rfl) ⟨Nat.zero_le _, Nat.zero_le _⟩ dX0_row_38 h rfl (fun v_9 s_8 h => ?_)
        refine cf_bipush E dX0_row_41 bp_6 rfl ?_
        refine cf_icmp_eq E dX0_row_43 h rfl rfl (fun h => ?_) (fun h => ?_)
        · refine cf_aload_n E dX0_row_49 0 rfl rfl ?_
          refine xgX0_23 E dX0_row_50 rfl ?_
          refine cf_iload_n E dX0_row_53 1 rfl rfl ?_
          refine xaldq_3 E dX0_row_54 h rfl (fun b_10 h => ?_)
          refine xckX0_157 E dX0_row_55 h rfl (fun h => ?_)
          refine xdgX0_225 E dX0_row_58 h rfl (fun b_11 h => ?_)
          refine cf_astore E dX0_row_61 [(4, .ref b_11), (0, .ref (xa g 0)), (1, .int x1), (2, .int x2), (3, .int x3)] (Nat.le_of_ble_eq_true rfl) rfl rfl ?_
          refine cf_aload E dX0_row_63 0 rfl rfl ?_
          refine cf_iload_n E dX0_row_65 3 rfl rfl ?_
          refine xdald_b E dX0_row_66 h rfl (fun n_12 f_13 h => ?_)
          refine cf_istore E dX0_row_67 h (fun x5_14 => [(5, .int x5_14), (4, .ref b_11), (0, .ref (xa g 0)), (1, .int x1), (2, .int x2), (3, .int x3)]) (Nat.le_of_ble_eq_true rfl) (fun _ => rfl) rfl (fun x5_14 h => ?_)
          refine cf_aload E dX0_row_69 1 rfl rfl ?_
          refine cf_iload_n E dX0_row_71 4 rfl rfl ?_
          refine cf_iload_n E dX0_row_72 5 rfl rfl ?_
          refine cf_i2b E dX0_row_73 rfl ?_
          refine xdast_b E dX0_row_74 h rfl (fun s_15 h => ?_)
          refine cf_iload E dX0_row_75 0 rfl rfl ?_
          exact xret_i dX0_row_77 h rfl hq
        · refine cf_bipush E dX0_row_46 bp_m3 rfl ?_
          exact xret_i dX0_row_48 h rfl hq
      · refine cf_bipush E dX0_row_29 bp_m2 rfl ?_
        exact xret_i dX0_row_31 h rfl hq
    · refine cf_iconst E dX0_row_17 ic_m1 rfl ?_
      exact xret_i dX0_row_18 h rfl hq
def x0_image_72 (N : Nat) (g : XG)  (rec28 : Int32 → XS → Option (Int32 × XS)) (x1 : Int32) (ξ : XS) : Option (Int32 × XS) :=
  nx (x1 + (1 : Int32)) fun x1_1 =>
  rec28 x1_1 ξ
def x0_image_28b (N : Nat) (g : XG)   (rec28 : Int32 → XS → Option (Int32 × XS)) (x1 : Int32) (ξ : XS) : Option (Int32 × XS) :=
  if (xF ξ 4) ≤ x1 then (
    if cpk (0 : Int32) (0 : Int32) (6 : Int32) 6 6 = true then nx (sXC ξ 28 (va_cpy (xR ξ 0) (xR ξ 28) (0 : Int32).toNatClampNeg (0 : Int32).toNatClampNeg (6 : Int32).toNatClampNeg)) (fun s_1 =>
    if cpk (0 : Int32) (0 : Int32) (6 : Int32) 6 6 = true then nx (sXC s_1 29 (va_cpy (xR s_1 1) (xR s_1 29) (0 : Int32).toNatClampNeg (0 : Int32).toNatClampNeg (6 : Int32).toNatClampNeg)) (fun s_2 =>
    if cpk (0 : Int32) (0 : Int32) (6 : Int32) 6 6 = true then nx (sXC s_2 30 (va_cpy (xR s_2 2) (xR s_2 30) (0 : Int32).toNatClampNeg (0 : Int32).toNatClampNeg (6 : Int32).toNatClampNeg)) (fun s_3 =>
    if cpk (0 : Int32) (0 : Int32) (5 : Int32) 5 5 = true then nx (sXC s_3 31 (va_cpy (xR s_3 7) (xR s_3 31) (0 : Int32).toNatClampNeg (0 : Int32).toNatClampNeg (5 : Int32).toNatClampNeg)) (fun s_4 =>
    if cpk (0 : Int32) (0 : Int32) (6 : Int32) 6 6 = true then nx (sXC s_4 32 (va_cpy (xR s_4 14) (xR s_4 32) (0 : Int32).toNatClampNeg (0 : Int32).toNatClampNeg (6 : Int32).toNatClampNeg)) (fun s_5 =>
    if cpk (0 : Int32) (0 : Int32) (6 : Int32) 6 6 = true then nx (sXC s_5 33 (va_cpy (xR s_5 15) (xR s_5 33) (0 : Int32).toNatClampNeg (0 : Int32).toNatClampNeg (6 : Int32).toNatClampNeg)) (fun s_6 =>
    if cpk (0 : Int32) (0 : Int32) (8 : Int32) 8 8 = true then nx (sXC s_6 34 (va_cpy (xR s_6 16) (xR s_6 34) (0 : Int32).toNatClampNeg (0 : Int32).toNatClampNeg (8 : Int32).toNatClampNeg)) (fun s_7 =>
    if cpk (0 : Int32) (0 : Int32) (8 : Int32) 8 8 = true then nx (sXC s_7 35 (va_cpy (xR s_7 17) (xR s_7 35) (0 : Int32).toNatClampNeg (0 : Int32).toNatClampNeg (8 : Int32).toNatClampNeg)) (fun s_8 =>
    nx (sXF s_8 36 (xF s_8 4)) fun s_9 =>
    nx (sXF s_9 37 (xF s_9 18)) fun s_10 =>
    nx (sXF s_10 38 (xF s_10 19)) fun s_11 =>
    nx (sXo s_11 39 (xo s_11 11)) fun s_12 =>
    some ((xF s_12 4), s_12)) else none) else none) else none) else none) else none) else none) else none) else none)
  else (
    if inb x1 6 = true then bno (xQ ξ 3 x1.toNatClampNeg) (fun b_13 =>
    if isC ξ b_13 8 14 = true then (
    if (if isC ξ b_13 14 14 = true then (1 : Int32) else 0) = 0 then (
      x0_image_72 N g rec28 x1 ξ)
    else (
      if inb x1 6 = true then bno (xQ ξ 3 x1.toNatClampNeg) (fun b_14 =>
      if isC ξ b_14 14 14 = true then (
      bno (dR ξ b_14 14 14 6) fun b_15 =>
      bnd (dA ξ b_15 (xc g 1)) fun n_17 f_18 => if cpk (0 : Int32) ((4 : Int32) * x1) (4 : Int32) n_17 24 = true ∧ fitB f_18 (0 : Int32).toNatClampNeg (4 : Int32).toNatClampNeg = true then nx (sXC ξ 27 (va_cpy f_18 (xR ξ 27) (0 : Int32).toNatClampNeg ((4 : Int32) * x1).toNatClampNeg (4 : Int32).toNatClampNeg)) (fun s_16 =>
      x0_image_72 N g rec28 x1 s_16) else none) else none) else none)) else none) else none)
def x0_image_28 (N : Nat) (g : XG)   : Nat → Int32 → XS → Option (Int32 × XS)
  | 0 => fun _ _ => none
  | k + 1 => fun x1 ξ => x0_image_28b N g   (x0_image_28 N g   k) x1 ξ
def x0_image (N : Nat) (g : XG)    (ξ : XS) : Option (Int32 × XS) :=
  bnv (x1_takes N g 2 0 ξ) fun s_1 =>
  if cpk (0 : Int32) (0 : Int32) (6 : Int32) 6 6 = true ∧ allH s_1 (xQ s_1 3) (0 : Int32).toNatClampNeg (6 : Int32).toNatClampNeg = true then nx (sXQ s_1 26 (va_cpy (xQ s_1 3) (xQ s_1 26) (0 : Int32).toNatClampNeg (0 : Int32).toNatClampNeg (6 : Int32).toNatClampNeg)) (fun s_2 =>
  nx ((0 : Int32) : Int32) fun x1_3 =>
  x0_image_28 N g N x1_3 s_2) else none
set_option maxHeartbeats 4000000 in
theorem wx0_image_72 {p : Program} {l : Launch} {e : Env} {R : Room} {s : State} {m : MethodId} {args : Array Value} {below : List Frame} {meth : Method} {c : Code} {A : Nat → Prop} {g : XG} {Q : State → Prop} (E : EV p s m args c cX0_image 2 RX0) (hR : 2 ≤ R.frames ∧ 61 ≤ R.locals) {res : Int32 × XS} (hq : XTi p l e R s m args below meth c cX0_image 2 0 0 A g .int Q res) (N : Nat)   {rec28 : Int32 → XS → Option (Int32 × XS)} (ih28 : ∀ (x1 : Int32) (ξ : XS), rec28 x1 ξ = some res → CF p l e R s m args below meth c 2 0 0 (XB g A s ξ) Q 28 [(0, .ref (xa g 0)), (1, .int x1)] []) (x1 : Int32) (ξ : XS) (h : x0_image_72 N g  rec28 x1 ξ = some res) : CF p l e R s m args below meth c 2 0 0 (XB g A s ξ) Q 72 [(0, .ref (xa g 0)), (1, .int x1)] [] := by
  unfold x0_image_72 at h
  refine cf_iinc E dX0_image_72 ic_1 h 1 rfl (fun x1_1 => [(1, .int x1_1), (0, .ref (xa g 0))]) (Nat.le_of_ble_eq_true rfl) (fun _ => rfl) rfl (fun x1_1 h => ?_)
  refine cf_goto E dX0_image_75 rfl ?_
  exact CF.sub [1, 0] rfl (ih28 x1_1 ξ h)
set_option maxHeartbeats 4000000 in
theorem wx0_image_28b {p : Program} {l : Launch} {e : Env} {R : Room} {s : State} {m : MethodId} {args : Array Value} {below : List Frame} {meth : Method} {c : Code} {A : Nat → Prop} {g : XG} {Q : State → Prop} (E : EV p s m args c cX0_image 2 RX0) (hR : 2 ≤ R.frames ∧ 61 ≤ R.locals) {res : Int32 × XS} (hq : XTi p l e R s m args below meth c cX0_image 2 0 0 A g .int Q res) (N : Nat)    {rec28 : Int32 → XS → Option (Int32 × XS)} (ih28 : ∀ (x1 : Int32) (ξ : XS), rec28 x1 ξ = some res → CF p l e R s m args below meth c 2 0 0 (XB g A s ξ) Q 28 [(0, .ref (xa g 0)), (1, .int x1)] []) (x1 : Int32) (ξ : XS) (h : x0_image_28b N g   rec28 x1 ξ = some res) : CF p l e R s m args below meth c 2 0 0 (XB g A s ξ) Q 28 [(0, .ref (xa g 0)), (1, .int x1)] [] := by
  unfold x0_image_28b at h
  refine cf_iload_n E dX0_image_28 1 rfl rfl ?_
  refine cf_aload_n E dX0_image_29 0 rfl rfl ?_
  refine xgX0_134 E dX0_image_30 rfl ?_
  refine cf_icmp_ge E dX0_image_33 h rfl rfl (fun h => ?_) (fun h => ?_)
  · refine cf_aload_n E dX0_image_78 0 rfl rfl ?_
    refine xgX0_11 E dX0_image_79 rfl ?_
    refine cf_iconst E dX0_image_82 ic_0 rfl ?_
    refine cf_aload_n E dX0_image_83 0 rfl rfl ?_
    refine xgX0_101 E dX0_image_84 rfl ?_
    refine cf_iconst E dX0_image_87 ic_0 rfl ?_
    refine cf_bipush E dX0_image_88 bp_6 rfl ?_
    refine xcpX0_0_28 E (rmle hR rfl rfl) (by first | exact Nat.le_of_ble_eq_true rfl | decide) dX0_image_90 h rfl (fun s_1 h => ?_)
    refine cf_aload_n E dX0_image_93 0 rfl rfl ?_
    refine xgX0_15 E dX0_image_94 rfl ?_
    refine cf_iconst E dX0_image_97 ic_0 rfl ?_
    refine cf_aload_n E dX0_image_98 0 rfl rfl ?_
    refine xgX0_104 E dX0_image_99 rfl ?_
    refine cf_iconst E dX0_image_102 ic_0 rfl ?_
    refine cf_bipush E dX0_image_103 bp_6 rfl ?_
    refine xcpX0_1_29 E (rmle hR rfl rfl) (by first | exact Nat.le_of_ble_eq_true rfl | decide) dX0_image_105 h rfl (fun s_2 h => ?_)
    refine cf_aload_n E dX0_image_108 0 rfl rfl ?_
    refine xgX0_18 E dX0_image_109 rfl ?_
    refine cf_iconst E dX0_image_112 ic_0 rfl ?_
    refine cf_aload_n E dX0_image_113 0 rfl rfl ?_
    refine xgX0_107 E dX0_image_114 rfl ?_
    refine cf_iconst E dX0_image_117 ic_0 rfl ?_
    refine cf_bipush E dX0_image_118 bp_6 rfl ?_
    refine xcpX0_2_30 E (rmle hR rfl rfl) (by first | exact Nat.le_of_ble_eq_true rfl | decide) dX0_image_120 h rfl (fun s_3 h => ?_)
    refine cf_aload_n E dX0_image_123 0 rfl rfl ?_
    refine xgX0_37 E dX0_image_124 rfl ?_
    refine cf_iconst E dX0_image_127 ic_0 rfl ?_
    refine cf_aload_n E dX0_image_128 0 rfl rfl ?_
    refine xgX0_110 E dX0_image_129 rfl ?_
    refine cf_iconst E dX0_image_132 ic_0 rfl ?_
    refine cf_iconst E dX0_image_133 ic_5 rfl ?_
    refine xcpX0_7_31 E (rmle hR rfl rfl) (by first | exact Nat.le_of_ble_eq_true rfl | decide) dX0_image_134 h rfl (fun s_4 h => ?_)
    refine cf_aload_n E dX0_image_137 0 rfl rfl ?_
    refine xgX0_65 E dX0_image_138 rfl ?_
    refine cf_iconst E dX0_image_141 ic_0 rfl ?_
    refine cf_aload_n E dX0_image_142 0 rfl rfl ?_
    refine xgX0_113 E dX0_image_143 rfl ?_
    refine cf_iconst E dX0_image_146 ic_0 rfl ?_
    refine cf_bipush E dX0_image_147 bp_6 rfl ?_
    refine xcpX0_14_32 E (rmle hR rfl rfl) (by first | exact Nat.le_of_ble_eq_true rfl | decide) dX0_image_149 h rfl (fun s_5 h => ?_)
    refine cf_aload_n E dX0_image_152 0 rfl rfl ?_
    refine xgX0_68 E dX0_image_153 rfl ?_
    refine cf_iconst E dX0_image_156 ic_0 rfl ?_
    refine cf_aload_n E dX0_image_157 0 rfl rfl ?_
    refine xgX0_116 E dX0_image_158 rfl ?_
    refine cf_iconst E dX0_image_161 ic_0 rfl ?_
    refine cf_bipush E dX0_image_162 bp_6 rfl ?_
    refine xcpX0_15_33 E (rmle hR rfl rfl) (by first | exact Nat.le_of_ble_eq_true rfl | decide) dX0_image_164 h rfl (fun s_6 h => ?_)
    refine cf_aload_n E dX0_image_167 0 rfl rfl ?_
    refine xgX0_71 E dX0_image_168 rfl ?_
    refine cf_iconst E dX0_image_171 ic_0 rfl ?_
    refine cf_aload_n E dX0_image_172 0 rfl rfl ?_
    refine xgX0_119 E dX0_image_173 rfl ?_
    refine cf_iconst E dX0_image_176 ic_0 rfl ?_
    refine cf_bipush E dX0_image_177 bp_8 rfl ?_
    refine xcpX0_16_34 E (rmle hR rfl rfl) (by first | exact Nat.le_of_ble_eq_true rfl | decide) dX0_image_179 h rfl (fun s_7 h => ?_)
    refine cf_aload_n E dX0_image_182 0 rfl rfl ?_
    refine xgX0_74 E dX0_image_183 rfl ?_
    refine cf_iconst E dX0_image_186 ic_0 rfl ?_
    refine cf_aload_n E dX0_image_187 0 rfl rfl ?_
    refine xgX0_122 E dX0_image_188 rfl ?_
    refine cf_iconst E dX0_image_191 ic_0 rfl ?_
    refine cf_bipush E dX0_image_192 bp_8 rfl ?_
    refine xcpX0_17_35 E (rmle hR rfl rfl) (by first | exact Nat.le_of_ble_eq_true rfl | decide) dX0_image_194 h rfl (fun s_8 h => ?_)
    refine cf_aload_n E dX0_image_197 0 rfl rfl ?_
    refine cf_aload_n E dX0_image_198 0 rfl rfl ?_
    refine xgX0_134 E dX0_image_199 rfl ?_
    refine xpX0_361 E dX0_image_202 h rfl (fun s_9 h => ?_)
    refine cf_aload_n E dX0_image_205 0 rfl rfl ?_
    refine cf_aload_n E dX0_image_206 0 rfl rfl ?_
    refine xgX0_315 E dX0_image_207 rfl ?_
    refine xpX0_364 E dX0_image_210 h rfl (fun s_10 h => ?_)
    refine cf_aload_n E dX0_image_213 0 rfl rfl ?_
    refine cf_aload_n E dX0_image_214 0 rfl rfl ?_
    refine xgX0_341 E dX0_image_215 rfl ?_
    refine xpX0_367 E dX0_image_218 h rfl (fun s_11 h => ?_)
    refine cf_aload_n E dX0_image_221 0 rfl rfl ?_
    refine cf_aload_n E dX0_image_222 0 rfl rfl ?_
    refine xgX0_47 E dX0_image_223 rfl ?_
    refine xpoX0_370 E dX0_image_226 h rfl (fun s_12 h => ?_)
    refine cf_aload_n E dX0_image_229 0 rfl rfl ?_
    refine xgX0_134 E dX0_image_230 rfl ?_
    exact xret_i dX0_image_233 h rfl hq
  · refine cf_aload_n E dX0_image_36 0 rfl rfl ?_
    refine xgX0_23 E dX0_image_37 rfl ?_
    refine cf_iload_n E dX0_image_40 1 rfl rfl ?_
    refine xaldq_3 E dX0_image_41 h rfl (fun b_13 h => ?_)
    refine xinT E dX0_image_42 h rfl (fun h => ?_)
    refine cf_if_eq E dX0_image_45 h rfl rfl (fun h => ?_) (fun h => ?_)
    · exact CF.sub [0, 1] rfl (wx0_image_72 E hR hq N ih28 x1 ξ h)
    · refine cf_aload_n E dX0_image_48 0 rfl rfl ?_
      refine xgX0_23 E dX0_image_49 rfl ?_
      refine cf_iload_n E dX0_image_52 1 rfl rfl ?_
      refine xaldq_3 E dX0_image_53 h rfl (fun b_14 h => ?_)
      refine xckX0_157 E dX0_image_54 h rfl (fun h => ?_)
      refine xdgX0_225 E dX0_image_57 h rfl (fun b_15 h => ?_)
      refine cf_iconst E dX0_image_60 ic_0 rfl ?_
      refine cf_aload_n E dX0_image_61 0 rfl rfl ?_
      refine xgX0_98 E dX0_image_62 rfl ?_
      refine cf_iconst E dX0_image_65 ic_4 rfl ?_
      refine cf_iload_n E dX0_image_66 1 rfl rfl ?_
      refine cf_imul E dX0_image_67 rfl ?_
      refine cf_iconst E dX0_image_68 ic_4 rfl ?_
      refine xcpDS E (rmle hR rfl rfl) (by first | exact Nat.le_of_ble_eq_true rfl | decide) dX0_image_69 h rfl (fun s_16 h => ?_)
      exact CF.sub [0, 1] rfl (wx0_image_72 E hR hq N ih28 x1 s_16 h)
set_option maxHeartbeats 4000000 in
theorem wx0_image_28 {p : Program} {l : Launch} {e : Env} {R : Room} {s : State} {m : MethodId} {args : Array Value} {below : List Frame} {meth : Method} {c : Code} {A : Nat → Prop} {g : XG} {Q : State → Prop} (E : EV p s m args c cX0_image 2 RX0) (hR : 2 ≤ R.frames ∧ 61 ≤ R.locals) {res : Int32 × XS} (hq : XTi p l e R s m args below meth c cX0_image 2 0 0 A g .int Q res) (N : Nat)    : ∀ (k : Nat) (x1 : Int32) (ξ : XS), x0_image_28 N g   k x1 ξ = some res → CF p l e R s m args below meth c 2 0 0 (XB g A s ξ) Q 28 [(0, .ref (xa g 0)), (1, .int x1)] [] := by
  intro k
  induction k with
  | zero => intro x1 ξ h; have h : (none : Option (Int32 × XS)) = some res := h; cases h
  | succ k ih => intro x1 ξ h; exact wx0_image_28b E hR hq N    ih x1 ξ h
set_option maxHeartbeats 4000000 in
theorem met_x0_image (l : Launch) (g : XG) (N : Nat)    (ξ : XS) {v : Int32} {ξ1 : XS} (h : x0_image N g   ξ = some (v, ξ1)) : MetXi l g yX0_image (ws_ yX0_image cX0_image 2 (some .int)) { frames := 2, cells := 0, slots := 0, locals := 61 } [.ref (xa g 0)] ξ v ξ1 0 0 := by
  refine met_xi (lv0 := [(0, .ref (xa g 0))]) (own := RX0) (by decide) rfl (Nat.le_of_ble_eq_true rfl) rfl ?_
  intro p e s m below meth c A Q E hq
  have hR : 2 ≤ ({ frames := 2, cells := 0, slots := 0, locals := 61 } : Room).frames ∧ 61 ≤ ({ frames := 2, cells := 0, slots := 0, locals := 61 } : Room).locals := ⟨Nat.le_refl _, Nat.le_refl _⟩
  unfold x0_image at h
  refine cf_aload_n E dX0_image_0 0 rfl rfl ?_
  refine xgX0_92 E dX0_image_1 rfl ?_
  refine cf_aload_n E dX0_image_4 0 rfl rfl ?_
  refine xgX0_30 E dX0_image_5 rfl ?_
  refine xclX0_279 (t0 := 2) (t1 := 0) E (by decide) (by decide) (rmle hR rfl rfl) (Nat.le_of_ble_eq_true rfl) ⟨Nat.zero_le _, Nat.zero_le _⟩ dX0_image_8 h rfl (fun s_1 h => ?_)
  refine cf_aload_n E dX0_image_11 0 rfl rfl ?_
  refine xgX0_23 E dX0_image_12 rfl ?_
  refine cf_iconst E dX0_image_15 ic_0 rfl ?_
  refine cf_aload_n E dX0_image_16 0 rfl rfl ?_
  refine xgX0_95 E dX0_image_17 rfl ?_
  refine cf_iconst E dX0_image_20 ic_0 rfl ?_
  refine cf_bipush E dX0_image_21 bp_6 rfl ?_
  refine xcpq_3_26 E (rmle hR rfl rfl) (by first | exact Nat.le_of_ble_eq_true rfl | decide) dX0_image_23 h rfl (fun s_2 h => ?_)
  refine cf_iconst E dX0_image_26 ic_0 rfl ?_
  refine cf_istore_n E dX0_image_27 h (fun x1_3 => [(1, .int x1_3), (0, .ref (xa g 0))]) (Nat.le_of_ble_eq_true rfl) (fun _ => rfl) rfl (fun x1_3 h => ?_)
  exact CF.sub [1, 0] rfl (wx0_image_28 E hR hq N N x1_3 s_2 h)
def x0_undo_90 (N : Nat) (g : XG)  (rec46 : Int32 → XS → Option (Int32 × XS)) (x1 : Int32) (ξ : XS) : Option (Int32 × XS) :=
  nx (x1 + (1 : Int32)) fun x1_1 =>
  rec46 x1_1 ξ
def x0_undo_46b (N : Nat) (g : XG)   (rec46 : Int32 → XS → Option (Int32 × XS)) (x1 : Int32) (ξ : XS) : Option (Int32 × XS) :=
  if (xF ξ 4) ≤ x1 then (
    if cpk (0 : Int32) (0 : Int32) (6 : Int32) 6 6 = true then nx (sXC ξ 0 (va_cpy (xR ξ 28) (xR ξ 0) (0 : Int32).toNatClampNeg (0 : Int32).toNatClampNeg (6 : Int32).toNatClampNeg)) (fun s_1 =>
    if cpk (0 : Int32) (0 : Int32) (6 : Int32) 6 6 = true then nx (sXC s_1 1 (va_cpy (xR s_1 29) (xR s_1 1) (0 : Int32).toNatClampNeg (0 : Int32).toNatClampNeg (6 : Int32).toNatClampNeg)) (fun s_2 =>
    if cpk (0 : Int32) (0 : Int32) (6 : Int32) 6 6 = true then nx (sXC s_2 2 (va_cpy (xR s_2 30) (xR s_2 2) (0 : Int32).toNatClampNeg (0 : Int32).toNatClampNeg (6 : Int32).toNatClampNeg)) (fun s_3 =>
    if cpk (0 : Int32) (0 : Int32) (5 : Int32) 5 5 = true then nx (sXC s_3 7 (va_cpy (xR s_3 31) (xR s_3 7) (0 : Int32).toNatClampNeg (0 : Int32).toNatClampNeg (5 : Int32).toNatClampNeg)) (fun s_4 =>
    if cpk (0 : Int32) (0 : Int32) (6 : Int32) 6 6 = true then nx (sXC s_4 14 (va_cpy (xR s_4 32) (xR s_4 14) (0 : Int32).toNatClampNeg (0 : Int32).toNatClampNeg (6 : Int32).toNatClampNeg)) (fun s_5 =>
    if cpk (0 : Int32) (0 : Int32) (6 : Int32) 6 6 = true then nx (sXC s_5 15 (va_cpy (xR s_5 33) (xR s_5 15) (0 : Int32).toNatClampNeg (0 : Int32).toNatClampNeg (6 : Int32).toNatClampNeg)) (fun s_6 =>
    if cpk (0 : Int32) (0 : Int32) (8 : Int32) 8 8 = true then nx (sXC s_6 16 (va_cpy (xR s_6 34) (xR s_6 16) (0 : Int32).toNatClampNeg (0 : Int32).toNatClampNeg (8 : Int32).toNatClampNeg)) (fun s_7 =>
    if cpk (0 : Int32) (0 : Int32) (8 : Int32) 8 8 = true then nx (sXC s_7 17 (va_cpy (xR s_7 35) (xR s_7 17) (0 : Int32).toNatClampNeg (0 : Int32).toNatClampNeg (8 : Int32).toNatClampNeg)) (fun s_8 =>
    nx (sXF s_8 18 (xF s_8 37)) fun s_9 =>
    nx (sXF s_9 19 (xF s_9 38)) fun s_10 =>
    nx (sXo s_10 11 (xo s_10 39)) fun s_11 =>
    some ((xF s_11 4), s_11)) else none) else none) else none) else none) else none) else none) else none) else none)
  else (
    if inb x1 6 = true then bno (xQ ξ 3 x1.toNatClampNeg) (fun b_12 =>
    if isC ξ b_12 8 14 = true then (
    if (if isC ξ b_12 14 14 = true then (1 : Int32) else 0) = 0 then (
      x0_undo_90 N g rec46 x1 ξ)
    else (
      if inb x1 6 = true then bno (xQ ξ 3 x1.toNatClampNeg) (fun b_13 =>
      if isC ξ b_13 14 14 = true then (
      bno (dR ξ b_13 14 14 6) fun b_14 =>
      bnd (dA ξ b_14 (xc g 1)) fun n_16 f_17 => if cpk ((4 : Int32) * x1) (0 : Int32) (4 : Int32) 24 n_16 = true ∧ fitB (xR ξ 27) ((4 : Int32) * x1).toNatClampNeg (4 : Int32).toNatClampNeg = true then nx (sXd ξ b_14 (.inl (xc g 1, n_16, .inl (va_cpy (xR ξ 27) f_17 ((4 : Int32) * x1).toNatClampNeg (0 : Int32).toNatClampNeg (4 : Int32).toNatClampNeg)))) (fun s_15 =>
      x0_undo_90 N g rec46 x1 s_15) else none) else none) else none)) else none) else none)
def x0_undo_46 (N : Nat) (g : XG)   : Nat → Int32 → XS → Option (Int32 × XS)
  | 0 => fun _ _ => none
  | k + 1 => fun x1 ξ => x0_undo_46b N g   (x0_undo_46 N g   k) x1 ξ
def x0_undo (N : Nat) (g : XG)    (ξ : XS) : Option (Int32 × XS) :=
  if (xo ξ 39).isSome = true then (
    bnv (x1_takes N g 0 2 ξ) fun s_1 =>
    if cpk (0 : Int32) (0 : Int32) (6 : Int32) 6 6 = true ∧ allH s_1 (xQ s_1 26) (0 : Int32).toNatClampNeg (6 : Int32).toNatClampNeg = true then nx (sXQ s_1 3 (va_cpy (xQ s_1 26) (xQ s_1 3) (0 : Int32).toNatClampNeg (0 : Int32).toNatClampNeg (6 : Int32).toNatClampNeg)) (fun s_2 =>
    nx (sXF s_2 4 (xF s_2 36)) fun s_3 =>
    nx ((0 : Int32) : Int32) fun x1_4 =>
    x0_undo_46 N g N x1_4 s_3) else none)
  else (
    some ((-3 : Int32), ξ))
set_option maxHeartbeats 4000000 in
theorem wx0_undo_90 {p : Program} {l : Launch} {e : Env} {R : Room} {s : State} {m : MethodId} {args : Array Value} {below : List Frame} {meth : Method} {c : Code} {A : Nat → Prop} {g : XG} {Q : State → Prop} (E : EV p s m args c cX0_undo 2 RX0) (hR : 2 ≤ R.frames ∧ 61 ≤ R.locals) {res : Int32 × XS} (hq : XTi p l e R s m args below meth c cX0_undo 2 0 0 A g .int Q res) (N : Nat)   {rec46 : Int32 → XS → Option (Int32 × XS)} (ih46 : ∀ (x1 : Int32) (ξ : XS), rec46 x1 ξ = some res → CF p l e R s m args below meth c 2 0 0 (XB g A s ξ) Q 46 [(0, .ref (xa g 0)), (1, .int x1)] []) (x1 : Int32) (ξ : XS) (h : x0_undo_90 N g  rec46 x1 ξ = some res) : CF p l e R s m args below meth c 2 0 0 (XB g A s ξ) Q 90 [(0, .ref (xa g 0)), (1, .int x1)] [] := by
  unfold x0_undo_90 at h
  refine cf_iinc E dX0_undo_90 ic_1 h 1 rfl (fun x1_1 => [(1, .int x1_1), (0, .ref (xa g 0))]) (Nat.le_of_ble_eq_true rfl) (fun _ => rfl) rfl (fun x1_1 h => ?_)
  refine cf_goto E dX0_undo_93 rfl ?_
  exact CF.sub [1, 0] rfl (ih46 x1_1 ξ h)
set_option maxHeartbeats 4000000 in
theorem wx0_undo_46b {p : Program} {l : Launch} {e : Env} {R : Room} {s : State} {m : MethodId} {args : Array Value} {below : List Frame} {meth : Method} {c : Code} {A : Nat → Prop} {g : XG} {Q : State → Prop} (E : EV p s m args c cX0_undo 2 RX0) (hR : 2 ≤ R.frames ∧ 61 ≤ R.locals) {res : Int32 × XS} (hq : XTi p l e R s m args below meth c cX0_undo 2 0 0 A g .int Q res) (N : Nat)    {rec46 : Int32 → XS → Option (Int32 × XS)} (ih46 : ∀ (x1 : Int32) (ξ : XS), rec46 x1 ξ = some res → CF p l e R s m args below meth c 2 0 0 (XB g A s ξ) Q 46 [(0, .ref (xa g 0)), (1, .int x1)] []) (x1 : Int32) (ξ : XS) (h : x0_undo_46b N g   rec46 x1 ξ = some res) : CF p l e R s m args below meth c 2 0 0 (XB g A s ξ) Q 46 [(0, .ref (xa g 0)), (1, .int x1)] [] := by
  unfold x0_undo_46b at h
  refine cf_iload_n E dX0_undo_46 1 rfl rfl ?_
  refine cf_aload_n E dX0_undo_47 0 rfl rfl ?_
  refine xgX0_134 E dX0_undo_48 rfl ?_
  refine cf_icmp_ge E dX0_undo_51 h rfl rfl (fun h => ?_) (fun h => ?_)
  · refine cf_aload_n E dX0_undo_96 0 rfl rfl ?_
    refine xgX0_101 E dX0_undo_97 rfl ?_
    refine cf_iconst E dX0_undo_100 ic_0 rfl ?_
    refine cf_aload_n E dX0_undo_101 0 rfl rfl ?_
    refine xgX0_11 E dX0_undo_102 rfl ?_
    refine cf_iconst E dX0_undo_105 ic_0 rfl ?_
    refine cf_bipush E dX0_undo_106 bp_6 rfl ?_
    refine xcpX0_28_0 E (rmle hR rfl rfl) (by first | exact Nat.le_of_ble_eq_true rfl | decide) dX0_undo_108 h rfl (fun s_1 h => ?_)
    refine cf_aload_n E dX0_undo_111 0 rfl rfl ?_
    refine xgX0_104 E dX0_undo_112 rfl ?_
    refine cf_iconst E dX0_undo_115 ic_0 rfl ?_
    refine cf_aload_n E dX0_undo_116 0 rfl rfl ?_
    refine xgX0_15 E dX0_undo_117 rfl ?_
    refine cf_iconst E dX0_undo_120 ic_0 rfl ?_
    refine cf_bipush E dX0_undo_121 bp_6 rfl ?_
    refine xcpX0_29_1 E (rmle hR rfl rfl) (by first | exact Nat.le_of_ble_eq_true rfl | decide) dX0_undo_123 h rfl (fun s_2 h => ?_)
    refine cf_aload_n E dX0_undo_126 0 rfl rfl ?_
    refine xgX0_107 E dX0_undo_127 rfl ?_
    refine cf_iconst E dX0_undo_130 ic_0 rfl ?_
    refine cf_aload_n E dX0_undo_131 0 rfl rfl ?_
    refine xgX0_18 E dX0_undo_132 rfl ?_
    refine cf_iconst E dX0_undo_135 ic_0 rfl ?_
    refine cf_bipush E dX0_undo_136 bp_6 rfl ?_
    refine xcpX0_30_2 E (rmle hR rfl rfl) (by first | exact Nat.le_of_ble_eq_true rfl | decide) dX0_undo_138 h rfl (fun s_3 h => ?_)
    refine cf_aload_n E dX0_undo_141 0 rfl rfl ?_
    refine xgX0_110 E dX0_undo_142 rfl ?_
    refine cf_iconst E dX0_undo_145 ic_0 rfl ?_
    refine cf_aload_n E dX0_undo_146 0 rfl rfl ?_
    refine xgX0_37 E dX0_undo_147 rfl ?_
    refine cf_iconst E dX0_undo_150 ic_0 rfl ?_
    refine cf_iconst E dX0_undo_151 ic_5 rfl ?_
    refine xcpX0_31_7 E (rmle hR rfl rfl) (by first | exact Nat.le_of_ble_eq_true rfl | decide) dX0_undo_152 h rfl (fun s_4 h => ?_)
    refine cf_aload_n E dX0_undo_155 0 rfl rfl ?_
    refine xgX0_113 E dX0_undo_156 rfl ?_
    refine cf_iconst E dX0_undo_159 ic_0 rfl ?_
    refine cf_aload_n E dX0_undo_160 0 rfl rfl ?_
    refine xgX0_65 E dX0_undo_161 rfl ?_
    refine cf_iconst E dX0_undo_164 ic_0 rfl ?_
    refine cf_bipush E dX0_undo_165 bp_6 rfl ?_
    refine xcpX0_32_14 E (rmle hR rfl rfl) (by first | exact Nat.le_of_ble_eq_true rfl | decide) dX0_undo_167 h rfl (fun s_5 h => ?_)
    refine cf_aload_n E dX0_undo_170 0 rfl rfl ?_
    refine xgX0_116 E dX0_undo_171 rfl ?_
    refine cf_iconst E dX0_undo_174 ic_0 rfl ?_
    refine cf_aload_n E dX0_undo_175 0 rfl rfl ?_
    refine xgX0_68 E dX0_undo_176 rfl ?_
    refine cf_iconst E dX0_undo_179 ic_0 rfl ?_
    refine cf_bipush E dX0_undo_180 bp_6 rfl ?_
    refine xcpX0_33_15 E (rmle hR rfl rfl) (by first | exact Nat.le_of_ble_eq_true rfl | decide) dX0_undo_182 h rfl (fun s_6 h => ?_)
    refine cf_aload_n E dX0_undo_185 0 rfl rfl ?_
    refine xgX0_119 E dX0_undo_186 rfl ?_
    refine cf_iconst E dX0_undo_189 ic_0 rfl ?_
    refine cf_aload_n E dX0_undo_190 0 rfl rfl ?_
    refine xgX0_71 E dX0_undo_191 rfl ?_
    refine cf_iconst E dX0_undo_194 ic_0 rfl ?_
    refine cf_bipush E dX0_undo_195 bp_8 rfl ?_
    refine xcpX0_34_16 E (rmle hR rfl rfl) (by first | exact Nat.le_of_ble_eq_true rfl | decide) dX0_undo_197 h rfl (fun s_7 h => ?_)
    refine cf_aload_n E dX0_undo_200 0 rfl rfl ?_
    refine xgX0_122 E dX0_undo_201 rfl ?_
    refine cf_iconst E dX0_undo_204 ic_0 rfl ?_
    refine cf_aload_n E dX0_undo_205 0 rfl rfl ?_
    refine xgX0_74 E dX0_undo_206 rfl ?_
    refine cf_iconst E dX0_undo_209 ic_0 rfl ?_
    refine cf_bipush E dX0_undo_210 bp_8 rfl ?_
    refine xcpX0_35_17 E (rmle hR rfl rfl) (by first | exact Nat.le_of_ble_eq_true rfl | decide) dX0_undo_212 h rfl (fun s_8 h => ?_)
    refine cf_aload_n E dX0_undo_215 0 rfl rfl ?_
    refine cf_aload_n E dX0_undo_216 0 rfl rfl ?_
    refine xgX0_364 E dX0_undo_217 rfl ?_
    refine xpX0_315 E dX0_undo_220 h rfl (fun s_9 h => ?_)
    refine cf_aload_n E dX0_undo_223 0 rfl rfl ?_
    refine cf_aload_n E dX0_undo_224 0 rfl rfl ?_
    refine xgX0_367 E dX0_undo_225 rfl ?_
    refine xpX0_341 E dX0_undo_228 h rfl (fun s_10 h => ?_)
    refine cf_aload_n E dX0_undo_231 0 rfl rfl ?_
    refine cf_aload_n E dX0_undo_232 0 rfl rfl ?_
    refine xgX0_370 E dX0_undo_233 rfl ?_
    refine xpoX0_47 E dX0_undo_236 h rfl (fun s_11 h => ?_)
    refine cf_aload_n E dX0_undo_239 0 rfl rfl ?_
    refine xgX0_134 E dX0_undo_240 rfl ?_
    exact xret_i dX0_undo_243 h rfl hq
  · refine cf_aload_n E dX0_undo_54 0 rfl rfl ?_
    refine xgX0_23 E dX0_undo_55 rfl ?_
    refine cf_iload_n E dX0_undo_58 1 rfl rfl ?_
    refine xaldq_3 E dX0_undo_59 h rfl (fun b_12 h => ?_)
    refine xinT E dX0_undo_60 h rfl (fun h => ?_)
    refine cf_if_eq E dX0_undo_63 h rfl rfl (fun h => ?_) (fun h => ?_)
    · exact CF.sub [0, 1] rfl (wx0_undo_90 E hR hq N ih46 x1 ξ h)
    · refine cf_aload_n E dX0_undo_66 0 rfl rfl ?_
      refine xgX0_98 E dX0_undo_67 rfl ?_
      refine cf_iconst E dX0_undo_70 ic_4 rfl ?_
      refine cf_iload_n E dX0_undo_71 1 rfl rfl ?_
      refine cf_imul E dX0_undo_72 rfl ?_
      refine cf_aload_n E dX0_undo_73 0 rfl rfl ?_
      refine xgX0_23 E dX0_undo_74 rfl ?_
      refine cf_iload_n E dX0_undo_77 1 rfl rfl ?_
      refine xaldq_3 E dX0_undo_78 h rfl (fun b_13 h => ?_)
      refine xckX0_157 E dX0_undo_79 h rfl (fun h => ?_)
      refine xdgX0_225 E dX0_undo_82 h rfl (fun b_14 h => ?_)
      refine cf_iconst E dX0_undo_85 ic_0 rfl ?_
      refine cf_iconst E dX0_undo_86 ic_4 rfl ?_
      refine xcpSD E (rmle hR rfl rfl) (by first | exact Nat.le_of_ble_eq_true rfl | decide) dX0_undo_87 h rfl (fun s_15 h => ?_)
      exact CF.sub [0, 1] rfl (wx0_undo_90 E hR hq N ih46 x1 s_15 h)
set_option maxHeartbeats 4000000 in
theorem wx0_undo_46 {p : Program} {l : Launch} {e : Env} {R : Room} {s : State} {m : MethodId} {args : Array Value} {below : List Frame} {meth : Method} {c : Code} {A : Nat → Prop} {g : XG} {Q : State → Prop} (E : EV p s m args c cX0_undo 2 RX0) (hR : 2 ≤ R.frames ∧ 61 ≤ R.locals) {res : Int32 × XS} (hq : XTi p l e R s m args below meth c cX0_undo 2 0 0 A g .int Q res) (N : Nat)    : ∀ (k : Nat) (x1 : Int32) (ξ : XS), x0_undo_46 N g   k x1 ξ = some res → CF p l e R s m args below meth c 2 0 0 (XB g A s ξ) Q 46 [(0, .ref (xa g 0)), (1, .int x1)] [] := by
  intro k
  induction k with
  | zero => intro x1 ξ h; have h : (none : Option (Int32 × XS)) = some res := h; cases h
  | succ k ih => intro x1 ξ h; exact wx0_undo_46b E hR hq N    ih x1 ξ h
set_option maxHeartbeats 4000000 in
theorem met_x0_undo (l : Launch) (g : XG) (N : Nat)    (ξ : XS) {v : Int32} {ξ1 : XS} (h : x0_undo N g   ξ = some (v, ξ1)) : MetXi l g yX0_undo (ws_ yX0_undo cX0_undo 2 (some .int)) { frames := 2, cells := 0, slots := 0, locals := 61 } [.ref (xa g 0)] ξ v ξ1 0 0 := by
  refine met_xi (lv0 := [(0, .ref (xa g 0))]) (own := RX0) (by decide) rfl (Nat.le_of_ble_eq_true rfl) rfl ?_
  intro p e s m below meth c A Q E hq
  have hR : 2 ≤ ({ frames := 2, cells := 0, slots := 0, locals := 61 } : Room).frames ∧ 61 ≤ ({ frames := 2, cells := 0, slots := 0, locals := 61 } : Room).locals := ⟨Nat.le_refl _, Nat.le_refl _⟩
  unfold x0_undo at h
  refine cf_aload_n E dX0_undo_0 0 rfl rfl ?_
  refine xgX0_370 E dX0_undo_1 rfl ?_
  refine xnn E dX0_undo_4 h rfl rfl (fun h => ?_) (fun h => ?_)
  · refine cf_aload_n E dX0_undo_10 0 rfl rfl ?_
    refine xgX0_30 E dX0_undo_11 rfl ?_
    refine cf_aload_n E dX0_undo_14 0 rfl rfl ?_
    refine xgX0_92 E dX0_undo_15 rfl ?_
    refine xclX0_279 (t0 := 0) (t1 := 2) E (by decide) (by decide) (rmle hR rfl rfl) (Nat.le_of_ble_eq_true rfl) ⟨Nat.zero_le _, Nat.zero_le _⟩ dX0_undo_18 h rfl (fun s_1 h => ?_)
    refine cf_aload_n E dX0_undo_21 0 rfl rfl ?_
    refine xgX0_95 E dX0_undo_22 rfl ?_
    refine cf_iconst E dX0_undo_25 ic_0 rfl ?_
    refine cf_aload_n E dX0_undo_26 0 rfl rfl ?_
    refine xgX0_23 E dX0_undo_27 rfl ?_
    refine cf_iconst E dX0_undo_30 ic_0 rfl ?_
    refine cf_bipush E dX0_undo_31 bp_6 rfl ?_
    refine xcpq_26_3 E (rmle hR rfl rfl) (by first | exact Nat.le_of_ble_eq_true rfl | decide) dX0_undo_33 h rfl (fun s_2 h => ?_)
    refine cf_aload_n E dX0_undo_36 0 rfl rfl ?_
    refine cf_aload_n E dX0_undo_37 0 rfl rfl ?_
    refine xgX0_361 E dX0_undo_38 rfl ?_
    refine xpX0_134 E dX0_undo_41 h rfl (fun s_3 h => ?_)
    refine cf_iconst E dX0_undo_44 ic_0 rfl ?_
    refine cf_istore_n E dX0_undo_45 h (fun x1_4 => [(1, .int x1_4), (0, .ref (xa g 0))]) (Nat.le_of_ble_eq_true rfl) (fun _ => rfl) rfl (fun x1_4 h => ?_)
    exact CF.sub [1, 0] rfl (wx0_undo_46 E hR hq N N x1_4 s_3 h)
  · refine cf_bipush E dX0_undo_7 bp_m3 rfl ?_
    exact xret_i dX0_undo_9 h rfl hq
