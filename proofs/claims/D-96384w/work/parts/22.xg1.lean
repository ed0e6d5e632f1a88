/-! HatsDecide, group g1: rows, functions, walks -/
set_option maxRecDepth 100000
section XC
variable {p : Program} {l : Launch} {e : Env} {R : Room} {s : State} {m : MethodId} {args : Array Value} {below : List Frame} {meth : Method} {c : Code} {nL cells slots : Nat} {A : Nat → Prop} {g : XG} {ξ : XS} {Q : State → Prop} {pc n : Nat} {lv : List (Nat × Value)} {st : List Value} {cc : ByteArray} {ρ : Type} {res : ρ}
theorem xgX0_30 (E : EV p s m args c cc nL RX0) (d : decode cc pc = .ok (.getfield 30, 3)) (hn : pc + 3 = n) (k : CF p l e R s m args below meth c nL cells slots (XB g A s ξ) Q n lv (.ref (xa g 200) :: st)) : CF p l e R s m args below meth c nL cells slots (XB g A s ξ) Q pc lv (.ref (xa g 0) :: st) := by
  subst hn
  intro H locs ls hB hl
  exact va_get (D := g.1) (ci := 1) (C := RX0) (T := TX0) (N := 40) E.1 E.2.1 E.2.2.2.2 in_X0 E.2.2.2.1 hB.2.2.2.1 hB.1 0 rfl rfl 5 (Nat.le_of_ble_eq_true rfl) (E.2.2.2.2 _ q287) (fun _ h9 => h9) rfl d (k H locs ls hB hl)
theorem xgX0_126_0 (E : EV p s m args c cc nL RX0) (d : decode cc pc = .ok (.getfield 126, 3)) (hn : pc + 3 = n) (k : CF p l e R s m args below meth c nL cells slots (XB g A s ξ) Q n lv (.int (xF ξ 202) :: st)) : CF p l e R s m args below meth c nL cells slots (XB g A s ξ) Q pc lv (.ref (xa g 200) :: st) := by
  subst hn
  intro H locs ls hB hl
  exact va_getN (D := g.1) (ci := 2) (C := RX1) (T := TX1) (N := 4) E.1 E.2.1 E.2.2.2.2 in_X1 E.2.2.2.1 hB.2.2.2.1 hB.1 25 rfl rfl 2 (Nat.le_of_ble_eq_true rfl) (va_Nw.use rfl (hB.2.2.2.2.2.1 _ q159 rfl)) (fun _ h9 => h9) rfl d (k H locs ls hB hl)
theorem xgX0_134 (E : EV p s m args c cc nL RX0) (d : decode cc pc = .ok (.getfield 134, 3)) (hn : pc + 3 = n) (k : CF p l e R s m args below meth c nL cells slots (XB g A s ξ) Q n lv (.int (xF ξ 4) :: st)) : CF p l e R s m args below meth c nL cells slots (XB g A s ξ) Q pc lv (.ref (xa g 0) :: st) := by
  subst hn
  intro H locs ls hB hl
  exact va_get (D := g.1) (ci := 1) (C := RX0) (T := TX0) (N := 40) E.1 E.2.1 E.2.2.2.2 in_X0 E.2.2.2.1 hB.2.2.2.1 hB.1 0 rfl rfl 4 (Nat.le_of_ble_eq_true rfl) (E.2.2.2.2 _ q286) (fun _ h9 => h9) rfl d (k H locs ls hB hl)
theorem xgX0_11 (E : EV p s m args c cc nL RX0) (d : decode cc pc = .ok (.getfield 11, 3)) (hn : pc + 3 = n) (k : CF p l e R s m args below meth c nL cells slots (XB g A s ξ) Q n lv (.ref (xa g 100) :: st)) : CF p l e R s m args below meth c nL cells slots (XB g A s ξ) Q pc lv (.ref (xa g 0) :: st) := by
  subst hn
  intro H locs ls hB hl
  exact va_get (D := g.1) (ci := 1) (C := RX0) (T := TX0) (N := 40) E.1 E.2.1 E.2.2.2.2 in_X0 E.2.2.2.1 hB.2.2.2.1 hB.1 0 rfl rfl 0 (Nat.le_of_ble_eq_true rfl) (E.2.2.2.2 _ q281) (fun _ h9 => h9) rfl d (k H locs ls hB hl)
theorem xast_0 {own : String} (E : EV p s m args c cc nL own) {i x : Int32} {kk : XS → Option ρ} (d : decode cc pc = .ok (.iastore, 1)) (h : (if inb i 6 = true then nx (sXR ξ 0 i.toNatClampNeg x) kk else none) = some res) (hn : pc + 1 = n) (k : ∀ ξ1 : XS, kk ξ1 = some res → CF p l e R s m args below meth c nL cells slots (XB g A s ξ1) Q n lv st) : CF p l e R s m args below meth c nL cells slots (XB g A s ξ) Q pc lv (.int x :: .int i :: .ref (xa g 100) :: st) := by
  subst hn
  by_cases hi : inb i 6 = true
  · rw [if_pos hi] at h
    intro H locs ls hB hl
    exact va_iast E.1 E.2.1 hB.2.2.2.1 hB.1 hB.2.1 hB.2.2.1 1 0 rfl rfl (inb_in hi) d (fun H1 locs1 hP hD hS => k _ h H1 locs1 ls ⟨hP, hD, hS, hB.2.2.2⟩ hl)
  · rw [if_neg hi] at h; cases h
theorem xgX0_15 (E : EV p s m args c cc nL RX0) (d : decode cc pc = .ok (.getfield 15, 3)) (hn : pc + 3 = n) (k : CF p l e R s m args below meth c nL cells slots (XB g A s ξ) Q n lv (.ref (xa g 101) :: st)) : CF p l e R s m args below meth c nL cells slots (XB g A s ξ) Q pc lv (.ref (xa g 0) :: st) := by
  subst hn
  intro H locs ls hB hl
  exact va_get (D := g.1) (ci := 1) (C := RX0) (T := TX0) (N := 40) E.1 E.2.1 E.2.2.2.2 in_X0 E.2.2.2.1 hB.2.2.2.1 hB.1 0 rfl rfl 1 (Nat.le_of_ble_eq_true rfl) (E.2.2.2.2 _ q282) (fun _ h9 => h9) rfl d (k H locs ls hB hl)
theorem xast_1 {own : String} (E : EV p s m args c cc nL own) {i x : Int32} {kk : XS → Option ρ} (d : decode cc pc = .ok (.iastore, 1)) (h : (if inb i 6 = true then nx (sXR ξ 1 i.toNatClampNeg x) kk else none) = some res) (hn : pc + 1 = n) (k : ∀ ξ1 : XS, kk ξ1 = some res → CF p l e R s m args below meth c nL cells slots (XB g A s ξ1) Q n lv st) : CF p l e R s m args below meth c nL cells slots (XB g A s ξ) Q pc lv (.int x :: .int i :: .ref (xa g 101) :: st) := by
  subst hn
  by_cases hi : inb i 6 = true
  · rw [if_pos hi] at h
    intro H locs ls hB hl
    exact va_iast E.1 E.2.1 hB.2.2.2.1 hB.1 hB.2.1 hB.2.2.1 2 0 rfl rfl (inb_in hi) d (fun H1 locs1 hP hD hS => k _ h H1 locs1 ls ⟨hP, hD, hS, hB.2.2.2⟩ hl)
  · rw [if_neg hi] at h; cases h
theorem xgX0_137_0 (E : EV p s m args c cc nL RX0) (d : decode cc pc = .ok (.getfield 137, 3)) (hn : pc + 3 = n) (k : CF p l e R s m args below meth c nL cells slots (XB g A s ξ) Q n lv (.ref (xa g 201) :: st)) : CF p l e R s m args below meth c nL cells slots (XB g A s ξ) Q pc lv (.ref (xa g 200) :: st) := by
  subst hn
  intro H locs ls hB hl
  exact va_getN (D := g.1) (ci := 2) (C := RX1) (T := TX1) (N := 4) E.1 E.2.1 E.2.2.2.2 in_X1 E.2.2.2.1 hB.2.2.2.1 hB.1 25 rfl rfl 0 (Nat.le_of_ble_eq_true rfl) (va_Nw.use rfl (hB.2.2.2.2.2.1 _ q155 rfl)) (fun _ h9 => h9) rfl d (k H locs ls hB hl)
theorem xastT_0_0 {own : String} (E : EV p s m args c cc nL own) {i x : Int32} {kk : XS → Option ρ} (d : decode cc pc = .ok (.bastore, 1)) (h : (if inb i 6 = true then nx (sXR ξ 200 i.toNatClampNeg (vp_nar .byte x)) kk else none) = some res) (hn : pc + 1 = n) (k : ∀ ξ1 : XS, kk ξ1 = some res → CF p l e R s m args below meth c nL cells slots (XB g A s ξ1) Q n lv st) : CF p l e R s m args below meth c nL cells slots (XB g A s ξ) Q pc lv (.int x :: .int i :: .ref (xa g 201) :: st) := by
  subst hn
  by_cases hi : inb i 6 = true
  · rw [if_pos hi] at h
    intro H locs ls hB hl
    exact va_bast E.1 E.2.1 hB.2.2.2.1 hB.1 hB.2.1 hB.2.2.1 26 1 rfl rfl (inb_in hi) d (fun H1 locs1 hP hD hS => k _ h H1 locs1 ls ⟨hP, hD, hS, hB.2.2.2⟩ hl)
  · rw [if_neg hi] at h; cases h
theorem xpX0_126_0 (E : EV p s m args c cc nL RX0) {v : Int32} {kk : XS → Option ρ} (d : decode cc pc = .ok (.putfield 126, 3)) (h : nx (sXF ξ 202 v) kk = some res) (hn : pc + 3 = n) (k : ∀ ξ1 : XS, kk ξ1 = some res → CF p l e R s m args below meth c nL cells slots (XB g A s ξ1) Q n lv st) : CF p l e R s m args below meth c nL cells slots (XB g A s ξ) Q pc lv (.int v :: .ref (xa g 200) :: st) := by
  subst hn
  intro H locs ls hB hl
  exact va_putN (D := g.1) (ci := 2) (v := .int v) (ty := .int) (C := RX1) (T := TX1) (N := 4) E.1 E.2.1 E.2.2.2.2 in_X1 tyX1 tyX1_ok nmX1 E.2.2.2.1 hB.2.2.2.1 hB.1 hB.2.1 hB.2.2.1 25 rfl rfl 2 (Nat.le_of_ble_eq_true rfl) (va_Nw.use rfl (hB.2.2.2.2.2.1 _ q159 rfl)) (fun _ h9 => h9) rfl (by decide +kernel) rfl rfl (Nat.le_of_ble_eq_true rfl) d (fun H1 locs1 hP hD hS => k _ h H1 locs1 ls ⟨hP, hD, hS, hB.2.2.2⟩ hl)
theorem xald_1 {own : String} (E : EV p s m args c cc nL own) {i : Int32} {A9 : Option ρ} (d : decode cc pc = .ok (.iaload, 1)) (h : (if inb i 6 = true then A9 else none) = some res) (hn : pc + 1 = n) (k : A9 = some res → CF p l e R s m args below meth c nL cells slots (XB g A s ξ) Q n lv (.int (xR ξ 1 i.toNatClampNeg) :: st)) : CF p l e R s m args below meth c nL cells slots (XB g A s ξ) Q pc lv (.int i :: .ref (xa g 101) :: st) := by
  subst hn
  by_cases hi : inb i 6 = true
  · rw [if_pos hi] at h
    intro H locs ls hB hl
    exact va_iald E.1 E.2.1 hB.2.2.2.1 hB.1 2 0 rfl rfl (inb_in hi) d (k h H locs ls hB hl)
  · rw [if_neg hi] at h; cases h
theorem xaldT_0_0 {own : String} (E : EV p s m args c cc nL own) {i : Int32} {A9 : Option ρ} (d : decode cc pc = .ok (.baload, 1)) (h : (if inb i 6 = true then A9 else none) = some res) (hn : pc + 1 = n) (k : A9 = some res → CF p l e R s m args below meth c nL cells slots (XB g A s ξ) Q n lv (.int (xR ξ 200 i.toNatClampNeg) :: st)) : CF p l e R s m args below meth c nL cells slots (XB g A s ξ) Q pc lv (.int i :: .ref (xa g 201) :: st) := by
  subst hn
  by_cases hi : inb i 6 = true
  · rw [if_pos hi] at h
    intro H locs ls hB hl
    exact va_bald E.1 E.2.1 hB.2.2.2.1 hB.1 26 1 rfl rfl (inb_in hi) d (k h H locs ls hB hl)
  · rw [if_neg hi] at h; cases h
theorem xald_0 {own : String} (E : EV p s m args c cc nL own) {i : Int32} {A9 : Option ρ} (d : decode cc pc = .ok (.iaload, 1)) (h : (if inb i 6 = true then A9 else none) = some res) (hn : pc + 1 = n) (k : A9 = some res → CF p l e R s m args below meth c nL cells slots (XB g A s ξ) Q n lv (.int (xR ξ 0 i.toNatClampNeg) :: st)) : CF p l e R s m args below meth c nL cells slots (XB g A s ξ) Q pc lv (.int i :: .ref (xa g 100) :: st) := by
  subst hn
  by_cases hi : inb i 6 = true
  · rw [if_pos hi] at h
    intro H locs ls hB hl
    exact va_iald E.1 E.2.1 hB.2.2.2.1 hB.1 1 0 rfl rfl (inb_in hi) d (k h H locs ls hB hl)
  · rw [if_neg hi] at h; cases h
theorem xgX1_25 (E : EV p s m args c cc nL RX1) {τ : Nat} (hτ : τ < 3) (d : decode cc pc = .ok (.getfield 25, 3)) (hn : pc + 3 = n) (k : CF p l e R s m args below meth c nL cells slots (XB g A s ξ) Q n lv (.int (xF ξ (202 + 10 * τ)) :: st)) : CF p l e R s m args below meth c nL cells slots (XB g A s ξ) Q pc lv (.ref (xa g (200 + 10 * τ)) :: st) := by
  subst hn
  intro H locs ls hB hl
  rcases t3 hτ with rfl | rfl | rfl
  · exact va_get (D := g.1) (ci := 2) (C := RX1) (T := TX1) (N := 4) E.1 E.2.1 E.2.2.2.2 in_X1 E.2.2.2.1 hB.2.2.2.1 hB.1 25 rfl rfl 2 (Nat.le_of_ble_eq_true rfl) (E.2.2.2.2 _ q158) (fun _ h9 => h9) rfl d (k H locs ls hB hl)
  · exact va_get (D := g.1) (ci := 2) (C := RX1) (T := TX1) (N := 4) E.1 E.2.1 E.2.2.2.2 in_X1 E.2.2.2.1 hB.2.2.2.1 hB.1 28 rfl rfl 2 (Nat.le_of_ble_eq_true rfl) (E.2.2.2.2 _ q158) (fun _ h9 => h9) rfl d (k H locs ls hB hl)
  · exact va_get (D := g.1) (ci := 2) (C := RX1) (T := TX1) (N := 4) E.1 E.2.1 E.2.2.2.2 in_X1 E.2.2.2.1 hB.2.2.2.1 hB.1 31 rfl rfl 2 (Nat.le_of_ble_eq_true rfl) (E.2.2.2.2 _ q158) (fun _ h9 => h9) rfl d (k H locs ls hB hl)
theorem xgX1_9 (E : EV p s m args c cc nL RX1) {τ : Nat} (hτ : τ < 3) (d : decode cc pc = .ok (.getfield 9, 3)) (hn : pc + 3 = n) (k : CF p l e R s m args below meth c nL cells slots (XB g A s ξ) Q n lv (.ref (xa g (201 + 10 * τ)) :: st)) : CF p l e R s m args below meth c nL cells slots (XB g A s ξ) Q pc lv (.ref (xa g (200 + 10 * τ)) :: st) := by
  subst hn
  intro H locs ls hB hl
  rcases t3 hτ with rfl | rfl | rfl
  · exact va_get (D := g.1) (ci := 2) (C := RX1) (T := TX1) (N := 4) E.1 E.2.1 E.2.2.2.2 in_X1 E.2.2.2.1 hB.2.2.2.1 hB.1 25 rfl rfl 0 (Nat.le_of_ble_eq_true rfl) (E.2.2.2.2 _ q154) (fun _ h9 => h9) rfl d (k H locs ls hB hl)
  · exact va_get (D := g.1) (ci := 2) (C := RX1) (T := TX1) (N := 4) E.1 E.2.1 E.2.2.2.2 in_X1 E.2.2.2.1 hB.2.2.2.1 hB.1 28 rfl rfl 0 (Nat.le_of_ble_eq_true rfl) (E.2.2.2.2 _ q154) (fun _ h9 => h9) rfl d (k H locs ls hB hl)
  · exact va_get (D := g.1) (ci := 2) (C := RX1) (T := TX1) (N := 4) E.1 E.2.1 E.2.2.2.2 in_X1 E.2.2.2.1 hB.2.2.2.1 hB.1 31 rfl rfl 0 (Nat.le_of_ble_eq_true rfl) (E.2.2.2.2 _ q154) (fun _ h9 => h9) rfl d (k H locs ls hB hl)
theorem xaldT_0 {own : String} (E : EV p s m args c cc nL own) {τ : Nat} (hτ : τ < 3) {i : Int32} {A9 : Option ρ} (d : decode cc pc = .ok (.baload, 1)) (h : (if inb i 6 = true then A9 else none) = some res) (hn : pc + 1 = n) (k : A9 = some res → CF p l e R s m args below meth c nL cells slots (XB g A s ξ) Q n lv (.int (xR ξ (200 + 10 * τ) i.toNatClampNeg) :: st)) : CF p l e R s m args below meth c nL cells slots (XB g A s ξ) Q pc lv (.int i :: .ref (xa g (201 + 10 * τ)) :: st) := by
  subst hn
  by_cases hi : inb i 6 = true
  · rw [if_pos hi] at h
    intro H locs ls hB hl
    rcases t3 hτ with rfl | rfl | rfl
    · exact va_bald E.1 E.2.1 hB.2.2.2.1 hB.1 26 1 rfl rfl (inb_in hi) d (k h H locs ls hB hl)
    · exact va_bald E.1 E.2.1 hB.2.2.2.1 hB.1 29 1 rfl rfl (inb_in hi) d (k h H locs ls hB hl)
    · exact va_bald E.1 E.2.1 hB.2.2.2.1 hB.1 32 1 rfl rfl (inb_in hi) d (k h H locs ls hB hl)
  · rw [if_neg hi] at h; cases h
theorem xgX0_18 (E : EV p s m args c cc nL RX0) (d : decode cc pc = .ok (.getfield 18, 3)) (hn : pc + 3 = n) (k : CF p l e R s m args below meth c nL cells slots (XB g A s ξ) Q n lv (.ref (xa g 102) :: st)) : CF p l e R s m args below meth c nL cells slots (XB g A s ξ) Q pc lv (.ref (xa g 0) :: st) := by
  subst hn
  intro H locs ls hB hl
  exact va_get (D := g.1) (ci := 1) (C := RX0) (T := TX0) (N := 40) E.1 E.2.1 E.2.2.2.2 in_X0 E.2.2.2.1 hB.2.2.2.1 hB.1 0 rfl rfl 2 (Nat.le_of_ble_eq_true rfl) (E.2.2.2.2 _ q284) (fun _ h9 => h9) rfl d (k H locs ls hB hl)
theorem xald_2 {own : String} (E : EV p s m args c cc nL own) {i : Int32} {A9 : Option ρ} (d : decode cc pc = .ok (.iaload, 1)) (h : (if inb i 6 = true then A9 else none) = some res) (hn : pc + 1 = n) (k : A9 = some res → CF p l e R s m args below meth c nL cells slots (XB g A s ξ) Q n lv (.int (xR ξ 2 i.toNatClampNeg) :: st)) : CF p l e R s m args below meth c nL cells slots (XB g A s ξ) Q pc lv (.int i :: .ref (xa g 102) :: st) := by
  subst hn
  by_cases hi : inb i 6 = true
  · rw [if_pos hi] at h
    intro H locs ls hB hl
    exact va_iald E.1 E.2.1 hB.2.2.2.1 hB.1 3 0 rfl rfl (inb_in hi) d (k h H locs ls hB hl)
  · rw [if_neg hi] at h; cases h
theorem xast_2 {own : String} (E : EV p s m args c cc nL own) {i x : Int32} {kk : XS → Option ρ} (d : decode cc pc = .ok (.iastore, 1)) (h : (if inb i 6 = true then nx (sXR ξ 2 i.toNatClampNeg x) kk else none) = some res) (hn : pc + 1 = n) (k : ∀ ξ1 : XS, kk ξ1 = some res → CF p l e R s m args below meth c nL cells slots (XB g A s ξ1) Q n lv st) : CF p l e R s m args below meth c nL cells slots (XB g A s ξ) Q pc lv (.int x :: .int i :: .ref (xa g 102) :: st) := by
  subst hn
  by_cases hi : inb i 6 = true
  · rw [if_pos hi] at h
    intro H locs ls hB hl
    exact va_iast E.1 E.2.1 hB.2.2.2.1 hB.1 hB.2.1 hB.2.2.1 3 0 rfl rfl (inb_in hi) d (fun H1 locs1 hP hD hS => k _ h H1 locs1 ls ⟨hP, hD, hS, hB.2.2.2⟩ hl)
  · rw [if_neg hi] at h; cases h
theorem xgX0_228 (E : EV p s m args c cc nL RX0) (d : decode cc pc = .ok (.getfield 228, 3)) (hn : pc + 3 = n) (k : CF p l e R s m args below meth c nL cells slots (XB g A s ξ) Q n lv (.int (xF ξ 9) :: st)) : CF p l e R s m args below meth c nL cells slots (XB g A s ξ) Q pc lv (.ref (xa g 0) :: st) := by
  subst hn
  intro H locs ls hB hl
  exact va_get (D := g.1) (ci := 1) (C := RX0) (T := TX0) (N := 40) E.1 E.2.1 E.2.2.2.2 in_X0 E.2.2.2.1 hB.2.2.2.1 hB.1 0 rfl rfl 9 (Nat.le_of_ble_eq_true rfl) (E.2.2.2.2 _ q291) (fun _ h9 => h9) rfl d (k H locs ls hB hl)
theorem xgX0_40 (E : EV p s m args c cc nL RX0) (d : decode cc pc = .ok (.getfield 40, 3)) (hn : pc + 3 = n) (k : CF p l e R s m args below meth c nL cells slots (XB g A s ξ) Q n lv (.ref (xa g 108) :: st)) : CF p l e R s m args below meth c nL cells slots (XB g A s ξ) Q pc lv (.ref (xa g 0) :: st) := by
  subst hn
  intro H locs ls hB hl
  exact va_get (D := g.1) (ci := 1) (C := RX0) (T := TX0) (N := 40) E.1 E.2.1 E.2.2.2.2 in_X0 E.2.2.2.1 hB.2.2.2.1 hB.1 0 rfl rfl 8 (Nat.le_of_ble_eq_true rfl) (E.2.2.2.2 _ q290) (fun _ h9 => h9) rfl d (k H locs ls hB hl)
theorem xpX0_228 (E : EV p s m args c cc nL RX0) {v : Int32} {kk : XS → Option ρ} (d : decode cc pc = .ok (.putfield 228, 3)) (h : nx (sXF ξ 9 v) kk = some res) (hn : pc + 3 = n) (k : ∀ ξ1 : XS, kk ξ1 = some res → CF p l e R s m args below meth c nL cells slots (XB g A s ξ1) Q n lv st) : CF p l e R s m args below meth c nL cells slots (XB g A s ξ) Q pc lv (.int v :: .ref (xa g 0) :: st) := by
  subst hn
  intro H locs ls hB hl
  exact va_put (D := g.1) (ci := 1) (v := .int v) (ty := .int) (C := RX0) (T := TX0) (N := 40) E.1 E.2.1 E.2.2.2.2 in_X0 tyX0 tyX0_ok nmX0 E.2.2.2.1 hB.2.2.2.1 hB.1 hB.2.1 hB.2.2.1 0 rfl rfl 9 (Nat.le_of_ble_eq_true rfl) (E.2.2.2.2 _ q291) (fun _ h9 => h9) rfl (by decide +kernel) rfl rfl (Nat.le_of_ble_eq_true rfl) d (fun H1 locs1 hP hD hS => k _ h H1 locs1 ls ⟨hP, hD, hS, hB.2.2.2⟩ hl)
theorem xast_8 {own : String} (E : EV p s m args c cc nL own) {i x : Int32} {kk : XS → Option ρ} (d : decode cc pc = .ok (.bastore, 1)) (h : (if inb i 100 = true then nx (sXR ξ 8 i.toNatClampNeg (vp_nar .byte x)) kk else none) = some res) (hn : pc + 1 = n) (k : ∀ ξ1 : XS, kk ξ1 = some res → CF p l e R s m args below meth c nL cells slots (XB g A s ξ1) Q n lv st) : CF p l e R s m args below meth c nL cells slots (XB g A s ξ) Q pc lv (.int x :: .int i :: .ref (xa g 108) :: st) := by
  subst hn
  by_cases hi : inb i 100 = true
  · rw [if_pos hi] at h
    intro H locs ls hB hl
    exact va_bast E.1 E.2.1 hB.2.2.2.1 hB.1 hB.2.1 hB.2.2.1 6 1 rfl rfl (inb_in hi) d (fun H1 locs1 hP hD hS => k _ h H1 locs1 ls ⟨hP, hD, hS, hB.2.2.2⟩ hl)
  · rw [if_neg hi] at h; cases h
theorem xcpTX1_0 (E : EV p s m args c cc nL RX1) {τ υ : Nat} (hτ : τ < 3) (hυ : υ < 3) {sp dp nn : Int32} {kk : XS → Option ρ} (hR : 1 ≤ R.frames ∧ 40 ≤ R.locals) (hcat : (st.map fun v => v.category).sum ≤ 8) (d : decode cc pc = .ok (.invokestatic 19, 3)) (h : (if cpk sp dp nn 6 6 = true ∧ fitB (xR ξ (200 + 10 * τ)) sp.toNatClampNeg nn.toNatClampNeg = true then nx (sXC ξ (200 + 10 * υ) (va_cpy (xR ξ (200 + 10 * τ)) (xR ξ (200 + 10 * υ)) sp.toNatClampNeg dp.toNatClampNeg nn.toNatClampNeg)) kk else none) = some res) (hn : pc + 3 = n) (k : ∀ ξ1 : XS, kk ξ1 = some res → CF p l e R s m args below meth c nL cells slots (XB g A s ξ1) Q n lv st) : CF p l e R s m args below meth c nL cells slots (XB g A s ξ) Q pc lv (.int nn :: .int dp :: .ref (xa g (201 + 10 * υ)) :: .int sp :: .ref (xa g (201 + 10 * τ)) :: st) := by
  subst hn
  by_cases hi : cpk sp dp nn 6 6 = true ∧ fitB (xR ξ (200 + 10 * τ)) sp.toNatClampNeg nn.toNatClampNeg = true
  · rw [if_pos hi] at h
    have hc := cpk_at hi.1
    intro H locs ls hB hl
    rcases t3 hτ with rfl | rfl | rfl <;> rcases t3 hυ with rfl | rfl | rfl
    · exact va_copyi E.1 E.2.1 (E.2.2.1.trans hl.1.symm) E.2.2.2.1 (E.2.2.2.2 _ q1126) (E.2.2.2.2 _ q1038) (E.2.2.2.2 _ q1037) (E.2.2.2.2 _ q131) hB.2.2.2.1 hB.1 hB.2.1 hB.2.2.1 26 26 1 1 (ty := .byte) rfl rfl rfl rfl rfl hc.1 hc.2.1 hc.2.2.1 hc.2.2.2.1 hc.2.2.2.2 (fitB_at hi.2) hR.1 (Nat.le_trans (Nat.add_le_add hcat (Nat.le_of_ble_eq_true (m := 32) rfl)) hR.2) d (fun H1 locs1 hP hD hS => k _ h H1 locs1 ls ⟨hP, hD, hS, hB.2.2.2⟩ hl)
    · exact va_copyi E.1 E.2.1 (E.2.2.1.trans hl.1.symm) E.2.2.2.1 (E.2.2.2.2 _ q1126) (E.2.2.2.2 _ q1038) (E.2.2.2.2 _ q1037) (E.2.2.2.2 _ q131) hB.2.2.2.1 hB.1 hB.2.1 hB.2.2.1 26 29 1 1 (ty := .byte) rfl rfl rfl rfl rfl hc.1 hc.2.1 hc.2.2.1 hc.2.2.2.1 hc.2.2.2.2 (fitB_at hi.2) hR.1 (Nat.le_trans (Nat.add_le_add hcat (Nat.le_of_ble_eq_true (m := 32) rfl)) hR.2) d (fun H1 locs1 hP hD hS => k _ h H1 locs1 ls ⟨hP, hD, hS, hB.2.2.2⟩ hl)
    · exact va_copyi E.1 E.2.1 (E.2.2.1.trans hl.1.symm) E.2.2.2.1 (E.2.2.2.2 _ q1126) (E.2.2.2.2 _ q1038) (E.2.2.2.2 _ q1037) (E.2.2.2.2 _ q131) hB.2.2.2.1 hB.1 hB.2.1 hB.2.2.1 26 32 1 1 (ty := .byte) rfl rfl rfl rfl rfl hc.1 hc.2.1 hc.2.2.1 hc.2.2.2.1 hc.2.2.2.2 (fitB_at hi.2) hR.1 (Nat.le_trans (Nat.add_le_add hcat (Nat.le_of_ble_eq_true (m := 32) rfl)) hR.2) d (fun H1 locs1 hP hD hS => k _ h H1 locs1 ls ⟨hP, hD, hS, hB.2.2.2⟩ hl)
    · exact va_copyi E.1 E.2.1 (E.2.2.1.trans hl.1.symm) E.2.2.2.1 (E.2.2.2.2 _ q1126) (E.2.2.2.2 _ q1038) (E.2.2.2.2 _ q1037) (E.2.2.2.2 _ q131) hB.2.2.2.1 hB.1 hB.2.1 hB.2.2.1 29 26 1 1 (ty := .byte) rfl rfl rfl rfl rfl hc.1 hc.2.1 hc.2.2.1 hc.2.2.2.1 hc.2.2.2.2 (fitB_at hi.2) hR.1 (Nat.le_trans (Nat.add_le_add hcat (Nat.le_of_ble_eq_true (m := 32) rfl)) hR.2) d (fun H1 locs1 hP hD hS => k _ h H1 locs1 ls ⟨hP, hD, hS, hB.2.2.2⟩ hl)
    · exact va_copyi E.1 E.2.1 (E.2.2.1.trans hl.1.symm) E.2.2.2.1 (E.2.2.2.2 _ q1126) (E.2.2.2.2 _ q1038) (E.2.2.2.2 _ q1037) (E.2.2.2.2 _ q131) hB.2.2.2.1 hB.1 hB.2.1 hB.2.2.1 29 29 1 1 (ty := .byte) rfl rfl rfl rfl rfl hc.1 hc.2.1 hc.2.2.1 hc.2.2.2.1 hc.2.2.2.2 (fitB_at hi.2) hR.1 (Nat.le_trans (Nat.add_le_add hcat (Nat.le_of_ble_eq_true (m := 32) rfl)) hR.2) d (fun H1 locs1 hP hD hS => k _ h H1 locs1 ls ⟨hP, hD, hS, hB.2.2.2⟩ hl)
    · exact va_copyi E.1 E.2.1 (E.2.2.1.trans hl.1.symm) E.2.2.2.1 (E.2.2.2.2 _ q1126) (E.2.2.2.2 _ q1038) (E.2.2.2.2 _ q1037) (E.2.2.2.2 _ q131) hB.2.2.2.1 hB.1 hB.2.1 hB.2.2.1 29 32 1 1 (ty := .byte) rfl rfl rfl rfl rfl hc.1 hc.2.1 hc.2.2.1 hc.2.2.2.1 hc.2.2.2.2 (fitB_at hi.2) hR.1 (Nat.le_trans (Nat.add_le_add hcat (Nat.le_of_ble_eq_true (m := 32) rfl)) hR.2) d (fun H1 locs1 hP hD hS => k _ h H1 locs1 ls ⟨hP, hD, hS, hB.2.2.2⟩ hl)
    · exact va_copyi E.1 E.2.1 (E.2.2.1.trans hl.1.symm) E.2.2.2.1 (E.2.2.2.2 _ q1126) (E.2.2.2.2 _ q1038) (E.2.2.2.2 _ q1037) (E.2.2.2.2 _ q131) hB.2.2.2.1 hB.1 hB.2.1 hB.2.2.1 32 26 1 1 (ty := .byte) rfl rfl rfl rfl rfl hc.1 hc.2.1 hc.2.2.1 hc.2.2.2.1 hc.2.2.2.2 (fitB_at hi.2) hR.1 (Nat.le_trans (Nat.add_le_add hcat (Nat.le_of_ble_eq_true (m := 32) rfl)) hR.2) d (fun H1 locs1 hP hD hS => k _ h H1 locs1 ls ⟨hP, hD, hS, hB.2.2.2⟩ hl)
    · exact va_copyi E.1 E.2.1 (E.2.2.1.trans hl.1.symm) E.2.2.2.1 (E.2.2.2.2 _ q1126) (E.2.2.2.2 _ q1038) (E.2.2.2.2 _ q1037) (E.2.2.2.2 _ q131) hB.2.2.2.1 hB.1 hB.2.1 hB.2.2.1 32 29 1 1 (ty := .byte) rfl rfl rfl rfl rfl hc.1 hc.2.1 hc.2.2.1 hc.2.2.2.1 hc.2.2.2.2 (fitB_at hi.2) hR.1 (Nat.le_trans (Nat.add_le_add hcat (Nat.le_of_ble_eq_true (m := 32) rfl)) hR.2) d (fun H1 locs1 hP hD hS => k _ h H1 locs1 ls ⟨hP, hD, hS, hB.2.2.2⟩ hl)
    · exact va_copyi E.1 E.2.1 (E.2.2.1.trans hl.1.symm) E.2.2.2.1 (E.2.2.2.2 _ q1126) (E.2.2.2.2 _ q1038) (E.2.2.2.2 _ q1037) (E.2.2.2.2 _ q131) hB.2.2.2.1 hB.1 hB.2.1 hB.2.2.1 32 32 1 1 (ty := .byte) rfl rfl rfl rfl rfl hc.1 hc.2.1 hc.2.2.1 hc.2.2.2.1 hc.2.2.2.2 (fitB_at hi.2) hR.1 (Nat.le_trans (Nat.add_le_add hcat (Nat.le_of_ble_eq_true (m := 32) rfl)) hR.2) d (fun H1 locs1 hP hD hS => k _ h H1 locs1 ls ⟨hP, hD, hS, hB.2.2.2⟩ hl)
  · rw [if_neg hi] at h; cases h
theorem xgX1_15 (E : EV p s m args c cc nL RX1) {τ : Nat} (hτ : τ < 3) (d : decode cc pc = .ok (.getfield 15, 3)) (hn : pc + 3 = n) (k : CF p l e R s m args below meth c nL cells slots (XB g A s ξ) Q n lv (.ref (xa g (202 + 10 * τ)) :: st)) : CF p l e R s m args below meth c nL cells slots (XB g A s ξ) Q pc lv (.ref (xa g (200 + 10 * τ)) :: st) := by
  subst hn
  intro H locs ls hB hl
  rcases t3 hτ with rfl | rfl | rfl
  · exact va_get (D := g.1) (ci := 2) (C := RX1) (T := TX1) (N := 4) E.1 E.2.1 E.2.2.2.2 in_X1 E.2.2.2.1 hB.2.2.2.1 hB.1 25 rfl rfl 1 (Nat.le_of_ble_eq_true rfl) (E.2.2.2.2 _ q156) (fun _ h9 => h9) rfl d (k H locs ls hB hl)
  · exact va_get (D := g.1) (ci := 2) (C := RX1) (T := TX1) (N := 4) E.1 E.2.1 E.2.2.2.2 in_X1 E.2.2.2.1 hB.2.2.2.1 hB.1 28 rfl rfl 1 (Nat.le_of_ble_eq_true rfl) (E.2.2.2.2 _ q156) (fun _ h9 => h9) rfl d (k H locs ls hB hl)
  · exact va_get (D := g.1) (ci := 2) (C := RX1) (T := TX1) (N := 4) E.1 E.2.1 E.2.2.2.2 in_X1 E.2.2.2.1 hB.2.2.2.1 hB.1 31 rfl rfl 1 (Nat.le_of_ble_eq_true rfl) (E.2.2.2.2 _ q156) (fun _ h9 => h9) rfl d (k H locs ls hB hl)
theorem xcpTX1_1 (E : EV p s m args c cc nL RX1) {τ υ : Nat} (hτ : τ < 3) (hυ : υ < 3) {sp dp nn : Int32} {kk : XS → Option ρ} (hR : 1 ≤ R.frames ∧ 40 ≤ R.locals) (hcat : (st.map fun v => v.category).sum ≤ 8) (d : decode cc pc = .ok (.invokestatic 19, 3)) (h : (if cpk sp dp nn 6 6 = true then nx (sXC ξ (201 + 10 * υ) (va_cpy (xR ξ (201 + 10 * τ)) (xR ξ (201 + 10 * υ)) sp.toNatClampNeg dp.toNatClampNeg nn.toNatClampNeg)) kk else none) = some res) (hn : pc + 3 = n) (k : ∀ ξ1 : XS, kk ξ1 = some res → CF p l e R s m args below meth c nL cells slots (XB g A s ξ1) Q n lv st) : CF p l e R s m args below meth c nL cells slots (XB g A s ξ) Q pc lv (.int nn :: .int dp :: .ref (xa g (202 + 10 * υ)) :: .int sp :: .ref (xa g (202 + 10 * τ)) :: st) := by
  subst hn
  by_cases hi : cpk sp dp nn 6 6 = true
  · rw [if_pos hi] at h
    have hc := cpk_at hi
    intro H locs ls hB hl
    rcases t3 hτ with rfl | rfl | rfl <;> rcases t3 hυ with rfl | rfl | rfl
    · exact va_copyi E.1 E.2.1 (E.2.2.1.trans hl.1.symm) E.2.2.2.1 (E.2.2.2.2 _ q1126) (E.2.2.2.2 _ q1038) (E.2.2.2.2 _ q1037) (E.2.2.2.2 _ q131) hB.2.2.2.1 hB.1 hB.2.1 hB.2.2.1 27 27 0 0 (ty := .int) rfl rfl rfl rfl rfl hc.1 hc.2.1 hc.2.2.1 hc.2.2.2.1 hc.2.2.2.2 (fun _ _ => rfl) hR.1 (Nat.le_trans (Nat.add_le_add hcat (Nat.le_of_ble_eq_true (m := 32) rfl)) hR.2) d (fun H1 locs1 hP hD hS => k _ h H1 locs1 ls ⟨hP, hD, hS, hB.2.2.2⟩ hl)
    · exact va_copyi E.1 E.2.1 (E.2.2.1.trans hl.1.symm) E.2.2.2.1 (E.2.2.2.2 _ q1126) (E.2.2.2.2 _ q1038) (E.2.2.2.2 _ q1037) (E.2.2.2.2 _ q131) hB.2.2.2.1 hB.1 hB.2.1 hB.2.2.1 27 30 0 0 (ty := .int) rfl rfl rfl rfl rfl hc.1 hc.2.1 hc.2.2.1 hc.2.2.2.1 hc.2.2.2.2 (fun _ _ => rfl) hR.1 (Nat.le_trans (Nat.add_le_add hcat (Nat.le_of_ble_eq_true (m := 32) rfl)) hR.2) d (fun H1 locs1 hP hD hS => k _ h H1 locs1 ls ⟨hP, hD, hS, hB.2.2.2⟩ hl)
    · exact va_copyi E.1 E.2.1 (E.2.2.1.trans hl.1.symm) E.2.2.2.1 (E.2.2.2.2 _ q1126) (E.2.2.2.2 _ q1038) (E.2.2.2.2 _ q1037) (E.2.2.2.2 _ q131) hB.2.2.2.1 hB.1 hB.2.1 hB.2.2.1 27 33 0 0 (ty := .int) rfl rfl rfl rfl rfl hc.1 hc.2.1 hc.2.2.1 hc.2.2.2.1 hc.2.2.2.2 (fun _ _ => rfl) hR.1 (Nat.le_trans (Nat.add_le_add hcat (Nat.le_of_ble_eq_true (m := 32) rfl)) hR.2) d (fun H1 locs1 hP hD hS => k _ h H1 locs1 ls ⟨hP, hD, hS, hB.2.2.2⟩ hl)
    · exact va_copyi E.1 E.2.1 (E.2.2.1.trans hl.1.symm) E.2.2.2.1 (E.2.2.2.2 _ q1126) (E.2.2.2.2 _ q1038) (E.2.2.2.2 _ q1037) (E.2.2.2.2 _ q131) hB.2.2.2.1 hB.1 hB.2.1 hB.2.2.1 30 27 0 0 (ty := .int) rfl rfl rfl rfl rfl hc.1 hc.2.1 hc.2.2.1 hc.2.2.2.1 hc.2.2.2.2 (fun _ _ => rfl) hR.1 (Nat.le_trans (Nat.add_le_add hcat (Nat.le_of_ble_eq_true (m := 32) rfl)) hR.2) d (fun H1 locs1 hP hD hS => k _ h H1 locs1 ls ⟨hP, hD, hS, hB.2.2.2⟩ hl)
    · exact va_copyi E.1 E.2.1 (E.2.2.1.trans hl.1.symm) E.2.2.2.1 (E.2.2.2.2 _ q1126) (E.2.2.2.2 _ q1038) (E.2.2.2.2 _ q1037) (E.2.2.2.2 _ q131) hB.2.2.2.1 hB.1 hB.2.1 hB.2.2.1 30 30 0 0 (ty := .int) rfl rfl rfl rfl rfl hc.1 hc.2.1 hc.2.2.1 hc.2.2.2.1 hc.2.2.2.2 (fun _ _ => rfl) hR.1 (Nat.le_trans (Nat.add_le_add hcat (Nat.le_of_ble_eq_true (m := 32) rfl)) hR.2) d (fun H1 locs1 hP hD hS => k _ h H1 locs1 ls ⟨hP, hD, hS, hB.2.2.2⟩ hl)
    · exact va_copyi E.1 E.2.1 (E.2.2.1.trans hl.1.symm) E.2.2.2.1 (E.2.2.2.2 _ q1126) (E.2.2.2.2 _ q1038) (E.2.2.2.2 _ q1037) (E.2.2.2.2 _ q131) hB.2.2.2.1 hB.1 hB.2.1 hB.2.2.1 30 33 0 0 (ty := .int) rfl rfl rfl rfl rfl hc.1 hc.2.1 hc.2.2.1 hc.2.2.2.1 hc.2.2.2.2 (fun _ _ => rfl) hR.1 (Nat.le_trans (Nat.add_le_add hcat (Nat.le_of_ble_eq_true (m := 32) rfl)) hR.2) d (fun H1 locs1 hP hD hS => k _ h H1 locs1 ls ⟨hP, hD, hS, hB.2.2.2⟩ hl)
    · exact va_copyi E.1 E.2.1 (E.2.2.1.trans hl.1.symm) E.2.2.2.1 (E.2.2.2.2 _ q1126) (E.2.2.2.2 _ q1038) (E.2.2.2.2 _ q1037) (E.2.2.2.2 _ q131) hB.2.2.2.1 hB.1 hB.2.1 hB.2.2.1 33 27 0 0 (ty := .int) rfl rfl rfl rfl rfl hc.1 hc.2.1 hc.2.2.1 hc.2.2.2.1 hc.2.2.2.2 (fun _ _ => rfl) hR.1 (Nat.le_trans (Nat.add_le_add hcat (Nat.le_of_ble_eq_true (m := 32) rfl)) hR.2) d (fun H1 locs1 hP hD hS => k _ h H1 locs1 ls ⟨hP, hD, hS, hB.2.2.2⟩ hl)
    · exact va_copyi E.1 E.2.1 (E.2.2.1.trans hl.1.symm) E.2.2.2.1 (E.2.2.2.2 _ q1126) (E.2.2.2.2 _ q1038) (E.2.2.2.2 _ q1037) (E.2.2.2.2 _ q131) hB.2.2.2.1 hB.1 hB.2.1 hB.2.2.1 33 30 0 0 (ty := .int) rfl rfl rfl rfl rfl hc.1 hc.2.1 hc.2.2.1 hc.2.2.2.1 hc.2.2.2.2 (fun _ _ => rfl) hR.1 (Nat.le_trans (Nat.add_le_add hcat (Nat.le_of_ble_eq_true (m := 32) rfl)) hR.2) d (fun H1 locs1 hP hD hS => k _ h H1 locs1 ls ⟨hP, hD, hS, hB.2.2.2⟩ hl)
    · exact va_copyi E.1 E.2.1 (E.2.2.1.trans hl.1.symm) E.2.2.2.1 (E.2.2.2.2 _ q1126) (E.2.2.2.2 _ q1038) (E.2.2.2.2 _ q1037) (E.2.2.2.2 _ q131) hB.2.2.2.1 hB.1 hB.2.1 hB.2.2.1 33 33 0 0 (ty := .int) rfl rfl rfl rfl rfl hc.1 hc.2.1 hc.2.2.1 hc.2.2.2.1 hc.2.2.2.2 (fun _ _ => rfl) hR.1 (Nat.le_trans (Nat.add_le_add hcat (Nat.le_of_ble_eq_true (m := 32) rfl)) hR.2) d (fun H1 locs1 hP hD hS => k _ h H1 locs1 ls ⟨hP, hD, hS, hB.2.2.2⟩ hl)
  · rw [if_neg hi] at h; cases h
theorem xpX1_25 (E : EV p s m args c cc nL RX1) {τ : Nat} (hτ : τ < 3) {v : Int32} {kk : XS → Option ρ} (d : decode cc pc = .ok (.putfield 25, 3)) (h : nx (sXF ξ (202 + 10 * τ) v) kk = some res) (hn : pc + 3 = n) (k : ∀ ξ1 : XS, kk ξ1 = some res → CF p l e R s m args below meth c nL cells slots (XB g A s ξ1) Q n lv st) : CF p l e R s m args below meth c nL cells slots (XB g A s ξ) Q pc lv (.int v :: .ref (xa g (200 + 10 * τ)) :: st) := by
  subst hn
  intro H locs ls hB hl
  rcases t3 hτ with rfl | rfl | rfl
  · exact va_put (D := g.1) (ci := 2) (v := .int v) (ty := .int) (C := RX1) (T := TX1) (N := 4) E.1 E.2.1 E.2.2.2.2 in_X1 tyX1 tyX1_ok nmX1 E.2.2.2.1 hB.2.2.2.1 hB.1 hB.2.1 hB.2.2.1 25 rfl rfl 2 (Nat.le_of_ble_eq_true rfl) (E.2.2.2.2 _ q158) (fun _ h9 => h9) rfl (by decide +kernel) rfl rfl (Nat.le_of_ble_eq_true rfl) d (fun H1 locs1 hP hD hS => k _ h H1 locs1 ls ⟨hP, hD, hS, hB.2.2.2⟩ hl)
  · exact va_put (D := g.1) (ci := 2) (v := .int v) (ty := .int) (C := RX1) (T := TX1) (N := 4) E.1 E.2.1 E.2.2.2.2 in_X1 tyX1 tyX1_ok nmX1 E.2.2.2.1 hB.2.2.2.1 hB.1 hB.2.1 hB.2.2.1 28 rfl rfl 2 (Nat.le_of_ble_eq_true rfl) (E.2.2.2.2 _ q158) (fun _ h9 => h9) rfl (by decide +kernel) rfl rfl (Nat.le_of_ble_eq_true rfl) d (fun H1 locs1 hP hD hS => k _ h H1 locs1 ls ⟨hP, hD, hS, hB.2.2.2⟩ hl)
  · exact va_put (D := g.1) (ci := 2) (v := .int v) (ty := .int) (C := RX1) (T := TX1) (N := 4) E.1 E.2.1 E.2.2.2.2 in_X1 tyX1 tyX1_ok nmX1 E.2.2.2.1 hB.2.2.2.1 hB.1 hB.2.1 hB.2.2.1 31 rfl rfl 2 (Nat.le_of_ble_eq_true rfl) (E.2.2.2.2 _ q158) (fun _ h9 => h9) rfl (by decide +kernel) rfl rfl (Nat.le_of_ble_eq_true rfl) d (fun H1 locs1 hP hD hS => k _ h H1 locs1 ls ⟨hP, hD, hS, hB.2.2.2⟩ hl)
theorem xgX1_29 (E : EV p s m args c cc nL RX1) {τ : Nat} (hτ : τ < 3) (d : decode cc pc = .ok (.getfield 29, 3)) (hn : pc + 3 = n) (k : CF p l e R s m args below meth c nL cells slots (XB g A s ξ) Q n lv (.int (xF ξ (203 + 10 * τ)) :: st)) : CF p l e R s m args below meth c nL cells slots (XB g A s ξ) Q pc lv (.ref (xa g (200 + 10 * τ)) :: st) := by
  subst hn
  intro H locs ls hB hl
  rcases t3 hτ with rfl | rfl | rfl
  · exact va_get (D := g.1) (ci := 2) (C := RX1) (T := TX1) (N := 4) E.1 E.2.1 E.2.2.2.2 in_X1 E.2.2.2.1 hB.2.2.2.1 hB.1 25 rfl rfl 3 (Nat.le_of_ble_eq_true rfl) (E.2.2.2.2 _ q160) (fun _ h9 => h9) rfl d (k H locs ls hB hl)
  · exact va_get (D := g.1) (ci := 2) (C := RX1) (T := TX1) (N := 4) E.1 E.2.1 E.2.2.2.2 in_X1 E.2.2.2.1 hB.2.2.2.1 hB.1 28 rfl rfl 3 (Nat.le_of_ble_eq_true rfl) (E.2.2.2.2 _ q160) (fun _ h9 => h9) rfl d (k H locs ls hB hl)
  · exact va_get (D := g.1) (ci := 2) (C := RX1) (T := TX1) (N := 4) E.1 E.2.1 E.2.2.2.2 in_X1 E.2.2.2.1 hB.2.2.2.1 hB.1 31 rfl rfl 3 (Nat.le_of_ble_eq_true rfl) (E.2.2.2.2 _ q160) (fun _ h9 => h9) rfl d (k H locs ls hB hl)
theorem xpX1_29 (E : EV p s m args c cc nL RX1) {τ : Nat} (hτ : τ < 3) {v : Int32} {kk : XS → Option ρ} (d : decode cc pc = .ok (.putfield 29, 3)) (h : nx (sXF ξ (203 + 10 * τ) v) kk = some res) (hn : pc + 3 = n) (k : ∀ ξ1 : XS, kk ξ1 = some res → CF p l e R s m args below meth c nL cells slots (XB g A s ξ1) Q n lv st) : CF p l e R s m args below meth c nL cells slots (XB g A s ξ) Q pc lv (.int v :: .ref (xa g (200 + 10 * τ)) :: st) := by
  subst hn
  intro H locs ls hB hl
  rcases t3 hτ with rfl | rfl | rfl
  · exact va_put (D := g.1) (ci := 2) (v := .int v) (ty := .int) (C := RX1) (T := TX1) (N := 4) E.1 E.2.1 E.2.2.2.2 in_X1 tyX1 tyX1_ok nmX1 E.2.2.2.1 hB.2.2.2.1 hB.1 hB.2.1 hB.2.2.1 25 rfl rfl 3 (Nat.le_of_ble_eq_true rfl) (E.2.2.2.2 _ q160) (fun _ h9 => h9) rfl (by decide +kernel) rfl rfl (Nat.le_of_ble_eq_true rfl) d (fun H1 locs1 hP hD hS => k _ h H1 locs1 ls ⟨hP, hD, hS, hB.2.2.2⟩ hl)
  · exact va_put (D := g.1) (ci := 2) (v := .int v) (ty := .int) (C := RX1) (T := TX1) (N := 4) E.1 E.2.1 E.2.2.2.2 in_X1 tyX1 tyX1_ok nmX1 E.2.2.2.1 hB.2.2.2.1 hB.1 hB.2.1 hB.2.2.1 28 rfl rfl 3 (Nat.le_of_ble_eq_true rfl) (E.2.2.2.2 _ q160) (fun _ h9 => h9) rfl (by decide +kernel) rfl rfl (Nat.le_of_ble_eq_true rfl) d (fun H1 locs1 hP hD hS => k _ h H1 locs1 ls ⟨hP, hD, hS, hB.2.2.2⟩ hl)
  · exact va_put (D := g.1) (ci := 2) (v := .int v) (ty := .int) (C := RX1) (T := TX1) (N := 4) E.1 E.2.1 E.2.2.2.2 in_X1 tyX1 tyX1_ok nmX1 E.2.2.2.1 hB.2.2.2.1 hB.1 hB.2.1 hB.2.2.1 31 rfl rfl 3 (Nat.le_of_ble_eq_true rfl) (E.2.2.2.2 _ q160) (fun _ h9 => h9) rfl (by decide +kernel) rfl rfl (Nat.le_of_ble_eq_true rfl) d (fun H1 locs1 hP hD hS => k _ h H1 locs1 ls ⟨hP, hD, hS, hB.2.2.2⟩ hl)
theorem xastT_0 {own : String} (E : EV p s m args c cc nL own) {τ : Nat} (hτ : τ < 3) {i x : Int32} {kk : XS → Option ρ} (d : decode cc pc = .ok (.bastore, 1)) (h : (if inb i 6 = true then nx (sXR ξ (200 + 10 * τ) i.toNatClampNeg (vp_nar .byte x)) kk else none) = some res) (hn : pc + 1 = n) (k : ∀ ξ1 : XS, kk ξ1 = some res → CF p l e R s m args below meth c nL cells slots (XB g A s ξ1) Q n lv st) : CF p l e R s m args below meth c nL cells slots (XB g A s ξ) Q pc lv (.int x :: .int i :: .ref (xa g (201 + 10 * τ)) :: st) := by
  subst hn
  by_cases hi : inb i 6 = true
  · rw [if_pos hi] at h
    intro H locs ls hB hl
    rcases t3 hτ with rfl | rfl | rfl
    · exact va_bast E.1 E.2.1 hB.2.2.2.1 hB.1 hB.2.1 hB.2.2.1 26 1 rfl rfl (inb_in hi) d (fun H1 locs1 hP hD hS => k _ h H1 locs1 ls ⟨hP, hD, hS, hB.2.2.2⟩ hl)
    · exact va_bast E.1 E.2.1 hB.2.2.2.1 hB.1 hB.2.1 hB.2.2.1 29 1 rfl rfl (inb_in hi) d (fun H1 locs1 hP hD hS => k _ h H1 locs1 ls ⟨hP, hD, hS, hB.2.2.2⟩ hl)
    · exact va_bast E.1 E.2.1 hB.2.2.2.1 hB.1 hB.2.1 hB.2.2.1 32 1 rfl rfl (inb_in hi) d (fun H1 locs1 hP hD hS => k _ h H1 locs1 ls ⟨hP, hD, hS, hB.2.2.2⟩ hl)
  · rw [if_neg hi] at h; cases h
theorem xaldT_1 {own : String} (E : EV p s m args c cc nL own) {τ : Nat} (hτ : τ < 3) {i : Int32} {A9 : Option ρ} (d : decode cc pc = .ok (.iaload, 1)) (h : (if inb i 6 = true then A9 else none) = some res) (hn : pc + 1 = n) (k : A9 = some res → CF p l e R s m args below meth c nL cells slots (XB g A s ξ) Q n lv (.int (xR ξ (201 + 10 * τ) i.toNatClampNeg) :: st)) : CF p l e R s m args below meth c nL cells slots (XB g A s ξ) Q pc lv (.int i :: .ref (xa g (202 + 10 * τ)) :: st) := by
  subst hn
  by_cases hi : inb i 6 = true
  · rw [if_pos hi] at h
    intro H locs ls hB hl
    rcases t3 hτ with rfl | rfl | rfl
    · exact va_iald E.1 E.2.1 hB.2.2.2.1 hB.1 27 0 rfl rfl (inb_in hi) d (k h H locs ls hB hl)
    · exact va_iald E.1 E.2.1 hB.2.2.2.1 hB.1 30 0 rfl rfl (inb_in hi) d (k h H locs ls hB hl)
    · exact va_iald E.1 E.2.1 hB.2.2.2.1 hB.1 33 0 rfl rfl (inb_in hi) d (k h H locs ls hB hl)
  · rw [if_neg hi] at h; cases h
theorem xastT_1 {own : String} (E : EV p s m args c cc nL own) {τ : Nat} (hτ : τ < 3) {i x : Int32} {kk : XS → Option ρ} (d : decode cc pc = .ok (.iastore, 1)) (h : (if inb i 6 = true then nx (sXR ξ (201 + 10 * τ) i.toNatClampNeg x) kk else none) = some res) (hn : pc + 1 = n) (k : ∀ ξ1 : XS, kk ξ1 = some res → CF p l e R s m args below meth c nL cells slots (XB g A s ξ1) Q n lv st) : CF p l e R s m args below meth c nL cells slots (XB g A s ξ) Q pc lv (.int x :: .int i :: .ref (xa g (202 + 10 * τ)) :: st) := by
  subst hn
  by_cases hi : inb i 6 = true
  · rw [if_pos hi] at h
    intro H locs ls hB hl
    rcases t3 hτ with rfl | rfl | rfl
    · exact va_iast E.1 E.2.1 hB.2.2.2.1 hB.1 hB.2.1 hB.2.2.1 27 0 rfl rfl (inb_in hi) d (fun H1 locs1 hP hD hS => k _ h H1 locs1 ls ⟨hP, hD, hS, hB.2.2.2⟩ hl)
    · exact va_iast E.1 E.2.1 hB.2.2.2.1 hB.1 hB.2.1 hB.2.2.1 30 0 rfl rfl (inb_in hi) d (fun H1 locs1 hP hD hS => k _ h H1 locs1 ls ⟨hP, hD, hS, hB.2.2.2⟩ hl)
    · exact va_iast E.1 E.2.1 hB.2.2.2.1 hB.1 hB.2.1 hB.2.2.1 33 0 rfl rfl (inb_in hi) d (fun H1 locs1 hP hD hS => k _ h H1 locs1 ls ⟨hP, hD, hS, hB.2.2.2⟩ hl)
  · rw [if_neg hi] at h; cases h
theorem xgX4_15 (E : EV p s m args c cc nL RX4) (d : decode cc pc = .ok (.getfield 15, 3)) (hn : pc + 3 = n) (k : CF p l e R s m args below meth c nL cells slots (XB g A s ξ) Q n lv (.int (xF ξ 311) :: st)) : CF p l e R s m args below meth c nL cells slots (XB g A s ξ) Q pc lv (.ref (xa g 310) :: st) := by
  subst hn
  intro H locs ls hB hl
  exact va_get (D := g.1) (ci := 6) (C := RX4) (T := TX4) (N := 2) E.1 E.2.1 E.2.2.2.2 in_X4 E.2.2.2.1 hB.2.2.2.1 hB.1 35 rfl rfl 1 (Nat.le_of_ble_eq_true rfl) (E.2.2.2.2 _ q262) (fun _ h9 => h9) rfl d (k H locs ls hB hl)
theorem xpX4_15 (E : EV p s m args c cc nL RX4) {v : Int32} {kk : XS → Option ρ} (d : decode cc pc = .ok (.putfield 15, 3)) (h : nx (sXF ξ 311 v) kk = some res) (hn : pc + 3 = n) (k : ∀ ξ1 : XS, kk ξ1 = some res → CF p l e R s m args below meth c nL cells slots (XB g A s ξ1) Q n lv st) : CF p l e R s m args below meth c nL cells slots (XB g A s ξ) Q pc lv (.int v :: .ref (xa g 310) :: st) := by
  subst hn
  intro H locs ls hB hl
  exact va_put (D := g.1) (ci := 6) (v := .int v) (ty := .int) (C := RX4) (T := TX4) (N := 2) E.1 E.2.1 E.2.2.2.2 in_X4 tyX4 tyX4_ok nmX4 E.2.2.2.1 hB.2.2.2.1 hB.1 hB.2.1 hB.2.2.1 35 rfl rfl 1 (Nat.le_of_ble_eq_true rfl) (E.2.2.2.2 _ q262) (fun _ h9 => h9) rfl (by decide +kernel) rfl rfl (Nat.le_of_ble_eq_true rfl) d (fun H1 locs1 hP hD hS => k _ h H1 locs1 ls ⟨hP, hD, hS, hB.2.2.2⟩ hl)
theorem xgX4_9 (E : EV p s m args c cc nL RX4) (d : decode cc pc = .ok (.getfield 9, 3)) (hn : pc + 3 = n) (k : CF p l e R s m args below meth c nL cells slots (XB g A s ξ) Q n lv (.ref (xa g 311) :: st)) : CF p l e R s m args below meth c nL cells slots (XB g A s ξ) Q pc lv (.ref (xa g 310) :: st) := by
  subst hn
  intro H locs ls hB hl
  exact va_get (D := g.1) (ci := 6) (C := RX4) (T := TX4) (N := 2) E.1 E.2.1 E.2.2.2.2 in_X4 E.2.2.2.1 hB.2.2.2.1 hB.1 35 rfl rfl 0 (Nat.le_of_ble_eq_true rfl) (E.2.2.2.2 _ q260) (fun _ h9 => h9) rfl d (k H locs ls hB hl)
theorem xast_CB {own : String} (E : EV p s m args c cc nL own) {i x : Int32} {kk : XS → Option ρ} (d : decode cc pc = .ok (.iastore, 1)) (h : (if inb i 20 = true then nx (sXR ξ 310 i.toNatClampNeg x) kk else none) = some res) (hn : pc + 1 = n) (k : ∀ ξ1 : XS, kk ξ1 = some res → CF p l e R s m args below meth c nL cells slots (XB g A s ξ1) Q n lv st) : CF p l e R s m args below meth c nL cells slots (XB g A s ξ) Q pc lv (.int x :: .int i :: .ref (xa g 311) :: st) := by
  subst hn
  by_cases hi : inb i 20 = true
  · rw [if_pos hi] at h
    intro H locs ls hB hl
    exact va_iast E.1 E.2.1 hB.2.2.2.1 hB.1 hB.2.1 hB.2.2.1 36 0 rfl rfl (inb_in hi) d (fun H1 locs1 hP hD hS => k _ h H1 locs1 ls ⟨hP, hD, hS, hB.2.2.2⟩ hl)
  · rw [if_neg hi] at h; cases h
theorem xgX3_7 (E : EV p s m args c cc nL RX3) (d : decode cc pc = .ok (.getfield 7, 3)) (hn : pc + 3 = n) (k : CF p l e R s m args below meth c nL cells slots (XB g A s ξ) Q n lv (.int (xF ξ 300) :: st)) : CF p l e R s m args below meth c nL cells slots (XB g A s ξ) Q pc lv (.ref (xa g 300) :: st) := by
  subst hn
  intro H locs ls hB hl
  exact va_get (D := g.1) (ci := 5) (C := RX3) (T := TX3) (N := 6) E.1 E.2.1 E.2.2.2.2 in_X3 E.2.2.2.1 hB.2.2.2.1 hB.1 34 rfl rfl 0 (Nat.le_of_ble_eq_true rfl) (E.2.2.2.2 _ q229) (fun _ h9 => h9) rfl d (k H locs ls hB hl)
theorem xgX3_13 (E : EV p s m args c cc nL RX3) (d : decode cc pc = .ok (.getfield 13, 3)) (hn : pc + 3 = n) (k : CF p l e R s m args below meth c nL cells slots (XB g A s ξ) Q n lv (.int (xF ξ 301) :: st)) : CF p l e R s m args below meth c nL cells slots (XB g A s ξ) Q pc lv (.ref (xa g 300) :: st) := by
  subst hn
  intro H locs ls hB hl
  exact va_get (D := g.1) (ci := 5) (C := RX3) (T := TX3) (N := 6) E.1 E.2.1 E.2.2.2.2 in_X3 E.2.2.2.1 hB.2.2.2.1 hB.1 34 rfl rfl 1 (Nat.le_of_ble_eq_true rfl) (E.2.2.2.2 _ q231) (fun _ h9 => h9) rfl d (k H locs ls hB hl)
theorem xgX3_16 (E : EV p s m args c cc nL RX3) (d : decode cc pc = .ok (.getfield 16, 3)) (hn : pc + 3 = n) (k : CF p l e R s m args below meth c nL cells slots (XB g A s ξ) Q n lv (.int (xF ξ 302) :: st)) : CF p l e R s m args below meth c nL cells slots (XB g A s ξ) Q pc lv (.ref (xa g 300) :: st) := by
  subst hn
  intro H locs ls hB hl
  exact va_get (D := g.1) (ci := 5) (C := RX3) (T := TX3) (N := 6) E.1 E.2.1 E.2.2.2.2 in_X3 E.2.2.2.1 hB.2.2.2.1 hB.1 34 rfl rfl 2 (Nat.le_of_ble_eq_true rfl) (E.2.2.2.2 _ q233) (fun _ h9 => h9) rfl d (k H locs ls hB hl)
theorem xgX3_19 (E : EV p s m args c cc nL RX3) (d : decode cc pc = .ok (.getfield 19, 3)) (hn : pc + 3 = n) (k : CF p l e R s m args below meth c nL cells slots (XB g A s ξ) Q n lv (.int (xF ξ 303) :: st)) : CF p l e R s m args below meth c nL cells slots (XB g A s ξ) Q pc lv (.ref (xa g 300) :: st) := by
  subst hn
  intro H locs ls hB hl
  exact va_get (D := g.1) (ci := 5) (C := RX3) (T := TX3) (N := 6) E.1 E.2.1 E.2.2.2.2 in_X3 E.2.2.2.1 hB.2.2.2.1 hB.1 34 rfl rfl 3 (Nat.le_of_ble_eq_true rfl) (E.2.2.2.2 _ q235) (fun _ h9 => h9) rfl d (k H locs ls hB hl)
theorem xgX3_22 (E : EV p s m args c cc nL RX3) (d : decode cc pc = .ok (.getfield 22, 3)) (hn : pc + 3 = n) (k : CF p l e R s m args below meth c nL cells slots (XB g A s ξ) Q n lv (.int (xF ξ 304) :: st)) : CF p l e R s m args below meth c nL cells slots (XB g A s ξ) Q pc lv (.ref (xa g 300) :: st) := by
  subst hn
  intro H locs ls hB hl
  exact va_get (D := g.1) (ci := 5) (C := RX3) (T := TX3) (N := 6) E.1 E.2.1 E.2.2.2.2 in_X3 E.2.2.2.1 hB.2.2.2.1 hB.1 34 rfl rfl 4 (Nat.le_of_ble_eq_true rfl) (E.2.2.2.2 _ q237) (fun _ h9 => h9) rfl d (k H locs ls hB hl)
theorem xgX3_25 (E : EV p s m args c cc nL RX3) (d : decode cc pc = .ok (.getfield 25, 3)) (hn : pc + 3 = n) (k : CF p l e R s m args below meth c nL cells slots (XB g A s ξ) Q n lv (.int (xF ξ 305) :: st)) : CF p l e R s m args below meth c nL cells slots (XB g A s ξ) Q pc lv (.ref (xa g 300) :: st) := by
  subst hn
  intro H locs ls hB hl
  exact va_get (D := g.1) (ci := 5) (C := RX3) (T := TX3) (N := 6) E.1 E.2.1 E.2.2.2.2 in_X3 E.2.2.2.1 hB.2.2.2.1 hB.1 34 rfl rfl 5 (Nat.le_of_ble_eq_true rfl) (E.2.2.2.2 _ q239) (fun _ h9 => h9) rfl d (k H locs ls hB hl)
theorem xgX0_315 (E : EV p s m args c cc nL RX0) (d : decode cc pc = .ok (.getfield 315, 3)) (hn : pc + 3 = n) (k : CF p l e R s m args below meth c nL cells slots (XB g A s ξ) Q n lv (.int (xF ξ 18) :: st)) : CF p l e R s m args below meth c nL cells slots (XB g A s ξ) Q pc lv (.ref (xa g 0) :: st) := by
  subst hn
  intro H locs ls hB hl
  exact va_get (D := g.1) (ci := 1) (C := RX0) (T := TX0) (N := 40) E.1 E.2.1 E.2.2.2.2 in_X0 E.2.2.2.1 hB.2.2.2.1 hB.1 0 rfl rfl 18 (Nat.le_of_ble_eq_true rfl) (E.2.2.2.2 _ q308) (fun _ h9 => h9) rfl d (k H locs ls hB hl)
theorem xgX0_65 (E : EV p s m args c cc nL RX0) (d : decode cc pc = .ok (.getfield 65, 3)) (hn : pc + 3 = n) (k : CF p l e R s m args below meth c nL cells slots (XB g A s ξ) Q n lv (.ref (xa g 114) :: st)) : CF p l e R s m args below meth c nL cells slots (XB g A s ξ) Q pc lv (.ref (xa g 0) :: st) := by
  subst hn
  intro H locs ls hB hl
  exact va_get (D := g.1) (ci := 1) (C := RX0) (T := TX0) (N := 40) E.1 E.2.1 E.2.2.2.2 in_X0 E.2.2.2.1 hB.2.2.2.1 hB.1 0 rfl rfl 14 (Nat.le_of_ble_eq_true rfl) (E.2.2.2.2 _ q304) (fun _ h9 => h9) rfl d (k H locs ls hB hl)
theorem xast_14 {own : String} (E : EV p s m args c cc nL own) {i x : Int32} {kk : XS → Option ρ} (d : decode cc pc = .ok (.iastore, 1)) (h : (if inb i 6 = true then nx (sXR ξ 14 i.toNatClampNeg x) kk else none) = some res) (hn : pc + 1 = n) (k : ∀ ξ1 : XS, kk ξ1 = some res → CF p l e R s m args below meth c nL cells slots (XB g A s ξ1) Q n lv st) : CF p l e R s m args below meth c nL cells slots (XB g A s ξ) Q pc lv (.int x :: .int i :: .ref (xa g 114) :: st) := by
  subst hn
  by_cases hi : inb i 6 = true
  · rw [if_pos hi] at h
    intro H locs ls hB hl
    exact va_iast E.1 E.2.1 hB.2.2.2.1 hB.1 hB.2.1 hB.2.2.1 7 0 rfl rfl (inb_in hi) d (fun H1 locs1 hP hD hS => k _ h H1 locs1 ls ⟨hP, hD, hS, hB.2.2.2⟩ hl)
  · rw [if_neg hi] at h; cases h
theorem xgX0_68 (E : EV p s m args c cc nL RX0) (d : decode cc pc = .ok (.getfield 68, 3)) (hn : pc + 3 = n) (k : CF p l e R s m args below meth c nL cells slots (XB g A s ξ) Q n lv (.ref (xa g 115) :: st)) : CF p l e R s m args below meth c nL cells slots (XB g A s ξ) Q pc lv (.ref (xa g 0) :: st) := by
  subst hn
  intro H locs ls hB hl
  exact va_get (D := g.1) (ci := 1) (C := RX0) (T := TX0) (N := 40) E.1 E.2.1 E.2.2.2.2 in_X0 E.2.2.2.1 hB.2.2.2.1 hB.1 0 rfl rfl 15 (Nat.le_of_ble_eq_true rfl) (E.2.2.2.2 _ q305) (fun _ h9 => h9) rfl d (k H locs ls hB hl)
theorem xpX0_315 (E : EV p s m args c cc nL RX0) {v : Int32} {kk : XS → Option ρ} (d : decode cc pc = .ok (.putfield 315, 3)) (h : nx (sXF ξ 18 v) kk = some res) (hn : pc + 3 = n) (k : ∀ ξ1 : XS, kk ξ1 = some res → CF p l e R s m args below meth c nL cells slots (XB g A s ξ1) Q n lv st) : CF p l e R s m args below meth c nL cells slots (XB g A s ξ) Q pc lv (.int v :: .ref (xa g 0) :: st) := by
  subst hn
  intro H locs ls hB hl
  exact va_put (D := g.1) (ci := 1) (v := .int v) (ty := .int) (C := RX0) (T := TX0) (N := 40) E.1 E.2.1 E.2.2.2.2 in_X0 tyX0 tyX0_ok nmX0 E.2.2.2.1 hB.2.2.2.1 hB.1 hB.2.1 hB.2.2.1 0 rfl rfl 18 (Nat.le_of_ble_eq_true rfl) (E.2.2.2.2 _ q308) (fun _ h9 => h9) rfl (by decide +kernel) rfl rfl (Nat.le_of_ble_eq_true rfl) d (fun H1 locs1 hP hD hS => k _ h H1 locs1 ls ⟨hP, hD, hS, hB.2.2.2⟩ hl)
theorem xast_15 {own : String} (E : EV p s m args c cc nL own) {i x : Int32} {kk : XS → Option ρ} (d : decode cc pc = .ok (.iastore, 1)) (h : (if inb i 6 = true then nx (sXR ξ 15 i.toNatClampNeg x) kk else none) = some res) (hn : pc + 1 = n) (k : ∀ ξ1 : XS, kk ξ1 = some res → CF p l e R s m args below meth c nL cells slots (XB g A s ξ1) Q n lv st) : CF p l e R s m args below meth c nL cells slots (XB g A s ξ) Q pc lv (.int x :: .int i :: .ref (xa g 115) :: st) := by
  subst hn
  by_cases hi : inb i 6 = true
  · rw [if_pos hi] at h
    intro H locs ls hB hl
    exact va_iast E.1 E.2.1 hB.2.2.2.1 hB.1 hB.2.1 hB.2.2.1 8 0 rfl rfl (inb_in hi) d (fun H1 locs1 hP hD hS => k _ h H1 locs1 ls ⟨hP, hD, hS, hB.2.2.2⟩ hl)
  · rw [if_neg hi] at h; cases h
theorem xald_14 {own : String} (E : EV p s m args c cc nL own) {i : Int32} {A9 : Option ρ} (d : decode cc pc = .ok (.iaload, 1)) (h : (if inb i 6 = true then A9 else none) = some res) (hn : pc + 1 = n) (k : A9 = some res → CF p l e R s m args below meth c nL cells slots (XB g A s ξ) Q n lv (.int (xR ξ 14 i.toNatClampNeg) :: st)) : CF p l e R s m args below meth c nL cells slots (XB g A s ξ) Q pc lv (.int i :: .ref (xa g 114) :: st) := by
  subst hn
  by_cases hi : inb i 6 = true
  · rw [if_pos hi] at h
    intro H locs ls hB hl
    exact va_iald E.1 E.2.1 hB.2.2.2.1 hB.1 7 0 rfl rfl (inb_in hi) d (k h H locs ls hB hl)
  · rw [if_neg hi] at h; cases h
theorem xgX0_83 (E : EV p s m args c cc nL RX0) (d : decode cc pc = .ok (.getfield 83, 3)) (hn : pc + 3 = n) (k : CF p l e R s m args below meth c nL cells slots (XB g A s ξ) Q n lv (.ref (xa g 121) :: st)) : CF p l e R s m args below meth c nL cells slots (XB g A s ξ) Q pc lv (.ref (xa g 0) :: st) := by
  subst hn
  intro H locs ls hB hl
  exact va_get (D := g.1) (ci := 1) (C := RX0) (T := TX0) (N := 40) E.1 E.2.1 E.2.2.2.2 in_X0 E.2.2.2.1 hB.2.2.2.1 hB.1 0 rfl rfl 21 (Nat.le_of_ble_eq_true rfl) (E.2.2.2.2 _ q311) (fun _ h9 => h9) rfl d (k H locs ls hB hl)
theorem xald_21 {own : String} (E : EV p s m args c cc nL own) {i : Int32} {A9 : Option ρ} (d : decode cc pc = .ok (.iaload, 1)) (h : (if inb i 36 = true then A9 else none) = some res) (hn : pc + 1 = n) (k : A9 = some res → CF p l e R s m args below meth c nL cells slots (XB g A s ξ) Q n lv (.int (xR ξ 21 i.toNatClampNeg) :: st)) : CF p l e R s m args below meth c nL cells slots (XB g A s ξ) Q pc lv (.int i :: .ref (xa g 121) :: st) := by
  subst hn
  by_cases hi : inb i 36 = true
  · rw [if_pos hi] at h
    intro H locs ls hB hl
    exact va_iald E.1 E.2.1 hB.2.2.2.1 hB.1 12 0 rfl rfl (inb_in hi) d (k h H locs ls hB hl)
  · rw [if_neg hi] at h; cases h
theorem xald_15 {own : String} (E : EV p s m args c cc nL own) {i : Int32} {A9 : Option ρ} (d : decode cc pc = .ok (.iaload, 1)) (h : (if inb i 6 = true then A9 else none) = some res) (hn : pc + 1 = n) (k : A9 = some res → CF p l e R s m args below meth c nL cells slots (XB g A s ξ) Q n lv (.int (xR ξ 15 i.toNatClampNeg) :: st)) : CF p l e R s m args below meth c nL cells slots (XB g A s ξ) Q pc lv (.int i :: .ref (xa g 115) :: st) := by
  subst hn
  by_cases hi : inb i 6 = true
  · rw [if_pos hi] at h
    intro H locs ls hB hl
    exact va_iald E.1 E.2.1 hB.2.2.2.1 hB.1 8 0 rfl rfl (inb_in hi) d (k h H locs ls hB hl)
  · rw [if_neg hi] at h; cases h
theorem xgX0_341 (E : EV p s m args c cc nL RX0) (d : decode cc pc = .ok (.getfield 341, 3)) (hn : pc + 3 = n) (k : CF p l e R s m args below meth c nL cells slots (XB g A s ξ) Q n lv (.int (xF ξ 19) :: st)) : CF p l e R s m args below meth c nL cells slots (XB g A s ξ) Q pc lv (.ref (xa g 0) :: st) := by
  subst hn
  intro H locs ls hB hl
  exact va_get (D := g.1) (ci := 1) (C := RX0) (T := TX0) (N := 40) E.1 E.2.1 E.2.2.2.2 in_X0 E.2.2.2.1 hB.2.2.2.1 hB.1 0 rfl rfl 19 (Nat.le_of_ble_eq_true rfl) (E.2.2.2.2 _ q309) (fun _ h9 => h9) rfl d (k H locs ls hB hl)
theorem xgX0_71 (E : EV p s m args c cc nL RX0) (d : decode cc pc = .ok (.getfield 71, 3)) (hn : pc + 3 = n) (k : CF p l e R s m args below meth c nL cells slots (XB g A s ξ) Q n lv (.ref (xa g 116) :: st)) : CF p l e R s m args below meth c nL cells slots (XB g A s ξ) Q pc lv (.ref (xa g 0) :: st) := by
  subst hn
  intro H locs ls hB hl
  exact va_get (D := g.1) (ci := 1) (C := RX0) (T := TX0) (N := 40) E.1 E.2.1 E.2.2.2.2 in_X0 E.2.2.2.1 hB.2.2.2.1 hB.1 0 rfl rfl 16 (Nat.le_of_ble_eq_true rfl) (E.2.2.2.2 _ q306) (fun _ h9 => h9) rfl d (k H locs ls hB hl)
theorem xast_16 {own : String} (E : EV p s m args c cc nL own) {i x : Int32} {kk : XS → Option ρ} (d : decode cc pc = .ok (.iastore, 1)) (h : (if inb i 8 = true then nx (sXR ξ 16 i.toNatClampNeg x) kk else none) = some res) (hn : pc + 1 = n) (k : ∀ ξ1 : XS, kk ξ1 = some res → CF p l e R s m args below meth c nL cells slots (XB g A s ξ1) Q n lv st) : CF p l e R s m args below meth c nL cells slots (XB g A s ξ) Q pc lv (.int x :: .int i :: .ref (xa g 116) :: st) := by
  subst hn
  by_cases hi : inb i 8 = true
  · rw [if_pos hi] at h
    intro H locs ls hB hl
    exact va_iast E.1 E.2.1 hB.2.2.2.1 hB.1 hB.2.1 hB.2.2.1 9 0 rfl rfl (inb_in hi) d (fun H1 locs1 hP hD hS => k _ h H1 locs1 ls ⟨hP, hD, hS, hB.2.2.2⟩ hl)
  · rw [if_neg hi] at h; cases h
theorem xgX0_74 (E : EV p s m args c cc nL RX0) (d : decode cc pc = .ok (.getfield 74, 3)) (hn : pc + 3 = n) (k : CF p l e R s m args below meth c nL cells slots (XB g A s ξ) Q n lv (.ref (xa g 117) :: st)) : CF p l e R s m args below meth c nL cells slots (XB g A s ξ) Q pc lv (.ref (xa g 0) :: st) := by
  subst hn
  intro H locs ls hB hl
  exact va_get (D := g.1) (ci := 1) (C := RX0) (T := TX0) (N := 40) E.1 E.2.1 E.2.2.2.2 in_X0 E.2.2.2.1 hB.2.2.2.1 hB.1 0 rfl rfl 17 (Nat.le_of_ble_eq_true rfl) (E.2.2.2.2 _ q307) (fun _ h9 => h9) rfl d (k H locs ls hB hl)
theorem xpX0_341 (E : EV p s m args c cc nL RX0) {v : Int32} {kk : XS → Option ρ} (d : decode cc pc = .ok (.putfield 341, 3)) (h : nx (sXF ξ 19 v) kk = some res) (hn : pc + 3 = n) (k : ∀ ξ1 : XS, kk ξ1 = some res → CF p l e R s m args below meth c nL cells slots (XB g A s ξ1) Q n lv st) : CF p l e R s m args below meth c nL cells slots (XB g A s ξ) Q pc lv (.int v :: .ref (xa g 0) :: st) := by
  subst hn
  intro H locs ls hB hl
  exact va_put (D := g.1) (ci := 1) (v := .int v) (ty := .int) (C := RX0) (T := TX0) (N := 40) E.1 E.2.1 E.2.2.2.2 in_X0 tyX0 tyX0_ok nmX0 E.2.2.2.1 hB.2.2.2.1 hB.1 hB.2.1 hB.2.2.1 0 rfl rfl 19 (Nat.le_of_ble_eq_true rfl) (E.2.2.2.2 _ q309) (fun _ h9 => h9) rfl (by decide +kernel) rfl rfl (Nat.le_of_ble_eq_true rfl) d (fun H1 locs1 hP hD hS => k _ h H1 locs1 ls ⟨hP, hD, hS, hB.2.2.2⟩ hl)
theorem xast_17 {own : String} (E : EV p s m args c cc nL own) {i x : Int32} {kk : XS → Option ρ} (d : decode cc pc = .ok (.iastore, 1)) (h : (if inb i 8 = true then nx (sXR ξ 17 i.toNatClampNeg x) kk else none) = some res) (hn : pc + 1 = n) (k : ∀ ξ1 : XS, kk ξ1 = some res → CF p l e R s m args below meth c nL cells slots (XB g A s ξ1) Q n lv st) : CF p l e R s m args below meth c nL cells slots (XB g A s ξ) Q pc lv (.int x :: .int i :: .ref (xa g 117) :: st) := by
  subst hn
  by_cases hi : inb i 8 = true
  · rw [if_pos hi] at h
    intro H locs ls hB hl
    exact va_iast E.1 E.2.1 hB.2.2.2.1 hB.1 hB.2.1 hB.2.2.1 10 0 rfl rfl (inb_in hi) d (fun H1 locs1 hP hD hS => k _ h H1 locs1 ls ⟨hP, hD, hS, hB.2.2.2⟩ hl)
  · rw [if_neg hi] at h; cases h
theorem xald_16 {own : String} (E : EV p s m args c cc nL own) {i : Int32} {A9 : Option ρ} (d : decode cc pc = .ok (.iaload, 1)) (h : (if inb i 8 = true then A9 else none) = some res) (hn : pc + 1 = n) (k : A9 = some res → CF p l e R s m args below meth c nL cells slots (XB g A s ξ) Q n lv (.int (xR ξ 16 i.toNatClampNeg) :: st)) : CF p l e R s m args below meth c nL cells slots (XB g A s ξ) Q pc lv (.int i :: .ref (xa g 116) :: st) := by
  subst hn
  by_cases hi : inb i 8 = true
  · rw [if_pos hi] at h
    intro H locs ls hB hl
    exact va_iald E.1 E.2.1 hB.2.2.2.1 hB.1 9 0 rfl rfl (inb_in hi) d (k h H locs ls hB hl)
  · rw [if_neg hi] at h; cases h
theorem xald_17 {own : String} (E : EV p s m args c cc nL own) {i : Int32} {A9 : Option ρ} (d : decode cc pc = .ok (.iaload, 1)) (h : (if inb i 8 = true then A9 else none) = some res) (hn : pc + 1 = n) (k : A9 = some res → CF p l e R s m args below meth c nL cells slots (XB g A s ξ) Q n lv (.int (xR ξ 17 i.toNatClampNeg) :: st)) : CF p l e R s m args below meth c nL cells slots (XB g A s ξ) Q pc lv (.int i :: .ref (xa g 117) :: st) := by
  subst hn
  by_cases hi : inb i 8 = true
  · rw [if_pos hi] at h
    intro H locs ls hB hl
    exact va_iald E.1 E.2.1 hB.2.2.2.1 hB.1 10 0 rfl rfl (inb_in hi) d (k h H locs ls hB hl)
  · rw [if_neg hi] at h; cases h
theorem xgX0_61 (E : EV p s m args c cc nL RX0) (d : decode cc pc = .ok (.getfield 61, 3)) (hn : pc + 3 = n) (k : CF p l e R s m args below meth c nL cells slots (XB g A s ξ) Q n lv (.ref (xa g 310) :: st)) : CF p l e R s m args below meth c nL cells slots (XB g A s ξ) Q pc lv (.ref (xa g 0) :: st) := by
  subst hn
  intro H locs ls hB hl
  exact va_get (D := g.1) (ci := 1) (C := RX0) (T := TX0) (N := 40) E.1 E.2.1 E.2.2.2.2 in_X0 E.2.2.2.1 hB.2.2.2.1 hB.1 0 rfl rfl 13 (Nat.le_of_ble_eq_true rfl) (E.2.2.2.2 _ q296) (fun _ h9 => h9) rfl d (k H locs ls hB hl)
theorem xgX0_373 (E : EV p s m args c cc nL RX0) (d : decode cc pc = .ok (.getfield 373, 3)) (hn : pc + 3 = n) (k : CF p l e R s m args below meth c nL cells slots (XB g A s ξ) Q n lv (.int (xF ξ 311) :: st)) : CF p l e R s m args below meth c nL cells slots (XB g A s ξ) Q pc lv (.ref (xa g 310) :: st) := by
  subst hn
  intro H locs ls hB hl
  exact va_getN (D := g.1) (ci := 6) (C := RX4) (T := TX4) (N := 2) E.1 E.2.1 E.2.2.2.2 in_X4 E.2.2.2.1 hB.2.2.2.1 hB.1 35 rfl rfl 1 (Nat.le_of_ble_eq_true rfl) (va_Nw.use rfl (hB.2.2.2.2.2.1 _ q263 rfl)) (fun _ h9 => h9) rfl d (k H locs ls hB hl)
theorem xmX0_min (E : EV p s m args c cc nL RX0) {x y : Int32} (hR : 1 ≤ R.frames ∧ 40 ≤ R.locals) (hcat : (st.map fun v => v.category).sum ≤ 8) (hf : cells ≤ R.cells ∧ slots ≤ R.slots) (d : decode cc pc = .ok (.invokestatic 258, 3)) (hn : pc + 3 = n) (k : CF p l e R s m args below meth c nL cells slots (XB g A s ξ) Q n lv (.int (if y < x then y else x) :: st)) : CF p l e R s m args below meth c nL cells slots (XB g A s ξ) Q pc lv (.int y :: .int x :: st) := by
  subst hn
  intro H locs ls hB hl
  exact va_mmin E.1 E.2.1 (E.2.2.1.trans hl.1.symm) E.2.2.2.1 (E.2.2.2.2 _ q1074) (E.2.2.2.2 _ q1034) (E.2.2.2.2 _ q115) (E.2.2.2.2 _ q1035) hR.1 (by have := hR.2; omega) hf.1 hf.2 d (k H locs ls hB hl)
theorem xgX0_385 (E : EV p s m args c cc nL RX0) (d : decode cc pc = .ok (.getfield 385, 3)) (hn : pc + 3 = n) (k : CF p l e R s m args below meth c nL cells slots (XB g A s ξ) Q n lv (.ref (xa g 311) :: st)) : CF p l e R s m args below meth c nL cells slots (XB g A s ξ) Q pc lv (.ref (xa g 310) :: st) := by
  subst hn
  intro H locs ls hB hl
  exact va_getN (D := g.1) (ci := 6) (C := RX4) (T := TX4) (N := 2) E.1 E.2.1 E.2.2.2.2 in_X4 E.2.2.2.1 hB.2.2.2.1 hB.1 35 rfl rfl 0 (Nat.le_of_ble_eq_true rfl) (va_Nw.use rfl (hB.2.2.2.2.2.1 _ q261 rfl)) (fun _ h9 => h9) rfl d (k H locs ls hB hl)
theorem xald_CB {own : String} (E : EV p s m args c cc nL own) {i : Int32} {A9 : Option ρ} (d : decode cc pc = .ok (.iaload, 1)) (h : (if inb i 20 = true then A9 else none) = some res) (hn : pc + 1 = n) (k : A9 = some res → CF p l e R s m args below meth c nL cells slots (XB g A s ξ) Q n lv (.int (xR ξ 310 i.toNatClampNeg) :: st)) : CF p l e R s m args below meth c nL cells slots (XB g A s ξ) Q pc lv (.int i :: .ref (xa g 311) :: st) := by
  subst hn
  by_cases hi : inb i 20 = true
  · rw [if_pos hi] at h
    intro H locs ls hB hl
    exact va_iald E.1 E.2.1 hB.2.2.2.1 hB.1 36 0 rfl rfl (inb_in hi) d (k h H locs ls hB hl)
  · rw [if_neg hi] at h; cases h
theorem xgX0_231 (E : EV p s m args c cc nL RX0) (d : decode cc pc = .ok (.getfield 231, 3)) (hn : pc + 3 = n) (k : CF p l e R s m args below meth c nL cells slots (XB g A s ξ) Q n lv (.int (xF ξ 10) :: st)) : CF p l e R s m args below meth c nL cells slots (XB g A s ξ) Q pc lv (.ref (xa g 0) :: st) := by
  subst hn
  intro H locs ls hB hl
  exact va_get (D := g.1) (ci := 1) (C := RX0) (T := TX0) (N := 40) E.1 E.2.1 E.2.2.2.2 in_X0 E.2.2.2.1 hB.2.2.2.1 hB.1 0 rfl rfl 10 (Nat.le_of_ble_eq_true rfl) (E.2.2.2.2 _ q292) (fun _ h9 => h9) rfl d (k H locs ls hB hl)
theorem xgX0_86 (E : EV p s m args c cc nL RX0) (d : decode cc pc = .ok (.getfield 86, 3)) (hn : pc + 3 = n) (k : CF p l e R s m args below meth c nL cells slots (XB g A s ξ) Q n lv (.ref (xa g 122) :: st)) : CF p l e R s m args below meth c nL cells slots (XB g A s ξ) Q pc lv (.ref (xa g 0) :: st) := by
  subst hn
  intro H locs ls hB hl
  exact va_get (D := g.1) (ci := 1) (C := RX0) (T := TX0) (N := 40) E.1 E.2.1 E.2.2.2.2 in_X0 E.2.2.2.1 hB.2.2.2.1 hB.1 0 rfl rfl 22 (Nat.le_of_ble_eq_true rfl) (E.2.2.2.2 _ q312) (fun _ h9 => h9) rfl d (k H locs ls hB hl)
theorem xast_22 {own : String} (E : EV p s m args c cc nL own) {i x : Int32} {kk : XS → Option ρ} (d : decode cc pc = .ok (.bastore, 1)) (h : (if inb i 6 = true then nx (sXR ξ 22 i.toNatClampNeg (vp_nar .byte x)) kk else none) = some res) (hn : pc + 1 = n) (k : ∀ ξ1 : XS, kk ξ1 = some res → CF p l e R s m args below meth c nL cells slots (XB g A s ξ1) Q n lv st) : CF p l e R s m args below meth c nL cells slots (XB g A s ξ) Q pc lv (.int x :: .int i :: .ref (xa g 122) :: st) := by
  subst hn
  by_cases hi : inb i 6 = true
  · rw [if_pos hi] at h
    intro H locs ls hB hl
    exact va_bast E.1 E.2.1 hB.2.2.2.1 hB.1 hB.2.1 hB.2.2.1 13 1 rfl rfl (inb_in hi) d (fun H1 locs1 hP hD hS => k _ h H1 locs1 ls ⟨hP, hD, hS, hB.2.2.2⟩ hl)
  · rw [if_neg hi] at h; cases h
theorem xgX0_283 (E : EV p s m args c cc nL RX0) (d : decode cc pc = .ok (.getfield 283, 3)) (hn : pc + 3 = n) (k : CF p l e R s m args below meth c nL cells slots (XB g A s ξ) Q n lv (.int (xF ξ 24) :: st)) : CF p l e R s m args below meth c nL cells slots (XB g A s ξ) Q pc lv (.ref (xa g 0) :: st) := by
  subst hn
  intro H locs ls hB hl
  exact va_get (D := g.1) (ci := 1) (C := RX0) (T := TX0) (N := 40) E.1 E.2.1 E.2.2.2.2 in_X0 E.2.2.2.1 hB.2.2.2.1 hB.1 0 rfl rfl 24 (Nat.le_of_ble_eq_true rfl) (E.2.2.2.2 _ q314) (fun _ h9 => h9) rfl d (k H locs ls hB hl)
theorem xpX0_283 (E : EV p s m args c cc nL RX0) {v : Int32} {kk : XS → Option ρ} (d : decode cc pc = .ok (.putfield 283, 3)) (h : nx (sXF ξ 24 v) kk = some res) (hn : pc + 3 = n) (k : ∀ ξ1 : XS, kk ξ1 = some res → CF p l e R s m args below meth c nL cells slots (XB g A s ξ1) Q n lv st) : CF p l e R s m args below meth c nL cells slots (XB g A s ξ) Q pc lv (.int v :: .ref (xa g 0) :: st) := by
  subst hn
  intro H locs ls hB hl
  exact va_put (D := g.1) (ci := 1) (v := .int v) (ty := .int) (C := RX0) (T := TX0) (N := 40) E.1 E.2.1 E.2.2.2.2 in_X0 tyX0 tyX0_ok nmX0 E.2.2.2.1 hB.2.2.2.1 hB.1 hB.2.1 hB.2.2.1 0 rfl rfl 24 (Nat.le_of_ble_eq_true rfl) (E.2.2.2.2 _ q314) (fun _ h9 => h9) rfl (by decide +kernel) rfl rfl (Nat.le_of_ble_eq_true rfl) d (fun H1 locs1 hP hD hS => k _ h H1 locs1 ls ⟨hP, hD, hS, hB.2.2.2⟩ hl)
theorem xgX0_89 (E : EV p s m args c cc nL RX0) (d : decode cc pc = .ok (.getfield 89, 3)) (hn : pc + 3 = n) (k : CF p l e R s m args below meth c nL cells slots (XB g A s ξ) Q n lv (.ref (xa g 123) :: st)) : CF p l e R s m args below meth c nL cells slots (XB g A s ξ) Q pc lv (.ref (xa g 0) :: st) := by
  subst hn
  intro H locs ls hB hl
  exact va_get (D := g.1) (ci := 1) (C := RX0) (T := TX0) (N := 40) E.1 E.2.1 E.2.2.2.2 in_X0 E.2.2.2.1 hB.2.2.2.1 hB.1 0 rfl rfl 23 (Nat.le_of_ble_eq_true rfl) (E.2.2.2.2 _ q313) (fun _ h9 => h9) rfl d (k H locs ls hB hl)
theorem xcpX0_22_23 (E : EV p s m args c cc nL RX0) {sp dp nn : Int32} {kk : XS → Option ρ} (hR : 1 ≤ R.frames ∧ 40 ≤ R.locals) (hcat : (st.map fun v => v.category).sum ≤ 8) (d : decode cc pc = .ok (.invokestatic 286, 3)) (h : (if cpk sp dp nn 6 6 = true ∧ fitB (xR ξ 22) sp.toNatClampNeg nn.toNatClampNeg = true then nx (sXC ξ 23 (va_cpy (xR ξ 22) (xR ξ 23) sp.toNatClampNeg dp.toNatClampNeg nn.toNatClampNeg)) kk else none) = some res) (hn : pc + 3 = n) (k : ∀ ξ1 : XS, kk ξ1 = some res → CF p l e R s m args below meth c nL cells slots (XB g A s ξ1) Q n lv st) : CF p l e R s m args below meth c nL cells slots (XB g A s ξ) Q pc lv (.int nn :: .int dp :: .ref (xa g 123) :: .int sp :: .ref (xa g 122) :: st) := by
  subst hn
  by_cases hi : cpk sp dp nn 6 6 = true ∧ fitB (xR ξ 22) sp.toNatClampNeg nn.toNatClampNeg = true
  · rw [if_pos hi] at h
    have hc := cpk_at hi.1
    intro H locs ls hB hl
    exact va_copyi E.1 E.2.1 (E.2.2.1.trans hl.1.symm) E.2.2.2.1 (E.2.2.2.2 _ q1143) (E.2.2.2.2 _ q1038) (E.2.2.2.2 _ q1037) (E.2.2.2.2 _ q131) hB.2.2.2.1 hB.1 hB.2.1 hB.2.2.1 13 14 1 1 (ty := .byte) rfl rfl rfl rfl rfl hc.1 hc.2.1 hc.2.2.1 hc.2.2.2.1 hc.2.2.2.2 (fitB_at hi.2) hR.1 (Nat.le_trans (Nat.add_le_add hcat (Nat.le_of_ble_eq_true (m := 32) rfl)) hR.2) d (fun H1 locs1 hP hD hS => k _ h H1 locs1 ls ⟨hP, hD, hS, hB.2.2.2⟩ hl)
  · rw [if_neg hi] at h; cases h
theorem xgX0_23 (E : EV p s m args c cc nL RX0) (d : decode cc pc = .ok (.getfield 23, 3)) (hn : pc + 3 = n) (k : CF p l e R s m args below meth c nL cells slots (XB g A s ξ) Q n lv (.ref (xa g 103) :: st)) : CF p l e R s m args below meth c nL cells slots (XB g A s ξ) Q pc lv (.ref (xa g 0) :: st) := by
  subst hn
  intro H locs ls hB hl
  exact va_get (D := g.1) (ci := 1) (C := RX0) (T := TX0) (N := 40) E.1 E.2.1 E.2.2.2.2 in_X0 E.2.2.2.1 hB.2.2.2.1 hB.1 0 rfl rfl 3 (Nat.le_of_ble_eq_true rfl) (E.2.2.2.2 _ q285) (fun _ h9 => h9) rfl d (k H locs ls hB hl)
theorem xaldq_3 {own : String} (E : EV p s m args c cc nL own) {i : Int32} {kk : Nat → Option ρ} (d : decode cc pc = .ok (.aaload, 1)) (h : (if inb i 6 = true then bno (xQ ξ 3 i.toNatClampNeg) kk else none) = some res) (hn : pc + 1 = n) (k : ∀ a, kk a = some res → CF p l e R s m args below meth c nL cells slots (XB g A s ξ) Q n lv (.ref a :: st)) : CF p l e R s m args below meth c nL cells slots (XB g A s ξ) Q pc lv (.int i :: .ref (xa g 103) :: st) := by
  subst hn
  by_cases hi : inb i 6 = true
  · rw [if_pos hi] at h
    obtain ⟨a, ha, h2⟩ := bno_some h
    intro H locs ls hB hl
    refine va_aldq E.1 E.2.1 hB.2.2.2.1 hB.1 4 5 rfl rfl (inb_in hi) d ?_
    rw [ha]
    exact k a h2 H locs ls hB hl
  · rw [if_neg hi] at h; cases h
theorem xdgX0_208 (E : EV p s m args c cc nL RX0) {a : Nat} {kk : Int32 → Option ρ} (d : decode cc pc = .ok (.getfield 208, 3)) (h : bno (dI ξ a 8 14 2) kk = some res) (hn : pc + 3 = n) (k : ∀ v : Int32, kk v = some res → CF p l e R s m args below meth c nL cells slots (XB g A s ξ) Q n lv (.int v :: st)) : CF p l e R s m args below meth c nL cells slots (XB g A s ξ) Q pc lv (.ref a :: st) := by
  subst hn
  obtain ⟨v, hi, h⟩ := bno_some h
  obtain ⟨ci, fs, he, h1, h2, hv⟩ := dI_at hi
  obtain ⟨q0, hq⟩ := dE_at (g := g) he
  intro H locs ls hB hl
  have hci : ci = 8 ∨ ci = 9 ∨ ci = 10 ∨ ci = 11 ∨ ci = 12 ∨ ci = 13 ∨ ci = 14 := by omega
  rcases hci with rfl | rfl | rfl | rfl | rfl | rfl | rfl
  · exact va_get (D := g.1) (ci := 8) (C := RX7) (T := TX7) (N := 5) E.1 E.2.1 E.2.2.2.2 in_X7 E.2.2.2.1 hB.2.2.2.1 hB.1 q0 hq rfl 2 (Nat.le_of_ble_eq_true rfl) (E.2.2.2.2 _ q455) (fun _ h9 => h9) hv d (k v h H locs ls hB hl)
  · exact va_get (D := g.1) (ci := 9) (C := RX8) (T := TX8) (N := 6) E.1 E.2.1 E.2.2.2.2 in_X8 E.2.2.2.1 hB.2.2.2.1 hB.1 q0 hq rfl 2 (Nat.le_of_ble_eq_true rfl) (E.2.2.2.2 _ q455) (fun _ h9 => h9) hv d (k v h H locs ls hB hl)
  · exact va_get (D := g.1) (ci := 10) (C := RX9) (T := TX9) (N := 6) E.1 E.2.1 E.2.2.2.2 in_X9 E.2.2.2.1 hB.2.2.2.1 hB.1 q0 hq rfl 2 (Nat.le_of_ble_eq_true rfl) (E.2.2.2.2 _ q455) (fun _ h9 => h9) hv d (k v h H locs ls hB hl)
  · exact va_get (D := g.1) (ci := 11) (C := RX10) (T := TX10) (N := 6) E.1 E.2.1 E.2.2.2.2 in_X10 E.2.2.2.1 hB.2.2.2.1 hB.1 q0 hq rfl 2 (Nat.le_of_ble_eq_true rfl) (E.2.2.2.2 _ q455) (fun _ h9 => h9) hv d (k v h H locs ls hB hl)
  · exact va_get (D := g.1) (ci := 12) (C := RX11) (T := TX11) (N := 7) E.1 E.2.1 E.2.2.2.2 in_X11 E.2.2.2.1 hB.2.2.2.1 hB.1 q0 hq rfl 2 (Nat.le_of_ble_eq_true rfl) (E.2.2.2.2 _ q455) (fun _ h9 => h9) hv d (k v h H locs ls hB hl)
  · exact va_get (D := g.1) (ci := 13) (C := RX12) (T := TX12) (N := 7) E.1 E.2.1 E.2.2.2.2 in_X12 E.2.2.2.1 hB.2.2.2.1 hB.1 q0 hq rfl 2 (Nat.le_of_ble_eq_true rfl) (E.2.2.2.2 _ q455) (fun _ h9 => h9) hv d (k v h H locs ls hB hl)
  · exact va_get (D := g.1) (ci := 14) (C := RX13) (T := TX13) (N := 8) E.1 E.2.1 E.2.2.2.2 in_X13 E.2.2.2.1 hB.2.2.2.1 hB.1 q0 hq rfl 2 (Nat.le_of_ble_eq_true rfl) (E.2.2.2.2 _ q455) (fun _ h9 => h9) hv d (k v h H locs ls hB hl)
theorem xmX0_max (E : EV p s m args c cc nL RX0) {x y : Int32} (hR : 1 ≤ R.frames ∧ 40 ≤ R.locals) (hcat : (st.map fun v => v.category).sum ≤ 8) (hf : cells ≤ R.cells ∧ slots ≤ R.slots) (d : decode cc pc = .ok (.invokestatic 303, 3)) (hn : pc + 3 = n) (k : CF p l e R s m args below meth c nL cells slots (XB g A s ξ) Q n lv (.int (if x < y then y else x) :: st)) : CF p l e R s m args below meth c nL cells slots (XB g A s ξ) Q pc lv (.int y :: .int x :: st) := by
  subst hn
  intro H locs ls hB hl
  exact va_mmax E.1 E.2.1 (E.2.2.1.trans hl.1.symm) E.2.2.2.1 (E.2.2.2.2 _ q1152) (E.2.2.2.2 _ q668) (E.2.2.2.2 _ q115) (E.2.2.2.2 _ q669) hR.1 (by have := hR.2; omega) hf.1 hf.2 d (k H locs ls hB hl)
theorem xdgX0_184 (E : EV p s m args c cc nL RX0) {a : Nat} {kk : Int32 → Option ρ} (d : decode cc pc = .ok (.getfield 184, 3)) (h : bno (dI ξ a 8 14 3) kk = some res) (hn : pc + 3 = n) (k : ∀ v : Int32, kk v = some res → CF p l e R s m args below meth c nL cells slots (XB g A s ξ) Q n lv (.int v :: st)) : CF p l e R s m args below meth c nL cells slots (XB g A s ξ) Q pc lv (.ref a :: st) := by
  subst hn
  obtain ⟨v, hi, h⟩ := bno_some h
  obtain ⟨ci, fs, he, h1, h2, hv⟩ := dI_at hi
  obtain ⟨q0, hq⟩ := dE_at (g := g) he
  intro H locs ls hB hl
  have hci : ci = 8 ∨ ci = 9 ∨ ci = 10 ∨ ci = 11 ∨ ci = 12 ∨ ci = 13 ∨ ci = 14 := by omega
  rcases hci with rfl | rfl | rfl | rfl | rfl | rfl | rfl
  · exact va_get (D := g.1) (ci := 8) (C := RX7) (T := TX7) (N := 5) E.1 E.2.1 E.2.2.2.2 in_X7 E.2.2.2.1 hB.2.2.2.1 hB.1 q0 hq rfl 3 (Nat.le_of_ble_eq_true rfl) (E.2.2.2.2 _ q457) (fun _ h9 => h9) hv d (k v h H locs ls hB hl)
  · exact va_get (D := g.1) (ci := 9) (C := RX8) (T := TX8) (N := 6) E.1 E.2.1 E.2.2.2.2 in_X8 E.2.2.2.1 hB.2.2.2.1 hB.1 q0 hq rfl 3 (Nat.le_of_ble_eq_true rfl) (E.2.2.2.2 _ q457) (fun _ h9 => h9) hv d (k v h H locs ls hB hl)
  · exact va_get (D := g.1) (ci := 10) (C := RX9) (T := TX9) (N := 6) E.1 E.2.1 E.2.2.2.2 in_X9 E.2.2.2.1 hB.2.2.2.1 hB.1 q0 hq rfl 3 (Nat.le_of_ble_eq_true rfl) (E.2.2.2.2 _ q457) (fun _ h9 => h9) hv d (k v h H locs ls hB hl)
  · exact va_get (D := g.1) (ci := 11) (C := RX10) (T := TX10) (N := 6) E.1 E.2.1 E.2.2.2.2 in_X10 E.2.2.2.1 hB.2.2.2.1 hB.1 q0 hq rfl 3 (Nat.le_of_ble_eq_true rfl) (E.2.2.2.2 _ q457) (fun _ h9 => h9) hv d (k v h H locs ls hB hl)
  · exact va_get (D := g.1) (ci := 12) (C := RX11) (T := TX11) (N := 7) E.1 E.2.1 E.2.2.2.2 in_X11 E.2.2.2.1 hB.2.2.2.1 hB.1 q0 hq rfl 3 (Nat.le_of_ble_eq_true rfl) (E.2.2.2.2 _ q457) (fun _ h9 => h9) hv d (k v h H locs ls hB hl)
  · exact va_get (D := g.1) (ci := 13) (C := RX12) (T := TX12) (N := 7) E.1 E.2.1 E.2.2.2.2 in_X12 E.2.2.2.1 hB.2.2.2.1 hB.1 q0 hq rfl 3 (Nat.le_of_ble_eq_true rfl) (E.2.2.2.2 _ q457) (fun _ h9 => h9) hv d (k v h H locs ls hB hl)
  · exact va_get (D := g.1) (ci := 14) (C := RX13) (T := TX13) (N := 8) E.1 E.2.1 E.2.2.2.2 in_X13 E.2.2.2.1 hB.2.2.2.1 hB.1 q0 hq rfl 3 (Nat.le_of_ble_eq_true rfl) (E.2.2.2.2 _ q457) (fun _ h9 => h9) hv d (k v h H locs ls hB hl)
theorem xgX0_47 (E : EV p s m args c cc nL RX0) (d : decode cc pc = .ok (.getfield 47, 3)) (hn : pc + 3 = n) (k : CF p l e R s m args below meth c nL cells slots (XB g A s ξ) Q n lv (va_rf (xo ξ 11) :: st)) : CF p l e R s m args below meth c nL cells slots (XB g A s ξ) Q pc lv (.ref (xa g 0) :: st) := by
  subst hn
  intro H locs ls hB hl
  exact va_get (D := g.1) (ci := 1) (C := RX0) (T := TX0) (N := 40) E.1 E.2.1 E.2.2.2.2 in_X0 E.2.2.2.1 hB.2.2.2.1 hB.1 0 rfl rfl 11 (Nat.le_of_ble_eq_true rfl) (E.2.2.2.2 _ q294) (fun _ h9 => h9) rfl d (k H locs ls hB hl)
theorem xdgX0_250 (E : EV p s m args c cc nL RX0) {a : Nat} {kk : Nat → Option ρ} (d : decode cc pc = .ok (.getfield 250, 3)) (h : bno (dR ξ a 3 3 1) kk = some res) (hn : pc + 3 = n) (k : ∀ v : Nat, kk v = some res → CF p l e R s m args below meth c nL cells slots (XB g A s ξ) Q n lv (.ref v :: st)) : CF p l e R s m args below meth c nL cells slots (XB g A s ξ) Q pc lv (.ref a :: st) := by
  subst hn
  obtain ⟨v, hi, h⟩ := bno_some h
  obtain ⟨ci, fs, he, h1, h2, hv⟩ := dR_at hi
  obtain ⟨q0, hq⟩ := dE_at (g := g) he
  intro H locs ls hB hl
  have hci : ci = 3 := by omega
  subst hci
  exact va_getN (D := g.1) (ci := 3) (C := RX2) (T := TX2) (N := 4) E.1 E.2.1 E.2.2.2.2 in_X2 E.2.2.2.1 hB.2.2.2.1 hB.1 q0 hq rfl 1 (Nat.le_of_ble_eq_true rfl) (va_Nw.use rfl (hB.2.2.2.2.2.1 _ q209 rfl)) (fun _ h9 => h9) hv d (k v h H locs ls hB hl)
theorem xgX0_37 (E : EV p s m args c cc nL RX0) (d : decode cc pc = .ok (.getfield 37, 3)) (hn : pc + 3 = n) (k : CF p l e R s m args below meth c nL cells slots (XB g A s ξ) Q n lv (.ref (xa g 107) :: st)) : CF p l e R s m args below meth c nL cells slots (XB g A s ξ) Q pc lv (.ref (xa g 0) :: st) := by
  subst hn
  intro H locs ls hB hl
  exact va_get (D := g.1) (ci := 1) (C := RX0) (T := TX0) (N := 40) E.1 E.2.1 E.2.2.2.2 in_X0 E.2.2.2.1 hB.2.2.2.1 hB.1 0 rfl rfl 7 (Nat.le_of_ble_eq_true rfl) (E.2.2.2.2 _ q289) (fun _ h9 => h9) rfl d (k H locs ls hB hl)
theorem xald_7 {own : String} (E : EV p s m args c cc nL own) {i : Int32} {A9 : Option ρ} (d : decode cc pc = .ok (.iaload, 1)) (h : (if inb i 5 = true then A9 else none) = some res) (hn : pc + 1 = n) (k : A9 = some res → CF p l e R s m args below meth c nL cells slots (XB g A s ξ) Q n lv (.int (xR ξ 7 i.toNatClampNeg) :: st)) : CF p l e R s m args below meth c nL cells slots (XB g A s ξ) Q pc lv (.int i :: .ref (xa g 107) :: st) := by
  subst hn
  by_cases hi : inb i 5 = true
  · rw [if_pos hi] at h
    intro H locs ls hB hl
    exact va_iald E.1 E.2.1 hB.2.2.2.1 hB.1 5 0 rfl rfl (inb_in hi) d (k h H locs ls hB hl)
  · rw [if_neg hi] at h; cases h
theorem xdgX0_247 (E : EV p s m args c cc nL RX0) {a : Nat} {kk : Int32 → Option ρ} (d : decode cc pc = .ok (.getfield 247, 3)) (h : bno (dI ξ a 3 3 3) kk = some res) (hn : pc + 3 = n) (k : ∀ v : Int32, kk v = some res → CF p l e R s m args below meth c nL cells slots (XB g A s ξ) Q n lv (.int v :: st)) : CF p l e R s m args below meth c nL cells slots (XB g A s ξ) Q pc lv (.ref a :: st) := by
  subst hn
  obtain ⟨v, hi, h⟩ := bno_some h
  obtain ⟨ci, fs, he, h1, h2, hv⟩ := dI_at hi
  obtain ⟨q0, hq⟩ := dE_at (g := g) he
  intro H locs ls hB hl
  have hci : ci = 3 := by omega
  subst hci
  exact va_getN (D := g.1) (ci := 3) (C := RX2) (T := TX2) (N := 4) E.1 E.2.1 E.2.2.2.2 in_X2 E.2.2.2.1 hB.2.2.2.1 hB.1 q0 hq rfl 3 (Nat.le_of_ble_eq_true rfl) (va_Nw.use rfl (hB.2.2.2.2.2.1 _ q213 rfl)) (fun _ h9 => h9) hv d (k v h H locs ls hB hl)
theorem xgX0_190_0 (E : EV p s m args c cc nL RX0) (d : decode cc pc = .ok (.getfield 190, 3)) (hn : pc + 3 = n) (k : CF p l e R s m args below meth c nL cells slots (XB g A s ξ) Q n lv (.int (xF ξ 203) :: st)) : CF p l e R s m args below meth c nL cells slots (XB g A s ξ) Q pc lv (.ref (xa g 200) :: st) := by
  subst hn
  intro H locs ls hB hl
  exact va_getN (D := g.1) (ci := 2) (C := RX1) (T := TX1) (N := 4) E.1 E.2.1 E.2.2.2.2 in_X1 E.2.2.2.1 hB.2.2.2.1 hB.1 25 rfl rfl 3 (Nat.le_of_ble_eq_true rfl) (va_Nw.use rfl (hB.2.2.2.2.2.1 _ q161 rfl)) (fun _ h9 => h9) rfl d (k H locs ls hB hl)
end XC
def x0_in (N : Nat) (g : XG)   (x0 : Int32) (x1 : Int32) (x2 : Int32) (ξ : XS) : Option (Int32 × XS) :=
  if x0 < x1 then (
    some ((0 : Int32), ξ))
  else (
    if x2 < x0 then (
      some ((0 : Int32), ξ))
    else (
      some ((1 : Int32), ξ)))
set_option maxHeartbeats 4000000 in
theorem met_x0_in (l : Launch) (g : XG) (N : Nat)   (x0 : Int32) (x1 : Int32) (x2 : Int32) (ξ : XS) {v : Int32} {ξ1 : XS} (h : x0_in N g  x0 x1 x2 ξ = some (v, ξ1)) : MetXi l g yX0_in (ws_ yX0_in cX0_in 3 (some .boolean)) { frames := 0, cells := 0, slots := 0, locals := 0 } [.int x0, .int x1, .int x2] ξ v ξ1 0 0 := by
  refine met_xi (lv0 := [(0, .int x0), (1, .int x1), (2, .int x2)]) (own := RX0) (by decide) rfl (Nat.le_of_ble_eq_true rfl) rfl ?_
  intro p e s m below meth c A Q E hq
  have hR : 0 ≤ ({ frames := 0, cells := 0, slots := 0, locals := 0 } : Room).frames ∧ 0 ≤ ({ frames := 0, cells := 0, slots := 0, locals := 0 } : Room).locals := ⟨Nat.le_refl _, Nat.le_refl _⟩
  unfold x0_in at h
  refine cf_iload_n E dX0_in_0 0 rfl rfl ?_
  refine cf_iload_n E dX0_in_1 1 rfl rfl ?_
  refine cf_icmp_lt E dX0_in_2 h rfl rfl (fun h => ?_) (fun h => ?_)
  · refine cf_iconst E dX0_in_14 ic_0 rfl ?_
    exact xret_i dX0_in_15 h nzb0 hq
  · refine cf_iload_n E dX0_in_5 0 rfl rfl ?_
    refine cf_iload_n E dX0_in_6 2 rfl rfl ?_
    refine cf_icmp_gt E dX0_in_7 h rfl rfl (fun h => ?_) (fun h => ?_)
    · refine cf_iconst E dX0_in_14 ic_0 rfl ?_
      exact xret_i dX0_in_15 h nzb0 hq
    · refine cf_iconst E dX0_in_10 ic_1 rfl ?_
      refine cf_goto E dX0_in_11 rfl ?_
      exact xret_i dX0_in_15 h nzb1 hq
def x0_orNone (N : Nat) (g : XG)   (x0 : Int32) (ξ : XS) : Option (Int32 × XS) :=
  if x0 = (-1 : Int32) then (
    some ((-5 : Int32), ξ))
  else (
    some (x0, ξ))
set_option maxHeartbeats 4000000 in
theorem met_x0_orNone (l : Launch) (g : XG) (N : Nat)   (x0 : Int32) (ξ : XS) {v : Int32} {ξ1 : XS} (h : x0_orNone N g  x0 ξ = some (v, ξ1)) : MetXi l g yX0_orNone (ws_ yX0_orNone cX0_orNone 1 (some .int)) { frames := 0, cells := 0, slots := 0, locals := 0 } [.int x0] ξ v ξ1 0 0 := by
  refine met_xi (lv0 := [(0, .int x0)]) (own := RX0) (by decide) rfl (Nat.le_of_ble_eq_true rfl) rfl ?_
  intro p e s m below meth c A Q E hq
  have hR : 0 ≤ ({ frames := 0, cells := 0, slots := 0, locals := 0 } : Room).frames ∧ 0 ≤ ({ frames := 0, cells := 0, slots := 0, locals := 0 } : Room).locals := ⟨Nat.le_refl _, Nat.le_refl _⟩
  unfold x0_orNone at h
  refine cf_iload_n E dX0_orNone_0 0 rfl rfl ?_
  refine cf_iconst E dX0_orNone_1 ic_m1 rfl ?_
  refine cf_icmp_ne E dX0_orNone_2 h rfl rfl (fun h => ?_) (fun h => ?_)
  · refine cf_iload_n E dX0_orNone_10 0 rfl rfl ?_
    exact xret_i dX0_orNone_11 h rfl hq
  · refine cf_bipush E dX0_orNone_5 bp_m5 rfl ?_
    refine cf_goto E dX0_orNone_7 rfl ?_
    exact xret_i dX0_orNone_11 h rfl hq
def x0_isHead (N : Nat) (g : XG)   (x1 : Int32) (ξ : XS) : Option (Int32 × XS) :=
  bnd (x0_in N g x1 (0 : Int32) ((xF ξ 202) - (1 : Int32)) ξ) fun v_2 s_1 =>
  if v_2 = 0 ∨ v_2 = 1 then some (v_2, s_1) else none
section XC
variable {p : Program} {l : Launch} {e : Env} {R : Room} {s : State} {m : MethodId} {args : Array Value} {below : List Frame} {meth : Method} {c : Code} {nL cells slots : Nat} {A : Nat → Prop} {g : XG} {ξ : XS} {Q : State → Prop} {pc n : Nat} {lv : List (Nat × Value)} {st : List Value} {cc : ByteArray} {ρ : Type} {res : ρ}
theorem xclX0_130 (E : EV p s m args c cc nL RX0) {N : Nat}   {x0 : Int32} {x1 : Int32} {x2 : Int32} {kk : Int32 → XS → Option ρ} (hR : 1 ≤ R.frames ∧ 22 ≤ R.locals) (hcat : (st.map fun v => v.category).sum ≤ 8) (hf : cells ≤ R.cells ∧ slots ≤ R.slots) (d : decode cc pc = .ok (.invokestatic 130, 3)) (h : bnd (x0_in N g  x0 x1 x2 ξ) kk = some res) (hn : pc + 3 = n) (k : ∀ (v : Int32) (ξ1 : XS), kk v ξ1 = some res → CF p l e R s m args below meth c nL cells slots (XB g A s ξ1) Q n lv (.int v :: st)) : CF p l e R s m args below meth c nL cells slots (XB g A s ξ) Q pc lv (.int x2 :: .int x1 :: .int x0 :: st) :=
  xcallS0_i (na := 3) E [.int x0, .int x1, .int x2] (fun v ξ1 ho => met_x0_in l g N   x0 x1 x2 ξ ho) (lw_S q415 q416 q96 q417) (by decide +kernel) rfl rfl hR rfl rfl hcat hf d h hn k
end XC
set_option maxHeartbeats 4000000 in
theorem met_x0_isHead (l : Launch) (g : XG) (N : Nat)   (x1 : Int32) (ξ : XS) {v : Int32} {ξ1 : XS} (h : x0_isHead N g  x1 ξ = some (v, ξ1)) : MetXi l g yX0_isHead (ws_ yX0_isHead cX0_isHead 2 (some .boolean)) { frames := 1, cells := 0, slots := 0, locals := 22 } [.ref (xa g 0), .int x1] ξ v ξ1 0 0 := by
  refine met_xi (lv0 := [(0, .ref (xa g 0)), (1, .int x1)]) (own := RX0) (by decide) rfl (Nat.le_of_ble_eq_true rfl) rfl ?_
  intro p e s m below meth c A Q E hq
  have hR : 1 ≤ ({ frames := 1, cells := 0, slots := 0, locals := 22 } : Room).frames ∧ 22 ≤ ({ frames := 1, cells := 0, slots := 0, locals := 22 } : Room).locals := ⟨Nat.le_refl _, Nat.le_refl _⟩
  unfold x0_isHead at h
  refine cf_iload_n E dX0_isHead_0 1 rfl rfl ?_
  refine cf_iconst E dX0_isHead_1 ic_0 rfl ?_
  refine cf_aload_n E dX0_isHead_2 0 rfl rfl ?_
  refine xgX0_30 E dX0_isHead_3 rfl ?_
  refine xgX0_126_0 E dX0_isHead_6 rfl ?_
  refine cf_iconst E dX0_isHead_9 ic_1 rfl ?_
  refine cf_isub E dX0_isHead_10 rfl ?_
  refine xclX0_130 E (rmle hR rfl rfl) (Nat.le_of_ble_eq_true rfl) ⟨Nat.zero_le _, Nat.zero_le _⟩ dX0_isHead_11 h rfl (fun v_2 s_1 h => ?_)
  exact xret_z dX0_isHead_14 h hq
def x0_isHat (N : Nat) (g : XG)   (x1 : Int32) (ξ : XS) : Option (Int32 × XS) :=
  bnd (x0_in N g x1 (0 : Int32) ((xF ξ 4) - (1 : Int32)) ξ) fun v_2 s_1 =>
  if v_2 = 0 ∨ v_2 = 1 then some (v_2, s_1) else none
set_option maxHeartbeats 4000000 in
theorem met_x0_isHat (l : Launch) (g : XG) (N : Nat)   (x1 : Int32) (ξ : XS) {v : Int32} {ξ1 : XS} (h : x0_isHat N g  x1 ξ = some (v, ξ1)) : MetXi l g yX0_isHat (ws_ yX0_isHat cX0_isHat 2 (some .boolean)) { frames := 1, cells := 0, slots := 0, locals := 22 } [.ref (xa g 0), .int x1] ξ v ξ1 0 0 := by
  refine met_xi (lv0 := [(0, .ref (xa g 0)), (1, .int x1)]) (own := RX0) (by decide) rfl (Nat.le_of_ble_eq_true rfl) rfl ?_
  intro p e s m below meth c A Q E hq
  have hR : 1 ≤ ({ frames := 1, cells := 0, slots := 0, locals := 22 } : Room).frames ∧ 22 ≤ ({ frames := 1, cells := 0, slots := 0, locals := 22 } : Room).locals := ⟨Nat.le_refl _, Nat.le_refl _⟩
  unfold x0_isHat at h
  refine cf_iload_n E dX0_isHat_0 1 rfl rfl ?_
  refine cf_iconst E dX0_isHat_1 ic_0 rfl ?_
  refine cf_aload_n E dX0_isHat_2 0 rfl rfl ?_
  refine xgX0_134 E dX0_isHat_3 rfl ?_
  refine cf_iconst E dX0_isHat_6 ic_1 rfl ?_
  refine cf_isub E dX0_isHat_7 rfl ?_
  refine xclX0_130 E (rmle hR rfl rfl) (Nat.le_of_ble_eq_true rfl) ⟨Nat.zero_le _, Nat.zero_le _⟩ dX0_isHat_8 h rfl (fun v_2 s_1 h => ?_)
  exact xret_z dX0_isHat_11 h hq
def x0_isTrade (N : Nat) (g : XG)   (x0 : Int32) (ξ : XS) : Option (Int32 × XS) :=
  bnd (x0_in N g x0 (0 : Int32) (4 : Int32) ξ) fun v_2 s_1 =>
  if v_2 = 0 ∨ v_2 = 1 then some (v_2, s_1) else none
set_option maxHeartbeats 4000000 in
theorem met_x0_isTrade (l : Launch) (g : XG) (N : Nat)   (x0 : Int32) (ξ : XS) {v : Int32} {ξ1 : XS} (h : x0_isTrade N g  x0 ξ = some (v, ξ1)) : MetXi l g yX0_isTrade (ws_ yX0_isTrade cX0_isTrade 1 (some .boolean)) { frames := 1, cells := 0, slots := 0, locals := 22 } [.int x0] ξ v ξ1 0 0 := by
  refine met_xi (lv0 := [(0, .int x0)]) (own := RX0) (by decide) rfl (Nat.le_of_ble_eq_true rfl) rfl ?_
  intro p e s m below meth c A Q E hq
  have hR : 1 ≤ ({ frames := 1, cells := 0, slots := 0, locals := 22 } : Room).frames ∧ 22 ≤ ({ frames := 1, cells := 0, slots := 0, locals := 22 } : Room).locals := ⟨Nat.le_refl _, Nat.le_refl _⟩
  unfold x0_isTrade at h
  refine cf_iload_n E dX0_isTrade_0 0 rfl rfl ?_
  refine cf_iconst E dX0_isTrade_1 ic_0 rfl ?_
  refine cf_iconst E dX0_isTrade_2 ic_4 rfl ?_
  refine xclX0_130 E (rmle hR rfl rfl) (Nat.le_of_ble_eq_true rfl) ⟨Nat.zero_le _, Nat.zero_le _⟩ dX0_isTrade_3 h rfl (fun v_2 s_1 h => ?_)
  exact xret_z dX0_isTrade_6 h hq
def x0_isTape (N : Nat) (g : XG)   (x0 : Int32) (ξ : XS) : Option (Int32 × XS) :=
  bnd (x0_in N g x0 (0 : Int32) (5 : Int32) ξ) fun v_2 s_1 =>
  if v_2 = 0 ∨ v_2 = 1 then some (v_2, s_1) else none
set_option maxHeartbeats 4000000 in
theorem met_x0_isTape (l : Launch) (g : XG) (N : Nat)   (x0 : Int32) (ξ : XS) {v : Int32} {ξ1 : XS} (h : x0_isTape N g  x0 ξ = some (v, ξ1)) : MetXi l g yX0_isTape (ws_ yX0_isTape cX0_isTape 1 (some .boolean)) { frames := 1, cells := 0, slots := 0, locals := 22 } [.int x0] ξ v ξ1 0 0 := by
  refine met_xi (lv0 := [(0, .int x0)]) (own := RX0) (by decide) rfl (Nat.le_of_ble_eq_true rfl) rfl ?_
  intro p e s m below meth c A Q E hq
  have hR : 1 ≤ ({ frames := 1, cells := 0, slots := 0, locals := 22 } : Room).frames ∧ 22 ≤ ({ frames := 1, cells := 0, slots := 0, locals := 22 } : Room).locals := ⟨Nat.le_refl _, Nat.le_refl _⟩
  unfold x0_isTape at h
  refine cf_iload_n E dX0_isTape_0 0 rfl rfl ?_
  refine cf_iconst E dX0_isTape_1 ic_0 rfl ?_
  refine cf_iconst E dX0_isTape_2 ic_5 rfl ?_
  refine xclX0_130 E (rmle hR rfl rfl) (Nat.le_of_ble_eq_true rfl) ⟨Nat.zero_le _, Nat.zero_le _⟩ dX0_isTape_3 h rfl (fun v_2 s_1 h => ?_)
  exact xret_z dX0_isTape_6 h hq
def x0_head (N : Nat) (g : XG)   (x1 : Int32) (ξ : XS) : Option (Int32 × XS) :=
  bnd (x0_in N g x1 (0 : Int32) (9 : Int32) ξ) fun v_2 s_1 =>
  if v_2 = 0 then (
    some ((-2 : Int32), s_1))
  else (
    if (xF s_1 202) = (6 : Int32) then (
      some ((-4 : Int32), s_1))
    else (
      if inb (xF s_1 202) 6 = true then nx (sXR s_1 0 (xF s_1 202).toNatClampNeg x1) (fun s_3 =>
      if inb (xF s_3 202) 6 = true then nx (sXR s_3 1 (xF s_3 202).toNatClampNeg (-1 : Int32)) (fun s_4 =>
      if inb (xF s_4 202) 6 = true then nx (sXR s_4 200 (xF s_4 202).toNatClampNeg (vp_nar .byte (-1 : Int32))) (fun s_5 =>
      nx (sXF s_5 202 ((xF s_5 202) + (1 : Int32))) fun s_6 =>
      some ((xF s_5 202), s_6)) else none) else none) else none))
set_option maxHeartbeats 4000000 in
theorem met_x0_head (l : Launch) (g : XG) (N : Nat)   (x1 : Int32) (ξ : XS) {v : Int32} {ξ1 : XS} (h : x0_head N g  x1 ξ = some (v, ξ1)) : MetXi l g yX0_head (ws_ yX0_head cX0_head 2 (some .int)) { frames := 1, cells := 0, slots := 0, locals := 22 } [.ref (xa g 0), .int x1] ξ v ξ1 0 0 := by
  refine met_xi (lv0 := [(0, .ref (xa g 0)), (1, .int x1)]) (own := RX0) (by decide) rfl (Nat.le_of_ble_eq_true rfl) rfl ?_
  intro p e s m below meth c A Q E hq
  have hR : 1 ≤ ({ frames := 1, cells := 0, slots := 0, locals := 22 } : Room).frames ∧ 22 ≤ ({ frames := 1, cells := 0, slots := 0, locals := 22 } : Room).locals := ⟨Nat.le_refl _, Nat.le_refl _⟩
  unfold x0_head at h
  refine cf_iload_n E dX0_head_0 1 rfl rfl ?_
  refine cf_iconst E dX0_head_1 ic_0 rfl ?_
  refine cf_bipush E dX0_head_2 bp_9 rfl ?_
  refine xclX0_130 E (rmle hR rfl rfl) (Nat.le_of_ble_eq_true rfl) ⟨Nat.zero_le _, Nat.zero_le _⟩ dX0_head_4 h rfl (fun v_2 s_1 h => ?_)
  refine cf_if_ne E dX0_head_7 h rfl rfl (fun h => ?_) (fun h => ?_)
  · refine cf_aload_n E dX0_head_13 0 rfl rfl ?_
    refine xgX0_30 E dX0_head_14 rfl ?_
    refine xgX0_126_0 E dX0_head_17 rfl ?_
    refine cf_bipush E dX0_head_20 bp_6 rfl ?_
    refine cf_icmp_ne E dX0_head_22 h rfl rfl (fun h => ?_) (fun h => ?_)
    · refine cf_aload_n E dX0_head_28 0 rfl rfl ?_
      refine xgX0_11 E dX0_head_29 rfl ?_
      refine cf_aload_n E dX0_head_32 0 rfl rfl ?_
      refine xgX0_30 E dX0_head_33 rfl ?_
      refine xgX0_126_0 E dX0_head_36 rfl ?_
      refine cf_iload_n E dX0_head_39 1 rfl rfl ?_
      refine xast_0 E dX0_head_40 h rfl (fun s_3 h => ?_)
      refine cf_aload_n E dX0_head_41 0 rfl rfl ?_
      refine xgX0_15 E dX0_head_42 rfl ?_
      refine cf_aload_n E dX0_head_45 0 rfl rfl ?_
      refine xgX0_30 E dX0_head_46 rfl ?_
      refine xgX0_126_0 E dX0_head_49 rfl ?_
      refine cf_iconst E dX0_head_52 ic_m1 rfl ?_
      refine xast_1 E dX0_head_53 h rfl (fun s_4 h => ?_)
      refine cf_aload_n E dX0_head_54 0 rfl rfl ?_
      refine xgX0_30 E dX0_head_55 rfl ?_
      refine xgX0_137_0 E dX0_head_58 rfl ?_
      refine cf_aload_n E dX0_head_61 0 rfl rfl ?_
      refine xgX0_30 E dX0_head_62 rfl ?_
      refine xgX0_126_0 E dX0_head_65 rfl ?_
      refine cf_iconst E dX0_head_68 ic_m1 rfl ?_
      refine xastT_0_0 E dX0_head_69 h rfl (fun s_5 h => ?_)
      refine cf_aload_n E dX0_head_70 0 rfl rfl ?_
      refine xgX0_30 E dX0_head_71 rfl ?_
      refine cf_dup E dX0_head_74 rfl rfl ?_
      refine xgX0_126_0 E dX0_head_75 rfl ?_
      refine cf_dup_x1 E dX0_head_78 rfl rfl rfl ?_
      refine cf_iconst E dX0_head_79 ic_1 rfl ?_
      refine cf_iadd E dX0_head_80 rfl ?_
      refine xpX0_126_0 E dX0_head_81 h rfl (fun s_6 h => ?_)
      exact xret_i dX0_head_84 h rfl hq
    · refine cf_bipush E dX0_head_25 bp_m4 rfl ?_
      exact xret_i dX0_head_27 h rfl hq
  · refine cf_bipush E dX0_head_10 bp_m2 rfl ?_
    exact xret_i dX0_head_12 h rfl hq
def x0_at (N : Nat) (g : XG)   (x1 : Int32) (x2 : Int32) (ξ : XS) : Option (Int32 × XS) :=
  bnd (x0_isHead N g x1 ξ) fun v_2 s_1 =>
  if v_2 = 0 then (
    some ((-1 : Int32), s_1))
  else (
    if x2 = 0 then (
      if inb x1 6 = true then (
      some ((xR s_1 0 x1.toNatClampNeg), s_1)) else none)
    else (
      if x2 = (1 : Int32) then (
        if inb x1 6 = true then (
        bnd (x0_orNone N g (xR s_1 200 x1.toNatClampNeg) s_1) fun v_6 s_5 =>
        some (v_6, s_5)) else none)
      else (
        if x2 = (2 : Int32) then (
          if inb x1 6 = true then (
          bnd (x0_orNone N g (xR s_1 1 x1.toNatClampNeg) s_1) fun v_4 s_3 =>
          some (v_4, s_3)) else none)
        else (
          some ((-1 : Int32), s_1)))))
section XC
variable {p : Program} {l : Launch} {e : Env} {R : Room} {s : State} {m : MethodId} {args : Array Value} {below : List Frame} {meth : Method} {c : Code} {nL cells slots : Nat} {A : Nat → Prop} {g : XG} {ξ : XS} {Q : State → Prop} {pc n : Nat} {lv : List (Nat × Value)} {st : List Value} {cc : ByteArray} {ρ : Type} {res : ρ}
theorem xclX0_218 (E : EV p s m args c cc nL RX0) {N : Nat}   {x1 : Int32} {kk : Int32 → XS → Option ρ} (hR : 2 ≤ R.frames ∧ 43 ≤ R.locals) (hcat : (st.map fun v => v.category).sum ≤ 8) (hf : cells ≤ R.cells ∧ slots ≤ R.slots) (d : decode cc pc = .ok (.invokevirtual 218, 3)) (h : bnd (x0_isHead N g  x1 ξ) kk = some res) (hn : pc + 3 = n) (k : ∀ (v : Int32) (ξ1 : XS), kk v ξ1 = some res → CF p l e R s m args below meth c nL cells slots (XB g A s ξ1) Q n lv (.int v :: st)) : CF p l e R s m args below meth c nL cells slots (XB g A s ξ) Q pc lv (.int x1 :: .ref (xa g 0) :: st) :=
  xcallV0_i (na := 1) E [.int x1] (fun v ξ1 ho => met_x0_isHead l g N   x1 ξ ho) (C := RX0) (lw_V q600 q602 qs2 q96 q603) (by decide +kernel) ⟨0, 1, _, _, rfl, rfl, rfl⟩ rfl rfl hR rfl rfl hcat hf d h hn k
theorem xclX0_215 (E : EV p s m args c cc nL RX0) {N : Nat}   {x0 : Int32} {kk : Int32 → XS → Option ρ} (hR : 1 ≤ R.frames ∧ 20 ≤ R.locals) (hcat : (st.map fun v => v.category).sum ≤ 8) (hf : cells ≤ R.cells ∧ slots ≤ R.slots) (d : decode cc pc = .ok (.invokestatic 215, 3)) (h : bnd (x0_orNone N g  x0 ξ) kk = some res) (hn : pc + 3 = n) (k : ∀ (v : Int32) (ξ1 : XS), kk v ξ1 = some res → CF p l e R s m args below meth c nL cells slots (XB g A s ξ1) Q n lv (.int v :: st)) : CF p l e R s m args below meth c nL cells slots (XB g A s ξ) Q pc lv (.int x0 :: st) :=
  xcallS0_i (na := 1) E [.int x0] (fun v ξ1 ho => met_x0_orNone l g N   x0 ξ ho) (lw_S q597 q598 q96 q599) (by decide +kernel) rfl rfl hR rfl rfl hcat hf d h hn k
end XC
set_option maxHeartbeats 4000000 in
theorem met_x0_at (l : Launch) (g : XG) (N : Nat)   (x1 : Int32) (x2 : Int32) (ξ : XS) {v : Int32} {ξ1 : XS} (h : x0_at N g  x1 x2 ξ = some (v, ξ1)) : MetXi l g yX0_at (ws_ yX0_at cX0_at 3 (some .int)) { frames := 2, cells := 0, slots := 0, locals := 43 } [.ref (xa g 0), .int x1, .int x2] ξ v ξ1 0 0 := by
  refine met_xi (lv0 := [(0, .ref (xa g 0)), (1, .int x1), (2, .int x2)]) (own := RX0) (by decide) rfl (Nat.le_of_ble_eq_true rfl) rfl ?_
  intro p e s m below meth c A Q E hq
  have hR : 2 ≤ ({ frames := 2, cells := 0, slots := 0, locals := 43 } : Room).frames ∧ 43 ≤ ({ frames := 2, cells := 0, slots := 0, locals := 43 } : Room).locals := ⟨Nat.le_refl _, Nat.le_refl _⟩
  unfold x0_at at h
  refine cf_aload_n E dX0_at_0 0 rfl rfl ?_
  refine cf_iload_n E dX0_at_1 1 rfl rfl ?_
  refine xclX0_218 E (rmle hR rfl rfl) (Nat.le_of_ble_eq_true rfl) ⟨Nat.zero_le _, Nat.zero_le _⟩ dX0_at_2 h rfl (fun v_2 s_1 h => ?_)
  refine cf_if_ne E dX0_at_5 h rfl rfl (fun h => ?_) (fun h => ?_)
  · refine cf_iload_n E dX0_at_10 2 rfl rfl ?_
    refine cf_if_ne E dX0_at_11 h rfl rfl (fun h => ?_) (fun h => ?_)
    · refine cf_iload_n E dX0_at_23 2 rfl rfl ?_
      refine cf_iconst E dX0_at_24 ic_1 rfl ?_
      refine cf_icmp_ne E dX0_at_25 h rfl rfl (fun h => ?_) (fun h => ?_)
      · refine cf_iload_n E dX0_at_43 2 rfl rfl ?_
        refine cf_iconst E dX0_at_44 ic_2 rfl ?_
        refine cf_icmp_ne E dX0_at_45 h rfl rfl (fun h => ?_) (fun h => ?_)
        · refine cf_iconst E dX0_at_60 ic_m1 rfl ?_
          exact xret_i dX0_at_61 h rfl hq
        · refine cf_aload_n E dX0_at_48 0 rfl rfl ?_
          refine xgX0_15 E dX0_at_49 rfl ?_
          refine cf_iload_n E dX0_at_52 1 rfl rfl ?_
          refine xald_1 E dX0_at_53 h rfl (fun h => ?_)
          refine xclX0_215 E (rmle hR rfl rfl) (Nat.le_of_ble_eq_true rfl) ⟨Nat.zero_le _, Nat.zero_le _⟩ dX0_at_54 h rfl (fun v_4 s_3 h => ?_)
          refine cf_goto E dX0_at_57 rfl ?_
          exact xret_i dX0_at_61 h rfl hq
      · refine cf_aload_n E dX0_at_28 0 rfl rfl ?_
        refine xgX0_30 E dX0_at_29 rfl ?_
        refine xgX0_137_0 E dX0_at_32 rfl ?_
        refine cf_iload_n E dX0_at_35 1 rfl rfl ?_
        refine xaldT_0_0 E dX0_at_36 h rfl (fun h => ?_)
        refine xclX0_215 E (rmle hR rfl rfl) (Nat.le_of_ble_eq_true rfl) ⟨Nat.zero_le _, Nat.zero_le _⟩ dX0_at_37 h rfl (fun v_6 s_5 h => ?_)
        refine cf_goto E dX0_at_40 rfl ?_
        exact xret_i dX0_at_61 h rfl hq
    · refine cf_aload_n E dX0_at_14 0 rfl rfl ?_
      refine xgX0_11 E dX0_at_15 rfl ?_
      refine cf_iload_n E dX0_at_18 1 rfl rfl ?_
      refine xald_0 E dX0_at_19 h rfl (fun h => ?_)
      refine cf_goto E dX0_at_20 rfl ?_
      exact xret_i dX0_at_61 h rfl hq
  · refine cf_iconst E dX0_at_8 ic_m1 rfl ?_
    exact xret_i dX0_at_9 h rfl hq
def x1_headOf_2b (N : Nat) (g : XG) (t0 : Nat)  (rec2 : Int32 → Int32 → XS → Option (Int32 × XS)) (x1 : Int32) (x2 : Int32) (ξ : XS) : Option (Int32 × XS) :=
  if (xF ξ (202 + 10 * t0)) ≤ x2 then (
    some ((-1 : Int32), ξ))
  else (
    if inb x2 6 = true then (
    if (xR ξ (200 + 10 * t0) x2.toNatClampNeg) = x1 then (
      some (x2, ξ))
    else (
      nx (x2 + (1 : Int32)) fun x2_1 =>
      rec2 x1 x2_1 ξ)) else none)
def x1_headOf_2 (N : Nat) (g : XG) (t0 : Nat)  : Nat → Int32 → Int32 → XS → Option (Int32 × XS)
  | 0 => fun _ _ _ => none
  | k + 1 => fun x1 x2 ξ => x1_headOf_2b N g t0  (x1_headOf_2 N g t0  k) x1 x2 ξ
def x1_headOf (N : Nat) (g : XG) (t0 : Nat)  (x1 : Int32) (ξ : XS) : Option (Int32 × XS) :=
  nx ((0 : Int32) : Int32) fun x2_1 =>
  x1_headOf_2 N g t0 N x1 x2_1 ξ
set_option maxHeartbeats 4000000 in
theorem wx1_headOf_2b {p : Program} {l : Launch} {e : Env} {R : Room} {s : State} {m : MethodId} {args : Array Value} {below : List Frame} {meth : Method} {c : Code} {A : Nat → Prop} {g : XG} {Q : State → Prop} (E : EV p s m args c cX1_headOf 3 RX1) (hR : 0 ≤ R.frames ∧ 0 ≤ R.locals) {res : Int32 × XS} (hq : XTi p l e R s m args below meth c cX1_headOf 3 0 0 A g .int Q res) (N : Nat) (t0 : Nat) (ht0 : t0 < 3)  {rec2 : Int32 → Int32 → XS → Option (Int32 × XS)} (ih2 : ∀ (x1 : Int32) (x2 : Int32) (ξ : XS), rec2 x1 x2 ξ = some res → CF p l e R s m args below meth c 3 0 0 (XB g A s ξ) Q 2 [(0, .ref (xa g (200 + 10 * t0))), (1, .int x1), (2, .int x2)] []) (x1 : Int32) (x2 : Int32) (ξ : XS) (h : x1_headOf_2b N g t0  rec2 x1 x2 ξ = some res) : CF p l e R s m args below meth c 3 0 0 (XB g A s ξ) Q 2 [(0, .ref (xa g (200 + 10 * t0))), (1, .int x1), (2, .int x2)] [] := by
  unfold x1_headOf_2b at h
  refine cf_iload_n E dX1_headOf_2 2 rfl rfl ?_
  refine cf_aload_n E dX1_headOf_3 0 rfl rfl ?_
  refine xgX1_25 E ht0 dX1_headOf_4 rfl ?_
  refine cf_icmp_ge E dX1_headOf_7 h rfl rfl (fun h => ?_) (fun h => ?_)
  · refine cf_iconst E dX1_headOf_28 ic_m1 rfl ?_
    exact xret_i dX1_headOf_29 h rfl hq
  · refine cf_aload_n E dX1_headOf_10 0 rfl rfl ?_
    refine xgX1_9 E ht0 dX1_headOf_11 rfl ?_
    refine cf_iload_n E dX1_headOf_14 2 rfl rfl ?_
    refine xaldT_0 E ht0 dX1_headOf_15 h rfl (fun h => ?_)
    refine cf_iload_n E dX1_headOf_16 1 rfl rfl ?_
    refine cf_icmp_ne E dX1_headOf_17 h rfl rfl (fun h => ?_) (fun h => ?_)
    · refine cf_iinc E dX1_headOf_22 ic_1 h 2 rfl (fun x2_1 => [(2, .int x2_1), (0, .ref (xa g (200 + 10 * t0))), (1, .int x1)]) (Nat.le_of_ble_eq_true rfl) (fun _ => rfl) rfl (fun x2_1 h => ?_)
      refine cf_goto E dX1_headOf_25 rfl ?_
      exact CF.sub [1, 2, 0] rfl (ih2 x1 x2_1 ξ h)
    · refine cf_iload_n E dX1_headOf_20 2 rfl rfl ?_
      exact xret_i dX1_headOf_21 h rfl hq
set_option maxHeartbeats 4000000 in
theorem wx1_headOf_2 {p : Program} {l : Launch} {e : Env} {R : Room} {s : State} {m : MethodId} {args : Array Value} {below : List Frame} {meth : Method} {c : Code} {A : Nat → Prop} {g : XG} {Q : State → Prop} (E : EV p s m args c cX1_headOf 3 RX1) (hR : 0 ≤ R.frames ∧ 0 ≤ R.locals) {res : Int32 × XS} (hq : XTi p l e R s m args below meth c cX1_headOf 3 0 0 A g .int Q res) (N : Nat) (t0 : Nat) (ht0 : t0 < 3)  : ∀ (k : Nat) (x1 : Int32) (x2 : Int32) (ξ : XS), x1_headOf_2 N g t0  k x1 x2 ξ = some res → CF p l e R s m args below meth c 3 0 0 (XB g A s ξ) Q 2 [(0, .ref (xa g (200 + 10 * t0))), (1, .int x1), (2, .int x2)] [] := by
  intro k
  induction k with
  | zero => intro x1 x2 ξ h; have h : (none : Option (Int32 × XS)) = some res := h; cases h
  | succ k ih => intro x1 x2 ξ h; exact wx1_headOf_2b E hR hq N t0 ht0  ih x1 x2 ξ h
set_option maxHeartbeats 4000000 in
theorem met_x1_headOf (l : Launch) (g : XG) (N : Nat) (t0 : Nat) (ht0 : t0 < 3) (x1 : Int32) (ξ : XS) {v : Int32} {ξ1 : XS} (h : x1_headOf N g t0 x1 ξ = some (v, ξ1)) : MetXi l g yX1_headOf (ws_ yX1_headOf cX1_headOf 3 (some .int)) { frames := 0, cells := 0, slots := 0, locals := 0 } [.ref (xa g (200 + 10 * t0)), .int x1] ξ v ξ1 0 0 := by
  refine met_xi (lv0 := [(0, .ref (xa g (200 + 10 * t0))), (1, .int x1)]) (own := RX1) (by decide) rfl (Nat.le_of_ble_eq_true rfl) rfl ?_
  intro p e s m below meth c A Q E hq
  have hR : 0 ≤ ({ frames := 0, cells := 0, slots := 0, locals := 0 } : Room).frames ∧ 0 ≤ ({ frames := 0, cells := 0, slots := 0, locals := 0 } : Room).locals := ⟨Nat.le_refl _, Nat.le_refl _⟩
  unfold x1_headOf at h
  refine cf_iconst E dX1_headOf_0 ic_0 rfl ?_
  refine cf_istore_n E dX1_headOf_1 h (fun x2_1 => [(2, .int x2_1), (0, .ref (xa g (200 + 10 * t0))), (1, .int x1)]) (Nat.le_of_ble_eq_true rfl) (fun _ => rfl) rfl (fun x2_1 h => ?_)
  exact CF.sub [1, 2, 0] rfl (wx1_headOf_2 E hR hq N t0 ht0 N x1 x2_1 ξ h)
def x0_put_97 (N : Nat) (g : XG)   (x3 : Int32) (ξ : XS) : Option (Int32 × XS) :=
  bnd (x0_orNone N g x3 ξ) fun v_2 s_1 =>
  some (v_2, s_1)
def x0_put_81 (N : Nat) (g : XG)   (x1 : Int32) (x2 : Int32) (x3 : Int32) (ξ : XS) : Option (Int32 × XS) :=
  if x2 = (-1 : Int32) then (
    x0_put_97 N g x3 ξ)
  else (
    if inb x2 6 = true then nx (sXR ξ 200 x2.toNatClampNeg (vp_nar .byte (x1.toInt8.toInt32))) (fun s_1 =>
    x0_put_97 N g x3 s_1) else none)
def x0_put_57 (N : Nat) (g : XG)   (x1 : Int32) (x2 : Int32) (ξ : XS) : Option (Int32 × XS) :=
  bnd (x1_headOf N g 0 x1 ξ) fun v_2 s_1 =>
  nx (v_2 : Int32) fun x3_3 =>
  if x3_3 = (-1 : Int32) then (
    x0_put_81 N g x1 x2 x3_3 s_1)
  else (
    if inb x3_3 6 = true then nx (sXR s_1 200 x3_3.toNatClampNeg (vp_nar .byte (-1 : Int32))) (fun s_4 =>
    x0_put_81 N g x1 x2 x3_3 s_4) else none)
def x0_put_23 (N : Nat) (g : XG)   (x1 : Int32) (x2 : Int32) (ξ : XS) : Option (Int32 × XS) :=
  if x2 = (-1 : Int32) then (
    x0_put_57 N g x1 x2 ξ)
  else (
    if inb x2 6 = true then (
    if (xR ξ 200 x2.toNatClampNeg) = (-1 : Int32) then (
      x0_put_57 N g x1 x2 ξ)
    else (
      if inb x2 6 = true then (
      if (xR ξ 200 x2.toNatClampNeg) = x1 then (
        x0_put_57 N g x1 x2 ξ)
      else (
        some ((-3 : Int32), ξ))) else none)) else none)
def x0_put (N : Nat) (g : XG)   (x1 : Int32) (x2 : Int32) (ξ : XS) : Option (Int32 × XS) :=
  bnd (x0_isHat N g x1 ξ) fun v_2 s_1 =>
  if v_2 = 0 then (
    some ((-1 : Int32), s_1))
  else (
    if x2 = (-1 : Int32) then (
      x0_put_23 N g x1 x2 s_1)
    else (
      bnd (x0_isHead N g x2 s_1) fun v_4 s_3 =>
      if v_4 = 0 then (
        some ((-1 : Int32), s_3))
      else (
        x0_put_23 N g x1 x2 s_3)))
section XC
variable {p : Program} {l : Launch} {e : Env} {R : Room} {s : State} {m : MethodId} {args : Array Value} {below : List Frame} {meth : Method} {c : Code} {nL cells slots : Nat} {A : Nat → Prop} {g : XG} {ξ : XS} {Q : State → Prop} {pc n : Nat} {lv : List (Nat × Value)} {st : List Value} {cc : ByteArray} {ρ : Type} {res : ρ}
theorem xclX0_211 (E : EV p s m args c cc nL RX0) {N : Nat} {t0 : Nat} (ht0 : t0 < 3) {x1 : Int32} {kk : Int32 → XS → Option ρ} (hR : 1 ≤ R.frames ∧ 22 ≤ R.locals) (hcat : (st.map fun v => v.category).sum ≤ 8) (hf : cells ≤ R.cells ∧ slots ≤ R.slots) (d : decode cc pc = .ok (.invokevirtual 211, 3)) (h : bnd (x1_headOf N g t0 x1 ξ) kk = some res) (hn : pc + 3 = n) (k : ∀ (v : Int32) (ξ1 : XS), kk v ξ1 = some res → CF p l e R s m args below meth c nL cells slots (XB g A s ξ1) Q n lv (.int v :: st)) : CF p l e R s m args below meth c nL cells slots (XB g A s ξ) Q pc lv (.int x1 :: .ref (xa g (200 + 10 * t0)) :: st) :=
  xcallV0_i (na := 1) E [.int x1] (fun v ξ1 ho => met_x1_headOf l g N t0 ht0 x1 ξ ho) (C := RX1) (lw_V q593 q594 q595 q97 q596) (by decide +kernel) (xrecvT ht0) rfl rfl hR rfl rfl hcat hf d h hn k
theorem xclX0_202 (E : EV p s m args c cc nL RX0) {N : Nat}   {x1 : Int32} {kk : Int32 → XS → Option ρ} (hR : 2 ≤ R.frames ∧ 43 ≤ R.locals) (hcat : (st.map fun v => v.category).sum ≤ 8) (hf : cells ≤ R.cells ∧ slots ≤ R.slots) (d : decode cc pc = .ok (.invokevirtual 202, 3)) (h : bnd (x0_isHat N g  x1 ξ) kk = some res) (hn : pc + 3 = n) (k : ∀ (v : Int32) (ξ1 : XS), kk v ξ1 = some res → CF p l e R s m args below meth c nL cells slots (XB g A s ξ1) Q n lv (.int v :: st)) : CF p l e R s m args below meth c nL cells slots (XB g A s ξ) Q pc lv (.int x1 :: .ref (xa g 0) :: st) :=
  xcallV0_i (na := 1) E [.int x1] (fun v ξ1 ho => met_x0_isHat l g N   x1 ξ ho) (C := RX0) (lw_V q566 q568 qs1 q96 q569) (by decide +kernel) ⟨0, 1, _, _, rfl, rfl, rfl⟩ rfl rfl hR rfl rfl hcat hf d h hn k
end XC
set_option maxHeartbeats 4000000 in
theorem wx0_put_97 {p : Program} {l : Launch} {e : Env} {R : Room} {s : State} {m : MethodId} {args : Array Value} {below : List Frame} {meth : Method} {c : Code} {A : Nat → Prop} {g : XG} {Q : State → Prop} (E : EV p s m args c cX0_put 4 RX0) (hR : 2 ≤ R.frames ∧ 43 ≤ R.locals) {res : Int32 × XS} (hq : XTi p l e R s m args below meth c cX0_put 4 0 0 A g .int Q res) (N : Nat)    (x3 : Int32) (ξ : XS) (h : x0_put_97 N g   x3 ξ = some res) : CF p l e R s m args below meth c 4 0 0 (XB g A s ξ) Q 97 [(3, .int x3)] [] := by
  unfold x0_put_97 at h
  refine cf_iload_n E dX0_put_97 0 rfl rfl ?_
  refine xclX0_215 E (rmle hR rfl rfl) (Nat.le_of_ble_eq_true rfl) ⟨Nat.zero_le _, Nat.zero_le _⟩ dX0_put_98 h rfl (fun v_2 s_1 h => ?_)
  exact xret_i dX0_put_101 h rfl hq
set_option maxHeartbeats 4000000 in
theorem wx0_put_81 {p : Program} {l : Launch} {e : Env} {R : Room} {s : State} {m : MethodId} {args : Array Value} {below : List Frame} {meth : Method} {c : Code} {A : Nat → Prop} {g : XG} {Q : State → Prop} (E : EV p s m args c cX0_put 4 RX0) (hR : 2 ≤ R.frames ∧ 43 ≤ R.locals) {res : Int32 × XS} (hq : XTi p l e R s m args below meth c cX0_put 4 0 0 A g .int Q res) (N : Nat)    (x1 : Int32) (x2 : Int32) (x3 : Int32) (ξ : XS) (h : x0_put_81 N g   x1 x2 x3 ξ = some res) : CF p l e R s m args below meth c 4 0 0 (XB g A s ξ) Q 81 [(0, .ref (xa g 0)), (1, .int x1), (2, .int x2), (3, .int x3)] [] := by
  unfold x0_put_81 at h
  refine cf_iload_n E dX0_put_81 2 rfl rfl ?_
  refine cf_iconst E dX0_put_82 ic_m1 rfl ?_
  refine cf_icmp_eq E dX0_put_83 h rfl rfl (fun h => ?_) (fun h => ?_)
  · exact CF.sub [3] rfl (wx0_put_97 E hR hq N x3 ξ h)
  · refine cf_aload_n E dX0_put_86 0 rfl rfl ?_
    refine xgX0_30 E dX0_put_87 rfl ?_
    refine xgX0_137_0 E dX0_put_90 rfl ?_
    refine cf_iload_n E dX0_put_93 2 rfl rfl ?_
    refine cf_iload_n E dX0_put_94 1 rfl rfl ?_
    refine cf_i2b E dX0_put_95 rfl ?_
    refine xastT_0_0 E dX0_put_96 h rfl (fun s_1 h => ?_)
    exact CF.sub [3] rfl (wx0_put_97 E hR hq N x3 s_1 h)
set_option maxHeartbeats 4000000 in
theorem wx0_put_57 {p : Program} {l : Launch} {e : Env} {R : Room} {s : State} {m : MethodId} {args : Array Value} {below : List Frame} {meth : Method} {c : Code} {A : Nat → Prop} {g : XG} {Q : State → Prop} (E : EV p s m args c cX0_put 4 RX0) (hR : 2 ≤ R.frames ∧ 43 ≤ R.locals) {res : Int32 × XS} (hq : XTi p l e R s m args below meth c cX0_put 4 0 0 A g .int Q res) (N : Nat)    (x1 : Int32) (x2 : Int32) (ξ : XS) (h : x0_put_57 N g   x1 x2 ξ = some res) : CF p l e R s m args below meth c 4 0 0 (XB g A s ξ) Q 57 [(0, .ref (xa g 0)), (1, .int x1), (2, .int x2)] [] := by
  unfold x0_put_57 at h
  refine cf_aload_n E dX0_put_57 0 rfl rfl ?_
  refine xgX0_30 E dX0_put_58 rfl ?_
  refine cf_iload_n E dX0_put_61 1 rfl rfl ?_
  refine xclX0_211 (t0 := 0) E (by decide) (rmle hR rfl rfl) (Nat.le_of_ble_eq_true rfl) ⟨Nat.zero_le _, Nat.zero_le _⟩ dX0_put_62 h rfl (fun v_2 s_1 h => ?_)
  refine cf_istore_n E dX0_put_65 h (fun x3_3 => [(3, .int x3_3), (0, .ref (xa g 0)), (1, .int x1), (2, .int x2)]) (Nat.le_of_ble_eq_true rfl) (fun _ => rfl) rfl (fun x3_3 h => ?_)
  refine cf_iload_n E dX0_put_66 0 rfl rfl ?_
  refine cf_iconst E dX0_put_67 ic_m1 rfl ?_
  refine cf_icmp_eq E dX0_put_68 h rfl rfl (fun h => ?_) (fun h => ?_)
  · exact CF.sub [1, 2, 3, 0] rfl (wx0_put_81 E hR hq N x1 x2 x3_3 s_1 h)
  · refine cf_aload_n E dX0_put_71 1 rfl rfl ?_
    refine xgX0_30 E dX0_put_72 rfl ?_
    refine xgX0_137_0 E dX0_put_75 rfl ?_
    refine cf_iload_n E dX0_put_78 0 rfl rfl ?_
    refine cf_iconst E dX0_put_79 ic_m1 rfl ?_
    refine xastT_0_0 E dX0_put_80 h rfl (fun s_4 h => ?_)
    exact CF.sub [1, 2, 3, 0] rfl (wx0_put_81 E hR hq N x1 x2 x3_3 s_4 h)
set_option maxHeartbeats 4000000 in
theorem wx0_put_23 {p : Program} {l : Launch} {e : Env} {R : Room} {s : State} {m : MethodId} {args : Array Value} {below : List Frame} {meth : Method} {c : Code} {A : Nat → Prop} {g : XG} {Q : State → Prop} (E : EV p s m args c cX0_put 4 RX0) (hR : 2 ≤ R.frames ∧ 43 ≤ R.locals) {res : Int32 × XS} (hq : XTi p l e R s m args below meth c cX0_put 4 0 0 A g .int Q res) (N : Nat)    (x1 : Int32) (x2 : Int32) (ξ : XS) (h : x0_put_23 N g   x1 x2 ξ = some res) : CF p l e R s m args below meth c 4 0 0 (XB g A s ξ) Q 23 [(0, .ref (xa g 0)), (1, .int x1), (2, .int x2)] [] := by
  unfold x0_put_23 at h
  refine cf_iload_n E dX0_put_23 2 rfl rfl ?_
  refine cf_iconst E dX0_put_24 ic_m1 rfl ?_
  refine cf_icmp_eq E dX0_put_25 h rfl rfl (fun h => ?_) (fun h => ?_)
  · exact CF.sub [0, 1, 2] rfl (wx0_put_57 E hR hq N x1 x2 ξ h)
  · refine cf_aload_n E dX0_put_28 0 rfl rfl ?_
    refine xgX0_30 E dX0_put_29 rfl ?_
    refine xgX0_137_0 E dX0_put_32 rfl ?_
    refine cf_iload_n E dX0_put_35 2 rfl rfl ?_
    refine xaldT_0_0 E dX0_put_36 h rfl (fun h => ?_)
    refine cf_iconst E dX0_put_37 ic_m1 rfl ?_
    refine cf_icmp_eq E dX0_put_38 h rfl rfl (fun h => ?_) (fun h => ?_)
    · exact CF.sub [0, 1, 2] rfl (wx0_put_57 E hR hq N x1 x2 ξ h)
    · refine cf_aload_n E dX0_put_41 0 rfl rfl ?_
      refine xgX0_30 E dX0_put_42 rfl ?_
      refine xgX0_137_0 E dX0_put_45 rfl ?_
      refine cf_iload_n E dX0_put_48 2 rfl rfl ?_
      refine xaldT_0_0 E dX0_put_49 h rfl (fun h => ?_)
      refine cf_iload_n E dX0_put_50 1 rfl rfl ?_
      refine cf_icmp_eq E dX0_put_51 h rfl rfl (fun h => ?_) (fun h => ?_)
      · exact CF.sub [0, 1, 2] rfl (wx0_put_57 E hR hq N x1 x2 ξ h)
      · refine cf_bipush E dX0_put_54 bp_m3 rfl ?_
        exact xret_i dX0_put_56 h rfl hq
set_option maxHeartbeats 4000000 in
theorem met_x0_put (l : Launch) (g : XG) (N : Nat)   (x1 : Int32) (x2 : Int32) (ξ : XS) {v : Int32} {ξ1 : XS} (h : x0_put N g  x1 x2 ξ = some (v, ξ1)) : MetXi l g yX0_put (ws_ yX0_put cX0_put 4 (some .int)) { frames := 2, cells := 0, slots := 0, locals := 43 } [.ref (xa g 0), .int x1, .int x2] ξ v ξ1 0 0 := by
  refine met_xi (lv0 := [(0, .ref (xa g 0)), (1, .int x1), (2, .int x2)]) (own := RX0) (by decide) rfl (Nat.le_of_ble_eq_true rfl) rfl ?_
  intro p e s m below meth c A Q E hq
  have hR : 2 ≤ ({ frames := 2, cells := 0, slots := 0, locals := 43 } : Room).frames ∧ 43 ≤ ({ frames := 2, cells := 0, slots := 0, locals := 43 } : Room).locals := ⟨Nat.le_refl _, Nat.le_refl _⟩
  unfold x0_put at h
  refine cf_aload_n E dX0_put_0 0 rfl rfl ?_
  refine cf_iload_n E dX0_put_1 1 rfl rfl ?_
  refine xclX0_202 E (rmle hR rfl rfl) (Nat.le_of_ble_eq_true rfl) ⟨Nat.zero_le _, Nat.zero_le _⟩ dX0_put_2 h rfl (fun v_2 s_1 h => ?_)
  refine cf_if_eq E dX0_put_5 h rfl rfl (fun h => ?_) (fun h => ?_)
  · refine cf_iconst E dX0_put_21 ic_m1 rfl ?_
    exact xret_i dX0_put_22 h rfl hq
  · refine cf_iload_n E dX0_put_8 2 rfl rfl ?_
    refine cf_iconst E dX0_put_9 ic_m1 rfl ?_
    refine cf_icmp_eq E dX0_put_10 h rfl rfl (fun h => ?_) (fun h => ?_)
    · exact CF.sub [0, 1, 2] rfl (wx0_put_23 E hR hq N x1 x2 s_1 h)
    · refine cf_aload_n E dX0_put_13 0 rfl rfl ?_
      refine cf_iload_n E dX0_put_14 2 rfl rfl ?_
      refine xclX0_218 E (rmle hR rfl rfl) (Nat.le_of_ble_eq_true rfl) ⟨Nat.zero_le _, Nat.zero_le _⟩ dX0_put_15 h rfl (fun v_4 s_3 h => ?_)
      refine cf_if_ne E dX0_put_18 h rfl rfl (fun h => ?_) (fun h => ?_)
      · exact CF.sub [0, 1, 2] rfl (wx0_put_23 E hR hq N x1 x2 s_3 h)
      · refine cf_iconst E dX0_put_21 ic_m1 rfl ?_
        exact xret_i dX0_put_22 h rfl hq
def x0_own_23 (N : Nat) (g : XG)   (x1 : Int32) (x2 : Int32) (ξ : XS) : Option (Int32 × XS) :=
  if inb x1 6 = true then (
  nx ((xR ξ 1 x1.toNatClampNeg) : Int32) fun x3_1 =>
  if inb x1 6 = true then nx (sXR ξ 1 x1.toNatClampNeg x2) (fun s_2 =>
  bnd (x0_orNone N g x3_1 s_2) fun v_4 s_3 =>
  some (v_4, s_3)) else none) else none
def x0_own (N : Nat) (g : XG)   (x1 : Int32) (x2 : Int32) (ξ : XS) : Option (Int32 × XS) :=
  bnd (x0_isHead N g x1 ξ) fun v_2 s_1 =>
  if v_2 = 0 then (
    some ((-1 : Int32), s_1))
  else (
    if x2 = (-1 : Int32) then (
      x0_own_23 N g x1 x2 s_1)
    else (
      bnd (x0_isHat N g x2 s_1) fun v_4 s_3 =>
      if v_4 = 0 then (
        some ((-1 : Int32), s_3))
      else (
        x0_own_23 N g x1 x2 s_3)))
set_option maxHeartbeats 4000000 in
theorem wx0_own_23 {p : Program} {l : Launch} {e : Env} {R : Room} {s : State} {m : MethodId} {args : Array Value} {below : List Frame} {meth : Method} {c : Code} {A : Nat → Prop} {g : XG} {Q : State → Prop} (E : EV p s m args c cX0_own 4 RX0) (hR : 2 ≤ R.frames ∧ 43 ≤ R.locals) {res : Int32 × XS} (hq : XTi p l e R s m args below meth c cX0_own 4 0 0 A g .int Q res) (N : Nat)    (x1 : Int32) (x2 : Int32) (ξ : XS) (h : x0_own_23 N g   x1 x2 ξ = some res) : CF p l e R s m args below meth c 4 0 0 (XB g A s ξ) Q 23 [(0, .ref (xa g 0)), (1, .int x1), (2, .int x2)] [] := by
  unfold x0_own_23 at h
  refine cf_aload_n E dX0_own_23 0 rfl rfl ?_
  refine xgX0_15 E dX0_own_24 rfl ?_
  refine cf_iload_n E dX0_own_27 1 rfl rfl ?_
  refine xald_1 E dX0_own_28 h rfl (fun h => ?_)
  refine cf_istore_n E dX0_own_29 h (fun x3_1 => [(3, .int x3_1), (0, .ref (xa g 0)), (1, .int x1), (2, .int x2)]) (Nat.le_of_ble_eq_true rfl) (fun _ => rfl) rfl (fun x3_1 h => ?_)
  refine cf_aload_n E dX0_own_30 1 rfl rfl ?_
  refine xgX0_15 E dX0_own_31 rfl ?_
  refine cf_iload_n E dX0_own_34 2 rfl rfl ?_
  refine cf_iload_n E dX0_own_35 3 rfl rfl ?_
  refine xast_1 E dX0_own_36 h rfl (fun s_2 h => ?_)
  refine cf_iload_n E dX0_own_37 0 rfl rfl ?_
  refine xclX0_215 E (rmle hR rfl rfl) (Nat.le_of_ble_eq_true rfl) ⟨Nat.zero_le _, Nat.zero_le _⟩ dX0_own_38 h rfl (fun v_4 s_3 h => ?_)
  exact xret_i dX0_own_41 h rfl hq
set_option maxHeartbeats 4000000 in
theorem met_x0_own (l : Launch) (g : XG) (N : Nat)   (x1 : Int32) (x2 : Int32) (ξ : XS) {v : Int32} {ξ1 : XS} (h : x0_own N g  x1 x2 ξ = some (v, ξ1)) : MetXi l g yX0_own (ws_ yX0_own cX0_own 4 (some .int)) { frames := 2, cells := 0, slots := 0, locals := 43 } [.ref (xa g 0), .int x1, .int x2] ξ v ξ1 0 0 := by
  refine met_xi (lv0 := [(0, .ref (xa g 0)), (1, .int x1), (2, .int x2)]) (own := RX0) (by decide) rfl (Nat.le_of_ble_eq_true rfl) rfl ?_
  intro p e s m below meth c A Q E hq
  have hR : 2 ≤ ({ frames := 2, cells := 0, slots := 0, locals := 43 } : Room).frames ∧ 43 ≤ ({ frames := 2, cells := 0, slots := 0, locals := 43 } : Room).locals := ⟨Nat.le_refl _, Nat.le_refl _⟩
  unfold x0_own at h
  refine cf_aload_n E dX0_own_0 0 rfl rfl ?_
  refine cf_iload_n E dX0_own_1 1 rfl rfl ?_
  refine xclX0_218 E (rmle hR rfl rfl) (Nat.le_of_ble_eq_true rfl) ⟨Nat.zero_le _, Nat.zero_le _⟩ dX0_own_2 h rfl (fun v_2 s_1 h => ?_)
  refine cf_if_eq E dX0_own_5 h rfl rfl (fun h => ?_) (fun h => ?_)
  · refine cf_iconst E dX0_own_21 ic_m1 rfl ?_
    exact xret_i dX0_own_22 h rfl hq
  · refine cf_iload_n E dX0_own_8 2 rfl rfl ?_
    refine cf_iconst E dX0_own_9 ic_m1 rfl ?_
    refine cf_icmp_eq E dX0_own_10 h rfl rfl (fun h => ?_) (fun h => ?_)
    · exact CF.sub [0, 1, 2] rfl (wx0_own_23 E hR hq N x1 x2 s_1 h)
    · refine cf_aload_n E dX0_own_13 0 rfl rfl ?_
      refine cf_iload_n E dX0_own_14 2 rfl rfl ?_
      refine xclX0_202 E (rmle hR rfl rfl) (Nat.le_of_ble_eq_true rfl) ⟨Nat.zero_le _, Nat.zero_le _⟩ dX0_own_15 h rfl (fun v_4 s_3 h => ?_)
      refine cf_if_ne E dX0_own_18 h rfl rfl (fun h => ?_) (fun h => ?_)
      · exact CF.sub [0, 1, 2] rfl (wx0_own_23 E hR hq N x1 x2 s_3 h)
      · refine cf_iconst E dX0_own_21 ic_m1 rfl ?_
        exact xret_i dX0_own_22 h rfl hq
def x0_skill (N : Nat) (g : XG)   (x1 : Int32) (x2 : Int32) (ξ : XS) : Option (Int32 × XS) :=
  bnd (x0_isHat N g x1 ξ) fun v_2 s_1 =>
  if v_2 = 0 then (
    some ((-1 : Int32), s_1))
  else (
    bnd (x0_in N g x2 (0 : Int32) (50 : Int32) s_1) fun v_4 s_3 =>
    if v_4 = 0 then (
      some ((-2 : Int32), s_3))
    else (
      if inb x1 6 = true then (
      nx ((xR s_3 2 x1.toNatClampNeg) : Int32) fun x3_5 =>
      if inb x1 6 = true then nx (sXR s_3 2 x1.toNatClampNeg x2) (fun s_6 =>
      some (x3_5, s_6)) else none) else none))
set_option maxHeartbeats 4000000 in
theorem met_x0_skill (l : Launch) (g : XG) (N : Nat)   (x1 : Int32) (x2 : Int32) (ξ : XS) {v : Int32} {ξ1 : XS} (h : x0_skill N g  x1 x2 ξ = some (v, ξ1)) : MetXi l g yX0_skill (ws_ yX0_skill cX0_skill 4 (some .int)) { frames := 2, cells := 0, slots := 0, locals := 43 } [.ref (xa g 0), .int x1, .int x2] ξ v ξ1 0 0 := by
  refine met_xi (lv0 := [(0, .ref (xa g 0)), (1, .int x1), (2, .int x2)]) (own := RX0) (by decide) rfl (Nat.le_of_ble_eq_true rfl) rfl ?_
  intro p e s m below meth c A Q E hq
  have hR : 2 ≤ ({ frames := 2, cells := 0, slots := 0, locals := 43 } : Room).frames ∧ 43 ≤ ({ frames := 2, cells := 0, slots := 0, locals := 43 } : Room).locals := ⟨Nat.le_refl _, Nat.le_refl _⟩
  unfold x0_skill at h
  refine cf_aload_n E dX0_skill_0 0 rfl rfl ?_
  refine cf_iload_n E dX0_skill_1 1 rfl rfl ?_
  refine xclX0_202 E (rmle hR rfl rfl) (Nat.le_of_ble_eq_true rfl) ⟨Nat.zero_le _, Nat.zero_le _⟩ dX0_skill_2 h rfl (fun v_2 s_1 h => ?_)
  refine cf_if_ne E dX0_skill_5 h rfl rfl (fun h => ?_) (fun h => ?_)
  · refine cf_iload_n E dX0_skill_10 2 rfl rfl ?_
    refine cf_iconst E dX0_skill_11 ic_0 rfl ?_
    refine cf_bipush E dX0_skill_12 bp_50 rfl ?_
    refine xclX0_130 E (rmle hR rfl rfl) (Nat.le_of_ble_eq_true rfl) ⟨Nat.zero_le _, Nat.zero_le _⟩ dX0_skill_14 h rfl (fun v_4 s_3 h => ?_)
    refine cf_if_ne E dX0_skill_17 h rfl rfl (fun h => ?_) (fun h => ?_)
    · refine cf_aload_n E dX0_skill_23 0 rfl rfl ?_
      refine xgX0_18 E dX0_skill_24 rfl ?_
      refine cf_iload_n E dX0_skill_27 1 rfl rfl ?_
      refine xald_2 E dX0_skill_28 h rfl (fun h => ?_)
      refine cf_istore_n E dX0_skill_29 h (fun x3_5 => [(3, .int x3_5), (0, .ref (xa g 0)), (1, .int x1), (2, .int x2)]) (Nat.le_of_ble_eq_true rfl) (fun _ => rfl) rfl (fun x3_5 h => ?_)
      refine cf_aload_n E dX0_skill_30 1 rfl rfl ?_
      refine xgX0_18 E dX0_skill_31 rfl ?_
      refine cf_iload_n E dX0_skill_34 2 rfl rfl ?_
      refine cf_iload_n E dX0_skill_35 3 rfl rfl ?_
      refine xast_2 E dX0_skill_36 h rfl (fun s_6 h => ?_)
      refine cf_iload_n E dX0_skill_37 0 rfl rfl ?_
      exact xret_i dX0_skill_38 h rfl hq
    · refine cf_bipush E dX0_skill_20 bp_m2 rfl ?_
      exact xret_i dX0_skill_22 h rfl hq
  · refine cf_iconst E dX0_skill_8 ic_m1 rfl ?_
    exact xret_i dX0_skill_9 h rfl hq
def x0_feed (N : Nat) (g : XG)   (x1 : Int32) (ξ : XS) : Option (Int32 × XS) :=
  bnd (x0_in N g x1 (0 : Int32) (127 : Int32) ξ) fun v_2 s_1 =>
  if v_2 = 0 then (
    some ((-2 : Int32), s_1))
  else (
    if (xF s_1 9) = (100 : Int32) then (
      some ((-4 : Int32), s_1))
    else (
      nx (sXF s_1 9 ((xF s_1 9) + (1 : Int32))) fun s_3 =>
      if inb (xF s_1 9) 100 = true then nx (sXR s_3 8 (xF s_1 9).toNatClampNeg (vp_nar .byte (x1.toInt8.toInt32))) (fun s_4 =>
      some ((xF s_4 9), s_4)) else none))
set_option maxHeartbeats 4000000 in
theorem met_x0_feed (l : Launch) (g : XG) (N : Nat)   (x1 : Int32) (ξ : XS) {v : Int32} {ξ1 : XS} (h : x0_feed N g  x1 ξ = some (v, ξ1)) : MetXi l g yX0_feed (ws_ yX0_feed cX0_feed 2 (some .int)) { frames := 1, cells := 0, slots := 0, locals := 22 } [.ref (xa g 0), .int x1] ξ v ξ1 0 0 := by
  refine met_xi (lv0 := [(0, .ref (xa g 0)), (1, .int x1)]) (own := RX0) (by decide) rfl (Nat.le_of_ble_eq_true rfl) rfl ?_
  intro p e s m below meth c A Q E hq
  have hR : 1 ≤ ({ frames := 1, cells := 0, slots := 0, locals := 22 } : Room).frames ∧ 22 ≤ ({ frames := 1, cells := 0, slots := 0, locals := 22 } : Room).locals := ⟨Nat.le_refl _, Nat.le_refl _⟩
  unfold x0_feed at h
  refine cf_iload_n E dX0_feed_0 1 rfl rfl ?_
  refine cf_iconst E dX0_feed_1 ic_0 rfl ?_
  refine cf_bipush E dX0_feed_2 bp_127 rfl ?_
  refine xclX0_130 E (rmle hR rfl rfl) (Nat.le_of_ble_eq_true rfl) ⟨Nat.zero_le _, Nat.zero_le _⟩ dX0_feed_4 h rfl (fun v_2 s_1 h => ?_)
  refine cf_if_ne E dX0_feed_7 h rfl rfl (fun h => ?_) (fun h => ?_)
  · refine cf_aload_n E dX0_feed_13 0 rfl rfl ?_
    refine xgX0_228 E dX0_feed_14 rfl ?_
    refine cf_bipush E dX0_feed_17 bp_100 rfl ?_
    refine cf_icmp_ne E dX0_feed_19 h rfl rfl (fun h => ?_) (fun h => ?_)
    · refine cf_aload_n E dX0_feed_25 0 rfl rfl ?_
      refine xgX0_40 E dX0_feed_26 rfl ?_
      refine cf_aload_n E dX0_feed_29 0 rfl rfl ?_
      refine cf_dup E dX0_feed_30 rfl rfl ?_
      refine xgX0_228 E dX0_feed_31 rfl ?_
      refine cf_dup_x1 E dX0_feed_34 rfl rfl rfl ?_
      refine cf_iconst E dX0_feed_35 ic_1 rfl ?_
      refine cf_iadd E dX0_feed_36 rfl ?_
      refine xpX0_228 E dX0_feed_37 h rfl (fun s_3 h => ?_)
      refine cf_iload_n E dX0_feed_40 1 rfl rfl ?_
      refine cf_i2b E dX0_feed_41 rfl ?_
      refine xast_8 E dX0_feed_42 h rfl (fun s_4 h => ?_)
      refine cf_aload_n E dX0_feed_43 0 rfl rfl ?_
      refine xgX0_228 E dX0_feed_44 rfl ?_
      exact xret_i dX0_feed_47 h rfl hq
    · refine cf_bipush E dX0_feed_22 bp_m4 rfl ?_
      exact xret_i dX0_feed_24 h rfl hq
  · refine cf_bipush E dX0_feed_10 bp_m2 rfl ?_
    exact xret_i dX0_feed_12 h rfl hq
def x1_takes (N : Nat) (g : XG) (t0 : Nat) (t1 : Nat)   (ξ : XS) : Option (XS) :=
  if cpk (0 : Int32) (0 : Int32) (6 : Int32) 6 6 = true ∧ fitB (xR ξ (200 + 10 * t1)) (0 : Int32).toNatClampNeg (6 : Int32).toNatClampNeg = true then nx (sXC ξ (200 + 10 * t0) (va_cpy (xR ξ (200 + 10 * t1)) (xR ξ (200 + 10 * t0)) (0 : Int32).toNatClampNeg (0 : Int32).toNatClampNeg (6 : Int32).toNatClampNeg)) (fun s_1 =>
  if cpk (0 : Int32) (0 : Int32) (6 : Int32) 6 6 = true then nx (sXC s_1 (201 + 10 * t0) (va_cpy (xR s_1 (201 + 10 * t1)) (xR s_1 (201 + 10 * t0)) (0 : Int32).toNatClampNeg (0 : Int32).toNatClampNeg (6 : Int32).toNatClampNeg)) (fun s_2 =>
  nx (sXF s_2 (202 + 10 * t0) (xF s_2 (202 + 10 * t1))) fun s_3 =>
  nx (sXF s_3 (203 + 10 * t0) (xF s_3 (203 + 10 * t1))) fun s_4 =>
  some s_4) else none) else none
set_option maxHeartbeats 4000000 in
theorem met_x1_takes (l : Launch) (g : XG) (N : Nat) (t0 : Nat) (t1 : Nat) (ht0 : t0 < 3) (ht1 : t1 < 3)  (ξ : XS) {ξ1 : XS} (h : x1_takes N g t0 t1  ξ = some ξ1) : MetXv l g yX1_takes (ws_ yX1_takes cX1_takes 2 (none)) { frames := 1, cells := 0, slots := 0, locals := 40 } [.ref (xa g (200 + 10 * t0)), .ref (xa g (200 + 10 * t1))] ξ ξ1 0 0 := by
  refine met_xv (lv0 := [(0, .ref (xa g (200 + 10 * t0))), (1, .ref (xa g (200 + 10 * t1)))]) (own := RX1) (by decide) rfl (Nat.le_of_ble_eq_true rfl) rfl ?_
  intro p e s m below meth c A Q E hq
  have hR : 1 ≤ ({ frames := 1, cells := 0, slots := 0, locals := 40 } : Room).frames ∧ 40 ≤ ({ frames := 1, cells := 0, slots := 0, locals := 40 } : Room).locals := ⟨Nat.le_refl _, Nat.le_refl _⟩
  unfold x1_takes at h
  refine cf_aload_n E dX1_takes_0 1 rfl rfl ?_
  refine xgX1_9 E ht1 dX1_takes_1 rfl ?_
  refine cf_iconst E dX1_takes_4 ic_0 rfl ?_
  refine cf_aload_n E dX1_takes_5 0 rfl rfl ?_
  refine xgX1_9 E ht0 dX1_takes_6 rfl ?_
  refine cf_iconst E dX1_takes_9 ic_0 rfl ?_
  refine cf_bipush E dX1_takes_10 bp_6 rfl ?_
  refine xcpTX1_0 (τ := t1) (υ := t0) E ht1 ht0 (rmle hR rfl rfl) (by first | exact Nat.le_of_ble_eq_true rfl | decide) dX1_takes_12 h rfl (fun s_1 h => ?_)
  refine cf_aload_n E dX1_takes_15 1 rfl rfl ?_
  refine xgX1_15 E ht1 dX1_takes_16 rfl ?_
  refine cf_iconst E dX1_takes_19 ic_0 rfl ?_
  refine cf_aload_n E dX1_takes_20 0 rfl rfl ?_
  refine xgX1_15 E ht0 dX1_takes_21 rfl ?_
  refine cf_iconst E dX1_takes_24 ic_0 rfl ?_
  refine cf_bipush E dX1_takes_25 bp_6 rfl ?_
  refine xcpTX1_1 (τ := t1) (υ := t0) E ht1 ht0 (rmle hR rfl rfl) (by first | exact Nat.le_of_ble_eq_true rfl | decide) dX1_takes_27 h rfl (fun s_2 h => ?_)
  refine cf_aload_n E dX1_takes_30 0 rfl rfl ?_
  refine cf_aload_n E dX1_takes_31 1 rfl rfl ?_
  refine xgX1_25 E ht1 dX1_takes_32 rfl ?_
  refine xpX1_25 E ht0 dX1_takes_35 h rfl (fun s_3 h => ?_)
  refine cf_aload_n E dX1_takes_38 0 rfl rfl ?_
  refine cf_aload_n E dX1_takes_39 1 rfl rfl ?_
  refine xgX1_29 E ht1 dX1_takes_40 rfl ?_
  refine xpX1_29 E ht0 dX1_takes_43 h rfl (fun s_4 h => ?_)
  exact xret_v dX1_takes_46 h hq
def x1_changes (N : Nat) (g : XG) (t0 : Nat)  (x1 : Int32) (x2 : Int32) (ξ : XS) : Option (XS) :=
  if inb x1 6 = true then (
  nx ((xR ξ (200 + 10 * t0) x1.toNatClampNeg) : Int32) fun x3_1 =>
  if inb x2 6 = true then (
  if inb x1 6 = true then nx (sXR ξ (200 + 10 * t0) x1.toNatClampNeg (vp_nar .byte (xR ξ (200 + 10 * t0) x2.toNatClampNeg))) (fun s_2 =>
  if inb x2 6 = true then nx (sXR s_2 (200 + 10 * t0) x2.toNatClampNeg (vp_nar .byte x3_1)) (fun s_3 =>
  some s_3) else none) else none) else none) else none
set_option maxHeartbeats 4000000 in
theorem met_x1_changes (l : Launch) (g : XG) (N : Nat) (t0 : Nat) (ht0 : t0 < 3) (x1 : Int32) (x2 : Int32) (ξ : XS) {ξ1 : XS} (h : x1_changes N g t0 x1 x2 ξ = some ξ1) : MetXv l g yX1_changes (ws_ yX1_changes cX1_changes 4 (none)) { frames := 0, cells := 0, slots := 0, locals := 0 } [.ref (xa g (200 + 10 * t0)), .int x1, .int x2] ξ ξ1 0 0 := by
  refine met_xv (lv0 := [(0, .ref (xa g (200 + 10 * t0))), (1, .int x1), (2, .int x2)]) (own := RX1) (by decide) rfl (Nat.le_of_ble_eq_true rfl) rfl ?_
  intro p e s m below meth c A Q E hq
  have hR : 0 ≤ ({ frames := 0, cells := 0, slots := 0, locals := 0 } : Room).frames ∧ 0 ≤ ({ frames := 0, cells := 0, slots := 0, locals := 0 } : Room).locals := ⟨Nat.le_refl _, Nat.le_refl _⟩
  unfold x1_changes at h
  refine cf_aload_n E dX1_changes_0 0 rfl rfl ?_
  refine xgX1_9 E ht0 dX1_changes_1 rfl ?_
  refine cf_iload_n E dX1_changes_4 1 rfl rfl ?_
  refine xaldT_0 E ht0 dX1_changes_5 h rfl (fun h => ?_)
  refine cf_istore_n E dX1_changes_6 h (fun x3_1 => [(3, .int x3_1), (0, .ref (xa g (200 + 10 * t0))), (1, .int x1), (2, .int x2)]) (Nat.le_of_ble_eq_true rfl) (fun _ => rfl) rfl (fun x3_1 h => ?_)
  refine cf_aload_n E dX1_changes_7 1 rfl rfl ?_
  refine xgX1_9 E ht0 dX1_changes_8 rfl ?_
  refine cf_iload_n E dX1_changes_11 2 rfl rfl ?_
  refine cf_aload_n E dX1_changes_12 1 rfl rfl ?_
  refine xgX1_9 E ht0 dX1_changes_13 rfl ?_
  refine cf_iload_n E dX1_changes_16 3 rfl rfl ?_
  refine xaldT_0 E ht0 dX1_changes_17 h rfl (fun h => ?_)
  refine xastT_0 E ht0 dX1_changes_18 h rfl (fun s_2 h => ?_)
  refine cf_aload_n E dX1_changes_19 1 rfl rfl ?_
  refine xgX1_9 E ht0 dX1_changes_20 rfl ?_
  refine cf_iload_n E dX1_changes_23 3 rfl rfl ?_
  refine cf_iload_n E dX1_changes_24 0 rfl rfl ?_
  refine xastT_0 E ht0 dX1_changes_25 h rfl (fun s_3 h => ?_)
  exact xret_v dX1_changes_26 h hq
def x1_wears_35 (N : Nat) (g : XG) (t0 : Nat) (rec2 : Int32 → XS → Option (XS)) (x1 : Int32) (ξ : XS) : Option (XS) :=
  nx (x1 + (1 : Int32)) fun x1_1 =>
  rec2 x1_1 ξ
def x1_wears_2b (N : Nat) (g : XG) (t0 : Nat)  (rec2 : Int32 → XS → Option (XS)) (x1 : Int32) (ξ : XS) : Option (XS) :=
  if (xF ξ (202 + 10 * t0)) ≤ x1 then (
    nx (sXF ξ (203 + 10 * t0) ((xF ξ (203 + 10 * t0)) + (1 : Int32))) fun s_1 =>
    some s_1)
  else (
    if inb x1 6 = true then (
    if (xR ξ (200 + 10 * t0) x1.toNatClampNeg) = (-1 : Int32) then (
      x1_wears_35 N g t0 rec2 x1 ξ)
    else (
      if inb x1 6 = true then (
      if inb (xR ξ (200 + 10 * t0) x1.toNatClampNeg) 6 = true then (
      if inb (xR ξ (200 + 10 * t0) x1.toNatClampNeg) 6 = true then nx (sXR ξ (201 + 10 * t0) (xR ξ (200 + 10 * t0) x1.toNatClampNeg).toNatClampNeg ((xR ξ (201 + 10 * t0) (xR ξ (200 + 10 * t0) x1.toNatClampNeg).toNatClampNeg) + (1 : Int32))) (fun s_2 =>
      x1_wears_35 N g t0 rec2 x1 s_2) else none) else none) else none)) else none)
def x1_wears_2 (N : Nat) (g : XG) (t0 : Nat)  : Nat → Int32 → XS → Option (XS)
  | 0 => fun _ _ => none
  | k + 1 => fun x1 ξ => x1_wears_2b N g t0  (x1_wears_2 N g t0  k) x1 ξ
def x1_wears (N : Nat) (g : XG) (t0 : Nat)   (ξ : XS) : Option (XS) :=
  nx ((0 : Int32) : Int32) fun x1_1 =>
  x1_wears_2 N g t0 N x1_1 ξ
set_option maxHeartbeats 4000000 in
theorem wx1_wears_35 {p : Program} {l : Launch} {e : Env} {R : Room} {s : State} {m : MethodId} {args : Array Value} {below : List Frame} {meth : Method} {c : Code} {A : Nat → Prop} {g : XG} {Q : State → Prop} (E : EV p s m args c cX1_wears 2 RX1) (hR : 0 ≤ R.frames ∧ 0 ≤ R.locals) {res : XS} (hq : XTv p l e R s m args below meth c cX1_wears 2 0 0 A g Q res) (N : Nat) (t0 : Nat) (ht0 : t0 < 3) {rec2 : Int32 → XS → Option (XS)} (ih2 : ∀ (x1 : Int32) (ξ : XS), rec2 x1 ξ = some res → CF p l e R s m args below meth c 2 0 0 (XB g A s ξ) Q 2 [(0, .ref (xa g (200 + 10 * t0))), (1, .int x1)] []) (x1 : Int32) (ξ : XS) (h : x1_wears_35 N g t0 rec2 x1 ξ = some res) : CF p l e R s m args below meth c 2 0 0 (XB g A s ξ) Q 35 [(0, .ref (xa g (200 + 10 * t0))), (1, .int x1)] [] := by
  unfold x1_wears_35 at h
  refine cf_iinc E dX1_wears_35 ic_1 h 1 rfl (fun x1_1 => [(1, .int x1_1), (0, .ref (xa g (200 + 10 * t0)))]) (Nat.le_of_ble_eq_true rfl) (fun _ => rfl) rfl (fun x1_1 h => ?_)
  refine cf_goto E dX1_wears_38 rfl ?_
  exact CF.sub [1, 0] rfl (ih2 x1_1 ξ h)
set_option maxHeartbeats 4000000 in
theorem wx1_wears_2b {p : Program} {l : Launch} {e : Env} {R : Room} {s : State} {m : MethodId} {args : Array Value} {below : List Frame} {meth : Method} {c : Code} {A : Nat → Prop} {g : XG} {Q : State → Prop} (E : EV p s m args c cX1_wears 2 RX1) (hR : 0 ≤ R.frames ∧ 0 ≤ R.locals) {res : XS} (hq : XTv p l e R s m args below meth c cX1_wears 2 0 0 A g Q res) (N : Nat) (t0 : Nat) (ht0 : t0 < 3)  {rec2 : Int32 → XS → Option (XS)} (ih2 : ∀ (x1 : Int32) (ξ : XS), rec2 x1 ξ = some res → CF p l e R s m args below meth c 2 0 0 (XB g A s ξ) Q 2 [(0, .ref (xa g (200 + 10 * t0))), (1, .int x1)] []) (x1 : Int32) (ξ : XS) (h : x1_wears_2b N g t0  rec2 x1 ξ = some res) : CF p l e R s m args below meth c 2 0 0 (XB g A s ξ) Q 2 [(0, .ref (xa g (200 + 10 * t0))), (1, .int x1)] [] := by
  unfold x1_wears_2b at h
  refine cf_iload_n E dX1_wears_2 1 rfl rfl ?_
  refine cf_aload_n E dX1_wears_3 0 rfl rfl ?_
  refine xgX1_25 E ht0 dX1_wears_4 rfl ?_
  refine cf_icmp_ge E dX1_wears_7 h rfl rfl (fun h => ?_) (fun h => ?_)
  · refine cf_aload_n E dX1_wears_41 0 rfl rfl ?_
    refine cf_dup E dX1_wears_42 rfl rfl ?_
    refine xgX1_29 E ht0 dX1_wears_43 rfl ?_
    refine cf_iconst E dX1_wears_46 ic_1 rfl ?_
    refine cf_iadd E dX1_wears_47 rfl ?_
    refine xpX1_29 E ht0 dX1_wears_48 h rfl (fun s_1 h => ?_)
    exact xret_v dX1_wears_51 h hq
  · refine cf_aload_n E dX1_wears_10 0 rfl rfl ?_
    refine xgX1_9 E ht0 dX1_wears_11 rfl ?_
    refine cf_iload_n E dX1_wears_14 1 rfl rfl ?_
    refine xaldT_0 E ht0 dX1_wears_15 h rfl (fun h => ?_)
    refine cf_iconst E dX1_wears_16 ic_m1 rfl ?_
    refine cf_icmp_eq E dX1_wears_17 h rfl rfl (fun h => ?_) (fun h => ?_)
    · exact CF.sub [0, 1] rfl (wx1_wears_35 E hR hq N t0 ht0 ih2 x1 ξ h)
    · refine cf_aload_n E dX1_wears_20 0 rfl rfl ?_
      refine xgX1_15 E ht0 dX1_wears_21 rfl ?_
      refine cf_aload_n E dX1_wears_24 0 rfl rfl ?_
      refine xgX1_9 E ht0 dX1_wears_25 rfl ?_
      refine cf_iload_n E dX1_wears_28 1 rfl rfl ?_
      refine xaldT_0 E ht0 dX1_wears_29 h rfl (fun h => ?_)
      refine cf_dup2 E dX1_wears_30 rfl rfl rfl ?_
      refine xaldT_1 E ht0 dX1_wears_31 h rfl (fun h => ?_)
      refine cf_iconst E dX1_wears_32 ic_1 rfl ?_
      refine cf_iadd E dX1_wears_33 rfl ?_
      refine xastT_1 E ht0 dX1_wears_34 h rfl (fun s_2 h => ?_)
      exact CF.sub [0, 1] rfl (wx1_wears_35 E hR hq N t0 ht0 ih2 x1 s_2 h)
set_option maxHeartbeats 4000000 in
theorem wx1_wears_2 {p : Program} {l : Launch} {e : Env} {R : Room} {s : State} {m : MethodId} {args : Array Value} {below : List Frame} {meth : Method} {c : Code} {A : Nat → Prop} {g : XG} {Q : State → Prop} (E : EV p s m args c cX1_wears 2 RX1) (hR : 0 ≤ R.frames ∧ 0 ≤ R.locals) {res : XS} (hq : XTv p l e R s m args below meth c cX1_wears 2 0 0 A g Q res) (N : Nat) (t0 : Nat) (ht0 : t0 < 3)  : ∀ (k : Nat) (x1 : Int32) (ξ : XS), x1_wears_2 N g t0  k x1 ξ = some res → CF p l e R s m args below meth c 2 0 0 (XB g A s ξ) Q 2 [(0, .ref (xa g (200 + 10 * t0))), (1, .int x1)] [] := by
  intro k
  induction k with
  | zero => intro x1 ξ h; have h : (none : Option (XS)) = some res := h; cases h
  | succ k ih => intro x1 ξ h; exact wx1_wears_2b E hR hq N t0 ht0  ih x1 ξ h
set_option maxHeartbeats 4000000 in
theorem met_x1_wears (l : Launch) (g : XG) (N : Nat) (t0 : Nat) (ht0 : t0 < 3)  (ξ : XS) {ξ1 : XS} (h : x1_wears N g t0  ξ = some ξ1) : MetXv l g yX1_wears (ws_ yX1_wears cX1_wears 2 (none)) { frames := 0, cells := 0, slots := 0, locals := 0 } [.ref (xa g (200 + 10 * t0))] ξ ξ1 0 0 := by
  refine met_xv (lv0 := [(0, .ref (xa g (200 + 10 * t0)))]) (own := RX1) (by decide) rfl (Nat.le_of_ble_eq_true rfl) rfl ?_
  intro p e s m below meth c A Q E hq
  have hR : 0 ≤ ({ frames := 0, cells := 0, slots := 0, locals := 0 } : Room).frames ∧ 0 ≤ ({ frames := 0, cells := 0, slots := 0, locals := 0 } : Room).locals := ⟨Nat.le_refl _, Nat.le_refl _⟩
  unfold x1_wears at h
  refine cf_iconst E dX1_wears_0 ic_0 rfl ?_
  refine cf_istore_n E dX1_wears_1 h (fun x1_1 => [(1, .int x1_1), (0, .ref (xa g (200 + 10 * t0)))]) (Nat.le_of_ble_eq_true rfl) (fun _ => rfl) rfl (fun x1_1 h => ?_)
  exact CF.sub [1, 0] rfl (wx1_wears_2 E hR hq N t0 ht0 N x1_1 ξ h)
def x4_ran_19 (N : Nat) (g : XG)    (ξ : XS) : Option (XS) :=
  nx (sXF ξ 311 ((xF ξ 311) + (1 : Int32))) fun s_1 =>
  some s_1
def x4_ran (N : Nat) (g : XG)   (x1 : Int32) (ξ : XS) : Option (XS) :=
  if (20 : Int32) ≤ (xF ξ 311) then (
    x4_ran_19 N g ξ)
  else (
    if inb (xF ξ 311) 20 = true then nx (sXR ξ 310 (xF ξ 311).toNatClampNeg x1) (fun s_1 =>
    x4_ran_19 N g s_1) else none)
set_option maxHeartbeats 4000000 in
theorem wx4_ran_19 {p : Program} {l : Launch} {e : Env} {R : Room} {s : State} {m : MethodId} {args : Array Value} {below : List Frame} {meth : Method} {c : Code} {A : Nat → Prop} {g : XG} {Q : State → Prop} (E : EV p s m args c cX4_ran 2 RX4) (hR : 0 ≤ R.frames ∧ 0 ≤ R.locals) {res : XS} (hq : XTv p l e R s m args below meth c cX4_ran 2 0 0 A g Q res) (N : Nat)     (ξ : XS) (h : x4_ran_19 N g    ξ = some res) : CF p l e R s m args below meth c 2 0 0 (XB g A s ξ) Q 19 [(0, .ref (xa g 310))] [] := by
  unfold x4_ran_19 at h
  refine cf_aload_n E dX4_ran_19 0 rfl rfl ?_
  refine cf_dup E dX4_ran_20 rfl rfl ?_
  refine xgX4_15 E dX4_ran_21 rfl ?_
  refine cf_iconst E dX4_ran_24 ic_1 rfl ?_
  refine cf_iadd E dX4_ran_25 rfl ?_
  refine xpX4_15 E dX4_ran_26 h rfl (fun s_1 h => ?_)
  exact xret_v dX4_ran_29 h hq
set_option maxHeartbeats 4000000 in
theorem met_x4_ran (l : Launch) (g : XG) (N : Nat)   (x1 : Int32) (ξ : XS) {ξ1 : XS} (h : x4_ran N g  x1 ξ = some ξ1) : MetXv l g yX4_ran (ws_ yX4_ran cX4_ran 2 (none)) { frames := 0, cells := 0, slots := 0, locals := 0 } [.ref (xa g 310), .int x1] ξ ξ1 0 0 := by
  refine met_xv (lv0 := [(0, .ref (xa g 310)), (1, .int x1)]) (own := RX4) (by decide) rfl (Nat.le_of_ble_eq_true rfl) rfl ?_
  intro p e s m below meth c A Q E hq
  have hR : 0 ≤ ({ frames := 0, cells := 0, slots := 0, locals := 0 } : Room).frames ∧ 0 ≤ ({ frames := 0, cells := 0, slots := 0, locals := 0 } : Room).locals := ⟨Nat.le_refl _, Nat.le_refl _⟩
  unfold x4_ran at h
  refine cf_aload_n E dX4_ran_0 0 rfl rfl ?_
  refine xgX4_15 E dX4_ran_1 rfl ?_
  refine cf_bipush E dX4_ran_4 bp_20 rfl ?_
  refine cf_icmp_ge E dX4_ran_6 h rfl rfl (fun h => ?_) (fun h => ?_)
  · exact CF.sub [0] rfl (wx4_ran_19 E hR hq N ξ h)
  · refine cf_aload_n E dX4_ran_9 0 rfl rfl ?_
    refine xgX4_9 E dX4_ran_10 rfl ?_
    refine cf_aload_n E dX4_ran_13 0 rfl rfl ?_
    refine xgX4_15 E dX4_ran_14 rfl ?_
    refine cf_iload_n E dX4_ran_17 1 rfl rfl ?_
    refine xast_CB E dX4_ran_18 h rfl (fun s_1 h => ?_)
    exact CF.sub [0] rfl (wx4_ran_19 E hR hq N s_1 h)
def x3_of (N : Nat) (g : XG)   (x1 : Int32) (ξ : XS) : Option (Int32 × XS) :=
  if x1 = (97 : Int32) then (
    some ((xF ξ 300), ξ))
  else
  if x1 = (101 : Int32) then (
    some ((xF ξ 301), ξ))
  else
  if x1 = (107 : Int32) then (
    some ((xF ξ 302), ξ))
  else
  if x1 = (116 : Int32) then (
    some ((xF ξ 303), ξ))
  else
  if x1 = (117 : Int32) then (
    some ((xF ξ 304), ξ))
  else
  some ((xF ξ 305), ξ)
set_option maxHeartbeats 4000000 in
theorem met_x3_of (l : Launch) (g : XG) (N : Nat)   (x1 : Int32) (ξ : XS) {v : Int32} {ξ1 : XS} (h : x3_of N g  x1 ξ = some (v, ξ1)) : MetXi l g yX3_of (ws_ yX3_of cX3_of 2 (some .int)) { frames := 0, cells := 0, slots := 0, locals := 0 } [.ref (xa g 300), .int x1] ξ v ξ1 0 0 := by
  refine met_xi (lv0 := [(0, .ref (xa g 300)), (1, .int x1)]) (own := RX3) (by decide) rfl (Nat.le_of_ble_eq_true rfl) rfl ?_
  intro p e s m below meth c A Q E hq
  have hR : 0 ≤ ({ frames := 0, cells := 0, slots := 0, locals := 0 } : Room).frames ∧ 0 ≤ ({ frames := 0, cells := 0, slots := 0, locals := 0 } : Room).locals := ⟨Nat.le_refl _, Nat.le_refl _⟩
  unfold x3_of at h
  refine cf_iload_n E dX3_of_0 1 rfl rfl ?_
  by_cases hx_1 : x1 = (97 : Int32)
  · rw [if_pos hx_1] at h
    refine cf_look E dX3_of_1 (by decide) (by rw [i32_eqZ (z := 97) hx_1 (by decide)]) rfl ?_
    refine cf_aload_n E dX3_of_52 0 rfl rfl ?_
    refine xgX3_7 E dX3_of_53 rfl ?_
    exact xret_i dX3_of_56 h rfl hq
  rw [if_neg hx_1] at h
  by_cases hx_2 : x1 = (101 : Int32)
  · rw [if_pos hx_2] at h
    refine cf_look E dX3_of_1 (by decide) (by rw [i32_eqZ (z := 101) hx_2 (by decide)]) rfl ?_
    refine cf_aload_n E dX3_of_57 0 rfl rfl ?_
    refine xgX3_13 E dX3_of_58 rfl ?_
    exact xret_i dX3_of_61 h rfl hq
  rw [if_neg hx_2] at h
  by_cases hx_3 : x1 = (107 : Int32)
  · rw [if_pos hx_3] at h
    refine cf_look E dX3_of_1 (by decide) (by rw [i32_eqZ (z := 107) hx_3 (by decide)]) rfl ?_
    refine cf_aload_n E dX3_of_62 0 rfl rfl ?_
    refine xgX3_16 E dX3_of_63 rfl ?_
    exact xret_i dX3_of_66 h rfl hq
  rw [if_neg hx_3] at h
  by_cases hx_4 : x1 = (116 : Int32)
  · rw [if_pos hx_4] at h
    refine cf_look E dX3_of_1 (by decide) (by rw [i32_eqZ (z := 116) hx_4 (by decide)]) rfl ?_
    refine cf_aload_n E dX3_of_67 0 rfl rfl ?_
    refine xgX3_19 E dX3_of_68 rfl ?_
    exact xret_i dX3_of_71 h rfl hq
  rw [if_neg hx_4] at h
  by_cases hx_5 : x1 = (117 : Int32)
  · rw [if_pos hx_5] at h
    refine cf_look E dX3_of_1 (by decide) (by rw [i32_eqZ (z := 117) hx_5 (by decide)]) rfl ?_
    refine cf_aload_n E dX3_of_72 0 rfl rfl ?_
    refine xgX3_22 E dX3_of_73 rfl ?_
    exact xret_i dX3_of_76 h rfl hq
  rw [if_neg hx_5] at h
  refine cf_look E dX3_of_1 (by decide) (look_no (i32_neZ (z := 97) hx_1 (by decide)) (look_no (i32_neZ (z := 101) hx_2 (by decide)) (look_no (i32_neZ (z := 107) hx_3 (by decide)) (look_no (i32_neZ (z := 116) hx_4 (by decide)) (look_no (i32_neZ (z := 117) hx_5 (by decide)) rfl))))) rfl ?_
  refine cf_aload_n E dX3_of_77 0 rfl rfl ?_
  refine xgX3_25 E dX3_of_78 rfl ?_
  exact xret_i dX3_of_81 h rfl hq
def x0_change (N : Nat) (g : XG)   (x1 : Int32) (x2 : Int32) (ξ : XS) : Option (Int32 × XS) :=
  bnd (x0_isHead N g x1 ξ) fun v_2 s_1 =>
  if v_2 = 0 then (
    some ((-1 : Int32), s_1))
  else (
    bnd (x0_isHead N g x2 s_1) fun v_4 s_3 =>
    if v_4 = 0 then (
      some ((-1 : Int32), s_3))
    else (
      if x1 = x2 then (
        some ((-2 : Int32), s_3))
      else (
        bnv (x1_changes N g 0 x1 x2 s_3) fun s_5 =>
        some ((1 : Int32), s_5))))
section XC
variable {p : Program} {l : Launch} {e : Env} {R : Room} {s : State} {m : MethodId} {args : Array Value} {below : List Frame} {meth : Method} {c : Code} {nL cells slots : Nat} {A : Nat → Prop} {g : XG} {ξ : XS} {Q : State → Prop} {pc n : Nat} {lv : List (Nat × Value)} {st : List Value} {cc : ByteArray} {ρ : Type} {res : ρ}
theorem xclX0_271 (E : EV p s m args c cc nL RX0) {N : Nat} {t0 : Nat} (ht0 : t0 < 3) {x1 : Int32} {x2 : Int32} {kk : XS → Option ρ} (hR : 1 ≤ R.frames ∧ 23 ≤ R.locals) (hcat : (st.map fun v => v.category).sum ≤ 8) (hf : cells ≤ R.cells ∧ slots ≤ R.slots) (d : decode cc pc = .ok (.invokevirtual 271, 3)) (h : bnv (x1_changes N g t0 x1 x2 ξ) kk = some res) (hn : pc + 3 = n) (k : ∀ (ξ1 : XS), kk ξ1 = some res → CF p l e R s m args below meth c nL cells slots (XB g A s ξ1) Q n lv st) : CF p l e R s m args below meth c nL cells slots (XB g A s ξ) Q pc lv (.int x2 :: .int x1 :: .ref (xa g (200 + 10 * t0)) :: st) :=
  xcallV0_v (na := 2) E [.int x1, .int x2] (fun ξ1 ho => met_x1_changes l g N t0 ht0 x1 x2 ξ ho) (C := RX1) (lw_V q1098 q1099 q1100 q97 q1101) (by decide +kernel) (xrecvT ht0) rfl rfl hR rfl rfl hcat hf d h hn k
end XC
set_option maxHeartbeats 4000000 in
theorem met_x0_change (l : Launch) (g : XG) (N : Nat)   (x1 : Int32) (x2 : Int32) (ξ : XS) {v : Int32} {ξ1 : XS} (h : x0_change N g  x1 x2 ξ = some (v, ξ1)) : MetXi l g yX0_change (ws_ yX0_change cX0_change 3 (some .int)) { frames := 2, cells := 0, slots := 0, locals := 43 } [.ref (xa g 0), .int x1, .int x2] ξ v ξ1 0 0 := by
  refine met_xi (lv0 := [(0, .ref (xa g 0)), (1, .int x1), (2, .int x2)]) (own := RX0) (by decide) rfl (Nat.le_of_ble_eq_true rfl) rfl ?_
  intro p e s m below meth c A Q E hq
  have hR : 2 ≤ ({ frames := 2, cells := 0, slots := 0, locals := 43 } : Room).frames ∧ 43 ≤ ({ frames := 2, cells := 0, slots := 0, locals := 43 } : Room).locals := ⟨Nat.le_refl _, Nat.le_refl _⟩
  unfold x0_change at h
  refine cf_aload_n E dX0_change_0 0 rfl rfl ?_
  refine cf_iload_n E dX0_change_1 1 rfl rfl ?_
  refine xclX0_218 E (rmle hR rfl rfl) (Nat.le_of_ble_eq_true rfl) ⟨Nat.zero_le _, Nat.zero_le _⟩ dX0_change_2 h rfl (fun v_2 s_1 h => ?_)
  refine cf_if_eq E dX0_change_5 h rfl rfl (fun h => ?_) (fun h => ?_)
  · refine cf_iconst E dX0_change_16 ic_m1 rfl ?_
    exact xret_i dX0_change_17 h rfl hq
  · refine cf_aload_n E dX0_change_8 0 rfl rfl ?_
    refine cf_iload_n E dX0_change_9 2 rfl rfl ?_
    refine xclX0_218 E (rmle hR rfl rfl) (Nat.le_of_ble_eq_true rfl) ⟨Nat.zero_le _, Nat.zero_le _⟩ dX0_change_10 h rfl (fun v_4 s_3 h => ?_)
    refine cf_if_ne E dX0_change_13 h rfl rfl (fun h => ?_) (fun h => ?_)
    · refine cf_iload_n E dX0_change_18 1 rfl rfl ?_
      refine cf_iload_n E dX0_change_19 2 rfl rfl ?_
      refine cf_icmp_ne E dX0_change_20 h rfl rfl (fun h => ?_) (fun h => ?_)
      · refine cf_aload_n E dX0_change_26 0 rfl rfl ?_
        refine xgX0_30 E dX0_change_27 rfl ?_
        refine cf_iload_n E dX0_change_30 1 rfl rfl ?_
        refine cf_iload_n E dX0_change_31 2 rfl rfl ?_
        refine xclX0_271 (t0 := 0) E (by decide) (rmle hR rfl rfl) (Nat.le_of_ble_eq_true rfl) ⟨Nat.zero_le _, Nat.zero_le _⟩ dX0_change_32 h rfl (fun s_5 h => ?_)
        refine cf_iconst E dX0_change_35 ic_1 rfl ?_
        exact xret_i dX0_change_36 h rfl hq
      · refine cf_bipush E dX0_change_23 bp_m2 rfl ?_
        exact xret_i dX0_change_25 h rfl hq
    · refine cf_iconst E dX0_change_16 ic_m1 rfl ?_
      exact xret_i dX0_change_17 h rfl hq
def x0_goalOf_59 (N : Nat) (g : XG)  (rec4 : Int32 → Int32 → Int32 → XS → Option (Int32 × XS)) (x1 : Int32) (x2 : Int32) (x3 : Int32) (ξ : XS) : Option (Int32 × XS) :=
  nx (x3 + (1 : Int32)) fun x3_1 =>
  rec4 x1 x2 x3_1 ξ
def x0_goalOf_4b (N : Nat) (g : XG)   (rec4 : Int32 → Int32 → Int32 → XS → Option (Int32 × XS)) (x1 : Int32) (x2 : Int32) (x3 : Int32) (ξ : XS) : Option (Int32 × XS) :=
  if (xF ξ 202) ≤ x3 then (
    some (x2, ξ))
  else (
    if inb x1 6 = true then (
    if (xR ξ 200 x1.toNatClampNeg) = (-1 : Int32) then (
      x0_goalOf_59 N g rec4 x1 x2 x3 ξ)
    else (
      if inb x3 6 = true then (
      if inb x1 6 = true then (
      if (xR ξ 1 x3.toNatClampNeg) = (xR ξ 200 x1.toNatClampNeg) then (
        if x2 = (-1 : Int32) then (
          nx (x3 : Int32) fun x2_1 =>
          x0_goalOf_59 N g rec4 x1 x2_1 x3 ξ)
        else (
          some ((-5 : Int32), ξ)))
      else (
        x0_goalOf_59 N g rec4 x1 x2 x3 ξ)) else none) else none)) else none)
def x0_goalOf_4 (N : Nat) (g : XG)   : Nat → Int32 → Int32 → Int32 → XS → Option (Int32 × XS)
  | 0 => fun _ _ _ _ => none
  | k + 1 => fun x1 x2 x3 ξ => x0_goalOf_4b N g   (x0_goalOf_4 N g   k) x1 x2 x3 ξ
def x0_goalOf (N : Nat) (g : XG)   (x1 : Int32) (ξ : XS) : Option (Int32 × XS) :=
  nx ((-1 : Int32) : Int32) fun x2_1 =>
  nx ((0 : Int32) : Int32) fun x3_2 =>
  x0_goalOf_4 N g N x1 x2_1 x3_2 ξ
set_option maxHeartbeats 4000000 in
theorem wx0_goalOf_59 {p : Program} {l : Launch} {e : Env} {R : Room} {s : State} {m : MethodId} {args : Array Value} {below : List Frame} {meth : Method} {c : Code} {A : Nat → Prop} {g : XG} {Q : State → Prop} (E : EV p s m args c cX0_goalOf 4 RX0) (hR : 0 ≤ R.frames ∧ 0 ≤ R.locals) {res : Int32 × XS} (hq : XTi p l e R s m args below meth c cX0_goalOf 4 0 0 A g .int Q res) (N : Nat)   {rec4 : Int32 → Int32 → Int32 → XS → Option (Int32 × XS)} (ih4 : ∀ (x1 : Int32) (x2 : Int32) (x3 : Int32) (ξ : XS), rec4 x1 x2 x3 ξ = some res → CF p l e R s m args below meth c 4 0 0 (XB g A s ξ) Q 4 [(0, .ref (xa g 0)), (1, .int x1), (2, .int x2), (3, .int x3)] []) (x1 : Int32) (x2 : Int32) (x3 : Int32) (ξ : XS) (h : x0_goalOf_59 N g  rec4 x1 x2 x3 ξ = some res) : CF p l e R s m args below meth c 4 0 0 (XB g A s ξ) Q 59 [(0, .ref (xa g 0)), (1, .int x1), (2, .int x2), (3, .int x3)] [] := by
  unfold x0_goalOf_59 at h
  refine cf_iinc E dX0_goalOf_59 ic_1 h 3 rfl (fun x3_1 => [(3, .int x3_1), (0, .ref (xa g 0)), (1, .int x1), (2, .int x2)]) (Nat.le_of_ble_eq_true rfl) (fun _ => rfl) rfl (fun x3_1 h => ?_)
  refine cf_goto E dX0_goalOf_62 rfl ?_
  exact CF.sub [1, 2, 3, 0] rfl (ih4 x1 x2 x3_1 ξ h)
set_option maxHeartbeats 4000000 in
theorem wx0_goalOf_4b {p : Program} {l : Launch} {e : Env} {R : Room} {s : State} {m : MethodId} {args : Array Value} {below : List Frame} {meth : Method} {c : Code} {A : Nat → Prop} {g : XG} {Q : State → Prop} (E : EV p s m args c cX0_goalOf 4 RX0) (hR : 0 ≤ R.frames ∧ 0 ≤ R.locals) {res : Int32 × XS} (hq : XTi p l e R s m args below meth c cX0_goalOf 4 0 0 A g .int Q res) (N : Nat)    {rec4 : Int32 → Int32 → Int32 → XS → Option (Int32 × XS)} (ih4 : ∀ (x1 : Int32) (x2 : Int32) (x3 : Int32) (ξ : XS), rec4 x1 x2 x3 ξ = some res → CF p l e R s m args below meth c 4 0 0 (XB g A s ξ) Q 4 [(0, .ref (xa g 0)), (1, .int x1), (2, .int x2), (3, .int x3)] []) (x1 : Int32) (x2 : Int32) (x3 : Int32) (ξ : XS) (h : x0_goalOf_4b N g   rec4 x1 x2 x3 ξ = some res) : CF p l e R s m args below meth c 4 0 0 (XB g A s ξ) Q 4 [(0, .ref (xa g 0)), (1, .int x1), (2, .int x2), (3, .int x3)] [] := by
  unfold x0_goalOf_4b at h
  refine cf_iload_n E dX0_goalOf_4 3 rfl rfl ?_
  refine cf_aload_n E dX0_goalOf_5 0 rfl rfl ?_
  refine xgX0_30 E dX0_goalOf_6 rfl ?_
  refine xgX0_126_0 E dX0_goalOf_9 rfl ?_
  refine cf_icmp_ge E dX0_goalOf_12 h rfl rfl (fun h => ?_) (fun h => ?_)
  · refine cf_iload_n E dX0_goalOf_65 2 rfl rfl ?_
    exact xret_i dX0_goalOf_66 h rfl hq
  · refine cf_aload_n E dX0_goalOf_15 0 rfl rfl ?_
    refine xgX0_30 E dX0_goalOf_16 rfl ?_
    refine xgX0_137_0 E dX0_goalOf_19 rfl ?_
    refine cf_iload_n E dX0_goalOf_22 1 rfl rfl ?_
    refine xaldT_0_0 E dX0_goalOf_23 h rfl (fun h => ?_)
    refine cf_iconst E dX0_goalOf_24 ic_m1 rfl ?_
    refine cf_icmp_eq E dX0_goalOf_25 h rfl rfl (fun h => ?_) (fun h => ?_)
    · exact CF.sub [0, 1, 2, 3] rfl (wx0_goalOf_59 E hR hq N ih4 x1 x2 x3 ξ h)
    · refine cf_aload_n E dX0_goalOf_28 0 rfl rfl ?_
      refine xgX0_15 E dX0_goalOf_29 rfl ?_
      refine cf_iload_n E dX0_goalOf_32 3 rfl rfl ?_
      refine xald_1 E dX0_goalOf_33 h rfl (fun h => ?_)
      refine cf_aload_n E dX0_goalOf_34 0 rfl rfl ?_
      refine xgX0_30 E dX0_goalOf_35 rfl ?_
      refine xgX0_137_0 E dX0_goalOf_38 rfl ?_
      refine cf_iload_n E dX0_goalOf_41 1 rfl rfl ?_
      refine xaldT_0_0 E dX0_goalOf_42 h rfl (fun h => ?_)
      refine cf_icmp_eq E dX0_goalOf_43 h rfl rfl (fun h => ?_) (fun h => ?_)
      · refine cf_iload_n E dX0_goalOf_49 2 rfl rfl ?_
        refine cf_iconst E dX0_goalOf_50 ic_m1 rfl ?_
        refine cf_icmp_eq E dX0_goalOf_51 h rfl rfl (fun h => ?_) (fun h => ?_)
        · refine cf_iload_n E dX0_goalOf_57 3 rfl rfl ?_
          refine cf_istore_n E dX0_goalOf_58 h (fun x2_1 => [(2, .int x2_1), (0, .ref (xa g 0)), (1, .int x1), (3, .int x3)]) (Nat.le_of_ble_eq_true rfl) (fun _ => rfl) rfl (fun x2_1 h => ?_)
          exact CF.sub [1, 2, 0, 3] rfl (wx0_goalOf_59 E hR hq N ih4 x1 x2_1 x3 ξ h)
        · refine cf_bipush E dX0_goalOf_54 bp_m5 rfl ?_
          exact xret_i dX0_goalOf_56 h rfl hq
      · refine cf_goto E dX0_goalOf_46 rfl ?_
        exact CF.sub [0, 1, 2, 3] rfl (wx0_goalOf_59 E hR hq N ih4 x1 x2 x3 ξ h)
set_option maxHeartbeats 4000000 in
theorem wx0_goalOf_4 {p : Program} {l : Launch} {e : Env} {R : Room} {s : State} {m : MethodId} {args : Array Value} {below : List Frame} {meth : Method} {c : Code} {A : Nat → Prop} {g : XG} {Q : State → Prop} (E : EV p s m args c cX0_goalOf 4 RX0) (hR : 0 ≤ R.frames ∧ 0 ≤ R.locals) {res : Int32 × XS} (hq : XTi p l e R s m args below meth c cX0_goalOf 4 0 0 A g .int Q res) (N : Nat)    : ∀ (k : Nat) (x1 : Int32) (x2 : Int32) (x3 : Int32) (ξ : XS), x0_goalOf_4 N g   k x1 x2 x3 ξ = some res → CF p l e R s m args below meth c 4 0 0 (XB g A s ξ) Q 4 [(0, .ref (xa g 0)), (1, .int x1), (2, .int x2), (3, .int x3)] [] := by
  intro k
  induction k with
  | zero => intro x1 x2 x3 ξ h; have h : (none : Option (Int32 × XS)) = some res := h; cases h
  | succ k ih => intro x1 x2 x3 ξ h; exact wx0_goalOf_4b E hR hq N    ih x1 x2 x3 ξ h
set_option maxHeartbeats 4000000 in
theorem met_x0_goalOf (l : Launch) (g : XG) (N : Nat)   (x1 : Int32) (ξ : XS) {v : Int32} {ξ1 : XS} (h : x0_goalOf N g  x1 ξ = some (v, ξ1)) : MetXi l g yX0_goalOf (ws_ yX0_goalOf cX0_goalOf 4 (some .int)) { frames := 0, cells := 0, slots := 0, locals := 0 } [.ref (xa g 0), .int x1] ξ v ξ1 0 0 := by
  refine met_xi (lv0 := [(0, .ref (xa g 0)), (1, .int x1)]) (own := RX0) (by decide) rfl (Nat.le_of_ble_eq_true rfl) rfl ?_
  intro p e s m below meth c A Q E hq
  have hR : 0 ≤ ({ frames := 0, cells := 0, slots := 0, locals := 0 } : Room).frames ∧ 0 ≤ ({ frames := 0, cells := 0, slots := 0, locals := 0 } : Room).locals := ⟨Nat.le_refl _, Nat.le_refl _⟩
  unfold x0_goalOf at h
  refine cf_iconst E dX0_goalOf_0 ic_m1 rfl ?_
  refine cf_istore_n E dX0_goalOf_1 h (fun x2_1 => [(2, .int x2_1), (0, .ref (xa g 0)), (1, .int x1)]) (Nat.le_of_ble_eq_true rfl) (fun _ => rfl) rfl (fun x2_1 h => ?_)
  refine cf_iconst E dX0_goalOf_2 ic_0 rfl ?_
  refine cf_istore_n E dX0_goalOf_3 h (fun x3_2 => [(3, .int x3_2), (2, .int x2_1), (0, .ref (xa g 0)), (1, .int x1)]) (Nat.le_of_ble_eq_true rfl) (fun _ => rfl) rfl (fun x3_2 h => ?_)
  exact CF.sub [2, 3, 1, 0] rfl (wx0_goalOf_4 E hR hq N N x1 x2_1 x3_2 ξ h)
def x0_isRing_39 (N : Nat) (g : XG)   (x1 : Int32) (x2 : Int32) (ξ : XS) : Option (Int32 × XS) :=
  if x2 = x1 then (
    some ((1 : Int32), ξ))
  else (
    some ((0 : Int32), ξ))
def x0_isRing_13b (N : Nat) (g : XG)   (rec13 : Int32 → Int32 → XS → Option (Int32 × XS)) (x1 : Int32) (x2 : Int32) (ξ : XS) : Option (Int32 × XS) :=
  if x2 = (-1 : Int32) then (
    x0_isRing_39 N g x1 x2 ξ)
  else (
    if x2 = x1 then (
      x0_isRing_39 N g x1 x2 ξ)
    else (
      if x1 ≤ x2 then (
        bnd (x0_goalOf N g x2 ξ) fun v_2 s_1 =>
        nx (v_2 : Int32) fun x2_3 =>
        rec13 x1 x2_3 s_1)
      else (
        some ((0 : Int32), ξ))))
def x0_isRing_13 (N : Nat) (g : XG)   : Nat → Int32 → Int32 → XS → Option (Int32 × XS)
  | 0 => fun _ _ _ => none
  | k + 1 => fun x1 x2 ξ => x0_isRing_13b N g   (x0_isRing_13 N g   k) x1 x2 ξ
def x0_isRing (N : Nat) (g : XG)   (x1 : Int32) (ξ : XS) : Option (Int32 × XS) :=
  bnd (x0_goalOf N g x1 ξ) fun v_2 s_1 =>
  nx (v_2 : Int32) fun x2_3 =>
  if x2_3 = x1 then (
    some ((0 : Int32), s_1))
  else (
    x0_isRing_13 N g N x1 x2_3 s_1)
section XC
variable {p : Program} {l : Launch} {e : Env} {R : Room} {s : State} {m : MethodId} {args : Array Value} {below : List Frame} {meth : Method} {c : Code} {nL cells slots : Nat} {A : Nat → Prop} {g : XG} {ξ : XS} {Q : State → Prop} {pc n : Nat} {lv : List (Nat × Value)} {st : List Value} {cc : ByteArray} {ρ : Type} {res : ρ}
theorem xclX0_306 (E : EV p s m args c cc nL RX0) {N : Nat}   {x1 : Int32} {kk : Int32 → XS → Option ρ} (hR : 1 ≤ R.frames ∧ 23 ≤ R.locals) (hcat : (st.map fun v => v.category).sum ≤ 8) (hf : cells ≤ R.cells ∧ slots ≤ R.slots) (d : decode cc pc = .ok (.invokevirtual 306, 3)) (h : bnd (x0_goalOf N g  x1 ξ) kk = some res) (hn : pc + 3 = n) (k : ∀ (v : Int32) (ξ1 : XS), kk v ξ1 = some res → CF p l e R s m args below meth c nL cells slots (XB g A s ξ1) Q n lv (.int v :: st)) : CF p l e R s m args below meth c nL cells slots (XB g A s ξ) Q pc lv (.int x1 :: .ref (xa g 0) :: st) :=
  xcallV0_i (na := 1) E [.int x1] (fun v ξ1 ho => met_x0_goalOf l g N   x1 ξ ho) (C := RX0) (lw_V q1157 q1159 qs26 q96 q1160) (by decide +kernel) ⟨0, 1, _, _, rfl, rfl, rfl⟩ rfl rfl hR rfl rfl hcat hf d h hn k
end XC
set_option maxHeartbeats 4000000 in
theorem wx0_isRing_39 {p : Program} {l : Launch} {e : Env} {R : Room} {s : State} {m : MethodId} {args : Array Value} {below : List Frame} {meth : Method} {c : Code} {A : Nat → Prop} {g : XG} {Q : State → Prop} (E : EV p s m args c cX0_isRing 3 RX0) (hR : 1 ≤ R.frames ∧ 23 ≤ R.locals) {res : Int32 × XS} (hq : XTi p l e R s m args below meth c cX0_isRing 3 0 0 A g .boolean Q res) (N : Nat)    (x1 : Int32) (x2 : Int32) (ξ : XS) (h : x0_isRing_39 N g   x1 x2 ξ = some res) : CF p l e R s m args below meth c 3 0 0 (XB g A s ξ) Q 39 [(1, .int x1), (2, .int x2)] [] := by
  unfold x0_isRing_39 at h
  refine cf_iload_n E dX0_isRing_39 1 rfl rfl ?_
  refine cf_iload_n E dX0_isRing_40 0 rfl rfl ?_
  refine cf_icmp_ne E dX0_isRing_41 h rfl rfl (fun h => ?_) (fun h => ?_)
  · refine cf_iconst E dX0_isRing_48 ic_0 rfl ?_
    exact xret_i dX0_isRing_49 h nzb0 hq
  · refine cf_iconst E dX0_isRing_44 ic_1 rfl ?_
    refine cf_goto E dX0_isRing_45 rfl ?_
    exact xret_i dX0_isRing_49 h nzb1 hq
set_option maxHeartbeats 4000000 in
theorem wx0_isRing_13b {p : Program} {l : Launch} {e : Env} {R : Room} {s : State} {m : MethodId} {args : Array Value} {below : List Frame} {meth : Method} {c : Code} {A : Nat → Prop} {g : XG} {Q : State → Prop} (E : EV p s m args c cX0_isRing 3 RX0) (hR : 1 ≤ R.frames ∧ 23 ≤ R.locals) {res : Int32 × XS} (hq : XTi p l e R s m args below meth c cX0_isRing 3 0 0 A g .boolean Q res) (N : Nat)    {rec13 : Int32 → Int32 → XS → Option (Int32 × XS)} (ih13 : ∀ (x1 : Int32) (x2 : Int32) (ξ : XS), rec13 x1 x2 ξ = some res → CF p l e R s m args below meth c 3 0 0 (XB g A s ξ) Q 13 [(0, .ref (xa g 0)), (1, .int x1), (2, .int x2)] []) (x1 : Int32) (x2 : Int32) (ξ : XS) (h : x0_isRing_13b N g   rec13 x1 x2 ξ = some res) : CF p l e R s m args below meth c 3 0 0 (XB g A s ξ) Q 13 [(0, .ref (xa g 0)), (1, .int x1), (2, .int x2)] [] := by
  unfold x0_isRing_13b at h
  refine cf_iload_n E dX0_isRing_13 2 rfl rfl ?_
  refine cf_iconst E dX0_isRing_14 ic_m1 rfl ?_
  refine cf_icmp_eq E dX0_isRing_15 h rfl rfl (fun h => ?_) (fun h => ?_)
  · exact CF.sub [1, 2] rfl (wx0_isRing_39 E hR hq N x1 x2 ξ h)
  · refine cf_iload_n E dX0_isRing_18 2 rfl rfl ?_
    refine cf_iload_n E dX0_isRing_19 1 rfl rfl ?_
    refine cf_icmp_eq E dX0_isRing_20 h rfl rfl (fun h => ?_) (fun h => ?_)
    · exact CF.sub [1, 2] rfl (wx0_isRing_39 E hR hq N x1 x2 ξ h)
    · refine cf_iload_n E dX0_isRing_23 2 rfl rfl ?_
      refine cf_iload_n E dX0_isRing_24 1 rfl rfl ?_
      refine cf_icmp_ge E dX0_isRing_25 h rfl rfl (fun h => ?_) (fun h => ?_)
      · refine cf_aload_n E dX0_isRing_30 0 rfl rfl ?_
        refine cf_iload_n E dX0_isRing_31 2 rfl rfl ?_
        refine xclX0_306 E (rmle hR rfl rfl) (Nat.le_of_ble_eq_true rfl) ⟨Nat.zero_le _, Nat.zero_le _⟩ dX0_isRing_32 h rfl (fun v_2 s_1 h => ?_)
        refine cf_istore_n E dX0_isRing_35 h (fun x2_3 => [(2, .int x2_3), (0, .ref (xa g 0)), (1, .int x1)]) (Nat.le_of_ble_eq_true rfl) (fun _ => rfl) rfl (fun x2_3 h => ?_)
        refine cf_goto E dX0_isRing_36 rfl ?_
        exact CF.sub [1, 2, 0] rfl (ih13 x1 x2_3 s_1 h)
      · refine cf_iconst E dX0_isRing_28 ic_0 rfl ?_
        exact xret_i dX0_isRing_29 h nzb0 hq
set_option maxHeartbeats 4000000 in
theorem wx0_isRing_13 {p : Program} {l : Launch} {e : Env} {R : Room} {s : State} {m : MethodId} {args : Array Value} {below : List Frame} {meth : Method} {c : Code} {A : Nat → Prop} {g : XG} {Q : State → Prop} (E : EV p s m args c cX0_isRing 3 RX0) (hR : 1 ≤ R.frames ∧ 23 ≤ R.locals) {res : Int32 × XS} (hq : XTi p l e R s m args below meth c cX0_isRing 3 0 0 A g .boolean Q res) (N : Nat)    : ∀ (k : Nat) (x1 : Int32) (x2 : Int32) (ξ : XS), x0_isRing_13 N g   k x1 x2 ξ = some res → CF p l e R s m args below meth c 3 0 0 (XB g A s ξ) Q 13 [(0, .ref (xa g 0)), (1, .int x1), (2, .int x2)] [] := by
  intro k
  induction k with
  | zero => intro x1 x2 ξ h; have h : (none : Option (Int32 × XS)) = some res := h; cases h
  | succ k ih => intro x1 x2 ξ h; exact wx0_isRing_13b E hR hq N    ih x1 x2 ξ h
set_option maxHeartbeats 4000000 in
theorem met_x0_isRing (l : Launch) (g : XG) (N : Nat)   (x1 : Int32) (ξ : XS) {v : Int32} {ξ1 : XS} (h : x0_isRing N g  x1 ξ = some (v, ξ1)) : MetXi l g yX0_isRing (ws_ yX0_isRing cX0_isRing 3 (some .boolean)) { frames := 1, cells := 0, slots := 0, locals := 23 } [.ref (xa g 0), .int x1] ξ v ξ1 0 0 := by
  refine met_xi (lv0 := [(0, .ref (xa g 0)), (1, .int x1)]) (own := RX0) (by decide) rfl (Nat.le_of_ble_eq_true rfl) rfl ?_
  intro p e s m below meth c A Q E hq
  have hR : 1 ≤ ({ frames := 1, cells := 0, slots := 0, locals := 23 } : Room).frames ∧ 23 ≤ ({ frames := 1, cells := 0, slots := 0, locals := 23 } : Room).locals := ⟨Nat.le_refl _, Nat.le_refl _⟩
  unfold x0_isRing at h
  refine cf_aload_n E dX0_isRing_0 0 rfl rfl ?_
  refine cf_iload_n E dX0_isRing_1 1 rfl rfl ?_
  refine xclX0_306 E (rmle hR rfl rfl) (Nat.le_of_ble_eq_true rfl) ⟨Nat.zero_le _, Nat.zero_le _⟩ dX0_isRing_2 h rfl (fun v_2 s_1 h => ?_)
  refine cf_istore_n E dX0_isRing_5 h (fun x2_3 => [(2, .int x2_3), (0, .ref (xa g 0)), (1, .int x1)]) (Nat.le_of_ble_eq_true rfl) (fun _ => rfl) rfl (fun x2_3 h => ?_)
  refine cf_iload_n E dX0_isRing_6 0 rfl rfl ?_
  refine cf_iload_n E dX0_isRing_7 2 rfl rfl ?_
  refine cf_icmp_ne E dX0_isRing_8 h rfl rfl (fun h => ?_) (fun h => ?_)
  · exact CF.sub [1, 2, 0] rfl (wx0_isRing_13 E hR hq N N x1 x2_3 s_1 h)
  · refine cf_iconst E dX0_isRing_11 ic_0 rfl ?_
    exact xret_i dX0_isRing_12 h nzb0 hq
def x0_back_73 (N : Nat) (g : XG)  (rec51 : Int32 → Int32 → XS → Option (Int32 × XS)) (x1 : Int32) (x2 : Int32) (ξ : XS) : Option (Int32 × XS) :=
  nx (x2 + (1 : Int32)) fun x2_1 =>
  rec51 x1 x2_1 ξ
def x0_back_51b (N : Nat) (g : XG)   (rec51 : Int32 → Int32 → XS → Option (Int32 × XS)) (x1 : Int32) (x2 : Int32) (ξ : XS) : Option (Int32 × XS) :=
  if (xF ξ 202) ≤ x2 then (
    some (x1, ξ))
  else (
    bnd (x0_isRing N g x2 ξ) fun v_2 s_1 =>
    if v_2 = 0 then (
      x0_back_73 N g rec51 x1 x2 s_1)
    else (
      nx (x1 + (-1 : Int32)) fun x1_3 =>
      x0_back_73 N g rec51 x1_3 x2 s_1))
def x0_back_51 (N : Nat) (g : XG)   : Nat → Int32 → Int32 → XS → Option (Int32 × XS)
  | 0 => fun _ _ _ => none
  | k + 1 => fun x1 x2 ξ => x0_back_51b N g   (x0_back_51 N g   k) x1 x2 ξ
def x0_back_43 (N : Nat) (g : XG)  (rec4 : Int32 → Int32 → XS → Option (Int32 × XS)) (x1 : Int32) (x2 : Int32) (ξ : XS) : Option (Int32 × XS) :=
  nx (x2 + (1 : Int32)) fun x2_1 =>
  rec4 x1 x2_1 ξ
def x0_back_4b (N : Nat) (g : XG)   (rec4 : Int32 → Int32 → XS → Option (Int32 × XS)) (x1 : Int32) (x2 : Int32) (ξ : XS) : Option (Int32 × XS) :=
  if (xF ξ 202) ≤ x2 then (
    nx ((0 : Int32) : Int32) fun x2_1 =>
    x0_back_51 N g N x1 x2_1 ξ)
  else (
    bnd (x0_goalOf N g x2 ξ) fun v_3 s_2 =>
    nx (v_3 : Int32) fun x3_4 =>
    if x3_4 = (-5 : Int32) then (
      some ((-5 : Int32), s_2))
    else (
      if x3_4 = (-1 : Int32) then (
        x0_back_43 N g rec4 x1 x2 s_2)
      else (
        if x3_4 = x2 then (
          x0_back_43 N g rec4 x1 x2 s_2)
        else (
          nx (x1 + (1 : Int32)) fun x1_5 =>
          x0_back_43 N g rec4 x1_5 x2 s_2))))
def x0_back_4 (N : Nat) (g : XG)   : Nat → Int32 → Int32 → XS → Option (Int32 × XS)
  | 0 => fun _ _ _ => none
  | k + 1 => fun x1 x2 ξ => x0_back_4b N g   (x0_back_4 N g   k) x1 x2 ξ
def x0_back (N : Nat) (g : XG)    (ξ : XS) : Option (Int32 × XS) :=
  nx ((0 : Int32) : Int32) fun x1_1 =>
  nx ((0 : Int32) : Int32) fun x2_2 =>
  x0_back_4 N g N x1_1 x2_2 ξ
section XC
variable {p : Program} {l : Launch} {e : Env} {R : Room} {s : State} {m : MethodId} {args : Array Value} {below : List Frame} {meth : Method} {c : Code} {nL cells slots : Nat} {A : Nat → Prop} {g : XG} {ξ : XS} {Q : State → Prop} {pc n : Nat} {lv : List (Nat × Value)} {st : List Value} {cc : ByteArray} {ρ : Type} {res : ρ}
theorem xclX0_309 (E : EV p s m args c cc nL RX0) {N : Nat}   {x1 : Int32} {kk : Int32 → XS → Option ρ} (hR : 2 ≤ R.frames ∧ 45 ≤ R.locals) (hcat : (st.map fun v => v.category).sum ≤ 8) (hf : cells ≤ R.cells ∧ slots ≤ R.slots) (d : decode cc pc = .ok (.invokevirtual 309, 3)) (h : bnd (x0_isRing N g  x1 ξ) kk = some res) (hn : pc + 3 = n) (k : ∀ (v : Int32) (ξ1 : XS), kk v ξ1 = some res → CF p l e R s m args below meth c nL cells slots (XB g A s ξ1) Q n lv (.int v :: st)) : CF p l e R s m args below meth c nL cells slots (XB g A s ξ) Q pc lv (.int x1 :: .ref (xa g 0) :: st) :=
  xcallV0_i (na := 1) E [.int x1] (fun v ξ1 ho => met_x0_isRing l g N   x1 ξ ho) (C := RX0) (lw_V q1161 q1163 qs27 q96 q1164) (by decide +kernel) ⟨0, 1, _, _, rfl, rfl, rfl⟩ rfl rfl hR rfl rfl hcat hf d h hn k
end XC
set_option maxHeartbeats 4000000 in
theorem wx0_back_73 {p : Program} {l : Launch} {e : Env} {R : Room} {s : State} {m : MethodId} {args : Array Value} {below : List Frame} {meth : Method} {c : Code} {A : Nat → Prop} {g : XG} {Q : State → Prop} (E : EV p s m args c cX0_back 4 RX0) (hR : 2 ≤ R.frames ∧ 45 ≤ R.locals) {res : Int32 × XS} (hq : XTi p l e R s m args below meth c cX0_back 4 0 0 A g .int Q res) (N : Nat)   {rec51 : Int32 → Int32 → XS → Option (Int32 × XS)} (ih51 : ∀ (x1 : Int32) (x2 : Int32) (ξ : XS), rec51 x1 x2 ξ = some res → CF p l e R s m args below meth c 4 0 0 (XB g A s ξ) Q 51 [(0, .ref (xa g 0)), (1, .int x1), (2, .int x2)] []) (x1 : Int32) (x2 : Int32) (ξ : XS) (h : x0_back_73 N g  rec51 x1 x2 ξ = some res) : CF p l e R s m args below meth c 4 0 0 (XB g A s ξ) Q 73 [(0, .ref (xa g 0)), (1, .int x1), (2, .int x2)] [] := by
  unfold x0_back_73 at h
  refine cf_iinc E dX0_back_73 ic_1 h 2 rfl (fun x2_1 => [(2, .int x2_1), (0, .ref (xa g 0)), (1, .int x1)]) (Nat.le_of_ble_eq_true rfl) (fun _ => rfl) rfl (fun x2_1 h => ?_)
  refine cf_goto E dX0_back_76 rfl ?_
  exact CF.sub [1, 2, 0] rfl (ih51 x1 x2_1 ξ h)
set_option maxHeartbeats 4000000 in
theorem wx0_back_51b {p : Program} {l : Launch} {e : Env} {R : Room} {s : State} {m : MethodId} {args : Array Value} {below : List Frame} {meth : Method} {c : Code} {A : Nat → Prop} {g : XG} {Q : State → Prop} (E : EV p s m args c cX0_back 4 RX0) (hR : 2 ≤ R.frames ∧ 45 ≤ R.locals) {res : Int32 × XS} (hq : XTi p l e R s m args below meth c cX0_back 4 0 0 A g .int Q res) (N : Nat)    {rec51 : Int32 → Int32 → XS → Option (Int32 × XS)} (ih51 : ∀ (x1 : Int32) (x2 : Int32) (ξ : XS), rec51 x1 x2 ξ = some res → CF p l e R s m args below meth c 4 0 0 (XB g A s ξ) Q 51 [(0, .ref (xa g 0)), (1, .int x1), (2, .int x2)] []) (x1 : Int32) (x2 : Int32) (ξ : XS) (h : x0_back_51b N g   rec51 x1 x2 ξ = some res) : CF p l e R s m args below meth c 4 0 0 (XB g A s ξ) Q 51 [(0, .ref (xa g 0)), (1, .int x1), (2, .int x2)] [] := by
  unfold x0_back_51b at h
  refine cf_iload_n E dX0_back_51 2 rfl rfl ?_
  refine cf_aload_n E dX0_back_52 0 rfl rfl ?_
  refine xgX0_30 E dX0_back_53 rfl ?_
  refine xgX0_126_0 E dX0_back_56 rfl ?_
  refine cf_icmp_ge E dX0_back_59 h rfl rfl (fun h => ?_) (fun h => ?_)
  · refine cf_iload_n E dX0_back_79 1 rfl rfl ?_
    exact xret_i dX0_back_80 h rfl hq
  · refine cf_aload_n E dX0_back_62 0 rfl rfl ?_
    refine cf_iload_n E dX0_back_63 2 rfl rfl ?_
    refine xclX0_309 E (rmle hR rfl rfl) (Nat.le_of_ble_eq_true rfl) ⟨Nat.zero_le _, Nat.zero_le _⟩ dX0_back_64 h rfl (fun v_2 s_1 h => ?_)
    refine cf_if_eq E dX0_back_67 h rfl rfl (fun h => ?_) (fun h => ?_)
    · exact CF.sub [0, 1, 2] rfl (wx0_back_73 E hR hq N ih51 x1 x2 s_1 h)
    · refine cf_iinc E dX0_back_70 ic_m1 h 1 rfl (fun x1_3 => [(1, .int x1_3), (0, .ref (xa g 0)), (2, .int x2)]) (Nat.le_of_ble_eq_true rfl) (fun _ => rfl) rfl (fun x1_3 h => ?_)
      exact CF.sub [1, 0, 2] rfl (wx0_back_73 E hR hq N ih51 x1_3 x2 s_1 h)
set_option maxHeartbeats 4000000 in
theorem wx0_back_51 {p : Program} {l : Launch} {e : Env} {R : Room} {s : State} {m : MethodId} {args : Array Value} {below : List Frame} {meth : Method} {c : Code} {A : Nat → Prop} {g : XG} {Q : State → Prop} (E : EV p s m args c cX0_back 4 RX0) (hR : 2 ≤ R.frames ∧ 45 ≤ R.locals) {res : Int32 × XS} (hq : XTi p l e R s m args below meth c cX0_back 4 0 0 A g .int Q res) (N : Nat)    : ∀ (k : Nat) (x1 : Int32) (x2 : Int32) (ξ : XS), x0_back_51 N g   k x1 x2 ξ = some res → CF p l e R s m args below meth c 4 0 0 (XB g A s ξ) Q 51 [(0, .ref (xa g 0)), (1, .int x1), (2, .int x2)] [] := by
  intro k
  induction k with
  | zero => intro x1 x2 ξ h; have h : (none : Option (Int32 × XS)) = some res := h; cases h
  | succ k ih => intro x1 x2 ξ h; exact wx0_back_51b E hR hq N    ih x1 x2 ξ h
set_option maxHeartbeats 4000000 in
theorem wx0_back_43 {p : Program} {l : Launch} {e : Env} {R : Room} {s : State} {m : MethodId} {args : Array Value} {below : List Frame} {meth : Method} {c : Code} {A : Nat → Prop} {g : XG} {Q : State → Prop} (E : EV p s m args c cX0_back 4 RX0) (hR : 2 ≤ R.frames ∧ 45 ≤ R.locals) {res : Int32 × XS} (hq : XTi p l e R s m args below meth c cX0_back 4 0 0 A g .int Q res) (N : Nat)   {rec4 : Int32 → Int32 → XS → Option (Int32 × XS)} (ih4 : ∀ (x1 : Int32) (x2 : Int32) (ξ : XS), rec4 x1 x2 ξ = some res → CF p l e R s m args below meth c 4 0 0 (XB g A s ξ) Q 4 [(0, .ref (xa g 0)), (1, .int x1), (2, .int x2)] []) (x1 : Int32) (x2 : Int32) (ξ : XS) (h : x0_back_43 N g  rec4 x1 x2 ξ = some res) : CF p l e R s m args below meth c 4 0 0 (XB g A s ξ) Q 43 [(0, .ref (xa g 0)), (1, .int x1), (2, .int x2)] [] := by
  unfold x0_back_43 at h
  refine cf_iinc E dX0_back_43 ic_1 h 2 rfl (fun x2_1 => [(2, .int x2_1), (0, .ref (xa g 0)), (1, .int x1)]) (Nat.le_of_ble_eq_true rfl) (fun _ => rfl) rfl (fun x2_1 h => ?_)
  refine cf_goto E dX0_back_46 rfl ?_
  exact CF.sub [1, 2, 0] rfl (ih4 x1 x2_1 ξ h)
set_option maxHeartbeats 4000000 in
theorem wx0_back_4b {p : Program} {l : Launch} {e : Env} {R : Room} {s : State} {m : MethodId} {args : Array Value} {below : List Frame} {meth : Method} {c : Code} {A : Nat → Prop} {g : XG} {Q : State → Prop} (E : EV p s m args c cX0_back 4 RX0) (hR : 2 ≤ R.frames ∧ 45 ≤ R.locals) {res : Int32 × XS} (hq : XTi p l e R s m args below meth c cX0_back 4 0 0 A g .int Q res) (N : Nat)    {rec4 : Int32 → Int32 → XS → Option (Int32 × XS)} (ih4 : ∀ (x1 : Int32) (x2 : Int32) (ξ : XS), rec4 x1 x2 ξ = some res → CF p l e R s m args below meth c 4 0 0 (XB g A s ξ) Q 4 [(0, .ref (xa g 0)), (1, .int x1), (2, .int x2)] []) (x1 : Int32) (x2 : Int32) (ξ : XS) (h : x0_back_4b N g   rec4 x1 x2 ξ = some res) : CF p l e R s m args below meth c 4 0 0 (XB g A s ξ) Q 4 [(0, .ref (xa g 0)), (1, .int x1), (2, .int x2)] [] := by
  unfold x0_back_4b at h
  refine cf_iload_n E dX0_back_4 2 rfl rfl ?_
  refine cf_aload_n E dX0_back_5 0 rfl rfl ?_
  refine xgX0_30 E dX0_back_6 rfl ?_
  refine xgX0_126_0 E dX0_back_9 rfl ?_
  refine cf_icmp_ge E dX0_back_12 h rfl rfl (fun h => ?_) (fun h => ?_)
  · refine cf_iconst E dX0_back_49 ic_0 rfl ?_
    refine cf_istore_n E dX0_back_50 h (fun x2_1 => [(2, .int x2_1), (0, .ref (xa g 0)), (1, .int x1)]) (Nat.le_of_ble_eq_true rfl) (fun _ => rfl) rfl (fun x2_1 h => ?_)
    exact CF.sub [1, 2, 0] rfl (wx0_back_51 E hR hq N N x1 x2_1 ξ h)
  · refine cf_aload_n E dX0_back_15 0 rfl rfl ?_
    refine cf_iload_n E dX0_back_16 2 rfl rfl ?_
    refine xclX0_306 E (rmle hR rfl rfl) (Nat.le_of_ble_eq_true rfl) ⟨Nat.zero_le _, Nat.zero_le _⟩ dX0_back_17 h rfl (fun v_3 s_2 h => ?_)
    refine cf_istore_n E dX0_back_20 h (fun x3_4 => [(3, .int x3_4), (0, .ref (xa g 0)), (1, .int x1), (2, .int x2)]) (Nat.le_of_ble_eq_true rfl) (fun _ => rfl) rfl (fun x3_4 h => ?_)
    refine cf_iload_n E dX0_back_21 0 rfl rfl ?_
    refine cf_bipush E dX0_back_22 bp_m5 rfl ?_
    refine cf_icmp_ne E dX0_back_24 h rfl rfl (fun h => ?_) (fun h => ?_)
    · refine cf_iload_n E dX0_back_30 0 rfl rfl ?_
      refine cf_iconst E dX0_back_31 ic_m1 rfl ?_
      refine cf_icmp_eq E dX0_back_32 h rfl rfl (fun h => ?_) (fun h => ?_)
      · exact CF.sub [1, 2, 3] rfl (wx0_back_43 E hR hq N ih4 x1 x2 s_2 h)
      · refine cf_iload_n E dX0_back_35 0 rfl rfl ?_
        refine cf_iload_n E dX0_back_36 3 rfl rfl ?_
        refine cf_icmp_eq E dX0_back_37 h rfl rfl (fun h => ?_) (fun h => ?_)
        · exact CF.sub [1, 2, 3] rfl (wx0_back_43 E hR hq N ih4 x1 x2 s_2 h)
        · refine cf_iinc E dX0_back_40 ic_1 h 2 rfl (fun x1_5 => [(1, .int x1_5), (3, .int x3_4), (0, .ref (xa g 0)), (2, .int x2)]) (Nat.le_of_ble_eq_true rfl) (fun _ => rfl) rfl (fun x1_5 h => ?_)
          exact CF.sub [2, 0, 3] rfl (wx0_back_43 E hR hq N ih4 x1_5 x2 s_2 h)
    · refine cf_bipush E dX0_back_27 bp_m5 rfl ?_
      exact xret_i dX0_back_29 h rfl hq
set_option maxHeartbeats 4000000 in
theorem wx0_back_4 {p : Program} {l : Launch} {e : Env} {R : Room} {s : State} {m : MethodId} {args : Array Value} {below : List Frame} {meth : Method} {c : Code} {A : Nat → Prop} {g : XG} {Q : State → Prop} (E : EV p s m args c cX0_back 4 RX0) (hR : 2 ≤ R.frames ∧ 45 ≤ R.locals) {res : Int32 × XS} (hq : XTi p l e R s m args below meth c cX0_back 4 0 0 A g .int Q res) (N : Nat)    : ∀ (k : Nat) (x1 : Int32) (x2 : Int32) (ξ : XS), x0_back_4 N g   k x1 x2 ξ = some res → CF p l e R s m args below meth c 4 0 0 (XB g A s ξ) Q 4 [(0, .ref (xa g 0)), (1, .int x1), (2, .int x2)] [] := by
  intro k
  induction k with
  | zero => intro x1 x2 ξ h; have h : (none : Option (Int32 × XS)) = some res := h; cases h
  | succ k ih => intro x1 x2 ξ h; exact wx0_back_4b E hR hq N    ih x1 x2 ξ h
set_option maxHeartbeats 4000000 in
theorem met_x0_back (l : Launch) (g : XG) (N : Nat)    (ξ : XS) {v : Int32} {ξ1 : XS} (h : x0_back N g   ξ = some (v, ξ1)) : MetXi l g yX0_back (ws_ yX0_back cX0_back 4 (some .int)) { frames := 2, cells := 0, slots := 0, locals := 45 } [.ref (xa g 0)] ξ v ξ1 0 0 := by
  refine met_xi (lv0 := [(0, .ref (xa g 0))]) (own := RX0) (by decide) rfl (Nat.le_of_ble_eq_true rfl) rfl ?_
  intro p e s m below meth c A Q E hq
  have hR : 2 ≤ ({ frames := 2, cells := 0, slots := 0, locals := 45 } : Room).frames ∧ 45 ≤ ({ frames := 2, cells := 0, slots := 0, locals := 45 } : Room).locals := ⟨Nat.le_refl _, Nat.le_refl _⟩
  unfold x0_back at h
  refine cf_iconst E dX0_back_0 ic_0 rfl ?_
  refine cf_istore_n E dX0_back_1 h (fun x1_1 => [(1, .int x1_1), (0, .ref (xa g 0))]) (Nat.le_of_ble_eq_true rfl) (fun _ => rfl) rfl (fun x1_1 h => ?_)
  refine cf_iconst E dX0_back_2 ic_0 rfl ?_
  refine cf_istore_n E dX0_back_3 h (fun x2_2 => [(2, .int x2_2), (1, .int x1_1), (0, .ref (xa g 0))]) (Nat.le_of_ble_eq_true rfl) (fun _ => rfl) rfl (fun x2_2 h => ?_)
  exact CF.sub [2, 1, 0] rfl (wx0_back_4 E hR hq N N x1_1 x2_2 ξ h)
def x0_see (N : Nat) (g : XG)   (x1 : Int32) (x2 : Int32) (ξ : XS) : Option (Int32 × XS) :=
  if x1 = (-1 : Int32) then (
    nx (sXF ξ 18 (0 : Int32)) fun s_8 =>
    some ((0 : Int32), s_8))
  else (
    bnd (x0_isHat N g x1 ξ) fun v_2 s_1 =>
    if v_2 = 0 then (
      some ((-1 : Int32), s_1))
    else (
      bnd (x0_in N g x2 (0 : Int32) (999 : Int32) s_1) fun v_4 s_3 =>
      if v_4 = 0 then (
        some ((-2 : Int32), s_3))
      else (
        if (xF s_3 18) = (6 : Int32) then (
          some ((-4 : Int32), s_3))
        else (
          if inb (xF s_3 18) 6 = true then nx (sXR s_3 14 (xF s_3 18).toNatClampNeg x1) (fun s_5 =>
          nx (sXF s_5 18 ((xF s_5 18) + (1 : Int32))) fun s_6 =>
          if inb (xF s_5 18) 6 = true then nx (sXR s_6 15 (xF s_5 18).toNatClampNeg x2) (fun s_7 =>
          some ((xF s_7 18), s_7)) else none) else none))))
set_option maxHeartbeats 4000000 in
theorem met_x0_see (l : Launch) (g : XG) (N : Nat)   (x1 : Int32) (x2 : Int32) (ξ : XS) {v : Int32} {ξ1 : XS} (h : x0_see N g  x1 x2 ξ = some (v, ξ1)) : MetXi l g yX0_see (ws_ yX0_see cX0_see 3 (some .int)) { frames := 2, cells := 0, slots := 0, locals := 43 } [.ref (xa g 0), .int x1, .int x2] ξ v ξ1 0 0 := by
  refine met_xi (lv0 := [(0, .ref (xa g 0)), (1, .int x1), (2, .int x2)]) (own := RX0) (by decide) rfl (Nat.le_of_ble_eq_true rfl) rfl ?_
  intro p e s m below meth c A Q E hq
  have hR : 2 ≤ ({ frames := 2, cells := 0, slots := 0, locals := 43 } : Room).frames ∧ 43 ≤ ({ frames := 2, cells := 0, slots := 0, locals := 43 } : Room).locals := ⟨Nat.le_refl _, Nat.le_refl _⟩
  unfold x0_see at h
  refine cf_iload_n E dX0_see_0 1 rfl rfl ?_
  refine cf_iconst E dX0_see_1 ic_m1 rfl ?_
  refine cf_icmp_ne E dX0_see_2 h rfl rfl (fun h => ?_) (fun h => ?_)
  · refine cf_aload_n E dX0_see_12 0 rfl rfl ?_
    refine cf_iload_n E dX0_see_13 1 rfl rfl ?_
    refine xclX0_202 E (rmle hR rfl rfl) (Nat.le_of_ble_eq_true rfl) ⟨Nat.zero_le _, Nat.zero_le _⟩ dX0_see_14 h rfl (fun v_2 s_1 h => ?_)
    refine cf_if_ne E dX0_see_17 h rfl rfl (fun h => ?_) (fun h => ?_)
    · refine cf_iload_n E dX0_see_22 2 rfl rfl ?_
      refine cf_iconst E dX0_see_23 ic_0 rfl ?_
      refine cf_sipush E dX0_see_24 sp_999 rfl ?_
      refine xclX0_130 E (rmle hR rfl rfl) (Nat.le_of_ble_eq_true rfl) ⟨Nat.zero_le _, Nat.zero_le _⟩ dX0_see_27 h rfl (fun v_4 s_3 h => ?_)
      refine cf_if_ne E dX0_see_30 h rfl rfl (fun h => ?_) (fun h => ?_)
      · refine cf_aload_n E dX0_see_36 0 rfl rfl ?_
        refine xgX0_315 E dX0_see_37 rfl ?_
        refine cf_bipush E dX0_see_40 bp_6 rfl ?_
        refine cf_icmp_ne E dX0_see_42 h rfl rfl (fun h => ?_) (fun h => ?_)
        · refine cf_aload_n E dX0_see_48 0 rfl rfl ?_
          refine xgX0_65 E dX0_see_49 rfl ?_
          refine cf_aload_n E dX0_see_52 0 rfl rfl ?_
          refine xgX0_315 E dX0_see_53 rfl ?_
          refine cf_iload_n E dX0_see_56 1 rfl rfl ?_
          refine xast_14 E dX0_see_57 h rfl (fun s_5 h => ?_)
          refine cf_aload_n E dX0_see_58 0 rfl rfl ?_
          refine xgX0_68 E dX0_see_59 rfl ?_
          refine cf_aload_n E dX0_see_62 0 rfl rfl ?_
          refine cf_dup E dX0_see_63 rfl rfl ?_
          refine xgX0_315 E dX0_see_64 rfl ?_
          refine cf_dup_x1 E dX0_see_67 rfl rfl rfl ?_
          refine cf_iconst E dX0_see_68 ic_1 rfl ?_
          refine cf_iadd E dX0_see_69 rfl ?_
          refine xpX0_315 E dX0_see_70 h rfl (fun s_6 h => ?_)
          refine cf_iload_n E dX0_see_73 2 rfl rfl ?_
          refine xast_15 E dX0_see_74 h rfl (fun s_7 h => ?_)
          refine cf_aload_n E dX0_see_75 0 rfl rfl ?_
          refine xgX0_315 E dX0_see_76 rfl ?_
          exact xret_i dX0_see_79 h rfl hq
        · refine cf_bipush E dX0_see_45 bp_m4 rfl ?_
          exact xret_i dX0_see_47 h rfl hq
      · refine cf_bipush E dX0_see_33 bp_m2 rfl ?_
        exact xret_i dX0_see_35 h rfl hq
    · refine cf_iconst E dX0_see_20 ic_m1 rfl ?_
      exact xret_i dX0_see_21 h rfl hq
  · refine cf_aload_n E dX0_see_5 0 rfl rfl ?_
    refine cf_iconst E dX0_see_6 ic_0 rfl ?_
    refine xpX0_315 E dX0_see_7 h rfl (fun s_8 h => ?_)
    refine cf_iconst E dX0_see_10 ic_0 rfl ?_
    exact xret_i dX0_see_11 h rfl hq
def x0_isAsSeen_42 (N : Nat) (g : XG)  (rec2 : Int32 → Int32 → Int32 → XS → Option (Int32 × XS)) (x1 : Int32) (x2 : Int32) (x3 : Int32) (ξ : XS) : Option (Int32 × XS) :=
  nx (x3 + (1 : Int32)) fun x3_1 =>
  rec2 x1 x2 x3_1 ξ
def x0_isAsSeen_2b (N : Nat) (g : XG)   (rec2 : Int32 → Int32 → Int32 → XS → Option (Int32 × XS)) (x1 : Int32) (x2 : Int32) (x3 : Int32) (ξ : XS) : Option (Int32 × XS) :=
  if (xF ξ 18) ≤ x3 then (
    some ((1 : Int32), ξ))
  else (
    if inb x3 6 = true then (
    if (xR ξ 14 x3.toNatClampNeg) = x1 then (
      if inb (((6 : Int32) * x1) + x2) 36 = true then (
      if inb x3 6 = true then (
      if (xR ξ 21 (((6 : Int32) * x1) + x2).toNatClampNeg) = (xR ξ 15 x3.toNatClampNeg) then (
        x0_isAsSeen_42 N g rec2 x1 x2 x3 ξ)
      else (
        some ((0 : Int32), ξ))) else none) else none)
    else (
      x0_isAsSeen_42 N g rec2 x1 x2 x3 ξ)) else none)
def x0_isAsSeen_2 (N : Nat) (g : XG)   : Nat → Int32 → Int32 → Int32 → XS → Option (Int32 × XS)
  | 0 => fun _ _ _ _ => none
  | k + 1 => fun x1 x2 x3 ξ => x0_isAsSeen_2b N g   (x0_isAsSeen_2 N g   k) x1 x2 x3 ξ
def x0_isAsSeen (N : Nat) (g : XG)   (x1 : Int32) (x2 : Int32) (ξ : XS) : Option (Int32 × XS) :=
  nx ((0 : Int32) : Int32) fun x3_1 =>
  x0_isAsSeen_2 N g N x1 x2 x3_1 ξ
set_option maxHeartbeats 4000000 in
theorem wx0_isAsSeen_42 {p : Program} {l : Launch} {e : Env} {R : Room} {s : State} {m : MethodId} {args : Array Value} {below : List Frame} {meth : Method} {c : Code} {A : Nat → Prop} {g : XG} {Q : State → Prop} (E : EV p s m args c cX0_isAsSeen 4 RX0) (hR : 0 ≤ R.frames ∧ 0 ≤ R.locals) {res : Int32 × XS} (hq : XTi p l e R s m args below meth c cX0_isAsSeen 4 0 0 A g .boolean Q res) (N : Nat)   {rec2 : Int32 → Int32 → Int32 → XS → Option (Int32 × XS)} (ih2 : ∀ (x1 : Int32) (x2 : Int32) (x3 : Int32) (ξ : XS), rec2 x1 x2 x3 ξ = some res → CF p l e R s m args below meth c 4 0 0 (XB g A s ξ) Q 2 [(0, .ref (xa g 0)), (1, .int x1), (2, .int x2), (3, .int x3)] []) (x1 : Int32) (x2 : Int32) (x3 : Int32) (ξ : XS) (h : x0_isAsSeen_42 N g  rec2 x1 x2 x3 ξ = some res) : CF p l e R s m args below meth c 4 0 0 (XB g A s ξ) Q 42 [(0, .ref (xa g 0)), (1, .int x1), (2, .int x2), (3, .int x3)] [] := by
  unfold x0_isAsSeen_42 at h
  refine cf_iinc E dX0_isAsSeen_42 ic_1 h 3 rfl (fun x3_1 => [(3, .int x3_1), (0, .ref (xa g 0)), (1, .int x1), (2, .int x2)]) (Nat.le_of_ble_eq_true rfl) (fun _ => rfl) rfl (fun x3_1 h => ?_)
  refine cf_goto E dX0_isAsSeen_45 rfl ?_
  exact CF.sub [1, 2, 3, 0] rfl (ih2 x1 x2 x3_1 ξ h)
set_option maxHeartbeats 4000000 in
theorem wx0_isAsSeen_2b {p : Program} {l : Launch} {e : Env} {R : Room} {s : State} {m : MethodId} {args : Array Value} {below : List Frame} {meth : Method} {c : Code} {A : Nat → Prop} {g : XG} {Q : State → Prop} (E : EV p s m args c cX0_isAsSeen 4 RX0) (hR : 0 ≤ R.frames ∧ 0 ≤ R.locals) {res : Int32 × XS} (hq : XTi p l e R s m args below meth c cX0_isAsSeen 4 0 0 A g .boolean Q res) (N : Nat)    {rec2 : Int32 → Int32 → Int32 → XS → Option (Int32 × XS)} (ih2 : ∀ (x1 : Int32) (x2 : Int32) (x3 : Int32) (ξ : XS), rec2 x1 x2 x3 ξ = some res → CF p l e R s m args below meth c 4 0 0 (XB g A s ξ) Q 2 [(0, .ref (xa g 0)), (1, .int x1), (2, .int x2), (3, .int x3)] []) (x1 : Int32) (x2 : Int32) (x3 : Int32) (ξ : XS) (h : x0_isAsSeen_2b N g   rec2 x1 x2 x3 ξ = some res) : CF p l e R s m args below meth c 4 0 0 (XB g A s ξ) Q 2 [(0, .ref (xa g 0)), (1, .int x1), (2, .int x2), (3, .int x3)] [] := by
  unfold x0_isAsSeen_2b at h
  refine cf_iload_n E dX0_isAsSeen_2 3 rfl rfl ?_
  refine cf_aload_n E dX0_isAsSeen_3 0 rfl rfl ?_
  refine xgX0_315 E dX0_isAsSeen_4 rfl ?_
  refine cf_icmp_ge E dX0_isAsSeen_7 h rfl rfl (fun h => ?_) (fun h => ?_)
  · refine cf_iconst E dX0_isAsSeen_48 ic_1 rfl ?_
    exact xret_i dX0_isAsSeen_49 h nzb1 hq
  · refine cf_aload_n E dX0_isAsSeen_10 0 rfl rfl ?_
    refine xgX0_65 E dX0_isAsSeen_11 rfl ?_
    refine cf_iload_n E dX0_isAsSeen_14 3 rfl rfl ?_
    refine xald_14 E dX0_isAsSeen_15 h rfl (fun h => ?_)
    refine cf_iload_n E dX0_isAsSeen_16 1 rfl rfl ?_
    refine cf_icmp_ne E dX0_isAsSeen_17 h rfl rfl (fun h => ?_) (fun h => ?_)
    · exact CF.sub [0, 1, 2, 3] rfl (wx0_isAsSeen_42 E hR hq N ih2 x1 x2 x3 ξ h)
    · refine cf_aload_n E dX0_isAsSeen_20 0 rfl rfl ?_
      refine xgX0_83 E dX0_isAsSeen_21 rfl ?_
      refine cf_bipush E dX0_isAsSeen_24 bp_6 rfl ?_
      refine cf_iload_n E dX0_isAsSeen_26 1 rfl rfl ?_
      refine cf_imul E dX0_isAsSeen_27 rfl ?_
      refine cf_iload_n E dX0_isAsSeen_28 2 rfl rfl ?_
      refine cf_iadd E dX0_isAsSeen_29 rfl ?_
      refine xald_21 E dX0_isAsSeen_30 h rfl (fun h => ?_)
      refine cf_aload_n E dX0_isAsSeen_31 0 rfl rfl ?_
      refine xgX0_68 E dX0_isAsSeen_32 rfl ?_
      refine cf_iload_n E dX0_isAsSeen_35 3 rfl rfl ?_
      refine xald_15 E dX0_isAsSeen_36 h rfl (fun h => ?_)
      refine cf_icmp_eq E dX0_isAsSeen_37 h rfl rfl (fun h => ?_) (fun h => ?_)
      · exact CF.sub [0, 1, 2, 3] rfl (wx0_isAsSeen_42 E hR hq N ih2 x1 x2 x3 ξ h)
      · refine cf_iconst E dX0_isAsSeen_40 ic_0 rfl ?_
        exact xret_i dX0_isAsSeen_41 h nzb0 hq
set_option maxHeartbeats 4000000 in
theorem wx0_isAsSeen_2 {p : Program} {l : Launch} {e : Env} {R : Room} {s : State} {m : MethodId} {args : Array Value} {below : List Frame} {meth : Method} {c : Code} {A : Nat → Prop} {g : XG} {Q : State → Prop} (E : EV p s m args c cX0_isAsSeen 4 RX0) (hR : 0 ≤ R.frames ∧ 0 ≤ R.locals) {res : Int32 × XS} (hq : XTi p l e R s m args below meth c cX0_isAsSeen 4 0 0 A g .boolean Q res) (N : Nat)    : ∀ (k : Nat) (x1 : Int32) (x2 : Int32) (x3 : Int32) (ξ : XS), x0_isAsSeen_2 N g   k x1 x2 x3 ξ = some res → CF p l e R s m args below meth c 4 0 0 (XB g A s ξ) Q 2 [(0, .ref (xa g 0)), (1, .int x1), (2, .int x2), (3, .int x3)] [] := by
  intro k
  induction k with
  | zero => intro x1 x2 x3 ξ h; have h : (none : Option (Int32 × XS)) = some res := h; cases h
  | succ k ih => intro x1 x2 x3 ξ h; exact wx0_isAsSeen_2b E hR hq N    ih x1 x2 x3 ξ h
set_option maxHeartbeats 4000000 in
theorem met_x0_isAsSeen (l : Launch) (g : XG) (N : Nat)   (x1 : Int32) (x2 : Int32) (ξ : XS) {v : Int32} {ξ1 : XS} (h : x0_isAsSeen N g  x1 x2 ξ = some (v, ξ1)) : MetXi l g yX0_isAsSeen (ws_ yX0_isAsSeen cX0_isAsSeen 4 (some .boolean)) { frames := 0, cells := 0, slots := 0, locals := 0 } [.ref (xa g 0), .int x1, .int x2] ξ v ξ1 0 0 := by
  refine met_xi (lv0 := [(0, .ref (xa g 0)), (1, .int x1), (2, .int x2)]) (own := RX0) (by decide) rfl (Nat.le_of_ble_eq_true rfl) rfl ?_
  intro p e s m below meth c A Q E hq
  have hR : 0 ≤ ({ frames := 0, cells := 0, slots := 0, locals := 0 } : Room).frames ∧ 0 ≤ ({ frames := 0, cells := 0, slots := 0, locals := 0 } : Room).locals := ⟨Nat.le_refl _, Nat.le_refl _⟩
  unfold x0_isAsSeen at h
  refine cf_iconst E dX0_isAsSeen_0 ic_0 rfl ?_
  refine cf_istore_n E dX0_isAsSeen_1 h (fun x3_1 => [(3, .int x3_1), (0, .ref (xa g 0)), (1, .int x1), (2, .int x2)]) (Nat.le_of_ble_eq_true rfl) (fun _ => rfl) rfl (fun x3_1 h => ?_)
  exact CF.sub [1, 2, 3, 0] rfl (wx0_isAsSeen_2 E hR hq N N x1 x2 x3_1 ξ h)
def x0_woreOf_30 (N : Nat) (g : XG)  (rec4 : Int32 → Int32 → Int32 → XS → Option (Int32 × XS)) (x1 : Int32) (x2 : Int32) (x3 : Int32) (ξ : XS) : Option (Int32 × XS) :=
  nx (x3 + (1 : Int32)) fun x3_1 =>
  rec4 x1 x2 x3_1 ξ
def x0_woreOf_4b (N : Nat) (g : XG)   (rec4 : Int32 → Int32 → Int32 → XS → Option (Int32 × XS)) (x1 : Int32) (x2 : Int32) (x3 : Int32) (ξ : XS) : Option (Int32 × XS) :=
  if (xF ξ 202) ≤ x3 then (
    some (x2, ξ))
  else (
    bnd (x0_isAsSeen N g x1 x3 ξ) fun v_2 s_1 =>
    if v_2 = 0 then (
      x0_woreOf_30 N g rec4 x1 x2 x3 s_1)
    else (
      nx ((x2 ||| ((1 : Int32) <<< (x3 &&& 31))) : Int32) fun x2_3 =>
      x0_woreOf_30 N g rec4 x1 x2_3 x3 s_1))
def x0_woreOf_4 (N : Nat) (g : XG)   : Nat → Int32 → Int32 → Int32 → XS → Option (Int32 × XS)
  | 0 => fun _ _ _ _ => none
  | k + 1 => fun x1 x2 x3 ξ => x0_woreOf_4b N g   (x0_woreOf_4 N g   k) x1 x2 x3 ξ
def x0_woreOf (N : Nat) (g : XG)   (x1 : Int32) (ξ : XS) : Option (Int32 × XS) :=
  nx ((0 : Int32) : Int32) fun x2_1 =>
  nx ((0 : Int32) : Int32) fun x3_2 =>
  x0_woreOf_4 N g N x1 x2_1 x3_2 ξ
section XC
variable {p : Program} {l : Launch} {e : Env} {R : Room} {s : State} {m : MethodId} {args : Array Value} {below : List Frame} {meth : Method} {c : Code} {nL cells slots : Nat} {A : Nat → Prop} {g : XG} {ξ : XS} {Q : State → Prop} {pc n : Nat} {lv : List (Nat × Value)} {st : List Value} {cc : ByteArray} {ρ : Type} {res : ρ}
theorem xclX0_318 (E : EV p s m args c cc nL RX0) {N : Nat}   {x1 : Int32} {x2 : Int32} {kk : Int32 → XS → Option ρ} (hR : 1 ≤ R.frames ∧ 23 ≤ R.locals) (hcat : (st.map fun v => v.category).sum ≤ 8) (hf : cells ≤ R.cells ∧ slots ≤ R.slots) (d : decode cc pc = .ok (.invokevirtual 318, 3)) (h : bnd (x0_isAsSeen N g  x1 x2 ξ) kk = some res) (hn : pc + 3 = n) (k : ∀ (v : Int32) (ξ1 : XS), kk v ξ1 = some res → CF p l e R s m args below meth c nL cells slots (XB g A s ξ1) Q n lv (.int v :: st)) : CF p l e R s m args below meth c nL cells slots (XB g A s ξ) Q pc lv (.int x2 :: .int x1 :: .ref (xa g 0) :: st) :=
  xcallV0_i (na := 2) E [.int x1, .int x2] (fun v ξ1 ho => met_x0_isAsSeen l g N   x1 x2 ξ ho) (C := RX0) (lw_V q1201 q1203 qs30 q96 q1204) (by decide +kernel) ⟨0, 1, _, _, rfl, rfl, rfl⟩ rfl rfl hR rfl rfl hcat hf d h hn k
end XC
set_option maxHeartbeats 4000000 in
theorem wx0_woreOf_30 {p : Program} {l : Launch} {e : Env} {R : Room} {s : State} {m : MethodId} {args : Array Value} {below : List Frame} {meth : Method} {c : Code} {A : Nat → Prop} {g : XG} {Q : State → Prop} (E : EV p s m args c cX0_woreOf 4 RX0) (hR : 1 ≤ R.frames ∧ 23 ≤ R.locals) {res : Int32 × XS} (hq : XTi p l e R s m args below meth c cX0_woreOf 4 0 0 A g .int Q res) (N : Nat)   {rec4 : Int32 → Int32 → Int32 → XS → Option (Int32 × XS)} (ih4 : ∀ (x1 : Int32) (x2 : Int32) (x3 : Int32) (ξ : XS), rec4 x1 x2 x3 ξ = some res → CF p l e R s m args below meth c 4 0 0 (XB g A s ξ) Q 4 [(0, .ref (xa g 0)), (1, .int x1), (2, .int x2), (3, .int x3)] []) (x1 : Int32) (x2 : Int32) (x3 : Int32) (ξ : XS) (h : x0_woreOf_30 N g  rec4 x1 x2 x3 ξ = some res) : CF p l e R s m args below meth c 4 0 0 (XB g A s ξ) Q 30 [(0, .ref (xa g 0)), (1, .int x1), (2, .int x2), (3, .int x3)] [] := by
  unfold x0_woreOf_30 at h
  refine cf_iinc E dX0_woreOf_30 ic_1 h 3 rfl (fun x3_1 => [(3, .int x3_1), (0, .ref (xa g 0)), (1, .int x1), (2, .int x2)]) (Nat.le_of_ble_eq_true rfl) (fun _ => rfl) rfl (fun x3_1 h => ?_)
  refine cf_goto E dX0_woreOf_33 rfl ?_
  exact CF.sub [1, 2, 3, 0] rfl (ih4 x1 x2 x3_1 ξ h)
set_option maxHeartbeats 4000000 in
theorem wx0_woreOf_4b {p : Program} {l : Launch} {e : Env} {R : Room} {s : State} {m : MethodId} {args : Array Value} {below : List Frame} {meth : Method} {c : Code} {A : Nat → Prop} {g : XG} {Q : State → Prop} (E : EV p s m args c cX0_woreOf 4 RX0) (hR : 1 ≤ R.frames ∧ 23 ≤ R.locals) {res : Int32 × XS} (hq : XTi p l e R s m args below meth c cX0_woreOf 4 0 0 A g .int Q res) (N : Nat)    {rec4 : Int32 → Int32 → Int32 → XS → Option (Int32 × XS)} (ih4 : ∀ (x1 : Int32) (x2 : Int32) (x3 : Int32) (ξ : XS), rec4 x1 x2 x3 ξ = some res → CF p l e R s m args below meth c 4 0 0 (XB g A s ξ) Q 4 [(0, .ref (xa g 0)), (1, .int x1), (2, .int x2), (3, .int x3)] []) (x1 : Int32) (x2 : Int32) (x3 : Int32) (ξ : XS) (h : x0_woreOf_4b N g   rec4 x1 x2 x3 ξ = some res) : CF p l e R s m args below meth c 4 0 0 (XB g A s ξ) Q 4 [(0, .ref (xa g 0)), (1, .int x1), (2, .int x2), (3, .int x3)] [] := by
  unfold x0_woreOf_4b at h
  refine cf_iload_n E dX0_woreOf_4 3 rfl rfl ?_
  refine cf_aload_n E dX0_woreOf_5 0 rfl rfl ?_
  refine xgX0_30 E dX0_woreOf_6 rfl ?_
  refine xgX0_126_0 E dX0_woreOf_9 rfl ?_
  refine cf_icmp_ge E dX0_woreOf_12 h rfl rfl (fun h => ?_) (fun h => ?_)
  · refine cf_iload_n E dX0_woreOf_36 2 rfl rfl ?_
    exact xret_i dX0_woreOf_37 h rfl hq
  · refine cf_aload_n E dX0_woreOf_15 0 rfl rfl ?_
    refine cf_iload_n E dX0_woreOf_16 1 rfl rfl ?_
    refine cf_iload_n E dX0_woreOf_17 3 rfl rfl ?_
    refine xclX0_318 E (rmle hR rfl rfl) (Nat.le_of_ble_eq_true rfl) ⟨Nat.zero_le _, Nat.zero_le _⟩ dX0_woreOf_18 h rfl (fun v_2 s_1 h => ?_)
    refine cf_if_eq E dX0_woreOf_21 h rfl rfl (fun h => ?_) (fun h => ?_)
    · exact CF.sub [0, 1, 2, 3] rfl (wx0_woreOf_30 E hR hq N ih4 x1 x2 x3 s_1 h)
    · refine cf_iload_n E dX0_woreOf_24 2 rfl rfl ?_
      refine cf_iconst E dX0_woreOf_25 ic_1 rfl ?_
      refine cf_iload_n E dX0_woreOf_26 3 rfl rfl ?_
      refine cf_ishl E dX0_woreOf_27 rfl ?_
      refine cf_ior E dX0_woreOf_28 rfl ?_
      refine cf_istore_n E dX0_woreOf_29 h (fun x2_3 => [(2, .int x2_3), (0, .ref (xa g 0)), (1, .int x1), (3, .int x3)]) (Nat.le_of_ble_eq_true rfl) (fun _ => rfl) rfl (fun x2_3 h => ?_)
      exact CF.sub [1, 2, 0, 3] rfl (wx0_woreOf_30 E hR hq N ih4 x1 x2_3 x3 s_1 h)
set_option maxHeartbeats 4000000 in
theorem wx0_woreOf_4 {p : Program} {l : Launch} {e : Env} {R : Room} {s : State} {m : MethodId} {args : Array Value} {below : List Frame} {meth : Method} {c : Code} {A : Nat → Prop} {g : XG} {Q : State → Prop} (E : EV p s m args c cX0_woreOf 4 RX0) (hR : 1 ≤ R.frames ∧ 23 ≤ R.locals) {res : Int32 × XS} (hq : XTi p l e R s m args below meth c cX0_woreOf 4 0 0 A g .int Q res) (N : Nat)    : ∀ (k : Nat) (x1 : Int32) (x2 : Int32) (x3 : Int32) (ξ : XS), x0_woreOf_4 N g   k x1 x2 x3 ξ = some res → CF p l e R s m args below meth c 4 0 0 (XB g A s ξ) Q 4 [(0, .ref (xa g 0)), (1, .int x1), (2, .int x2), (3, .int x3)] [] := by
  intro k
  induction k with
  | zero => intro x1 x2 x3 ξ h; have h : (none : Option (Int32 × XS)) = some res := h; cases h
  | succ k ih => intro x1 x2 x3 ξ h; exact wx0_woreOf_4b E hR hq N    ih x1 x2 x3 ξ h
set_option maxHeartbeats 4000000 in
theorem met_x0_woreOf (l : Launch) (g : XG) (N : Nat)   (x1 : Int32) (ξ : XS) {v : Int32} {ξ1 : XS} (h : x0_woreOf N g  x1 ξ = some (v, ξ1)) : MetXi l g yX0_woreOf (ws_ yX0_woreOf cX0_woreOf 4 (some .int)) { frames := 1, cells := 0, slots := 0, locals := 23 } [.ref (xa g 0), .int x1] ξ v ξ1 0 0 := by
  refine met_xi (lv0 := [(0, .ref (xa g 0)), (1, .int x1)]) (own := RX0) (by decide) rfl (Nat.le_of_ble_eq_true rfl) rfl ?_
  intro p e s m below meth c A Q E hq
  have hR : 1 ≤ ({ frames := 1, cells := 0, slots := 0, locals := 23 } : Room).frames ∧ 23 ≤ ({ frames := 1, cells := 0, slots := 0, locals := 23 } : Room).locals := ⟨Nat.le_refl _, Nat.le_refl _⟩
  unfold x0_woreOf at h
  refine cf_iconst E dX0_woreOf_0 ic_0 rfl ?_
  refine cf_istore_n E dX0_woreOf_1 h (fun x2_1 => [(2, .int x2_1), (0, .ref (xa g 0)), (1, .int x1)]) (Nat.le_of_ble_eq_true rfl) (fun _ => rfl) rfl (fun x2_1 h => ?_)
  refine cf_iconst E dX0_woreOf_2 ic_0 rfl ?_
  refine cf_istore_n E dX0_woreOf_3 h (fun x3_2 => [(3, .int x3_2), (2, .int x2_1), (0, .ref (xa g 0)), (1, .int x1)]) (Nat.le_of_ble_eq_true rfl) (fun _ => rfl) rfl (fun x3_2 h => ?_)
  exact CF.sub [2, 3, 1, 0] rfl (wx0_woreOf_4 E hR hq N N x1 x2_1 x3_2 ξ h)
def x0_isSeen_2b (N : Nat) (g : XG)   (rec2 : Int32 → Int32 → XS → Option (Int32 × XS)) (x1 : Int32) (x2 : Int32) (ξ : XS) : Option (Int32 × XS) :=
  if (xF ξ 18) ≤ x2 then (
    some ((0 : Int32), ξ))
  else (
    if inb x2 6 = true then (
    if (xR ξ 14 x2.toNatClampNeg) = x1 then (
      some ((1 : Int32), ξ))
    else (
      nx (x2 + (1 : Int32)) fun x2_1 =>
      rec2 x1 x2_1 ξ)) else none)
def x0_isSeen_2 (N : Nat) (g : XG)   : Nat → Int32 → Int32 → XS → Option (Int32 × XS)
  | 0 => fun _ _ _ => none
  | k + 1 => fun x1 x2 ξ => x0_isSeen_2b N g   (x0_isSeen_2 N g   k) x1 x2 ξ
def x0_isSeen (N : Nat) (g : XG)   (x1 : Int32) (ξ : XS) : Option (Int32 × XS) :=
  nx ((0 : Int32) : Int32) fun x2_1 =>
  x0_isSeen_2 N g N x1 x2_1 ξ
set_option maxHeartbeats 4000000 in
theorem wx0_isSeen_2b {p : Program} {l : Launch} {e : Env} {R : Room} {s : State} {m : MethodId} {args : Array Value} {below : List Frame} {meth : Method} {c : Code} {A : Nat → Prop} {g : XG} {Q : State → Prop} (E : EV p s m args c cX0_isSeen 3 RX0) (hR : 0 ≤ R.frames ∧ 0 ≤ R.locals) {res : Int32 × XS} (hq : XTi p l e R s m args below meth c cX0_isSeen 3 0 0 A g .boolean Q res) (N : Nat)    {rec2 : Int32 → Int32 → XS → Option (Int32 × XS)} (ih2 : ∀ (x1 : Int32) (x2 : Int32) (ξ : XS), rec2 x1 x2 ξ = some res → CF p l e R s m args below meth c 3 0 0 (XB g A s ξ) Q 2 [(0, .ref (xa g 0)), (1, .int x1), (2, .int x2)] []) (x1 : Int32) (x2 : Int32) (ξ : XS) (h : x0_isSeen_2b N g   rec2 x1 x2 ξ = some res) : CF p l e R s m args below meth c 3 0 0 (XB g A s ξ) Q 2 [(0, .ref (xa g 0)), (1, .int x1), (2, .int x2)] [] := by
  unfold x0_isSeen_2b at h
  refine cf_iload_n E dX0_isSeen_2 2 rfl rfl ?_
  refine cf_aload_n E dX0_isSeen_3 0 rfl rfl ?_
  refine xgX0_315 E dX0_isSeen_4 rfl ?_
  refine cf_icmp_ge E dX0_isSeen_7 h rfl rfl (fun h => ?_) (fun h => ?_)
  · refine cf_iconst E dX0_isSeen_28 ic_0 rfl ?_
    exact xret_i dX0_isSeen_29 h nzb0 hq
  · refine cf_aload_n E dX0_isSeen_10 0 rfl rfl ?_
    refine xgX0_65 E dX0_isSeen_11 rfl ?_
    refine cf_iload_n E dX0_isSeen_14 2 rfl rfl ?_
    refine xald_14 E dX0_isSeen_15 h rfl (fun h => ?_)
    refine cf_iload_n E dX0_isSeen_16 1 rfl rfl ?_
    refine cf_icmp_ne E dX0_isSeen_17 h rfl rfl (fun h => ?_) (fun h => ?_)
    · refine cf_iinc E dX0_isSeen_22 ic_1 h 2 rfl (fun x2_1 => [(2, .int x2_1), (0, .ref (xa g 0)), (1, .int x1)]) (Nat.le_of_ble_eq_true rfl) (fun _ => rfl) rfl (fun x2_1 h => ?_)
      refine cf_goto E dX0_isSeen_25 rfl ?_
      exact CF.sub [1, 2, 0] rfl (ih2 x1 x2_1 ξ h)
    · refine cf_iconst E dX0_isSeen_20 ic_1 rfl ?_
      exact xret_i dX0_isSeen_21 h nzb1 hq
set_option maxHeartbeats 4000000 in
theorem wx0_isSeen_2 {p : Program} {l : Launch} {e : Env} {R : Room} {s : State} {m : MethodId} {args : Array Value} {below : List Frame} {meth : Method} {c : Code} {A : Nat → Prop} {g : XG} {Q : State → Prop} (E : EV p s m args c cX0_isSeen 3 RX0) (hR : 0 ≤ R.frames ∧ 0 ≤ R.locals) {res : Int32 × XS} (hq : XTi p l e R s m args below meth c cX0_isSeen 3 0 0 A g .boolean Q res) (N : Nat)    : ∀ (k : Nat) (x1 : Int32) (x2 : Int32) (ξ : XS), x0_isSeen_2 N g   k x1 x2 ξ = some res → CF p l e R s m args below meth c 3 0 0 (XB g A s ξ) Q 2 [(0, .ref (xa g 0)), (1, .int x1), (2, .int x2)] [] := by
  intro k
  induction k with
  | zero => intro x1 x2 ξ h; have h : (none : Option (Int32 × XS)) = some res := h; cases h
  | succ k ih => intro x1 x2 ξ h; exact wx0_isSeen_2b E hR hq N    ih x1 x2 ξ h
set_option maxHeartbeats 4000000 in
theorem met_x0_isSeen (l : Launch) (g : XG) (N : Nat)   (x1 : Int32) (ξ : XS) {v : Int32} {ξ1 : XS} (h : x0_isSeen N g  x1 ξ = some (v, ξ1)) : MetXi l g yX0_isSeen (ws_ yX0_isSeen cX0_isSeen 3 (some .boolean)) { frames := 0, cells := 0, slots := 0, locals := 0 } [.ref (xa g 0), .int x1] ξ v ξ1 0 0 := by
  refine met_xi (lv0 := [(0, .ref (xa g 0)), (1, .int x1)]) (own := RX0) (by decide) rfl (Nat.le_of_ble_eq_true rfl) rfl ?_
  intro p e s m below meth c A Q E hq
  have hR : 0 ≤ ({ frames := 0, cells := 0, slots := 0, locals := 0 } : Room).frames ∧ 0 ≤ ({ frames := 0, cells := 0, slots := 0, locals := 0 } : Room).locals := ⟨Nat.le_refl _, Nat.le_refl _⟩
  unfold x0_isSeen at h
  refine cf_iconst E dX0_isSeen_0 ic_0 rfl ?_
  refine cf_istore_n E dX0_isSeen_1 h (fun x2_1 => [(2, .int x2_1), (0, .ref (xa g 0)), (1, .int x1)]) (Nat.le_of_ble_eq_true rfl) (fun _ => rfl) rfl (fun x2_1 h => ?_)
  exact CF.sub [1, 2, 0] rfl (wx0_isSeen_2 E hR hq N N x1 x2_1 ξ h)
def x0_waysSeen_83 (N : Nat) (g : XG) (self : Int32 → Int32 → XS → Option (Int32 × XS))  (rec43 : Int32 → Int32 → Int32 → Int32 → Int32 → XS → Option (Int32 × XS)) (x1 : Int32) (x2 : Int32) (x3 : Int32) (x4 : Int32) (x5 : Int32) (ξ : XS) : Option (Int32 × XS) :=
  nx (x5 + (1 : Int32)) fun x5_1 =>
  rec43 x1 x2 x3 x4 x5_1 ξ
def x0_waysSeen_43b (N : Nat) (g : XG) (self : Int32 → Int32 → XS → Option (Int32 × XS))   (rec43 : Int32 → Int32 → Int32 → Int32 → Int32 → XS → Option (Int32 × XS)) (x1 : Int32) (x2 : Int32) (x3 : Int32) (x4 : Int32) (x5 : Int32) (ξ : XS) : Option (Int32 × XS) :=
  if (xF ξ 202) ≤ x5 then (
    some (x4, ξ))
  else (
    if ((x3 >>> (x5 &&& 31)) &&& (1 : Int32)) = (1 : Int32) then (
      bnd (self (x1 + (1 : Int32)) (x2 ||| ((1 : Int32) <<< (x5 &&& 31))) ξ) fun v_2 s_1 =>
      nx ((x4 + v_2) : Int32) fun x4_3 =>
      x0_waysSeen_83 N g self rec43 x1 x2 x3 x4_3 x5 s_1)
    else (
      x0_waysSeen_83 N g self rec43 x1 x2 x3 x4 x5 ξ))
def x0_waysSeen_43 (N : Nat) (g : XG) (self : Int32 → Int32 → XS → Option (Int32 × XS))   : Nat → Int32 → Int32 → Int32 → Int32 → Int32 → XS → Option (Int32 × XS)
  | 0 => fun _ _ _ _ _ _ => none
  | k + 1 => fun x1 x2 x3 x4 x5 ξ => x0_waysSeen_43b N g self   (x0_waysSeen_43 N g self   k) x1 x2 x3 x4 x5 ξ
def x0_waysSeen_s (N : Nat) (g : XG) (self : Int32 → Int32 → XS → Option (Int32 × XS))   (x1 : Int32) (x2 : Int32) (ξ : XS) : Option (Int32 × XS) :=
  if x1 = (xF ξ 4) then (
    some ((1 : Int32), ξ))
  else (
    bnd (x0_isSeen N g x1 ξ) fun v_2 s_1 =>
    if v_2 = 0 then (
      bnd (self (x1 + (1 : Int32)) x2 s_1) fun v_9 s_8 =>
      some (v_9, s_8))
    else (
      bnd (x0_woreOf N g x1 s_1) fun v_4 s_3 =>
      nx ((v_4 &&& (x2 ^^^ (-1 : Int32))) : Int32) fun x3_5 =>
      nx ((0 : Int32) : Int32) fun x4_6 =>
      nx ((0 : Int32) : Int32) fun x5_7 =>
      x0_waysSeen_43 N g self N x1 x2 x3_5 x4_6 x5_7 s_3))
def x0_waysSeen (N : Nat) (g : XG) : Nat → Int32 → Int32 → XS → Option (Int32 × XS)
  | 0 => fun _ _ _ => none
  | dp + 1 => x0_waysSeen_s N g (x0_waysSeen N g dp)
section XC
variable {p : Program} {l : Launch} {e : Env} {R : Room} {s : State} {m : MethodId} {args : Array Value} {below : List Frame} {meth : Method} {c : Code} {nL cells slots : Nat} {A : Nat → Prop} {g : XG} {ξ : XS} {Q : State → Prop} {pc n : Nat} {lv : List (Nat × Value)} {st : List Value} {cc : ByteArray} {ρ : Type} {res : ρ}
theorem xclX0_328_s (E : EV p s m args c cc nL RX0) {dp : Nat} {self : Int32 → Int32 → XS → Option (Int32 × XS)}  (hself : ∀  (x1 : Int32) (x2 : Int32) (ξ : XS), ∀ (v : Int32) (ξ1 : XS), self  x1 x2 ξ = some (v, ξ1) → MetXi l g yX0_waysSeen (ws_ yX0_waysSeen cX0_waysSeen 6 (some .int)) { frames := 2 + dp, cells := 0, slots := 0, locals := 46 + 25 * dp } [.ref (xa g 0), .int x1, .int x2] ξ v ξ1 0 0)  {x1 : Int32} {x2 : Int32} {kk : Int32 → XS → Option ρ} (hR : 2 + dp + 1 ≤ R.frames ∧ 8 + (6 + 11) + (46 + 25 * dp) ≤ R.locals) (hcat : (st.map fun v => v.category).sum ≤ 8) (hf : cells ≤ R.cells ∧ slots ≤ R.slots) (d : decode cc pc = .ok (.invokevirtual 328, 3)) (h : bnd (self  x1 x2 ξ) kk = some res) (hn : pc + 3 = n) (k : ∀ (v : Int32) (ξ1 : XS), kk v ξ1 = some res → CF p l e R s m args below meth c nL cells slots (XB g A s ξ1) Q n lv (.int v :: st)) : CF p l e R s m args below meth c nL cells slots (XB g A s ξ) Q pc lv (.int x2 :: .int x1 :: .ref (xa g 0) :: st) :=
  xcallV0_i (na := 2) E [.int x1, .int x2] (fun v ξ1 ho => hself  x1 x2 ξ v ξ1 ho) (C := RX0) (lw_V q1209 q1211 qs31 q96 q1212) (by decide +kernel) ⟨0, 1, _, _, rfl, rfl, rfl⟩ rfl rfl hR rfl rfl hcat hf d h hn k
theorem xclX0_325 (E : EV p s m args c cc nL RX0) {N : Nat}   {x1 : Int32} {kk : Int32 → XS → Option ρ} (hR : 1 ≤ R.frames ∧ 22 ≤ R.locals) (hcat : (st.map fun v => v.category).sum ≤ 8) (hf : cells ≤ R.cells ∧ slots ≤ R.slots) (d : decode cc pc = .ok (.invokevirtual 325, 3)) (h : bnd (x0_isSeen N g  x1 ξ) kk = some res) (hn : pc + 3 = n) (k : ∀ (v : Int32) (ξ1 : XS), kk v ξ1 = some res → CF p l e R s m args below meth c nL cells slots (XB g A s ξ1) Q n lv (.int v :: st)) : CF p l e R s m args below meth c nL cells slots (XB g A s ξ) Q pc lv (.int x1 :: .ref (xa g 0) :: st) :=
  xcallV0_i (na := 1) E [.int x1] (fun v ξ1 ho => met_x0_isSeen l g N   x1 ξ ho) (C := RX0) (lw_V q1213 q1215 qs32 q96 q1216) (by decide +kernel) ⟨0, 1, _, _, rfl, rfl, rfl⟩ rfl rfl hR rfl rfl hcat hf d h hn k
theorem xclX0_322 (E : EV p s m args c cc nL RX0) {N : Nat}   {x1 : Int32} {kk : Int32 → XS → Option ρ} (hR : 2 ≤ R.frames ∧ 46 ≤ R.locals) (hcat : (st.map fun v => v.category).sum ≤ 8) (hf : cells ≤ R.cells ∧ slots ≤ R.slots) (d : decode cc pc = .ok (.invokevirtual 322, 3)) (h : bnd (x0_woreOf N g  x1 ξ) kk = some res) (hn : pc + 3 = n) (k : ∀ (v : Int32) (ξ1 : XS), kk v ξ1 = some res → CF p l e R s m args below meth c nL cells slots (XB g A s ξ1) Q n lv (.int v :: st)) : CF p l e R s m args below meth c nL cells slots (XB g A s ξ) Q pc lv (.int x1 :: .ref (xa g 0) :: st) :=
  xcallV0_i (na := 1) E [.int x1] (fun v ξ1 ho => met_x0_woreOf l g N   x1 ξ ho) (C := RX0) (lw_V q1197 q1199 qs29 q96 q1200) (by decide +kernel) ⟨0, 1, _, _, rfl, rfl, rfl⟩ rfl rfl hR rfl rfl hcat hf d h hn k
end XC
set_option maxHeartbeats 4000000 in
theorem wx0_waysSeen_83 {p : Program} {l : Launch} {e : Env} {R : Room} {s : State} {m : MethodId} {args : Array Value} {below : List Frame} {meth : Method} {c : Code} {A : Nat → Prop} {g : XG} {Q : State → Prop} (E : EV p s m args c cX0_waysSeen 6 RX0) (dp : Nat) {self : Int32 → Int32 → XS → Option (Int32 × XS)} (hself : ∀  (x1 : Int32) (x2 : Int32) (ξ : XS), ∀ (v : Int32) (ξ1 : XS), self  x1 x2 ξ = some (v, ξ1) → MetXi l g yX0_waysSeen (ws_ yX0_waysSeen cX0_waysSeen 6 (some .int)) { frames := 2 + dp, cells := 0, slots := 0, locals := 46 + 25 * dp } [.ref (xa g 0), .int x1, .int x2] ξ v ξ1 0 0) (hR : 2 + dp + 1 ≤ R.frames ∧ 46 + 25 * dp + 25 ≤ R.locals) {res : Int32 × XS} (hq : XTi p l e R s m args below meth c cX0_waysSeen 6 0 0 A g .int Q res) (N : Nat)   {rec43 : Int32 → Int32 → Int32 → Int32 → Int32 → XS → Option (Int32 × XS)} (ih43 : ∀ (x1 : Int32) (x2 : Int32) (x3 : Int32) (x4 : Int32) (x5 : Int32) (ξ : XS), rec43 x1 x2 x3 x4 x5 ξ = some res → CF p l e R s m args below meth c 6 0 0 (XB g A s ξ) Q 43 [(0, .ref (xa g 0)), (1, .int x1), (2, .int x2), (3, .int x3), (4, .int x4), (5, .int x5)] []) (x1 : Int32) (x2 : Int32) (x3 : Int32) (x4 : Int32) (x5 : Int32) (ξ : XS) (h : x0_waysSeen_83 N g self  rec43 x1 x2 x3 x4 x5 ξ = some res) : CF p l e R s m args below meth c 6 0 0 (XB g A s ξ) Q 83 [(0, .ref (xa g 0)), (1, .int x1), (2, .int x2), (3, .int x3), (4, .int x4), (5, .int x5)] [] := by
  unfold x0_waysSeen_83 at h
  refine cf_iinc E dX0_waysSeen_83 ic_1 h 5 rfl (fun x5_1 => [(5, .int x5_1), (0, .ref (xa g 0)), (1, .int x1), (2, .int x2), (3, .int x3), (4, .int x4)]) (Nat.le_of_ble_eq_true rfl) (fun _ => rfl) rfl (fun x5_1 h => ?_)
  refine cf_goto E dX0_waysSeen_86 rfl ?_
  exact CF.sub [1, 2, 3, 4, 5, 0] rfl (ih43 x1 x2 x3 x4 x5_1 ξ h)
set_option maxHeartbeats 4000000 in
theorem wx0_waysSeen_43b {p : Program} {l : Launch} {e : Env} {R : Room} {s : State} {m : MethodId} {args : Array Value} {below : List Frame} {meth : Method} {c : Code} {A : Nat → Prop} {g : XG} {Q : State → Prop} (E : EV p s m args c cX0_waysSeen 6 RX0) (dp : Nat) {self : Int32 → Int32 → XS → Option (Int32 × XS)} (hself : ∀  (x1 : Int32) (x2 : Int32) (ξ : XS), ∀ (v : Int32) (ξ1 : XS), self  x1 x2 ξ = some (v, ξ1) → MetXi l g yX0_waysSeen (ws_ yX0_waysSeen cX0_waysSeen 6 (some .int)) { frames := 2 + dp, cells := 0, slots := 0, locals := 46 + 25 * dp } [.ref (xa g 0), .int x1, .int x2] ξ v ξ1 0 0) (hR : 2 + dp + 1 ≤ R.frames ∧ 46 + 25 * dp + 25 ≤ R.locals) {res : Int32 × XS} (hq : XTi p l e R s m args below meth c cX0_waysSeen 6 0 0 A g .int Q res) (N : Nat)    {rec43 : Int32 → Int32 → Int32 → Int32 → Int32 → XS → Option (Int32 × XS)} (ih43 : ∀ (x1 : Int32) (x2 : Int32) (x3 : Int32) (x4 : Int32) (x5 : Int32) (ξ : XS), rec43 x1 x2 x3 x4 x5 ξ = some res → CF p l e R s m args below meth c 6 0 0 (XB g A s ξ) Q 43 [(0, .ref (xa g 0)), (1, .int x1), (2, .int x2), (3, .int x3), (4, .int x4), (5, .int x5)] []) (x1 : Int32) (x2 : Int32) (x3 : Int32) (x4 : Int32) (x5 : Int32) (ξ : XS) (h : x0_waysSeen_43b N g self   rec43 x1 x2 x3 x4 x5 ξ = some res) : CF p l e R s m args below meth c 6 0 0 (XB g A s ξ) Q 43 [(0, .ref (xa g 0)), (1, .int x1), (2, .int x2), (3, .int x3), (4, .int x4), (5, .int x5)] [] := by
  unfold x0_waysSeen_43b at h
  refine cf_iload E dX0_waysSeen_43 5 rfl rfl ?_
  refine cf_aload_n E dX0_waysSeen_45 0 rfl rfl ?_
  refine xgX0_30 E dX0_waysSeen_46 rfl ?_
  refine xgX0_126_0 E dX0_waysSeen_49 rfl ?_
  refine cf_icmp_ge E dX0_waysSeen_52 h rfl rfl (fun h => ?_) (fun h => ?_)
  · refine cf_iload E dX0_waysSeen_89 4 rfl rfl ?_
    exact xret_i dX0_waysSeen_91 h rfl hq
  · refine cf_iload_n E dX0_waysSeen_55 3 rfl rfl ?_
    refine cf_iload E dX0_waysSeen_56 5 rfl rfl ?_
    refine cf_ishr E dX0_waysSeen_58 rfl ?_
    refine cf_iconst E dX0_waysSeen_59 ic_1 rfl ?_
    refine cf_iand E dX0_waysSeen_60 rfl ?_
    refine cf_iconst E dX0_waysSeen_61 ic_1 rfl ?_
    refine cf_icmp_ne E dX0_waysSeen_62 h rfl rfl (fun h => ?_) (fun h => ?_)
    · exact CF.sub [0, 1, 2, 3, 4, 5] rfl (wx0_waysSeen_83 E dp hself hR hq N ih43 x1 x2 x3 x4 x5 ξ h)
    · refine cf_iload E dX0_waysSeen_65 4 rfl rfl ?_
      refine cf_aload_n E dX0_waysSeen_67 0 rfl rfl ?_
      refine cf_iload_n E dX0_waysSeen_68 1 rfl rfl ?_
      refine cf_iconst E dX0_waysSeen_69 ic_1 rfl ?_
      refine cf_iadd E dX0_waysSeen_70 rfl ?_
      refine cf_iload_n E dX0_waysSeen_71 2 rfl rfl ?_
      refine cf_iconst E dX0_waysSeen_72 ic_1 rfl ?_
      refine cf_iload E dX0_waysSeen_73 5 rfl rfl ?_
      refine cf_ishl E dX0_waysSeen_75 rfl ?_
      refine cf_ior E dX0_waysSeen_76 rfl ?_
      refine xclX0_328_s E hself ⟨by have := hR.1; omega, by have := hR.2; omega⟩ (Nat.le_of_ble_eq_true rfl) ⟨Nat.zero_le _, Nat.zero_le _⟩ dX0_waysSeen_77 h rfl (fun v_2 s_1 h => ?_)
      refine cf_iadd E dX0_waysSeen_80 rfl ?_
      refine cf_istore E dX0_waysSeen_81 h (fun x4_3 => [(4, .int x4_3), (0, .ref (xa g 0)), (1, .int x1), (2, .int x2), (3, .int x3), (5, .int x5)]) (Nat.le_of_ble_eq_true rfl) (fun _ => rfl) rfl (fun x4_3 h => ?_)
      exact CF.sub [1, 2, 3, 4, 0, 5] rfl (wx0_waysSeen_83 E dp hself hR hq N ih43 x1 x2 x3 x4_3 x5 s_1 h)
set_option maxHeartbeats 4000000 in
theorem wx0_waysSeen_43 {p : Program} {l : Launch} {e : Env} {R : Room} {s : State} {m : MethodId} {args : Array Value} {below : List Frame} {meth : Method} {c : Code} {A : Nat → Prop} {g : XG} {Q : State → Prop} (E : EV p s m args c cX0_waysSeen 6 RX0) (dp : Nat) {self : Int32 → Int32 → XS → Option (Int32 × XS)} (hself : ∀  (x1 : Int32) (x2 : Int32) (ξ : XS), ∀ (v : Int32) (ξ1 : XS), self  x1 x2 ξ = some (v, ξ1) → MetXi l g yX0_waysSeen (ws_ yX0_waysSeen cX0_waysSeen 6 (some .int)) { frames := 2 + dp, cells := 0, slots := 0, locals := 46 + 25 * dp } [.ref (xa g 0), .int x1, .int x2] ξ v ξ1 0 0) (hR : 2 + dp + 1 ≤ R.frames ∧ 46 + 25 * dp + 25 ≤ R.locals) {res : Int32 × XS} (hq : XTi p l e R s m args below meth c cX0_waysSeen 6 0 0 A g .int Q res) (N : Nat)    : ∀ (k : Nat) (x1 : Int32) (x2 : Int32) (x3 : Int32) (x4 : Int32) (x5 : Int32) (ξ : XS), x0_waysSeen_43 N g self   k x1 x2 x3 x4 x5 ξ = some res → CF p l e R s m args below meth c 6 0 0 (XB g A s ξ) Q 43 [(0, .ref (xa g 0)), (1, .int x1), (2, .int x2), (3, .int x3), (4, .int x4), (5, .int x5)] [] := by
  intro k
  induction k with
  | zero => intro x1 x2 x3 x4 x5 ξ h; have h : (none : Option (Int32 × XS)) = some res := h; cases h
  | succ k ih => intro x1 x2 x3 x4 x5 ξ h; exact wx0_waysSeen_43b E dp hself hR hq N    ih x1 x2 x3 x4 x5 ξ h
set_option maxHeartbeats 4000000 in
theorem met_x0_waysSeen_s (l : Launch) (g : XG) (N : Nat) (dp : Nat) {self : Int32 → Int32 → XS → Option (Int32 × XS)} (hself : ∀  (x1 : Int32) (x2 : Int32) (ξ : XS), ∀ (v : Int32) (ξ1 : XS), self  x1 x2 ξ = some (v, ξ1) → MetXi l g yX0_waysSeen (ws_ yX0_waysSeen cX0_waysSeen 6 (some .int)) { frames := 2 + dp, cells := 0, slots := 0, locals := 46 + 25 * dp } [.ref (xa g 0), .int x1, .int x2] ξ v ξ1 0 0)   (x1 : Int32) (x2 : Int32) (ξ : XS) {v : Int32} {ξ1 : XS} (h : x0_waysSeen_s N g self  x1 x2 ξ = some (v, ξ1)) : MetXi l g yX0_waysSeen (ws_ yX0_waysSeen cX0_waysSeen 6 (some .int)) { frames := 2 + (dp + 1), cells := 0, slots := 0, locals := 46 + 25 * (dp + 1) } [.ref (xa g 0), .int x1, .int x2] ξ v ξ1 0 0 := by
  refine met_xi (lv0 := [(0, .ref (xa g 0)), (1, .int x1), (2, .int x2)]) (own := RX0) (by decide) rfl (Nat.le_of_ble_eq_true rfl) rfl ?_
  intro p e s m below meth c A Q E hq
  have hR : 2 + dp + 1 ≤ ({ frames := 2 + (dp + 1), cells := 0, slots := 0, locals := 46 + 25 * (dp + 1) } : Room).frames ∧ 46 + 25 * dp + 25 ≤ ({ frames := 2 + (dp + 1), cells := 0, slots := 0, locals := 46 + 25 * (dp + 1) } : Room).locals := ⟨Nat.le_refl _, by show _ ≤ 46 + 25 * (dp + 1); omega⟩
  unfold x0_waysSeen_s at h
  refine cf_iload_n E dX0_waysSeen_0 1 rfl rfl ?_
  refine cf_aload_n E dX0_waysSeen_1 0 rfl rfl ?_
  refine xgX0_134 E dX0_waysSeen_2 rfl ?_
  refine cf_icmp_ne E dX0_waysSeen_5 h rfl rfl (fun h => ?_) (fun h => ?_)
  · refine cf_aload_n E dX0_waysSeen_10 0 rfl rfl ?_
    refine cf_iload_n E dX0_waysSeen_11 1 rfl rfl ?_
    refine xclX0_325 E ⟨by have := hR.1; omega, by have := hR.2; omega⟩ (Nat.le_of_ble_eq_true rfl) ⟨Nat.zero_le _, Nat.zero_le _⟩ dX0_waysSeen_12 h rfl (fun v_2 s_1 h => ?_)
    refine cf_if_ne E dX0_waysSeen_15 h rfl rfl (fun h => ?_) (fun h => ?_)
    · refine cf_aload_n E dX0_waysSeen_27 0 rfl rfl ?_
      refine cf_iload_n E dX0_waysSeen_28 1 rfl rfl ?_
      refine xclX0_322 E ⟨by have := hR.1; omega, by have := hR.2; omega⟩ (Nat.le_of_ble_eq_true rfl) ⟨Nat.zero_le _, Nat.zero_le _⟩ dX0_waysSeen_29 h rfl (fun v_4 s_3 h => ?_)
      refine cf_iload_n E dX0_waysSeen_32 2 rfl rfl ?_
      refine cf_iconst E dX0_waysSeen_33 ic_m1 rfl ?_
      refine cf_ixor E dX0_waysSeen_34 rfl ?_
      refine cf_iand E dX0_waysSeen_35 rfl ?_
      refine cf_istore_n E dX0_waysSeen_36 h (fun x3_5 => [(3, .int x3_5), (0, .ref (xa g 0)), (1, .int x1), (2, .int x2)]) (Nat.le_of_ble_eq_true rfl) (fun _ => rfl) rfl (fun x3_5 h => ?_)
      refine cf_iconst E dX0_waysSeen_37 ic_0 rfl ?_
      refine cf_istore E dX0_waysSeen_38 h (fun x4_6 => [(4, .int x4_6), (3, .int x3_5), (0, .ref (xa g 0)), (1, .int x1), (2, .int x2)]) (Nat.le_of_ble_eq_true rfl) (fun _ => rfl) rfl (fun x4_6 h => ?_)
      refine cf_iconst E dX0_waysSeen_40 ic_0 rfl ?_
      refine cf_istore E dX0_waysSeen_41 h (fun x5_7 => [(5, .int x5_7), (4, .int x4_6), (3, .int x3_5), (0, .ref (xa g 0)), (1, .int x1), (2, .int x2)]) (Nat.le_of_ble_eq_true rfl) (fun _ => rfl) rfl (fun x5_7 h => ?_)
      exact CF.sub [3, 4, 5, 2, 1, 0] rfl (wx0_waysSeen_43 E dp hself hR hq N N x1 x2 x3_5 x4_6 x5_7 s_3 h)
    · refine cf_aload_n E dX0_waysSeen_18 0 rfl rfl ?_
      refine cf_iload_n E dX0_waysSeen_19 1 rfl rfl ?_
      refine cf_iconst E dX0_waysSeen_20 ic_1 rfl ?_
      refine cf_iadd E dX0_waysSeen_21 rfl ?_
      refine cf_iload_n E dX0_waysSeen_22 2 rfl rfl ?_
      refine xclX0_328_s E hself ⟨by have := hR.1; omega, by have := hR.2; omega⟩ (Nat.le_of_ble_eq_true rfl) ⟨Nat.zero_le _, Nat.zero_le _⟩ dX0_waysSeen_23 h rfl (fun v_9 s_8 h => ?_)
      exact xret_i dX0_waysSeen_26 h rfl hq
  · refine cf_iconst E dX0_waysSeen_8 ic_1 rfl ?_
    exact xret_i dX0_waysSeen_9 h rfl hq
set_option maxHeartbeats 4000000 in
theorem met_x0_waysSeen (l : Launch) (g : XG) (N : Nat) : ∀ (dp : Nat)  (x1 : Int32) (x2 : Int32) (ξ : XS) (v : Int32) (ξ1 : XS), x0_waysSeen N g dp  x1 x2 ξ = some (v, ξ1) → MetXi l g yX0_waysSeen (ws_ yX0_waysSeen cX0_waysSeen 6 (some .int)) { frames := 2 + dp, cells := 0, slots := 0, locals := 46 + 25 * dp } [.ref (xa g 0), .int x1, .int x2] ξ v ξ1 0 0 := by
  intro dp
  induction dp with
  | zero => intro  x1 x2 ξ v ξ1 h; have h : (none : Option (Int32 × XS)) = some (v, ξ1) := h; cases h
  | succ dp ih => intro  x1 x2 ξ v ξ1 h; exact met_x0_waysSeen_s l g N dp ih  x1 x2 ξ h
def x0_divisor_3b (N : Nat) (g : XG)   (rec3 : Int64 → Int64 → XS → Option (Int64 × XS)) (x2 : Int64) (x4 : Int64) (ξ : XS) : Option (Int64 × XS) :=
  if (lg_cmp x2 (0 : Int64)) = 0 then (
    some (x4, ξ))
  else (
    if x2 = 0 then none else
    nx ((x4 - x4 / x2 * x2) : Int64) fun x6_1 =>
    nx (x2 : Int64) fun x4_2 =>
    nx (x6_1 : Int64) fun x2_3 =>
    rec3 x2_3 x4_2 ξ)
def x0_divisor_3 (N : Nat) (g : XG)   : Nat → Int64 → Int64 → XS → Option (Int64 × XS)
  | 0 => fun _ _ _ => none
  | k + 1 => fun x2 x4 ξ => x0_divisor_3b N g   (x0_divisor_3 N g   k) x2 x4 ξ
def x0_divisor (N : Nat) (g : XG)   (x0 : Int64) (x2 : Int64) (ξ : XS) : Option (Int64 × XS) :=
  nx (x0 : Int64) fun x4_1 =>
  x0_divisor_3 N g N x2 x4_1 ξ
set_option maxHeartbeats 4000000 in
theorem wx0_divisor_3b {p : Program} {l : Launch} {e : Env} {R : Room} {s : State} {m : MethodId} {args : Array Value} {below : List Frame} {meth : Method} {c : Code} {A : Nat → Prop} {g : XG} {Q : State → Prop} (E : EV p s m args c cX0_divisor 8 RX0) (hR : 0 ≤ R.frames ∧ 0 ≤ R.locals) {res : Int64 × XS} (hq : XTl p l e R s m args below meth c cX0_divisor 8 0 0 A g Q res) (N : Nat)    {rec3 : Int64 → Int64 → XS → Option (Int64 × XS)} (ih3 : ∀ (x2 : Int64) (x4 : Int64) (ξ : XS), rec3 x2 x4 ξ = some res → CF p l e R s m args below meth c 8 0 0 (XB g A s ξ) Q 3 [(2, .long x2), (4, .long x4)] []) (x2 : Int64) (x4 : Int64) (ξ : XS) (h : x0_divisor_3b N g   rec3 x2 x4 ξ = some res) : CF p l e R s m args below meth c 8 0 0 (XB g A s ξ) Q 3 [(2, .long x2), (4, .long x4)] [] := by
  unfold x0_divisor_3b at h
  refine cf_lload_n E dX0_divisor_3 0 rfl rfl ?_
  refine cf_lconst E dX0_divisor_4 lc_0 rfl ?_
  refine cf_lcmp E dX0_divisor_5 rfl ?_
  refine cf_if_eq E dX0_divisor_6 h rfl rfl (fun h => ?_) (fun h => ?_)
  · refine cf_lload E dX0_divisor_24 1 rfl rfl ?_
    exact xret_l dX0_divisor_26 h hq
  · refine cf_lload E dX0_divisor_9 1 rfl rfl ?_
    refine cf_lload_n E dX0_divisor_11 0 rfl rfl ?_
    refine cf_lrem E dX0_divisor_12 h rfl (fun h => ?_)
    refine cf_lstore E dX0_divisor_13 h (fun x6_1 => [(6, .long x6_1), (2, .long x2), (4, .long x4)]) (Nat.le_of_ble_eq_true rfl) (fun _ => rfl) rfl (fun x6_1 h => ?_)
    refine cf_lload_n E dX0_divisor_15 1 rfl rfl ?_
    refine cf_lstore E dX0_divisor_16 h (fun x4_2 => [(4, .long x4_2), (6, .long x6_1), (2, .long x2)]) (Nat.le_of_ble_eq_true rfl) (fun _ => rfl) rfl (fun x4_2 h => ?_)
    refine cf_lload E dX0_divisor_18 1 rfl rfl ?_
    refine cf_lstore_n E dX0_divisor_20 h (fun x2_3 => [(2, .long x2_3), (4, .long x4_2), (6, .long x6_1)]) (Nat.le_of_ble_eq_true rfl) (fun _ => rfl) rfl (fun x2_3 h => ?_)
    refine cf_goto E dX0_divisor_21 rfl ?_
    exact CF.sub [0, 1] rfl (ih3 x2_3 x4_2 ξ h)
set_option maxHeartbeats 4000000 in
theorem wx0_divisor_3 {p : Program} {l : Launch} {e : Env} {R : Room} {s : State} {m : MethodId} {args : Array Value} {below : List Frame} {meth : Method} {c : Code} {A : Nat → Prop} {g : XG} {Q : State → Prop} (E : EV p s m args c cX0_divisor 8 RX0) (hR : 0 ≤ R.frames ∧ 0 ≤ R.locals) {res : Int64 × XS} (hq : XTl p l e R s m args below meth c cX0_divisor 8 0 0 A g Q res) (N : Nat)    : ∀ (k : Nat) (x2 : Int64) (x4 : Int64) (ξ : XS), x0_divisor_3 N g   k x2 x4 ξ = some res → CF p l e R s m args below meth c 8 0 0 (XB g A s ξ) Q 3 [(2, .long x2), (4, .long x4)] [] := by
  intro k
  induction k with
  | zero => intro x2 x4 ξ h; have h : (none : Option (Int64 × XS)) = some res := h; cases h
  | succ k ih => intro x2 x4 ξ h; exact wx0_divisor_3b E hR hq N    ih x2 x4 ξ h
set_option maxHeartbeats 4000000 in
theorem met_x0_divisor (l : Launch) (g : XG) (N : Nat)   (x0 : Int64) (x2 : Int64) (ξ : XS) {v : Int64} {ξ1 : XS} (h : x0_divisor N g  x0 x2 ξ = some (v, ξ1)) : MetXl l g yX0_divisor (ws_ yX0_divisor cX0_divisor 8 (some .long)) { frames := 0, cells := 0, slots := 0, locals := 0 } [.long x0, .long x2] ξ v ξ1 0 0 := by
  refine met_xl (lv0 := [(0, .long x0), (2, .long x2)]) (own := RX0) (by decide) rfl (Nat.le_of_ble_eq_true rfl) rfl ?_
  intro p e s m below meth c A Q E hq
  have hR : 0 ≤ ({ frames := 0, cells := 0, slots := 0, locals := 0 } : Room).frames ∧ 0 ≤ ({ frames := 0, cells := 0, slots := 0, locals := 0 } : Room).locals := ⟨Nat.le_refl _, Nat.le_refl _⟩
  unfold x0_divisor at h
  refine cf_lload_n E dX0_divisor_0 0 rfl rfl ?_
  refine cf_lstore E dX0_divisor_1 h (fun x4_1 => [(4, .long x4_1), (0, .long x0), (2, .long x2)]) (Nat.le_of_ble_eq_true rfl) (fun _ => rfl) rfl (fun x4_1 h => ?_)
  exact CF.sub [2, 0] rfl (wx0_divisor_3 E hR hq N N x2 x4_1 ξ h)
def x0_lowest_10 (N : Nat) (g : XG)   (x0 : Int64) (x2 : Int64) (z0 : Int64) (ξ : XS) : Option (Int64 × XS) :=
  bnd (x0_divisor N g x0 x2 ξ) fun v_2 s_1 =>
  if v_2 = 0 then none else
  some ((z0 / v_2), s_1)
def x0_lowest (N : Nat) (g : XG)   (x0 : Int64) (x2 : Int64) (x4 : Int32) (ξ : XS) : Option (Int64 × XS) :=
  if x4 = 0 then (
    x0_lowest_10 N g x0 x2 x0 ξ)
  else (
    x0_lowest_10 N g x0 x2 x2 ξ)
section XC
variable {p : Program} {l : Launch} {e : Env} {R : Room} {s : State} {m : MethodId} {args : Array Value} {below : List Frame} {meth : Method} {c : Code} {nL cells slots : Nat} {A : Nat → Prop} {g : XG} {ξ : XS} {Q : State → Prop} {pc n : Nat} {lv : List (Nat × Value)} {st : List Value} {cc : ByteArray} {ρ : Type} {res : ρ}
theorem xclX0_331 (E : EV p s m args c cc nL RX0) {N : Nat}   {x0 : Int64} {x2 : Int64} {kk : Int64 → XS → Option ρ} (hR : 1 ≤ R.frames ∧ 27 ≤ R.locals) (hcat : (st.map fun v => v.category).sum ≤ 8) (hf : cells ≤ R.cells ∧ slots ≤ R.slots) (d : decode cc pc = .ok (.invokestatic 331, 3)) (h : bnd (x0_divisor N g  x0 x2 ξ) kk = some res) (hn : pc + 3 = n) (k : ∀ (v : Int64) (ξ1 : XS), kk v ξ1 = some res → CF p l e R s m args below meth c nL cells slots (XB g A s ξ1) Q n lv (.long v :: st)) : CF p l e R s m args below meth c nL cells slots (XB g A s ξ) Q pc lv (.long x2 :: .long x0 :: st) :=
  xcallS0_l (na := 2) E [.long x0, .long x2] (fun v ξ1 ho => met_x0_divisor l g N   x0 x2 ξ ho) (lw_S q1225 q1226 q96 q1227) (by decide +kernel) rfl rfl hR rfl rfl hcat hf d h hn k
end XC
set_option maxHeartbeats 4000000 in
theorem wx0_lowest_10 {p : Program} {l : Launch} {e : Env} {R : Room} {s : State} {m : MethodId} {args : Array Value} {below : List Frame} {meth : Method} {c : Code} {A : Nat → Prop} {g : XG} {Q : State → Prop} (E : EV p s m args c cX0_lowest 5 RX0) (hR : 1 ≤ R.frames ∧ 27 ≤ R.locals) {res : Int64 × XS} (hq : XTl p l e R s m args below meth c cX0_lowest 5 0 0 A g Q res) (N : Nat)    (x0 : Int64) (x2 : Int64) (z0 : Int64) (ξ : XS) (h : x0_lowest_10 N g   x0 x2 z0 ξ = some res) : CF p l e R s m args below meth c 5 0 0 (XB g A s ξ) Q 10 [(0, .long x0), (2, .long x2)] [.long z0] := by
  unfold x0_lowest_10 at h
  refine cf_lload_n E dX0_lowest_10 0 rfl rfl ?_
  refine cf_lload_n E dX0_lowest_11 1 rfl rfl ?_
  refine xclX0_331 E (rmle hR rfl rfl) (Nat.le_of_ble_eq_true rfl) ⟨Nat.zero_le _, Nat.zero_le _⟩ dX0_lowest_12 h rfl (fun v_2 s_1 h => ?_)
  refine cf_ldiv E dX0_lowest_15 h rfl (fun h => ?_)
  exact xret_l dX0_lowest_16 h hq
set_option maxHeartbeats 4000000 in
theorem met_x0_lowest (l : Launch) (g : XG) (N : Nat)   (x0 : Int64) (x2 : Int64) (x4 : Int32) (ξ : XS) {v : Int64} {ξ1 : XS} (h : x0_lowest N g  x0 x2 x4 ξ = some (v, ξ1)) : MetXl l g yX0_lowest (ws_ yX0_lowest cX0_lowest 5 (some .long)) { frames := 1, cells := 0, slots := 0, locals := 27 } [.long x0, .long x2, .int x4] ξ v ξ1 0 0 := by
  refine met_xl (lv0 := [(0, .long x0), (2, .long x2), (4, .int x4)]) (own := RX0) (by decide) rfl (Nat.le_of_ble_eq_true rfl) rfl ?_
  intro p e s m below meth c A Q E hq
  have hR : 1 ≤ ({ frames := 1, cells := 0, slots := 0, locals := 27 } : Room).frames ∧ 27 ≤ ({ frames := 1, cells := 0, slots := 0, locals := 27 } : Room).locals := ⟨Nat.le_refl _, Nat.le_refl _⟩
  unfold x0_lowest at h
  refine cf_iload E dX0_lowest_0 2 rfl rfl ?_
  refine cf_if_ne E dX0_lowest_2 h rfl rfl (fun h => ?_) (fun h => ?_)
  · refine cf_lload_n E dX0_lowest_9 1 rfl rfl ?_
    exact CF.sub [0, 1] rfl (wx0_lowest_10 E hR hq N x0 x2 x2 ξ h)
  · refine cf_lload_n E dX0_lowest_5 0 rfl rfl ?_
    refine cf_goto E dX0_lowest_6 rfl ?_
    exact CF.sub [0, 1] rfl (wx0_lowest_10 E hR hq N x0 x2 x0 ξ h)
def x0_book (N : Nat) (g : XG)   (x1 : Int32) (x2 : Int32) (ξ : XS) : Option (Int32 × XS) :=
  if x1 = (-1 : Int32) then (
    nx (sXF ξ 19 (0 : Int32)) fun s_8 =>
    some ((0 : Int32), s_8))
  else (
    bnd (x0_isHat N g x1 ξ) fun v_2 s_1 =>
    if v_2 = 0 then (
      some ((-1 : Int32), s_1))
    else (
      bnd (x0_isHead N g x2 s_1) fun v_4 s_3 =>
      if v_4 = 0 then (
        some ((-1 : Int32), s_3))
      else (
        if (xF s_3 19) = (8 : Int32) then (
          some ((-4 : Int32), s_3))
        else (
          if inb (xF s_3 19) 8 = true then nx (sXR s_3 16 (xF s_3 19).toNatClampNeg x1) (fun s_5 =>
          nx (sXF s_5 19 ((xF s_5 19) + (1 : Int32))) fun s_6 =>
          if inb (xF s_5 19) 8 = true then nx (sXR s_6 17 (xF s_5 19).toNatClampNeg x2) (fun s_7 =>
          some ((xF s_7 19), s_7)) else none) else none))))
set_option maxHeartbeats 4000000 in
theorem met_x0_book (l : Launch) (g : XG) (N : Nat)   (x1 : Int32) (x2 : Int32) (ξ : XS) {v : Int32} {ξ1 : XS} (h : x0_book N g  x1 x2 ξ = some (v, ξ1)) : MetXi l g yX0_book (ws_ yX0_book cX0_book 3 (some .int)) { frames := 2, cells := 0, slots := 0, locals := 43 } [.ref (xa g 0), .int x1, .int x2] ξ v ξ1 0 0 := by
  refine met_xi (lv0 := [(0, .ref (xa g 0)), (1, .int x1), (2, .int x2)]) (own := RX0) (by decide) rfl (Nat.le_of_ble_eq_true rfl) rfl ?_
  intro p e s m below meth c A Q E hq
  have hR : 2 ≤ ({ frames := 2, cells := 0, slots := 0, locals := 43 } : Room).frames ∧ 43 ≤ ({ frames := 2, cells := 0, slots := 0, locals := 43 } : Room).locals := ⟨Nat.le_refl _, Nat.le_refl _⟩
  unfold x0_book at h
  refine cf_iload_n E dX0_book_0 1 rfl rfl ?_
  refine cf_iconst E dX0_book_1 ic_m1 rfl ?_
  refine cf_icmp_ne E dX0_book_2 h rfl rfl (fun h => ?_) (fun h => ?_)
  · refine cf_aload_n E dX0_book_12 0 rfl rfl ?_
    refine cf_iload_n E dX0_book_13 1 rfl rfl ?_
    refine xclX0_202 E (rmle hR rfl rfl) (Nat.le_of_ble_eq_true rfl) ⟨Nat.zero_le _, Nat.zero_le _⟩ dX0_book_14 h rfl (fun v_2 s_1 h => ?_)
    refine cf_if_eq E dX0_book_17 h rfl rfl (fun h => ?_) (fun h => ?_)
    · refine cf_iconst E dX0_book_28 ic_m1 rfl ?_
      exact xret_i dX0_book_29 h rfl hq
    · refine cf_aload_n E dX0_book_20 0 rfl rfl ?_
      refine cf_iload_n E dX0_book_21 2 rfl rfl ?_
      refine xclX0_218 E (rmle hR rfl rfl) (Nat.le_of_ble_eq_true rfl) ⟨Nat.zero_le _, Nat.zero_le _⟩ dX0_book_22 h rfl (fun v_4 s_3 h => ?_)
      refine cf_if_ne E dX0_book_25 h rfl rfl (fun h => ?_) (fun h => ?_)
      · refine cf_aload_n E dX0_book_30 0 rfl rfl ?_
        refine xgX0_341 E dX0_book_31 rfl ?_
        refine cf_bipush E dX0_book_34 bp_8 rfl ?_
        refine cf_icmp_ne E dX0_book_36 h rfl rfl (fun h => ?_) (fun h => ?_)
        · refine cf_aload_n E dX0_book_42 0 rfl rfl ?_
          refine xgX0_71 E dX0_book_43 rfl ?_
          refine cf_aload_n E dX0_book_46 0 rfl rfl ?_
          refine xgX0_341 E dX0_book_47 rfl ?_
          refine cf_iload_n E dX0_book_50 1 rfl rfl ?_
          refine xast_16 E dX0_book_51 h rfl (fun s_5 h => ?_)
          refine cf_aload_n E dX0_book_52 0 rfl rfl ?_
          refine xgX0_74 E dX0_book_53 rfl ?_
          refine cf_aload_n E dX0_book_56 0 rfl rfl ?_
          refine cf_dup E dX0_book_57 rfl rfl ?_
          refine xgX0_341 E dX0_book_58 rfl ?_
          refine cf_dup_x1 E dX0_book_61 rfl rfl rfl ?_
          refine cf_iconst E dX0_book_62 ic_1 rfl ?_
          refine cf_iadd E dX0_book_63 rfl ?_
          refine xpX0_341 E dX0_book_64 h rfl (fun s_6 h => ?_)
          refine cf_iload_n E dX0_book_67 2 rfl rfl ?_
          refine xast_17 E dX0_book_68 h rfl (fun s_7 h => ?_)
          refine cf_aload_n E dX0_book_69 0 rfl rfl ?_
          refine xgX0_341 E dX0_book_70 rfl ?_
          exact xret_i dX0_book_73 h rfl hq
        · refine cf_bipush E dX0_book_39 bp_m4 rfl ?_
          exact xret_i dX0_book_41 h rfl hq
      · refine cf_iconst E dX0_book_28 ic_m1 rfl ?_
        exact xret_i dX0_book_29 h rfl hq
  · refine cf_aload_n E dX0_book_5 0 rfl rfl ?_
    refine cf_iconst E dX0_book_6 ic_0 rfl ?_
    refine xpX0_341 E dX0_book_7 h rfl (fun s_8 h => ?_)
    refine cf_iconst E dX0_book_10 ic_0 rfl ?_
    exact xret_i dX0_book_11 h rfl hq
def x0_looked_2b (N : Nat) (g : XG)   (rec2 : Int32 → XS → Option (Int32 × XS)) (x1 : Int32) (ξ : XS) : Option (Int32 × XS) :=
  if (xF ξ 19) ≤ x1 then (
    some ((-5 : Int32), ξ))
  else (
    if inb x1 8 = true then (
    bnd (x1_headOf N g 0 (xR ξ 16 x1.toNatClampNeg) ξ) fun v_2 s_1 =>
    if inb x1 8 = true then (
    if v_2 = (xR s_1 17 x1.toNatClampNeg) then (
      nx (x1 + (1 : Int32)) fun x1_3 =>
      rec2 x1_3 s_1)
    else (
      some (x1, s_1))) else none) else none)
def x0_looked_2 (N : Nat) (g : XG)   : Nat → Int32 → XS → Option (Int32 × XS)
  | 0 => fun _ _ => none
  | k + 1 => fun x1 ξ => x0_looked_2b N g   (x0_looked_2 N g   k) x1 ξ
def x0_looked (N : Nat) (g : XG)    (ξ : XS) : Option (Int32 × XS) :=
  nx ((0 : Int32) : Int32) fun x1_1 =>
  x0_looked_2 N g N x1_1 ξ
set_option maxHeartbeats 4000000 in
theorem wx0_looked_2b {p : Program} {l : Launch} {e : Env} {R : Room} {s : State} {m : MethodId} {args : Array Value} {below : List Frame} {meth : Method} {c : Code} {A : Nat → Prop} {g : XG} {Q : State → Prop} (E : EV p s m args c cX0_looked 2 RX0) (hR : 1 ≤ R.frames ∧ 22 ≤ R.locals) {res : Int32 × XS} (hq : XTi p l e R s m args below meth c cX0_looked 2 0 0 A g .int Q res) (N : Nat)    {rec2 : Int32 → XS → Option (Int32 × XS)} (ih2 : ∀ (x1 : Int32) (ξ : XS), rec2 x1 ξ = some res → CF p l e R s m args below meth c 2 0 0 (XB g A s ξ) Q 2 [(0, .ref (xa g 0)), (1, .int x1)] []) (x1 : Int32) (ξ : XS) (h : x0_looked_2b N g   rec2 x1 ξ = some res) : CF p l e R s m args below meth c 2 0 0 (XB g A s ξ) Q 2 [(0, .ref (xa g 0)), (1, .int x1)] [] := by
  unfold x0_looked_2b at h
  refine cf_iload_n E dX0_looked_2 1 rfl rfl ?_
  refine cf_aload_n E dX0_looked_3 0 rfl rfl ?_
  refine xgX0_341 E dX0_looked_4 rfl ?_
  refine cf_icmp_ge E dX0_looked_7 h rfl rfl (fun h => ?_) (fun h => ?_)
  · refine cf_bipush E dX0_looked_40 bp_m5 rfl ?_
    exact xret_i dX0_looked_42 h rfl hq
  · refine cf_aload_n E dX0_looked_10 0 rfl rfl ?_
    refine xgX0_30 E dX0_looked_11 rfl ?_
    refine cf_aload_n E dX0_looked_14 0 rfl rfl ?_
    refine xgX0_71 E dX0_looked_15 rfl ?_
    refine cf_iload_n E dX0_looked_18 1 rfl rfl ?_
    refine xald_16 E dX0_looked_19 h rfl (fun h => ?_)
    refine xclX0_211 (t0 := 0) E (by decide) (rmle hR rfl rfl) (Nat.le_of_ble_eq_true rfl) ⟨Nat.zero_le _, Nat.zero_le _⟩ dX0_looked_20 h rfl (fun v_2 s_1 h => ?_)
    refine cf_aload_n E dX0_looked_23 0 rfl rfl ?_
    refine xgX0_74 E dX0_looked_24 rfl ?_
    refine cf_iload_n E dX0_looked_27 1 rfl rfl ?_
    refine xald_17 E dX0_looked_28 h rfl (fun h => ?_)
    refine cf_icmp_eq E dX0_looked_29 h rfl rfl (fun h => ?_) (fun h => ?_)
    · refine cf_iinc E dX0_looked_34 ic_1 h 1 rfl (fun x1_3 => [(1, .int x1_3), (0, .ref (xa g 0))]) (Nat.le_of_ble_eq_true rfl) (fun _ => rfl) rfl (fun x1_3 h => ?_)
      refine cf_goto E dX0_looked_37 rfl ?_
      exact CF.sub [1, 0] rfl (ih2 x1_3 s_1 h)
    · refine cf_iload_n E dX0_looked_32 1 rfl rfl ?_
      exact xret_i dX0_looked_33 h rfl hq
set_option maxHeartbeats 4000000 in
theorem wx0_looked_2 {p : Program} {l : Launch} {e : Env} {R : Room} {s : State} {m : MethodId} {args : Array Value} {below : List Frame} {meth : Method} {c : Code} {A : Nat → Prop} {g : XG} {Q : State → Prop} (E : EV p s m args c cX0_looked 2 RX0) (hR : 1 ≤ R.frames ∧ 22 ≤ R.locals) {res : Int32 × XS} (hq : XTi p l e R s m args below meth c cX0_looked 2 0 0 A g .int Q res) (N : Nat)    : ∀ (k : Nat) (x1 : Int32) (ξ : XS), x0_looked_2 N g   k x1 ξ = some res → CF p l e R s m args below meth c 2 0 0 (XB g A s ξ) Q 2 [(0, .ref (xa g 0)), (1, .int x1)] [] := by
  intro k
  induction k with
  | zero => intro x1 ξ h; have h : (none : Option (Int32 × XS)) = some res := h; cases h
  | succ k ih => intro x1 ξ h; exact wx0_looked_2b E hR hq N    ih x1 ξ h
set_option maxHeartbeats 4000000 in
theorem met_x0_looked (l : Launch) (g : XG) (N : Nat)    (ξ : XS) {v : Int32} {ξ1 : XS} (h : x0_looked N g   ξ = some (v, ξ1)) : MetXi l g yX0_looked (ws_ yX0_looked cX0_looked 2 (some .int)) { frames := 1, cells := 0, slots := 0, locals := 22 } [.ref (xa g 0)] ξ v ξ1 0 0 := by
  refine met_xi (lv0 := [(0, .ref (xa g 0))]) (own := RX0) (by decide) rfl (Nat.le_of_ble_eq_true rfl) rfl ?_
  intro p e s m below meth c A Q E hq
  have hR : 1 ≤ ({ frames := 1, cells := 0, slots := 0, locals := 22 } : Room).frames ∧ 22 ≤ ({ frames := 1, cells := 0, slots := 0, locals := 22 } : Room).locals := ⟨Nat.le_refl _, Nat.le_refl _⟩
  unfold x0_looked at h
  refine cf_iconst E dX0_looked_0 ic_0 rfl ?_
  refine cf_istore_n E dX0_looked_1 h (fun x1_1 => [(1, .int x1_1), (0, .ref (xa g 0))]) (Nat.le_of_ble_eq_true rfl) (fun _ => rfl) rfl (fun x1_1 h => ?_)
  exact CF.sub [1, 0] rfl (wx0_looked_2 E hR hq N N x1_1 ξ h)
def x0_trace (N : Nat) (g : XG)   (x1 : Int32) (ξ : XS) : Option (Int32 × XS) :=
  bnd (x0_in N g x1 (0 : Int32) ((if (20 : Int32) < (xF ξ 311) then (20 : Int32) else (xF ξ 311)) - (1 : Int32)) ξ) fun v_2 s_1 =>
  if v_2 = 0 then (
    some ((-1 : Int32), s_1))
  else (
    if inb x1 20 = true then (
    some ((xR s_1 310 x1.toNatClampNeg), s_1)) else none)
set_option maxHeartbeats 4000000 in
theorem met_x0_trace (l : Launch) (g : XG) (N : Nat)   (x1 : Int32) (ξ : XS) {v : Int32} {ξ1 : XS} (h : x0_trace N g  x1 ξ = some (v, ξ1)) : MetXi l g yX0_trace (ws_ yX0_trace cX0_trace 2 (some .int)) { frames := 1, cells := 0, slots := 0, locals := 40 } [.ref (xa g 0), .int x1] ξ v ξ1 0 0 := by
  refine met_xi (lv0 := [(0, .ref (xa g 0)), (1, .int x1)]) (own := RX0) (by decide) rfl (Nat.le_of_ble_eq_true rfl) rfl ?_
  intro p e s m below meth c A Q E hq
  have hR : 1 ≤ ({ frames := 1, cells := 0, slots := 0, locals := 40 } : Room).frames ∧ 40 ≤ ({ frames := 1, cells := 0, slots := 0, locals := 40 } : Room).locals := ⟨Nat.le_refl _, Nat.le_refl _⟩
  unfold x0_trace at h
  refine cf_iload_n E dX0_trace_0 1 rfl rfl ?_
  refine cf_iconst E dX0_trace_1 ic_0 rfl ?_
  refine cf_aload_n E dX0_trace_2 0 rfl rfl ?_
  refine xgX0_61 E dX0_trace_3 rfl ?_
  refine xgX0_373 E dX0_trace_6 rfl ?_
  refine cf_bipush E dX0_trace_9 bp_20 rfl ?_
  refine xmX0_min E (rmle hR rfl rfl) (by first | exact Nat.le_of_ble_eq_true rfl | decide) ⟨Nat.zero_le _, Nat.zero_le _⟩ dX0_trace_11 rfl ?_
  refine cf_iconst E dX0_trace_14 ic_1 rfl ?_
  refine cf_isub E dX0_trace_15 rfl ?_
  refine xclX0_130 E (rmle hR rfl rfl) (Nat.le_of_ble_eq_true rfl) ⟨Nat.zero_le _, Nat.zero_le _⟩ dX0_trace_16 h rfl (fun v_2 s_1 h => ?_)
  refine cf_if_eq E dX0_trace_19 h rfl rfl (fun h => ?_) (fun h => ?_)
  · refine cf_iconst E dX0_trace_34 ic_m1 rfl ?_
    exact xret_i dX0_trace_35 h rfl hq
  · refine cf_aload_n E dX0_trace_22 0 rfl rfl ?_
    refine xgX0_61 E dX0_trace_23 rfl ?_
    refine xgX0_385 E dX0_trace_26 rfl ?_
    refine cf_iload_n E dX0_trace_29 1 rfl rfl ?_
    refine xald_CB E dX0_trace_30 h rfl (fun h => ?_)
    refine cf_goto E dX0_trace_31 rfl ?_
    exact xret_i dX0_trace_35 h rfl hq
def x0_count (N : Nat) (g : XG)   (x1 : Int32) (ξ : XS) : Option (Int32 × XS) :=
  if x1 = (0 : Int32) then (
    some ((xF ξ 4), ξ))
  else
  if x1 = (1 : Int32) then (
    some ((xF ξ 202), ξ))
  else
  if x1 = (2 : Int32) then (
    some ((xF ξ 10), ξ))
  else
  if x1 = (3 : Int32) then (
    some ((xF ξ 18), ξ))
  else
  if x1 = (4 : Int32) then (
    some ((xF ξ 19), ξ))
  else
  if x1 = (5 : Int32) then (
    some ((xF ξ 9), ξ))
  else
  if x1 = (6 : Int32) then (
    some ((xF ξ 311), ξ))
  else
  some ((-2 : Int32), ξ)
set_option maxHeartbeats 4000000 in
theorem met_x0_count (l : Launch) (g : XG) (N : Nat)   (x1 : Int32) (ξ : XS) {v : Int32} {ξ1 : XS} (h : x0_count N g  x1 ξ = some (v, ξ1)) : MetXi l g yX0_count (ws_ yX0_count cX0_count 2 (some .int)) { frames := 0, cells := 0, slots := 0, locals := 0 } [.ref (xa g 0), .int x1] ξ v ξ1 0 0 := by
  refine met_xi (lv0 := [(0, .ref (xa g 0)), (1, .int x1)]) (own := RX0) (by decide) rfl (Nat.le_of_ble_eq_true rfl) rfl ?_
  intro p e s m below meth c A Q E hq
  have hR : 0 ≤ ({ frames := 0, cells := 0, slots := 0, locals := 0 } : Room).frames ∧ 0 ≤ ({ frames := 0, cells := 0, slots := 0, locals := 0 } : Room).locals := ⟨Nat.le_refl _, Nat.le_refl _⟩
  unfold x0_count at h
  refine cf_iload_n E dX0_count_0 1 rfl rfl ?_
  by_cases hx_1 : x1 = (0 : Int32)
  · rw [if_pos hx_1] at h
    refine cf_tabIn E 0 dX0_count_1 (i32_eqZ hx_1 (by decide)) (by decide) (by decide) rfl rfl ?_
    refine cf_aload_n E dX0_count_44 0 rfl rfl ?_
    refine xgX0_134 E dX0_count_45 rfl ?_
    exact xret_i dX0_count_48 h rfl hq
  rw [if_neg hx_1] at h
  by_cases hx_2 : x1 = (1 : Int32)
  · rw [if_pos hx_2] at h
    refine cf_tabIn E 1 dX0_count_1 (i32_eqZ hx_2 (by decide)) (by decide) (by decide) rfl rfl ?_
    refine cf_aload_n E dX0_count_49 0 rfl rfl ?_
    refine xgX0_30 E dX0_count_50 rfl ?_
    refine xgX0_126_0 E dX0_count_53 rfl ?_
    exact xret_i dX0_count_56 h rfl hq
  rw [if_neg hx_2] at h
  by_cases hx_3 : x1 = (2 : Int32)
  · rw [if_pos hx_3] at h
    refine cf_tabIn E 2 dX0_count_1 (i32_eqZ hx_3 (by decide)) (by decide) (by decide) rfl rfl ?_
    refine cf_aload_n E dX0_count_57 0 rfl rfl ?_
    refine xgX0_231 E dX0_count_58 rfl ?_
    exact xret_i dX0_count_61 h rfl hq
  rw [if_neg hx_3] at h
  by_cases hx_4 : x1 = (3 : Int32)
  · rw [if_pos hx_4] at h
    refine cf_tabIn E 3 dX0_count_1 (i32_eqZ hx_4 (by decide)) (by decide) (by decide) rfl rfl ?_
    refine cf_aload_n E dX0_count_62 0 rfl rfl ?_
    refine xgX0_315 E dX0_count_63 rfl ?_
    exact xret_i dX0_count_66 h rfl hq
  rw [if_neg hx_4] at h
  by_cases hx_5 : x1 = (4 : Int32)
  · rw [if_pos hx_5] at h
    refine cf_tabIn E 4 dX0_count_1 (i32_eqZ hx_5 (by decide)) (by decide) (by decide) rfl rfl ?_
    refine cf_aload_n E dX0_count_67 0 rfl rfl ?_
    refine xgX0_341 E dX0_count_68 rfl ?_
    exact xret_i dX0_count_71 h rfl hq
  rw [if_neg hx_5] at h
  by_cases hx_6 : x1 = (5 : Int32)
  · rw [if_pos hx_6] at h
    refine cf_tabIn E 5 dX0_count_1 (i32_eqZ hx_6 (by decide)) (by decide) (by decide) rfl rfl ?_
    refine cf_aload_n E dX0_count_72 0 rfl rfl ?_
    refine xgX0_228 E dX0_count_73 rfl ?_
    exact xret_i dX0_count_76 h rfl hq
  rw [if_neg hx_6] at h
  by_cases hx_7 : x1 = (6 : Int32)
  · rw [if_pos hx_7] at h
    refine cf_tabIn E 6 dX0_count_1 (i32_eqZ hx_7 (by decide)) (by decide) (by decide) rfl rfl ?_
    refine cf_aload_n E dX0_count_77 0 rfl rfl ?_
    refine xgX0_61 E dX0_count_78 rfl ?_
    refine xgX0_373 E dX0_count_81 rfl ?_
    exact xret_i dX0_count_84 h rfl hq
  rw [if_neg hx_7] at h
  have hx_1 := i32_neZ (z := 0) hx_1 (by decide)
  have hx_2 := i32_neZ (z := 1) hx_2 (by decide)
  have hx_3 := i32_neZ (z := 2) hx_3 (by decide)
  have hx_4 := i32_neZ (z := 3) hx_4 (by decide)
  have hx_5 := i32_neZ (z := 4) hx_5 (by decide)
  have hx_6 := i32_neZ (z := 5) hx_6 (by decide)
  have hx_7 := i32_neZ (z := 6) hx_7 (by decide)
  refine cf_tabOut E dX0_count_1 (by omega) rfl ?_
  refine cf_bipush E dX0_count_85 bp_m2 rfl ?_
  exact xret_i dX0_count_87 h rfl hq
def x0_waysFrom_145 (N : Nat) (g : XG) (self : Int32 → Int32 → Int32 → Int32 → XS → Option (XS))  (rec78 : Int32 → Int32 → Int32 → Int32 → Int32 → XS → Option (XS)) (x1 : Int32) (x2 : Int32) (x3 : Int32) (x4 : Int32) (x5 : Int32) (ξ : XS) : Option (XS) :=
  nx (x5 + (1 : Int32)) fun x5_1 =>
  rec78 x1 x2 x3 x4 x5_1 ξ
def x0_waysFrom_78b (N : Nat) (g : XG) (self : Int32 → Int32 → Int32 → Int32 → XS → Option (XS))   (rec78 : Int32 → Int32 → Int32 → Int32 → Int32 → XS → Option (XS)) (x1 : Int32) (x2 : Int32) (x3 : Int32) (x4 : Int32) (x5 : Int32) (ξ : XS) : Option (XS) :=
  if (xF ξ 4) ≤ x5 then (
    some ξ)
  else (
    if x3 ≤ 0 then (
      some ξ)
    else (
      if ((x2 >>> (x5 &&& 31)) &&& (1 : Int32)) = 0 then (
        x0_waysFrom_145 N g self rec78 x1 x2 x3 x4 x5 ξ)
      else (
        if inb x1 6 = true then nx (sXR ξ 22 x1.toNatClampNeg (vp_nar .byte (x5.toInt8.toInt32))) (fun s_1 =>
        if inb (((6 : Int32) * x5) + x1) 36 = true then (
        bnv (self (x1 + (1 : Int32)) (x2 &&& (((1 : Int32) <<< (x5 &&& 31)) ^^^ (-1 : Int32))) (x3 - (1 : Int32)) (x4 + (xR s_1 21 (((6 : Int32) * x5) + x1).toNatClampNeg)) s_1) fun s_2 =>
        x0_waysFrom_145 N g self rec78 x1 x2 x3 x4 x5 s_2) else none) else none)))
def x0_waysFrom_78 (N : Nat) (g : XG) (self : Int32 → Int32 → Int32 → Int32 → XS → Option (XS))   : Nat → Int32 → Int32 → Int32 → Int32 → Int32 → XS → Option (XS)
  | 0 => fun _ _ _ _ _ _ => none
  | k + 1 => fun x1 x2 x3 x4 x5 ξ => x0_waysFrom_78b N g self   (x0_waysFrom_78 N g self   k) x1 x2 x3 x4 x5 ξ
def x0_waysFrom_s (N : Nat) (g : XG) (self : Int32 → Int32 → Int32 → Int32 → XS → Option (XS))   (x1 : Int32) (x2 : Int32) (x3 : Int32) (x4 : Int32) (ξ : XS) : Option (XS) :=
  if x3 ≤ ((xF ξ 202) - x1) then (
    if x1 = (xF ξ 202) then (
      if (xF ξ 24) < x4 then (
        nx (sXF ξ 24 x4) fun s_4 =>
        if cpk (0 : Int32) (0 : Int32) (6 : Int32) 6 6 = true ∧ fitB (xR s_4 22) (0 : Int32).toNatClampNeg (6 : Int32).toNatClampNeg = true then nx (sXC s_4 23 (va_cpy (xR s_4 22) (xR s_4 23) (0 : Int32).toNatClampNeg (0 : Int32).toNatClampNeg (6 : Int32).toNatClampNeg)) (fun s_5 =>
        some s_5) else none)
      else (
        some ξ))
    else (
      if inb x1 6 = true then nx (sXR ξ 22 x1.toNatClampNeg (vp_nar .byte (-1 : Int32))) (fun s_1 =>
      bnv (self (x1 + (1 : Int32)) x2 x3 x4 s_1) fun s_2 =>
      nx ((0 : Int32) : Int32) fun x5_3 =>
      x0_waysFrom_78 N g self N x1 x2 x3 x4 x5_3 s_2) else none))
  else (
    some ξ)
def x0_waysFrom (N : Nat) (g : XG) : Nat → Int32 → Int32 → Int32 → Int32 → XS → Option (XS)
  | 0 => fun _ _ _ _ _ => none
  | dp + 1 => x0_waysFrom_s N g (x0_waysFrom N g dp)
section XC
variable {p : Program} {l : Launch} {e : Env} {R : Room} {s : State} {m : MethodId} {args : Array Value} {below : List Frame} {meth : Method} {c : Code} {nL cells slots : Nat} {A : Nat → Prop} {g : XG} {ξ : XS} {Q : State → Prop} {pc n : Nat} {lv : List (Nat × Value)} {st : List Value} {cc : ByteArray} {ρ : Type} {res : ρ}
theorem xclX0_292_s (E : EV p s m args c cc nL RX0) {dp : Nat} {self : Int32 → Int32 → Int32 → Int32 → XS → Option (XS)}  (hself : ∀  (x1 : Int32) (x2 : Int32) (x3 : Int32) (x4 : Int32) (ξ : XS), ∀ (ξ1 : XS), self  x1 x2 x3 x4 ξ = some ξ1 → MetXv l g yX0_waysFrom (ws_ yX0_waysFrom cX0_waysFrom 6 none) { frames := 1 + dp, cells := 0, slots := 0, locals := 40 + 25 * dp } [.ref (xa g 0), .int x1, .int x2, .int x3, .int x4] ξ ξ1 0 0)  {x1 : Int32} {x2 : Int32} {x3 : Int32} {x4 : Int32} {kk : XS → Option ρ} (hR : 1 + dp + 1 ≤ R.frames ∧ 8 + (6 + 11) + (40 + 25 * dp) ≤ R.locals) (hcat : (st.map fun v => v.category).sum ≤ 8) (hf : cells ≤ R.cells ∧ slots ≤ R.slots) (d : decode cc pc = .ok (.invokevirtual 292, 3)) (h : bnv (self  x1 x2 x3 x4 ξ) kk = some res) (hn : pc + 3 = n) (k : ∀ (ξ1 : XS), kk ξ1 = some res → CF p l e R s m args below meth c nL cells slots (XB g A s ξ1) Q n lv st) : CF p l e R s m args below meth c nL cells slots (XB g A s ξ) Q pc lv (.int x4 :: .int x3 :: .int x2 :: .int x1 :: .ref (xa g 0) :: st) :=
  xcallV0_v (na := 4) E [.int x1, .int x2, .int x3, .int x4] (fun ξ1 ho => hself  x1 x2 x3 x4 ξ ξ1 ho) (C := RX0) (lw_V q1139 q1141 qs24 q96 q1142) (by decide +kernel) ⟨0, 1, _, _, rfl, rfl, rfl⟩ rfl rfl hR rfl rfl hcat hf d h hn k
end XC
set_option maxHeartbeats 4000000 in
theorem wx0_waysFrom_145 {p : Program} {l : Launch} {e : Env} {R : Room} {s : State} {m : MethodId} {args : Array Value} {below : List Frame} {meth : Method} {c : Code} {A : Nat → Prop} {g : XG} {Q : State → Prop} (E : EV p s m args c cX0_waysFrom 6 RX0) (dp : Nat) {self : Int32 → Int32 → Int32 → Int32 → XS → Option (XS)} (hself : ∀  (x1 : Int32) (x2 : Int32) (x3 : Int32) (x4 : Int32) (ξ : XS), ∀ (ξ1 : XS), self  x1 x2 x3 x4 ξ = some ξ1 → MetXv l g yX0_waysFrom (ws_ yX0_waysFrom cX0_waysFrom 6 none) { frames := 1 + dp, cells := 0, slots := 0, locals := 40 + 25 * dp } [.ref (xa g 0), .int x1, .int x2, .int x3, .int x4] ξ ξ1 0 0) (hR : 1 + dp + 1 ≤ R.frames ∧ 40 + 25 * dp + 25 ≤ R.locals) {res : XS} (hq : XTv p l e R s m args below meth c cX0_waysFrom 6 0 0 A g Q res) (N : Nat)   {rec78 : Int32 → Int32 → Int32 → Int32 → Int32 → XS → Option (XS)} (ih78 : ∀ (x1 : Int32) (x2 : Int32) (x3 : Int32) (x4 : Int32) (x5 : Int32) (ξ : XS), rec78 x1 x2 x3 x4 x5 ξ = some res → CF p l e R s m args below meth c 6 0 0 (XB g A s ξ) Q 78 [(0, .ref (xa g 0)), (1, .int x1), (2, .int x2), (3, .int x3), (4, .int x4), (5, .int x5)] []) (x1 : Int32) (x2 : Int32) (x3 : Int32) (x4 : Int32) (x5 : Int32) (ξ : XS) (h : x0_waysFrom_145 N g self  rec78 x1 x2 x3 x4 x5 ξ = some res) : CF p l e R s m args below meth c 6 0 0 (XB g A s ξ) Q 145 [(0, .ref (xa g 0)), (1, .int x1), (2, .int x2), (3, .int x3), (4, .int x4), (5, .int x5)] [] := by
  unfold x0_waysFrom_145 at h
  refine cf_iinc E dX0_waysFrom_145 ic_1 h 5 rfl (fun x5_1 => [(5, .int x5_1), (0, .ref (xa g 0)), (1, .int x1), (2, .int x2), (3, .int x3), (4, .int x4)]) (Nat.le_of_ble_eq_true rfl) (fun _ => rfl) rfl (fun x5_1 h => ?_)
  refine cf_goto E dX0_waysFrom_148 rfl ?_
  exact CF.sub [1, 2, 3, 4, 5, 0] rfl (ih78 x1 x2 x3 x4 x5_1 ξ h)
set_option maxHeartbeats 4000000 in
theorem wx0_waysFrom_78b {p : Program} {l : Launch} {e : Env} {R : Room} {s : State} {m : MethodId} {args : Array Value} {below : List Frame} {meth : Method} {c : Code} {A : Nat → Prop} {g : XG} {Q : State → Prop} (E : EV p s m args c cX0_waysFrom 6 RX0) (dp : Nat) {self : Int32 → Int32 → Int32 → Int32 → XS → Option (XS)} (hself : ∀  (x1 : Int32) (x2 : Int32) (x3 : Int32) (x4 : Int32) (ξ : XS), ∀ (ξ1 : XS), self  x1 x2 x3 x4 ξ = some ξ1 → MetXv l g yX0_waysFrom (ws_ yX0_waysFrom cX0_waysFrom 6 none) { frames := 1 + dp, cells := 0, slots := 0, locals := 40 + 25 * dp } [.ref (xa g 0), .int x1, .int x2, .int x3, .int x4] ξ ξ1 0 0) (hR : 1 + dp + 1 ≤ R.frames ∧ 40 + 25 * dp + 25 ≤ R.locals) {res : XS} (hq : XTv p l e R s m args below meth c cX0_waysFrom 6 0 0 A g Q res) (N : Nat)    {rec78 : Int32 → Int32 → Int32 → Int32 → Int32 → XS → Option (XS)} (ih78 : ∀ (x1 : Int32) (x2 : Int32) (x3 : Int32) (x4 : Int32) (x5 : Int32) (ξ : XS), rec78 x1 x2 x3 x4 x5 ξ = some res → CF p l e R s m args below meth c 6 0 0 (XB g A s ξ) Q 78 [(0, .ref (xa g 0)), (1, .int x1), (2, .int x2), (3, .int x3), (4, .int x4), (5, .int x5)] []) (x1 : Int32) (x2 : Int32) (x3 : Int32) (x4 : Int32) (x5 : Int32) (ξ : XS) (h : x0_waysFrom_78b N g self   rec78 x1 x2 x3 x4 x5 ξ = some res) : CF p l e R s m args below meth c 6 0 0 (XB g A s ξ) Q 78 [(0, .ref (xa g 0)), (1, .int x1), (2, .int x2), (3, .int x3), (4, .int x4), (5, .int x5)] [] := by
  unfold x0_waysFrom_78b at h
  refine cf_iload E dX0_waysFrom_78 5 rfl rfl ?_
  refine cf_aload_n E dX0_waysFrom_80 0 rfl rfl ?_
  refine xgX0_134 E dX0_waysFrom_81 rfl ?_
  refine cf_icmp_ge E dX0_waysFrom_84 h rfl rfl (fun h => ?_) (fun h => ?_)
  · exact xret_v dX0_waysFrom_151 h hq
  · refine cf_iload_n E dX0_waysFrom_87 3 rfl rfl ?_
    refine cf_if_le E dX0_waysFrom_88 h rfl rfl (fun h => ?_) (fun h => ?_)
    · exact xret_v dX0_waysFrom_151 h hq
    · refine cf_iload_n E dX0_waysFrom_91 2 rfl rfl ?_
      refine cf_iload E dX0_waysFrom_92 5 rfl rfl ?_
      refine cf_ishr E dX0_waysFrom_94 rfl ?_
      refine cf_iconst E dX0_waysFrom_95 ic_1 rfl ?_
      refine cf_iand E dX0_waysFrom_96 rfl ?_
      refine cf_if_ne E dX0_waysFrom_97 h rfl rfl (fun h => ?_) (fun h => ?_)
      · refine cf_aload_n E dX0_waysFrom_103 0 rfl rfl ?_
        refine xgX0_86 E dX0_waysFrom_104 rfl ?_
        refine cf_iload_n E dX0_waysFrom_107 1 rfl rfl ?_
        refine cf_iload E dX0_waysFrom_108 5 rfl rfl ?_
        refine cf_i2b E dX0_waysFrom_110 rfl ?_
        refine xast_22 E dX0_waysFrom_111 h rfl (fun s_1 h => ?_)
        refine cf_aload_n E dX0_waysFrom_112 0 rfl rfl ?_
        refine cf_iload_n E dX0_waysFrom_113 1 rfl rfl ?_
        refine cf_iconst E dX0_waysFrom_114 ic_1 rfl ?_
        refine cf_iadd E dX0_waysFrom_115 rfl ?_
        refine cf_iload_n E dX0_waysFrom_116 2 rfl rfl ?_
        refine cf_iconst E dX0_waysFrom_117 ic_1 rfl ?_
        refine cf_iload E dX0_waysFrom_118 5 rfl rfl ?_
        refine cf_ishl E dX0_waysFrom_120 rfl ?_
        refine cf_iconst E dX0_waysFrom_121 ic_m1 rfl ?_
        refine cf_ixor E dX0_waysFrom_122 rfl ?_
        refine cf_iand E dX0_waysFrom_123 rfl ?_
        refine cf_iload_n E dX0_waysFrom_124 3 rfl rfl ?_
        refine cf_iconst E dX0_waysFrom_125 ic_1 rfl ?_
        refine cf_isub E dX0_waysFrom_126 rfl ?_
        refine cf_iload E dX0_waysFrom_127 4 rfl rfl ?_
        refine cf_aload_n E dX0_waysFrom_129 0 rfl rfl ?_
        refine xgX0_83 E dX0_waysFrom_130 rfl ?_
        refine cf_bipush E dX0_waysFrom_133 bp_6 rfl ?_
        refine cf_iload E dX0_waysFrom_135 5 rfl rfl ?_
        refine cf_imul E dX0_waysFrom_137 rfl ?_
        refine cf_iload_n E dX0_waysFrom_138 1 rfl rfl ?_
        refine cf_iadd E dX0_waysFrom_139 rfl ?_
        refine xald_21 E dX0_waysFrom_140 h rfl (fun h => ?_)
        refine cf_iadd E dX0_waysFrom_141 rfl ?_
        refine xclX0_292_s E hself ⟨by have := hR.1; omega, by have := hR.2; omega⟩ (Nat.le_of_ble_eq_true rfl) ⟨Nat.zero_le _, Nat.zero_le _⟩ dX0_waysFrom_142 h rfl (fun s_2 h => ?_)
        exact CF.sub [0, 1, 2, 3, 4, 5] rfl (wx0_waysFrom_145 E dp hself hR hq N ih78 x1 x2 x3 x4 x5 s_2 h)
      · refine cf_goto E dX0_waysFrom_100 rfl ?_
        exact CF.sub [0, 1, 2, 3, 4, 5] rfl (wx0_waysFrom_145 E dp hself hR hq N ih78 x1 x2 x3 x4 x5 ξ h)
set_option maxHeartbeats 4000000 in
theorem wx0_waysFrom_78 {p : Program} {l : Launch} {e : Env} {R : Room} {s : State} {m : MethodId} {args : Array Value} {below : List Frame} {meth : Method} {c : Code} {A : Nat → Prop} {g : XG} {Q : State → Prop} (E : EV p s m args c cX0_waysFrom 6 RX0) (dp : Nat) {self : Int32 → Int32 → Int32 → Int32 → XS → Option (XS)} (hself : ∀  (x1 : Int32) (x2 : Int32) (x3 : Int32) (x4 : Int32) (ξ : XS), ∀ (ξ1 : XS), self  x1 x2 x3 x4 ξ = some ξ1 → MetXv l g yX0_waysFrom (ws_ yX0_waysFrom cX0_waysFrom 6 none) { frames := 1 + dp, cells := 0, slots := 0, locals := 40 + 25 * dp } [.ref (xa g 0), .int x1, .int x2, .int x3, .int x4] ξ ξ1 0 0) (hR : 1 + dp + 1 ≤ R.frames ∧ 40 + 25 * dp + 25 ≤ R.locals) {res : XS} (hq : XTv p l e R s m args below meth c cX0_waysFrom 6 0 0 A g Q res) (N : Nat)    : ∀ (k : Nat) (x1 : Int32) (x2 : Int32) (x3 : Int32) (x4 : Int32) (x5 : Int32) (ξ : XS), x0_waysFrom_78 N g self   k x1 x2 x3 x4 x5 ξ = some res → CF p l e R s m args below meth c 6 0 0 (XB g A s ξ) Q 78 [(0, .ref (xa g 0)), (1, .int x1), (2, .int x2), (3, .int x3), (4, .int x4), (5, .int x5)] [] := by
  intro k
  induction k with
  | zero => intro x1 x2 x3 x4 x5 ξ h; have h : (none : Option (XS)) = some res := h; cases h
  | succ k ih => intro x1 x2 x3 x4 x5 ξ h; exact wx0_waysFrom_78b E dp hself hR hq N    ih x1 x2 x3 x4 x5 ξ h
set_option maxHeartbeats 4000000 in
theorem met_x0_waysFrom_s (l : Launch) (g : XG) (N : Nat) (dp : Nat) {self : Int32 → Int32 → Int32 → Int32 → XS → Option (XS)} (hself : ∀  (x1 : Int32) (x2 : Int32) (x3 : Int32) (x4 : Int32) (ξ : XS), ∀ (ξ1 : XS), self  x1 x2 x3 x4 ξ = some ξ1 → MetXv l g yX0_waysFrom (ws_ yX0_waysFrom cX0_waysFrom 6 none) { frames := 1 + dp, cells := 0, slots := 0, locals := 40 + 25 * dp } [.ref (xa g 0), .int x1, .int x2, .int x3, .int x4] ξ ξ1 0 0)   (x1 : Int32) (x2 : Int32) (x3 : Int32) (x4 : Int32) (ξ : XS) {ξ1 : XS} (h : x0_waysFrom_s N g self  x1 x2 x3 x4 ξ = some ξ1) : MetXv l g yX0_waysFrom (ws_ yX0_waysFrom cX0_waysFrom 6 (none)) { frames := 1 + (dp + 1), cells := 0, slots := 0, locals := 40 + 25 * (dp + 1) } [.ref (xa g 0), .int x1, .int x2, .int x3, .int x4] ξ ξ1 0 0 := by
  refine met_xv (lv0 := [(0, .ref (xa g 0)), (1, .int x1), (2, .int x2), (3, .int x3), (4, .int x4)]) (own := RX0) (by decide) rfl (Nat.le_of_ble_eq_true rfl) rfl ?_
  intro p e s m below meth c A Q E hq
  have hR : 1 + dp + 1 ≤ ({ frames := 1 + (dp + 1), cells := 0, slots := 0, locals := 40 + 25 * (dp + 1) } : Room).frames ∧ 40 + 25 * dp + 25 ≤ ({ frames := 1 + (dp + 1), cells := 0, slots := 0, locals := 40 + 25 * (dp + 1) } : Room).locals := ⟨Nat.le_refl _, by show _ ≤ 40 + 25 * (dp + 1); omega⟩
  unfold x0_waysFrom_s at h
  refine cf_iload_n E dX0_waysFrom_0 3 rfl rfl ?_
  refine cf_aload_n E dX0_waysFrom_1 0 rfl rfl ?_
  refine xgX0_30 E dX0_waysFrom_2 rfl ?_
  refine xgX0_126_0 E dX0_waysFrom_5 rfl ?_
  refine cf_iload_n E dX0_waysFrom_8 1 rfl rfl ?_
  refine cf_isub E dX0_waysFrom_9 rfl ?_
  refine cf_icmp_le E dX0_waysFrom_10 h rfl rfl (fun h => ?_) (fun h => ?_)
  · refine cf_iload_n E dX0_waysFrom_14 1 rfl rfl ?_
    refine cf_aload_n E dX0_waysFrom_15 0 rfl rfl ?_
    refine xgX0_30 E dX0_waysFrom_16 rfl ?_
    refine xgX0_126_0 E dX0_waysFrom_19 rfl ?_
    refine cf_icmp_ne E dX0_waysFrom_22 h rfl rfl (fun h => ?_) (fun h => ?_)
    · refine cf_aload_n E dX0_waysFrom_57 0 rfl rfl ?_
      refine xgX0_86 E dX0_waysFrom_58 rfl ?_
      refine cf_iload_n E dX0_waysFrom_61 1 rfl rfl ?_
      refine cf_iconst E dX0_waysFrom_62 ic_m1 rfl ?_
      refine xast_22 E dX0_waysFrom_63 h rfl (fun s_1 h => ?_)
      refine cf_aload_n E dX0_waysFrom_64 0 rfl rfl ?_
      refine cf_iload_n E dX0_waysFrom_65 1 rfl rfl ?_
      refine cf_iconst E dX0_waysFrom_66 ic_1 rfl ?_
      refine cf_iadd E dX0_waysFrom_67 rfl ?_
      refine cf_iload_n E dX0_waysFrom_68 2 rfl rfl ?_
      refine cf_iload_n E dX0_waysFrom_69 3 rfl rfl ?_
      refine cf_iload E dX0_waysFrom_70 4 rfl rfl ?_
      refine xclX0_292_s E hself ⟨by have := hR.1; omega, by have := hR.2; omega⟩ (Nat.le_of_ble_eq_true rfl) ⟨Nat.zero_le _, Nat.zero_le _⟩ dX0_waysFrom_72 h rfl (fun s_2 h => ?_)
      refine cf_iconst E dX0_waysFrom_75 ic_0 rfl ?_
      refine cf_istore E dX0_waysFrom_76 h (fun x5_3 => [(5, .int x5_3), (0, .ref (xa g 0)), (1, .int x1), (2, .int x2), (3, .int x3), (4, .int x4)]) (Nat.le_of_ble_eq_true rfl) (fun _ => rfl) rfl (fun x5_3 h => ?_)
      exact CF.sub [1, 2, 3, 4, 5, 0] rfl (wx0_waysFrom_78 E dp hself hR hq N N x1 x2 x3 x4 x5_3 s_2 h)
    · refine cf_iload E dX0_waysFrom_25 4 rfl rfl ?_
      refine cf_aload_n E dX0_waysFrom_27 0 rfl rfl ?_
      refine xgX0_283 E dX0_waysFrom_28 rfl ?_
      refine cf_icmp_gt E dX0_waysFrom_31 h rfl rfl (fun h => ?_) (fun h => ?_)
      · refine cf_aload_n E dX0_waysFrom_35 0 rfl rfl ?_
        refine cf_iload E dX0_waysFrom_36 4 rfl rfl ?_
        refine xpX0_283 E dX0_waysFrom_38 h rfl (fun s_4 h => ?_)
        refine cf_aload_n E dX0_waysFrom_41 0 rfl rfl ?_
        refine xgX0_86 E dX0_waysFrom_42 rfl ?_
        refine cf_iconst E dX0_waysFrom_45 ic_0 rfl ?_
        refine cf_aload_n E dX0_waysFrom_46 0 rfl rfl ?_
        refine xgX0_89 E dX0_waysFrom_47 rfl ?_
        refine cf_iconst E dX0_waysFrom_50 ic_0 rfl ?_
        refine cf_bipush E dX0_waysFrom_51 bp_6 rfl ?_
        refine xcpX0_22_23 E ⟨by have := hR.1; omega, by have := hR.2; omega⟩ (by first | exact Nat.le_of_ble_eq_true rfl | decide) dX0_waysFrom_53 h rfl (fun s_5 h => ?_)
        exact xret_v dX0_waysFrom_56 h hq
      · exact xret_v dX0_waysFrom_34 h hq
  · exact xret_v dX0_waysFrom_13 h hq
set_option maxHeartbeats 4000000 in
theorem met_x0_waysFrom (l : Launch) (g : XG) (N : Nat) : ∀ (dp : Nat)  (x1 : Int32) (x2 : Int32) (x3 : Int32) (x4 : Int32) (ξ : XS) (ξ1 : XS), x0_waysFrom N g dp  x1 x2 x3 x4 ξ = some ξ1 → MetXv l g yX0_waysFrom (ws_ yX0_waysFrom cX0_waysFrom 6 (none)) { frames := 1 + dp, cells := 0, slots := 0, locals := 40 + 25 * dp } [.ref (xa g 0), .int x1, .int x2, .int x3, .int x4] ξ ξ1 0 0 := by
  intro dp
  induction dp with
  | zero => intro  x1 x2 x3 x4 ξ ξ1 h; have h : (none : Option (XS)) = some ξ1 := h; cases h
  | succ dp ih => intro  x1 x2 x3 x4 ξ ξ1 h; exact met_x0_waysFrom_s l g N dp ih  x1 x2 x3 x4 ξ h
def x0_how_85 (N : Nat) (g : XG)  (rec18 : Int32 → Int32 → Int32 → Int32 → XS → Option (Int32 × XS)) (x1 : Int32) (x2 : Int32) (x3 : Int32) (x4 : Int32) (ξ : XS) : Option (Int32 × XS) :=
  nx (x4 + (1 : Int32)) fun x4_1 =>
  rec18 x1 x2 x3 x4_1 ξ
def x0_how_18b (N : Nat) (g : XG)   (rec18 : Int32 → Int32 → Int32 → Int32 → XS → Option (Int32 × XS)) (x1 : Int32) (x2 : Int32) (x3 : Int32) (x4 : Int32) (ξ : XS) : Option (Int32 × XS) :=
  if (xF ξ 202) ≤ x4 then (
    if x1 = 0 then (
      some (x2, ξ))
    else (
      some (x3, ξ)))
  else (
    if inb x4 6 = true then (
    if (xR ξ 200 x4.toNatClampNeg) = (-1 : Int32) then (
      nx ((x3 ||| ((1 : Int32) <<< (x4 &&& 31))) : Int32) fun x3_4 =>
      x0_how_85 N g rec18 x1 x2 x3_4 x4 ξ)
    else (
      if inb x4 6 = true then (
      if inb (xR ξ 200 x4.toNatClampNeg) 6 = true then bno (xQ ξ 3 (xR ξ 200 x4.toNatClampNeg).toNatClampNeg) (fun b_1 =>
      bno (dI ξ b_1 8 14 2) fun v_2 =>
      if inb x4 6 = true then (
      if v_2 = (xR ξ 0 x4.toNatClampNeg) then (
        x0_how_85 N g rec18 x1 x2 x3 x4 ξ)
      else (
        nx (x2 + (1 : Int32)) fun x2_3 =>
        x0_how_85 N g rec18 x1 x2_3 x3 x4 ξ)) else none) else none) else none)) else none)
def x0_how_18 (N : Nat) (g : XG)   : Nat → Int32 → Int32 → Int32 → Int32 → XS → Option (Int32 × XS)
  | 0 => fun _ _ _ _ _ => none
  | k + 1 => fun x1 x2 x3 x4 ξ => x0_how_18b N g   (x0_how_18 N g   k) x1 x2 x3 x4 ξ
def x0_how (N : Nat) (g : XG)   (x1 : Int32) (ξ : XS) : Option (Int32 × XS) :=
  bnd (x0_in N g x1 (0 : Int32) (1 : Int32) ξ) fun v_2 s_1 =>
  if v_2 = 0 then (
    some ((-1 : Int32), s_1))
  else (
    nx ((0 : Int32) : Int32) fun x2_3 =>
    nx ((0 : Int32) : Int32) fun x3_4 =>
    nx ((0 : Int32) : Int32) fun x4_5 =>
    x0_how_18 N g N x1 x2_3 x3_4 x4_5 s_1)
set_option maxHeartbeats 4000000 in
theorem wx0_how_85 {p : Program} {l : Launch} {e : Env} {R : Room} {s : State} {m : MethodId} {args : Array Value} {below : List Frame} {meth : Method} {c : Code} {A : Nat → Prop} {g : XG} {Q : State → Prop} (E : EV p s m args c cX0_how 5 RX0) (hR : 1 ≤ R.frames ∧ 22 ≤ R.locals) {res : Int32 × XS} (hq : XTi p l e R s m args below meth c cX0_how 5 0 0 A g .int Q res) (N : Nat)   {rec18 : Int32 → Int32 → Int32 → Int32 → XS → Option (Int32 × XS)} (ih18 : ∀ (x1 : Int32) (x2 : Int32) (x3 : Int32) (x4 : Int32) (ξ : XS), rec18 x1 x2 x3 x4 ξ = some res → CF p l e R s m args below meth c 5 0 0 (XB g A s ξ) Q 18 [(0, .ref (xa g 0)), (1, .int x1), (2, .int x2), (3, .int x3), (4, .int x4)] []) (x1 : Int32) (x2 : Int32) (x3 : Int32) (x4 : Int32) (ξ : XS) (h : x0_how_85 N g  rec18 x1 x2 x3 x4 ξ = some res) : CF p l e R s m args below meth c 5 0 0 (XB g A s ξ) Q 85 [(0, .ref (xa g 0)), (1, .int x1), (2, .int x2), (3, .int x3), (4, .int x4)] [] := by
  unfold x0_how_85 at h
  refine cf_iinc E dX0_how_85 ic_1 h 4 rfl (fun x4_1 => [(4, .int x4_1), (0, .ref (xa g 0)), (1, .int x1), (2, .int x2), (3, .int x3)]) (Nat.le_of_ble_eq_true rfl) (fun _ => rfl) rfl (fun x4_1 h => ?_)
  refine cf_goto E dX0_how_88 rfl ?_
  exact CF.sub [1, 2, 3, 4, 0] rfl (ih18 x1 x2 x3 x4_1 ξ h)
set_option maxHeartbeats 4000000 in
theorem wx0_how_18b {p : Program} {l : Launch} {e : Env} {R : Room} {s : State} {m : MethodId} {args : Array Value} {below : List Frame} {meth : Method} {c : Code} {A : Nat → Prop} {g : XG} {Q : State → Prop} (E : EV p s m args c cX0_how 5 RX0) (hR : 1 ≤ R.frames ∧ 22 ≤ R.locals) {res : Int32 × XS} (hq : XTi p l e R s m args below meth c cX0_how 5 0 0 A g .int Q res) (N : Nat)    {rec18 : Int32 → Int32 → Int32 → Int32 → XS → Option (Int32 × XS)} (ih18 : ∀ (x1 : Int32) (x2 : Int32) (x3 : Int32) (x4 : Int32) (ξ : XS), rec18 x1 x2 x3 x4 ξ = some res → CF p l e R s m args below meth c 5 0 0 (XB g A s ξ) Q 18 [(0, .ref (xa g 0)), (1, .int x1), (2, .int x2), (3, .int x3), (4, .int x4)] []) (x1 : Int32) (x2 : Int32) (x3 : Int32) (x4 : Int32) (ξ : XS) (h : x0_how_18b N g   rec18 x1 x2 x3 x4 ξ = some res) : CF p l e R s m args below meth c 5 0 0 (XB g A s ξ) Q 18 [(0, .ref (xa g 0)), (1, .int x1), (2, .int x2), (3, .int x3), (4, .int x4)] [] := by
  unfold x0_how_18b at h
  refine cf_iload E dX0_how_18 4 rfl rfl ?_
  refine cf_aload_n E dX0_how_20 0 rfl rfl ?_
  refine xgX0_30 E dX0_how_21 rfl ?_
  refine xgX0_126_0 E dX0_how_24 rfl ?_
  refine cf_icmp_ge E dX0_how_27 h rfl rfl (fun h => ?_) (fun h => ?_)
  · refine cf_iload_n E dX0_how_91 1 rfl rfl ?_
    refine cf_if_ne E dX0_how_92 h rfl rfl (fun h => ?_) (fun h => ?_)
    · refine cf_iload_n E dX0_how_99 3 rfl rfl ?_
      exact xret_i dX0_how_100 h rfl hq
    · refine cf_iload_n E dX0_how_95 2 rfl rfl ?_
      refine cf_goto E dX0_how_96 rfl ?_
      exact xret_i dX0_how_100 h rfl hq
  · refine cf_aload_n E dX0_how_30 0 rfl rfl ?_
    refine xgX0_30 E dX0_how_31 rfl ?_
    refine xgX0_137_0 E dX0_how_34 rfl ?_
    refine cf_iload E dX0_how_37 4 rfl rfl ?_
    refine xaldT_0_0 E dX0_how_39 h rfl (fun h => ?_)
    refine cf_iconst E dX0_how_40 ic_m1 rfl ?_
    refine cf_icmp_ne E dX0_how_41 h rfl rfl (fun h => ?_) (fun h => ?_)
    · refine cf_aload_n E dX0_how_54 0 rfl rfl ?_
      refine xgX0_23 E dX0_how_55 rfl ?_
      refine cf_aload_n E dX0_how_58 0 rfl rfl ?_
      refine xgX0_30 E dX0_how_59 rfl ?_
      refine xgX0_137_0 E dX0_how_62 rfl ?_
      refine cf_iload E dX0_how_65 4 rfl rfl ?_
      refine xaldT_0_0 E dX0_how_67 h rfl (fun h => ?_)
      refine xaldq_3 E dX0_how_68 h rfl (fun b_1 h => ?_)
      refine xdgX0_208 E dX0_how_69 h rfl (fun v_2 h => ?_)
      refine cf_aload_n E dX0_how_72 0 rfl rfl ?_
      refine xgX0_11 E dX0_how_73 rfl ?_
      refine cf_iload E dX0_how_76 4 rfl rfl ?_
      refine xald_0 E dX0_how_78 h rfl (fun h => ?_)
      refine cf_icmp_eq E dX0_how_79 h rfl rfl (fun h => ?_) (fun h => ?_)
      · exact CF.sub [0, 1, 2, 3, 4] rfl (wx0_how_85 E hR hq N ih18 x1 x2 x3 x4 ξ h)
      · refine cf_iinc E dX0_how_82 ic_1 h 2 rfl (fun x2_3 => [(2, .int x2_3), (0, .ref (xa g 0)), (1, .int x1), (3, .int x3), (4, .int x4)]) (Nat.le_of_ble_eq_true rfl) (fun _ => rfl) rfl (fun x2_3 h => ?_)
        exact CF.sub [1, 2, 0, 3, 4] rfl (wx0_how_85 E hR hq N ih18 x1 x2_3 x3 x4 ξ h)
    · refine cf_iload_n E dX0_how_44 3 rfl rfl ?_
      refine cf_iconst E dX0_how_45 ic_1 rfl ?_
      refine cf_iload E dX0_how_46 4 rfl rfl ?_
      refine cf_ishl E dX0_how_48 rfl ?_
      refine cf_ior E dX0_how_49 rfl ?_
      refine cf_istore_n E dX0_how_50 h (fun x3_4 => [(3, .int x3_4), (0, .ref (xa g 0)), (1, .int x1), (2, .int x2), (4, .int x4)]) (Nat.le_of_ble_eq_true rfl) (fun _ => rfl) rfl (fun x3_4 h => ?_)
      refine cf_goto E dX0_how_51 rfl ?_
      exact CF.sub [1, 2, 3, 0, 4] rfl (wx0_how_85 E hR hq N ih18 x1 x2 x3_4 x4 ξ h)
set_option maxHeartbeats 4000000 in
theorem wx0_how_18 {p : Program} {l : Launch} {e : Env} {R : Room} {s : State} {m : MethodId} {args : Array Value} {below : List Frame} {meth : Method} {c : Code} {A : Nat → Prop} {g : XG} {Q : State → Prop} (E : EV p s m args c cX0_how 5 RX0) (hR : 1 ≤ R.frames ∧ 22 ≤ R.locals) {res : Int32 × XS} (hq : XTi p l e R s m args below meth c cX0_how 5 0 0 A g .int Q res) (N : Nat)    : ∀ (k : Nat) (x1 : Int32) (x2 : Int32) (x3 : Int32) (x4 : Int32) (ξ : XS), x0_how_18 N g   k x1 x2 x3 x4 ξ = some res → CF p l e R s m args below meth c 5 0 0 (XB g A s ξ) Q 18 [(0, .ref (xa g 0)), (1, .int x1), (2, .int x2), (3, .int x3), (4, .int x4)] [] := by
  intro k
  induction k with
  | zero => intro x1 x2 x3 x4 ξ h; have h : (none : Option (Int32 × XS)) = some res := h; cases h
  | succ k ih => intro x1 x2 x3 x4 ξ h; exact wx0_how_18b E hR hq N    ih x1 x2 x3 x4 ξ h
set_option maxHeartbeats 4000000 in
theorem met_x0_how (l : Launch) (g : XG) (N : Nat)   (x1 : Int32) (ξ : XS) {v : Int32} {ξ1 : XS} (h : x0_how N g  x1 ξ = some (v, ξ1)) : MetXi l g yX0_how (ws_ yX0_how cX0_how 5 (some .int)) { frames := 1, cells := 0, slots := 0, locals := 22 } [.ref (xa g 0), .int x1] ξ v ξ1 0 0 := by
  refine met_xi (lv0 := [(0, .ref (xa g 0)), (1, .int x1)]) (own := RX0) (by decide) rfl (Nat.le_of_ble_eq_true rfl) rfl ?_
  intro p e s m below meth c A Q E hq
  have hR : 1 ≤ ({ frames := 1, cells := 0, slots := 0, locals := 22 } : Room).frames ∧ 22 ≤ ({ frames := 1, cells := 0, slots := 0, locals := 22 } : Room).locals := ⟨Nat.le_refl _, Nat.le_refl _⟩
  unfold x0_how at h
  refine cf_iload_n E dX0_how_0 1 rfl rfl ?_
  refine cf_iconst E dX0_how_1 ic_0 rfl ?_
  refine cf_iconst E dX0_how_2 ic_1 rfl ?_
  refine xclX0_130 E (rmle hR rfl rfl) (Nat.le_of_ble_eq_true rfl) ⟨Nat.zero_le _, Nat.zero_le _⟩ dX0_how_3 h rfl (fun v_2 s_1 h => ?_)
  refine cf_if_ne E dX0_how_6 h rfl rfl (fun h => ?_) (fun h => ?_)
  · refine cf_iconst E dX0_how_11 ic_0 rfl ?_
    refine cf_istore_n E dX0_how_12 h (fun x2_3 => [(2, .int x2_3), (0, .ref (xa g 0)), (1, .int x1)]) (Nat.le_of_ble_eq_true rfl) (fun _ => rfl) rfl (fun x2_3 h => ?_)
    refine cf_iconst E dX0_how_13 ic_0 rfl ?_
    refine cf_istore_n E dX0_how_14 h (fun x3_4 => [(3, .int x3_4), (2, .int x2_3), (0, .ref (xa g 0)), (1, .int x1)]) (Nat.le_of_ble_eq_true rfl) (fun _ => rfl) rfl (fun x3_4 h => ?_)
    refine cf_iconst E dX0_how_15 ic_0 rfl ?_
    refine cf_istore E dX0_how_16 h (fun x4_5 => [(4, .int x4_5), (3, .int x3_4), (2, .int x2_3), (0, .ref (xa g 0)), (1, .int x1)]) (Nat.le_of_ble_eq_true rfl) (fun _ => rfl) rfl (fun x4_5 h => ?_)
    exact CF.sub [3, 4, 2, 1, 0] rfl (wx0_how_18 E hR hq N N x1 x2_3 x3_4 x4_5 s_1 h)
  · refine cf_iconst E dX0_how_9 ic_m1 rfl ?_
    exact xret_i dX0_how_10 h rfl hq
def x0_mostFrom_95 (N : Nat) (g : XG) (self : Int32 → Int32 → Int32 → XS → Option (Int32 × XS))  (rec40 : Int32 → Int32 → Int32 → Int32 → Int32 → XS → Option (Int32 × XS)) (x1 : Int32) (x2 : Int32) (x3 : Int32) (x4 : Int32) (x5 : Int32) (ξ : XS) : Option (Int32 × XS) :=
  nx (x5 + (1 : Int32)) fun x5_1 =>
  rec40 x1 x2 x3 x4 x5_1 ξ
def x0_mostFrom_40b (N : Nat) (g : XG) (self : Int32 → Int32 → Int32 → XS → Option (Int32 × XS))   (rec40 : Int32 → Int32 → Int32 → Int32 → Int32 → XS → Option (Int32 × XS)) (x1 : Int32) (x2 : Int32) (x3 : Int32) (x4 : Int32) (x5 : Int32) (ξ : XS) : Option (Int32 × XS) :=
  if (xF ξ 202) ≤ x5 then (
    some (x4, ξ))
  else (
    if ((x3 >>> (x5 &&& 31)) &&& (1 : Int32)) = 0 then (
      if inb (((6 : Int32) * x2) + x5) 36 = true then (
      bnd (self x1 (x2 + (1 : Int32)) (x3 ||| ((1 : Int32) <<< (x5 &&& 31))) ξ) fun v_2 s_1 =>
      nx ((if x4 < ((xR ξ 21 (((6 : Int32) * x2) + x5).toNatClampNeg) + v_2) then ((xR ξ 21 (((6 : Int32) * x2) + x5).toNatClampNeg) + v_2) else x4) : Int32) fun x4_3 =>
      x0_mostFrom_95 N g self rec40 x1 x2 x3 x4_3 x5 s_1) else none)
    else (
      x0_mostFrom_95 N g self rec40 x1 x2 x3 x4 x5 ξ))
def x0_mostFrom_40 (N : Nat) (g : XG) (self : Int32 → Int32 → Int32 → XS → Option (Int32 × XS))   : Nat → Int32 → Int32 → Int32 → Int32 → Int32 → XS → Option (Int32 × XS)
  | 0 => fun _ _ _ _ _ _ => none
  | k + 1 => fun x1 x2 x3 x4 x5 ξ => x0_mostFrom_40b N g self   (x0_mostFrom_40 N g self   k) x1 x2 x3 x4 x5 ξ
def x0_mostFrom_s (N : Nat) (g : XG) (self : Int32 → Int32 → Int32 → XS → Option (Int32 × XS))   (x1 : Int32) (x2 : Int32) (x3 : Int32) (ξ : XS) : Option (Int32 × XS) :=
  if x2 = (xF ξ 4) then (
    some ((0 : Int32), ξ))
  else (
    bnd (self x1 (x2 + (1 : Int32)) x3 ξ) fun v_2 s_1 =>
    nx (v_2 : Int32) fun x4_3 =>
    if inb x2 6 = true then bno (xQ s_1 3 x2.toNatClampNeg) (fun b_4 =>
    bno (dI s_1 b_4 8 14 3) fun v_5 =>
    if v_5 = x1 then (
      nx ((0 : Int32) : Int32) fun x5_6 =>
      x0_mostFrom_40 N g self N x1 x2 x3 x4_3 x5_6 s_1)
    else (
      some (x4_3, s_1))) else none)
def x0_mostFrom (N : Nat) (g : XG) : Nat → Int32 → Int32 → Int32 → XS → Option (Int32 × XS)
  | 0 => fun _ _ _ _ => none
  | dp + 1 => x0_mostFrom_s N g (x0_mostFrom N g dp)
section XC
variable {p : Program} {l : Launch} {e : Env} {R : Room} {s : State} {m : MethodId} {args : Array Value} {below : List Frame} {meth : Method} {c : Code} {nL cells slots : Nat} {A : Nat → Prop} {g : XG} {ξ : XS} {Q : State → Prop} {pc n : Nat} {lv : List (Nat × Value)} {st : List Value} {cc : ByteArray} {ρ : Type} {res : ρ}
theorem xclX0_299_s (E : EV p s m args c cc nL RX0) {dp : Nat} {self : Int32 → Int32 → Int32 → XS → Option (Int32 × XS)}  (hself : ∀  (x1 : Int32) (x2 : Int32) (x3 : Int32) (ξ : XS), ∀ (v : Int32) (ξ1 : XS), self  x1 x2 x3 ξ = some (v, ξ1) → MetXi l g yX0_mostFrom (ws_ yX0_mostFrom cX0_mostFrom 6 (some .int)) { frames := 1 + dp, cells := 0, slots := 0, locals := 40 + 25 * dp } [.ref (xa g 0), .int x1, .int x2, .int x3] ξ v ξ1 0 0)  {x1 : Int32} {x2 : Int32} {x3 : Int32} {kk : Int32 → XS → Option ρ} (hR : 1 + dp + 1 ≤ R.frames ∧ 8 + (6 + 11) + (40 + 25 * dp) ≤ R.locals) (hcat : (st.map fun v => v.category).sum ≤ 8) (hf : cells ≤ R.cells ∧ slots ≤ R.slots) (d : decode cc pc = .ok (.invokevirtual 299, 3)) (h : bnd (self  x1 x2 x3 ξ) kk = some res) (hn : pc + 3 = n) (k : ∀ (v : Int32) (ξ1 : XS), kk v ξ1 = some res → CF p l e R s m args below meth c nL cells slots (XB g A s ξ1) Q n lv (.int v :: st)) : CF p l e R s m args below meth c nL cells slots (XB g A s ξ) Q pc lv (.int x3 :: .int x2 :: .int x1 :: .ref (xa g 0) :: st) :=
  xcallV0_i (na := 3) E [.int x1, .int x2, .int x3] (fun v ξ1 ho => hself  x1 x2 x3 ξ v ξ1 ho) (C := RX0) (lw_V q1148 q1150 qs25 q96 q1151) (by decide +kernel) ⟨0, 1, _, _, rfl, rfl, rfl⟩ rfl rfl hR rfl rfl hcat hf d h hn k
end XC
set_option maxHeartbeats 4000000 in
theorem wx0_mostFrom_95 {p : Program} {l : Launch} {e : Env} {R : Room} {s : State} {m : MethodId} {args : Array Value} {below : List Frame} {meth : Method} {c : Code} {A : Nat → Prop} {g : XG} {Q : State → Prop} (E : EV p s m args c cX0_mostFrom 6 RX0) (dp : Nat) {self : Int32 → Int32 → Int32 → XS → Option (Int32 × XS)} (hself : ∀  (x1 : Int32) (x2 : Int32) (x3 : Int32) (ξ : XS), ∀ (v : Int32) (ξ1 : XS), self  x1 x2 x3 ξ = some (v, ξ1) → MetXi l g yX0_mostFrom (ws_ yX0_mostFrom cX0_mostFrom 6 (some .int)) { frames := 1 + dp, cells := 0, slots := 0, locals := 40 + 25 * dp } [.ref (xa g 0), .int x1, .int x2, .int x3] ξ v ξ1 0 0) (hR : 1 + dp + 1 ≤ R.frames ∧ 40 + 25 * dp + 25 ≤ R.locals) {res : Int32 × XS} (hq : XTi p l e R s m args below meth c cX0_mostFrom 6 0 0 A g .int Q res) (N : Nat)   {rec40 : Int32 → Int32 → Int32 → Int32 → Int32 → XS → Option (Int32 × XS)} (ih40 : ∀ (x1 : Int32) (x2 : Int32) (x3 : Int32) (x4 : Int32) (x5 : Int32) (ξ : XS), rec40 x1 x2 x3 x4 x5 ξ = some res → CF p l e R s m args below meth c 6 0 0 (XB g A s ξ) Q 40 [(0, .ref (xa g 0)), (1, .int x1), (2, .int x2), (3, .int x3), (4, .int x4), (5, .int x5)] []) (x1 : Int32) (x2 : Int32) (x3 : Int32) (x4 : Int32) (x5 : Int32) (ξ : XS) (h : x0_mostFrom_95 N g self  rec40 x1 x2 x3 x4 x5 ξ = some res) : CF p l e R s m args below meth c 6 0 0 (XB g A s ξ) Q 95 [(0, .ref (xa g 0)), (1, .int x1), (2, .int x2), (3, .int x3), (4, .int x4), (5, .int x5)] [] := by
  unfold x0_mostFrom_95 at h
  refine cf_iinc E dX0_mostFrom_95 ic_1 h 5 rfl (fun x5_1 => [(5, .int x5_1), (0, .ref (xa g 0)), (1, .int x1), (2, .int x2), (3, .int x3), (4, .int x4)]) (Nat.le_of_ble_eq_true rfl) (fun _ => rfl) rfl (fun x5_1 h => ?_)
  refine cf_goto E dX0_mostFrom_98 rfl ?_
  exact CF.sub [1, 2, 3, 4, 5, 0] rfl (ih40 x1 x2 x3 x4 x5_1 ξ h)
set_option maxHeartbeats 4000000 in
theorem wx0_mostFrom_40b {p : Program} {l : Launch} {e : Env} {R : Room} {s : State} {m : MethodId} {args : Array Value} {below : List Frame} {meth : Method} {c : Code} {A : Nat → Prop} {g : XG} {Q : State → Prop} (E : EV p s m args c cX0_mostFrom 6 RX0) (dp : Nat) {self : Int32 → Int32 → Int32 → XS → Option (Int32 × XS)} (hself : ∀  (x1 : Int32) (x2 : Int32) (x3 : Int32) (ξ : XS), ∀ (v : Int32) (ξ1 : XS), self  x1 x2 x3 ξ = some (v, ξ1) → MetXi l g yX0_mostFrom (ws_ yX0_mostFrom cX0_mostFrom 6 (some .int)) { frames := 1 + dp, cells := 0, slots := 0, locals := 40 + 25 * dp } [.ref (xa g 0), .int x1, .int x2, .int x3] ξ v ξ1 0 0) (hR : 1 + dp + 1 ≤ R.frames ∧ 40 + 25 * dp + 25 ≤ R.locals) {res : Int32 × XS} (hq : XTi p l e R s m args below meth c cX0_mostFrom 6 0 0 A g .int Q res) (N : Nat)    {rec40 : Int32 → Int32 → Int32 → Int32 → Int32 → XS → Option (Int32 × XS)} (ih40 : ∀ (x1 : Int32) (x2 : Int32) (x3 : Int32) (x4 : Int32) (x5 : Int32) (ξ : XS), rec40 x1 x2 x3 x4 x5 ξ = some res → CF p l e R s m args below meth c 6 0 0 (XB g A s ξ) Q 40 [(0, .ref (xa g 0)), (1, .int x1), (2, .int x2), (3, .int x3), (4, .int x4), (5, .int x5)] []) (x1 : Int32) (x2 : Int32) (x3 : Int32) (x4 : Int32) (x5 : Int32) (ξ : XS) (h : x0_mostFrom_40b N g self   rec40 x1 x2 x3 x4 x5 ξ = some res) : CF p l e R s m args below meth c 6 0 0 (XB g A s ξ) Q 40 [(0, .ref (xa g 0)), (1, .int x1), (2, .int x2), (3, .int x3), (4, .int x4), (5, .int x5)] [] := by
  unfold x0_mostFrom_40b at h
  refine cf_iload E dX0_mostFrom_40 5 rfl rfl ?_
  refine cf_aload_n E dX0_mostFrom_42 0 rfl rfl ?_
  refine xgX0_30 E dX0_mostFrom_43 rfl ?_
  refine xgX0_126_0 E dX0_mostFrom_46 rfl ?_
  refine cf_icmp_ge E dX0_mostFrom_49 h rfl rfl (fun h => ?_) (fun h => ?_)
  · refine cf_iload E dX0_mostFrom_101 4 rfl rfl ?_
    exact xret_i dX0_mostFrom_103 h rfl hq
  · refine cf_iload_n E dX0_mostFrom_52 3 rfl rfl ?_
    refine cf_iload E dX0_mostFrom_53 5 rfl rfl ?_
    refine cf_ishr E dX0_mostFrom_55 rfl ?_
    refine cf_iconst E dX0_mostFrom_56 ic_1 rfl ?_
    refine cf_iand E dX0_mostFrom_57 rfl ?_
    refine cf_if_ne E dX0_mostFrom_58 h rfl rfl (fun h => ?_) (fun h => ?_)
    · exact CF.sub [0, 1, 2, 3, 4, 5] rfl (wx0_mostFrom_95 E dp hself hR hq N ih40 x1 x2 x3 x4 x5 ξ h)
    · refine cf_iload E dX0_mostFrom_61 4 rfl rfl ?_
      refine cf_aload_n E dX0_mostFrom_63 0 rfl rfl ?_
      refine xgX0_83 E dX0_mostFrom_64 rfl ?_
      refine cf_bipush E dX0_mostFrom_67 bp_6 rfl ?_
      refine cf_iload_n E dX0_mostFrom_69 2 rfl rfl ?_
      refine cf_imul E dX0_mostFrom_70 rfl ?_
      refine cf_iload E dX0_mostFrom_71 5 rfl rfl ?_
      refine cf_iadd E dX0_mostFrom_73 rfl ?_
      refine xald_21 E dX0_mostFrom_74 h rfl (fun h => ?_)
      refine cf_aload_n E dX0_mostFrom_75 0 rfl rfl ?_
      refine cf_iload_n E dX0_mostFrom_76 1 rfl rfl ?_
      refine cf_iload_n E dX0_mostFrom_77 2 rfl rfl ?_
      refine cf_iconst E dX0_mostFrom_78 ic_1 rfl ?_
      refine cf_iadd E dX0_mostFrom_79 rfl ?_
      refine cf_iload_n E dX0_mostFrom_80 3 rfl rfl ?_
      refine cf_iconst E dX0_mostFrom_81 ic_1 rfl ?_
      refine cf_iload E dX0_mostFrom_82 5 rfl rfl ?_
      refine cf_ishl E dX0_mostFrom_84 rfl ?_
      refine cf_ior E dX0_mostFrom_85 rfl ?_
      refine xclX0_299_s E hself ⟨by have := hR.1; omega, by have := hR.2; omega⟩ (Nat.le_of_ble_eq_true rfl) ⟨Nat.zero_le _, Nat.zero_le _⟩ dX0_mostFrom_86 h rfl (fun v_2 s_1 h => ?_)
      refine cf_iadd E dX0_mostFrom_89 rfl ?_
      refine xmX0_max E ⟨by have := hR.1; omega, by have := hR.2; omega⟩ (by first | exact Nat.le_of_ble_eq_true rfl | decide) ⟨Nat.zero_le _, Nat.zero_le _⟩ dX0_mostFrom_90 rfl ?_
      refine cf_istore E dX0_mostFrom_93 h (fun x4_3 => [(4, .int x4_3), (0, .ref (xa g 0)), (1, .int x1), (2, .int x2), (3, .int x3), (5, .int x5)]) (Nat.le_of_ble_eq_true rfl) (fun _ => rfl) rfl (fun x4_3 h => ?_)
      exact CF.sub [1, 2, 3, 4, 0, 5] rfl (wx0_mostFrom_95 E dp hself hR hq N ih40 x1 x2 x3 x4_3 x5 s_1 h)
set_option maxHeartbeats 4000000 in
theorem wx0_mostFrom_40 {p : Program} {l : Launch} {e : Env} {R : Room} {s : State} {m : MethodId} {args : Array Value} {below : List Frame} {meth : Method} {c : Code} {A : Nat → Prop} {g : XG} {Q : State → Prop} (E : EV p s m args c cX0_mostFrom 6 RX0) (dp : Nat) {self : Int32 → Int32 → Int32 → XS → Option (Int32 × XS)} (hself : ∀  (x1 : Int32) (x2 : Int32) (x3 : Int32) (ξ : XS), ∀ (v : Int32) (ξ1 : XS), self  x1 x2 x3 ξ = some (v, ξ1) → MetXi l g yX0_mostFrom (ws_ yX0_mostFrom cX0_mostFrom 6 (some .int)) { frames := 1 + dp, cells := 0, slots := 0, locals := 40 + 25 * dp } [.ref (xa g 0), .int x1, .int x2, .int x3] ξ v ξ1 0 0) (hR : 1 + dp + 1 ≤ R.frames ∧ 40 + 25 * dp + 25 ≤ R.locals) {res : Int32 × XS} (hq : XTi p l e R s m args below meth c cX0_mostFrom 6 0 0 A g .int Q res) (N : Nat)    : ∀ (k : Nat) (x1 : Int32) (x2 : Int32) (x3 : Int32) (x4 : Int32) (x5 : Int32) (ξ : XS), x0_mostFrom_40 N g self   k x1 x2 x3 x4 x5 ξ = some res → CF p l e R s m args below meth c 6 0 0 (XB g A s ξ) Q 40 [(0, .ref (xa g 0)), (1, .int x1), (2, .int x2), (3, .int x3), (4, .int x4), (5, .int x5)] [] := by
  intro k
  induction k with
  | zero => intro x1 x2 x3 x4 x5 ξ h; have h : (none : Option (Int32 × XS)) = some res := h; cases h
  | succ k ih => intro x1 x2 x3 x4 x5 ξ h; exact wx0_mostFrom_40b E dp hself hR hq N    ih x1 x2 x3 x4 x5 ξ h
set_option maxHeartbeats 4000000 in
theorem met_x0_mostFrom_s (l : Launch) (g : XG) (N : Nat) (dp : Nat) {self : Int32 → Int32 → Int32 → XS → Option (Int32 × XS)} (hself : ∀  (x1 : Int32) (x2 : Int32) (x3 : Int32) (ξ : XS), ∀ (v : Int32) (ξ1 : XS), self  x1 x2 x3 ξ = some (v, ξ1) → MetXi l g yX0_mostFrom (ws_ yX0_mostFrom cX0_mostFrom 6 (some .int)) { frames := 1 + dp, cells := 0, slots := 0, locals := 40 + 25 * dp } [.ref (xa g 0), .int x1, .int x2, .int x3] ξ v ξ1 0 0)   (x1 : Int32) (x2 : Int32) (x3 : Int32) (ξ : XS) {v : Int32} {ξ1 : XS} (h : x0_mostFrom_s N g self  x1 x2 x3 ξ = some (v, ξ1)) : MetXi l g yX0_mostFrom (ws_ yX0_mostFrom cX0_mostFrom 6 (some .int)) { frames := 1 + (dp + 1), cells := 0, slots := 0, locals := 40 + 25 * (dp + 1) } [.ref (xa g 0), .int x1, .int x2, .int x3] ξ v ξ1 0 0 := by
  refine met_xi (lv0 := [(0, .ref (xa g 0)), (1, .int x1), (2, .int x2), (3, .int x3)]) (own := RX0) (by decide) rfl (Nat.le_of_ble_eq_true rfl) rfl ?_
  intro p e s m below meth c A Q E hq
  have hR : 1 + dp + 1 ≤ ({ frames := 1 + (dp + 1), cells := 0, slots := 0, locals := 40 + 25 * (dp + 1) } : Room).frames ∧ 40 + 25 * dp + 25 ≤ ({ frames := 1 + (dp + 1), cells := 0, slots := 0, locals := 40 + 25 * (dp + 1) } : Room).locals := ⟨Nat.le_refl _, by show _ ≤ 40 + 25 * (dp + 1); omega⟩
  unfold x0_mostFrom_s at h
  refine cf_iload_n E dX0_mostFrom_0 2 rfl rfl ?_
  refine cf_aload_n E dX0_mostFrom_1 0 rfl rfl ?_
  refine xgX0_134 E dX0_mostFrom_2 rfl ?_
  refine cf_icmp_ne E dX0_mostFrom_5 h rfl rfl (fun h => ?_) (fun h => ?_)
  · refine cf_aload_n E dX0_mostFrom_10 0 rfl rfl ?_
    refine cf_iload_n E dX0_mostFrom_11 1 rfl rfl ?_
    refine cf_iload_n E dX0_mostFrom_12 2 rfl rfl ?_
    refine cf_iconst E dX0_mostFrom_13 ic_1 rfl ?_
    refine cf_iadd E dX0_mostFrom_14 rfl ?_
    refine cf_iload_n E dX0_mostFrom_15 3 rfl rfl ?_
    refine xclX0_299_s E hself ⟨by have := hR.1; omega, by have := hR.2; omega⟩ (Nat.le_of_ble_eq_true rfl) ⟨Nat.zero_le _, Nat.zero_le _⟩ dX0_mostFrom_16 h rfl (fun v_2 s_1 h => ?_)
    refine cf_istore E dX0_mostFrom_19 h (fun x4_3 => [(4, .int x4_3), (0, .ref (xa g 0)), (1, .int x1), (2, .int x2), (3, .int x3)]) (Nat.le_of_ble_eq_true rfl) (fun _ => rfl) rfl (fun x4_3 h => ?_)
    refine cf_aload_n E dX0_mostFrom_21 1 rfl rfl ?_
    refine xgX0_23 E dX0_mostFrom_22 rfl ?_
    refine cf_iload_n E dX0_mostFrom_25 3 rfl rfl ?_
    refine xaldq_3 E dX0_mostFrom_26 h rfl (fun b_4 h => ?_)
    refine xdgX0_184 E dX0_mostFrom_27 h rfl (fun v_5 h => ?_)
    refine cf_iload_n E dX0_mostFrom_30 2 rfl rfl ?_
    refine cf_icmp_eq E dX0_mostFrom_31 h rfl rfl (fun h => ?_) (fun h => ?_)
    · refine cf_iconst E dX0_mostFrom_37 ic_0 rfl ?_
      refine cf_istore E dX0_mostFrom_38 h (fun x5_6 => [(5, .int x5_6), (4, .int x4_3), (0, .ref (xa g 0)), (1, .int x1), (2, .int x2), (3, .int x3)]) (Nat.le_of_ble_eq_true rfl) (fun _ => rfl) rfl (fun x5_6 h => ?_)
      exact CF.sub [2, 3, 4, 5, 1, 0] rfl (wx0_mostFrom_40 E dp hself hR hq N N x1 x2 x3 x4_3 x5_6 s_1 h)
    · refine cf_iload E dX0_mostFrom_34 0 rfl rfl ?_
      exact xret_i dX0_mostFrom_36 h rfl hq
  · refine cf_iconst E dX0_mostFrom_8 ic_0 rfl ?_
    exact xret_i dX0_mostFrom_9 h rfl hq
set_option maxHeartbeats 4000000 in
theorem met_x0_mostFrom (l : Launch) (g : XG) (N : Nat) : ∀ (dp : Nat)  (x1 : Int32) (x2 : Int32) (x3 : Int32) (ξ : XS) (v : Int32) (ξ1 : XS), x0_mostFrom N g dp  x1 x2 x3 ξ = some (v, ξ1) → MetXi l g yX0_mostFrom (ws_ yX0_mostFrom cX0_mostFrom 6 (some .int)) { frames := 1 + dp, cells := 0, slots := 0, locals := 40 + 25 * dp } [.ref (xa g 0), .int x1, .int x2, .int x3] ξ v ξ1 0 0 := by
  intro dp
  induction dp with
  | zero => intro  x1 x2 x3 ξ v ξ1 h; have h : (none : Option (Int32 × XS)) = some (v, ξ1) := h; cases h
  | succ dp ih => intro  x1 x2 x3 ξ v ξ1 h; exact met_x0_mostFrom_s l g N dp ih  x1 x2 x3 ξ h
def x0_told (N : Nat) (g : XG)   (x1 : Int32) (ξ : XS) : Option (Int32 × XS) :=
  if x1 = 0 then (
    some ((xF ξ 203), ξ))
  else (
    if x1 = (1 : Int32) then (
      bno (xo ξ 11) fun w_9 =>
      bno (dI ξ w_9 3 3 3) fun v_10 =>
      some (v_10, ξ))
    else (
      bnd (x0_isTrade N g (x1 - (10 : Int32)) ξ) fun v_2 s_1 =>
      if v_2 = 0 then (
        bnd (x0_isTrade N g (x1 - (20 : Int32)) s_1) fun v_4 s_3 =>
        if v_4 = 0 then (
          some ((-1 : Int32), s_3))
        else (
          bno (xo s_3 11) fun w_5 =>
          bno (dR s_3 w_5 3 3 1) fun b_6 =>
          bnd (dA s_3 b_6 (xc g 0)) fun n_7 f_8 =>
          if inb (x1 - (20 : Int32)) n_7 = true then (
          some ((f_8 (x1 - (20 : Int32)).toNatClampNeg), s_3)) else none))
      else (
        if inb (x1 - (10 : Int32)) 5 = true then (
        some ((xR s_1 7 (x1 - (10 : Int32)).toNatClampNeg), s_1)) else none)))
section XC
variable {p : Program} {l : Launch} {e : Env} {R : Room} {s : State} {m : MethodId} {args : Array Value} {below : List Frame} {meth : Method} {c : Code} {nL cells slots : Nat} {A : Nat → Prop} {g : XG} {ξ : XS} {Q : State → Prop} {pc n : Nat} {lv : List (Nat × Value)} {st : List Value} {cc : ByteArray} {ρ : Type} {res : ρ}
theorem xclX0_161 (E : EV p s m args c cc nL RX0) {N : Nat}   {x0 : Int32} {kk : Int32 → XS → Option ρ} (hR : 2 ≤ R.frames ∧ 42 ≤ R.locals) (hcat : (st.map fun v => v.category).sum ≤ 8) (hf : cells ≤ R.cells ∧ slots ≤ R.slots) (d : decode cc pc = .ok (.invokestatic 161, 3)) (h : bnd (x0_isTrade N g  x0 ξ) kk = some res) (hn : pc + 3 = n) (k : ∀ (v : Int32) (ξ1 : XS), kk v ξ1 = some res → CF p l e R s m args below meth c nL cells slots (XB g A s ξ1) Q n lv (.int v :: st)) : CF p l e R s m args below meth c nL cells slots (XB g A s ξ) Q pc lv (.int x0 :: st) :=
  xcallS0_i (na := 1) E [.int x0] (fun v ξ1 ho => met_x0_isTrade l g N   x0 ξ ho) (lw_S q422 q423 q96 q424) (by decide +kernel) rfl rfl hR rfl rfl hcat hf d h hn k
end XC
set_option maxHeartbeats 4000000 in
theorem met_x0_told (l : Launch) (g : XG) (N : Nat)   (x1 : Int32) (ξ : XS) {v : Int32} {ξ1 : XS} (h : x0_told N g  x1 ξ = some (v, ξ1)) : MetXi l g yX0_told (ws_ yX0_told cX0_told 2 (some .int)) { frames := 2, cells := 0, slots := 0, locals := 42 } [.ref (xa g 0), .int x1] ξ v ξ1 0 0 := by
  refine met_xi (lv0 := [(0, .ref (xa g 0)), (1, .int x1)]) (own := RX0) (by decide) rfl (Nat.le_of_ble_eq_true rfl) rfl ?_
  intro p e s m below meth c A Q E hq
  have hR : 2 ≤ ({ frames := 2, cells := 0, slots := 0, locals := 42 } : Room).frames ∧ 42 ≤ ({ frames := 2, cells := 0, slots := 0, locals := 42 } : Room).locals := ⟨Nat.le_refl _, Nat.le_refl _⟩
  unfold x0_told at h
  refine cf_iload_n E dX0_told_0 1 rfl rfl ?_
  refine cf_if_ne E dX0_told_1 h rfl rfl (fun h => ?_) (fun h => ?_)
  · refine cf_iload_n E dX0_told_12 1 rfl rfl ?_
    refine cf_iconst E dX0_told_13 ic_1 rfl ?_
    refine cf_icmp_ne E dX0_told_14 h rfl rfl (fun h => ?_) (fun h => ?_)
    · refine cf_iload_n E dX0_told_25 1 rfl rfl ?_
      refine cf_bipush E dX0_told_26 bp_10 rfl ?_
      refine cf_isub E dX0_told_28 rfl ?_
      refine xclX0_161 E (rmle hR rfl rfl) (Nat.le_of_ble_eq_true rfl) ⟨Nat.zero_le _, Nat.zero_le _⟩ dX0_told_29 h rfl (fun v_2 s_1 h => ?_)
      refine cf_if_eq E dX0_told_32 h rfl rfl (fun h => ?_) (fun h => ?_)
      · refine cf_iload_n E dX0_told_47 1 rfl rfl ?_
        refine cf_bipush E dX0_told_48 bp_20 rfl ?_
        refine cf_isub E dX0_told_50 rfl ?_
        refine xclX0_161 E (rmle hR rfl rfl) (Nat.le_of_ble_eq_true rfl) ⟨Nat.zero_le _, Nat.zero_le _⟩ dX0_told_51 h rfl (fun v_4 s_3 h => ?_)
        refine cf_if_eq E dX0_told_54 h rfl rfl (fun h => ?_) (fun h => ?_)
        · refine cf_iconst E dX0_told_72 ic_m1 rfl ?_
          exact xret_i dX0_told_73 h rfl hq
        · refine cf_aload_n E dX0_told_57 0 rfl rfl ?_
          refine xgX0_47 E dX0_told_58 rfl (xforce h (fun w_5 h => ?_))
          refine xdgX0_250 E dX0_told_61 h rfl (fun b_6 h => ?_)
          refine cf_iload_n E dX0_told_64 1 rfl rfl ?_
          refine cf_bipush E dX0_told_65 bp_20 rfl ?_
          refine cf_isub E dX0_told_67 rfl ?_
          refine xdald_i E dX0_told_68 h rfl (fun n_7 f_8 h => ?_)
          refine cf_goto E dX0_told_69 rfl ?_
          exact xret_i dX0_told_73 h rfl hq
      · refine cf_aload_n E dX0_told_35 0 rfl rfl ?_
        refine xgX0_37 E dX0_told_36 rfl ?_
        refine cf_iload_n E dX0_told_39 1 rfl rfl ?_
        refine cf_bipush E dX0_told_40 bp_10 rfl ?_
        refine cf_isub E dX0_told_42 rfl ?_
        refine xald_7 E dX0_told_43 h rfl (fun h => ?_)
        refine cf_goto E dX0_told_44 rfl ?_
        exact xret_i dX0_told_73 h rfl hq
    · refine cf_aload_n E dX0_told_17 0 rfl rfl ?_
      refine xgX0_47 E dX0_told_18 rfl (xforce h (fun w_9 h => ?_))
      refine xdgX0_247 E dX0_told_21 h rfl (fun v_10 h => ?_)
      exact xret_i dX0_told_24 h rfl hq
  · refine cf_aload_n E dX0_told_4 0 rfl rfl ?_
    refine xgX0_30 E dX0_told_5 rfl ?_
    refine xgX0_190_0 E dX0_told_8 rfl ?_
    exact xret_i dX0_told_11 h rfl hq
