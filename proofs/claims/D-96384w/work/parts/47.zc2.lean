/-! HatsDecide, group c2: rows, functions, walks -/
set_option maxRecDepth 100000
section XC
variable {p : Program} {l : Launch} {e : Env} {R : Room} {s : State} {m : MethodId} {args : Array Value} {below : List Frame} {meth : Method} {c : Code} {nL cells slots : Nat} {A : Nat → Prop} {g : XG} {ξ : XS} {Q : State → Prop} {pc n : Nat} {lv : List (Nat × Value)} {st : List Value} {cc : ByteArray} {ρ : Type} {res : ρ}
theorem bp_13 : (Int8.ofInt 13).toInt32 = 13 := by decide +kernel
theorem bp_15 : (Int8.ofInt 15).toInt32 = 15 := by decide +kernel
theorem bp_16 : (Int8.ofInt 16).toInt32 = 16 := by decide +kernel
theorem bp_97 : (Int8.ofInt 97).toInt32 = 97 := by decide +kernel
theorem bp_101 : (Int8.ofInt 101).toInt32 = 101 := by decide +kernel
theorem bp_103 : (Int8.ofInt 103).toInt32 = 103 := by decide +kernel
theorem bp_104 : (Int8.ofInt 104).toInt32 = 104 := by decide +kernel
theorem bp_105 : (Int8.ofInt 105).toInt32 = 105 := by decide +kernel
theorem bp_107 : (Int8.ofInt 107).toInt32 = 107 := by decide +kernel
theorem bp_108 : (Int8.ofInt 108).toInt32 = 108 := by decide +kernel
theorem bp_109 : (Int8.ofInt 109).toInt32 = 109 := by decide +kernel
theorem bp_111 : (Int8.ofInt 111).toInt32 = 111 := by decide +kernel
theorem bp_114 : (Int8.ofInt 114).toInt32 = 114 := by decide +kernel
theorem bp_115 : (Int8.ofInt 115).toInt32 = 115 := by decide +kernel
theorem bp_116 : (Int8.ofInt 116).toInt32 = 116 := by decide +kernel
theorem bp_117 : (Int8.ofInt 117).toInt32 = 117 := by decide +kernel
theorem bp_119 : (Int8.ofInt 119).toInt32 = 119 := by decide +kernel
theorem sp_360 : (Int16.ofInt 360).toInt32 = 360 := by decide +kernel
theorem sp_448 : (Int16.ofInt 448).toInt32 = 448 := by decide +kernel
theorem sp_600 : (Int16.ofInt 600).toInt32 = 600 := by decide +kernel
theorem xdqX6_7 (E : EV p s m args c cc nL RX6) {a : Nat} {v : Int32} {kk : XS → Prop} (d : decode cc pc = .ok (.putfield 7, 3)) (h : bndp (dO ξ a) (fun ci fs => (if (ci = 0 ∧ 0 < fs.length) then nx (sXd ξ a (.inr (ci, fs.set 0 (.int v)))) kk else False))) (hn : pc + 3 = n) (k : ∀ ξ1 : XS, kk ξ1 → CF p l e R s m args below meth c nL cells slots (XB_0 g A s ξ1) Q n lv st) : CF p l e R s m args below meth c nL cells slots (XB_0 g A s ξ) Q pc lv (.int v :: .ref a :: st) := by
  obtain ⟨ci, fs, hO, h⟩ := h
  by_cases hi : (ci = 0 ∧ 0 < fs.length)
  · have h : (if (ci = 0 ∧ 0 < fs.length) then nx (sXd ξ a (.inr (ci, fs.set 0 (.int v)))) kk else False) := h
    rw [if_pos hi] at h
    have he := dO_at hO
    obtain ⟨rfl, hi⟩ : ci = 0 ∧ _ := hi
    have hi : True ∧ _ := ⟨trivial, hi⟩
    exact xdp_0 (C9 := RX6) (T := TX6) (N := 78) (ci := 0) (j := 0) (ty := .int) E in_X6 tyX6 tyX6_ok nmX6 rfl he (by decide) q1501 (fun _ h9 => h9) rfl (by decide +kernel) rfl rfl hi.2 d hn (k _ h)
  · have h : (if (ci = 0 ∧ 0 < fs.length) then nx (sXd ξ a (.inr (ci, fs.set 0 (.int v)))) kk else False) := h
    rw [if_neg hi] at h; cases h
theorem xdqX6_13 (E : EV p s m args c cc nL RX6) {a : Nat} {v : Int32} {kk : XS → Prop} (d : decode cc pc = .ok (.putfield 13, 3)) (h : bndp (dO ξ a) (fun ci fs => (if (ci = 0 ∧ 1 < fs.length) then nx (sXd ξ a (.inr (ci, fs.set 1 (.int v)))) kk else False))) (hn : pc + 3 = n) (k : ∀ ξ1 : XS, kk ξ1 → CF p l e R s m args below meth c nL cells slots (XB_0 g A s ξ1) Q n lv st) : CF p l e R s m args below meth c nL cells slots (XB_0 g A s ξ) Q pc lv (.int v :: .ref a :: st) := by
  obtain ⟨ci, fs, hO, h⟩ := h
  by_cases hi : (ci = 0 ∧ 1 < fs.length)
  · have h : (if (ci = 0 ∧ 1 < fs.length) then nx (sXd ξ a (.inr (ci, fs.set 1 (.int v)))) kk else False) := h
    rw [if_pos hi] at h
    have he := dO_at hO
    obtain ⟨rfl, hi⟩ : ci = 0 ∧ _ := hi
    have hi : True ∧ _ := ⟨trivial, hi⟩
    exact xdp_0 (C9 := RX6) (T := TX6) (N := 78) (ci := 0) (j := 1) (ty := .int) E in_X6 tyX6 tyX6_ok nmX6 rfl he (by decide) q1502 (fun _ h9 => h9) rfl (by decide +kernel) rfl rfl hi.2 d hn (k _ h)
  · have h : (if (ci = 0 ∧ 1 < fs.length) then nx (sXd ξ a (.inr (ci, fs.set 1 (.int v)))) kk else False) := h
    rw [if_neg hi] at h; cases h
theorem xdqX6_16 (E : EV p s m args c cc nL RX6) {a : Nat} {v : Int32} {kk : XS → Prop} (d : decode cc pc = .ok (.putfield 16, 3)) (h : bndp (dO ξ a) (fun ci fs => (if (ci = 0 ∧ 2 < fs.length) then nx (sXd ξ a (.inr (ci, fs.set 2 (.int v)))) kk else False))) (hn : pc + 3 = n) (k : ∀ ξ1 : XS, kk ξ1 → CF p l e R s m args below meth c nL cells slots (XB_0 g A s ξ1) Q n lv st) : CF p l e R s m args below meth c nL cells slots (XB_0 g A s ξ) Q pc lv (.int v :: .ref a :: st) := by
  obtain ⟨ci, fs, hO, h⟩ := h
  by_cases hi : (ci = 0 ∧ 2 < fs.length)
  · have h : (if (ci = 0 ∧ 2 < fs.length) then nx (sXd ξ a (.inr (ci, fs.set 2 (.int v)))) kk else False) := h
    rw [if_pos hi] at h
    have he := dO_at hO
    obtain ⟨rfl, hi⟩ : ci = 0 ∧ _ := hi
    have hi : True ∧ _ := ⟨trivial, hi⟩
    exact xdp_0 (C9 := RX6) (T := TX6) (N := 78) (ci := 0) (j := 2) (ty := .int) E in_X6 tyX6 tyX6_ok nmX6 rfl he (by decide) q1503 (fun _ h9 => h9) rfl (by decide +kernel) rfl rfl hi.2 d hn (k _ h)
  · have h : (if (ci = 0 ∧ 2 < fs.length) then nx (sXd ξ a (.inr (ci, fs.set 2 (.int v)))) kk else False) := h
    rw [if_neg hi] at h; cases h
theorem xdqX6_19 (E : EV p s m args c cc nL RX6) {a : Nat} {v : Nat} {kk : XS → Prop} (hmn : meth.name = "<init>") (d : decode cc pc = .ok (.putfield 19, 3)) (h : bndp (dO ξ a) (fun ci fs => (if (ci = 0 ∧ 3 < fs.length) then nx (sXd ξ a (.inr (ci, fs.set 3 (.ref v)))) kk else False))) (hn : pc + 3 = n) (k : ∀ ξ1 : XS, kk ξ1 → CF p l e R s m args below meth c nL cells slots (XB_0 g A s ξ1) Q n lv st) : CF p l e R s m args below meth c nL cells slots (XB_0 g A s ξ) Q pc lv (.ref v :: .ref a :: st) := by
  obtain ⟨ci, fs, hO, h⟩ := h
  by_cases hi : (ci = 0 ∧ 3 < fs.length)
  · have h : (if (ci = 0 ∧ 3 < fs.length) then nx (sXd ξ a (.inr (ci, fs.set 3 (.ref v)))) kk else False) := h
    rw [if_pos hi] at h
    have he := dO_at hO
    obtain ⟨rfl, hi⟩ : ci = 0 ∧ _ := hi
    have hi : True ∧ _ := ⟨trivial, hi⟩
    exact xdpF_0 (C9 := RX6) (T := TX6) (N := 78) (ci := 0) (j := 3) (ty := .array .int) E in_X6 (fun D9 hK9 => va_apart (own := RX6) E.2.2.2.2 in_X6 tyX6 tyX6_ok nmX6 hK9 rfl) rfl he (by decide) q1504 (fun _ h9 => h9) rfl hmn rfl (by decide +kernel) rfl rfl hi.2 d hn (k _ h)
  · have h : (if (ci = 0 ∧ 3 < fs.length) then nx (sXd ξ a (.inr (ci, fs.set 3 (.ref v)))) kk else False) := h
    rw [if_neg hi] at h; cases h
theorem xdqX6_23 (E : EV p s m args c cc nL RX6) {a : Nat} {v : Nat} {kk : XS → Prop} (hmn : meth.name = "<init>") (d : decode cc pc = .ok (.putfield 23, 3)) (h : bndp (dO ξ a) (fun ci fs => (if (ci = 0 ∧ 4 < fs.length) then nx (sXd ξ a (.inr (ci, fs.set 4 (.ref v)))) kk else False))) (hn : pc + 3 = n) (k : ∀ ξ1 : XS, kk ξ1 → CF p l e R s m args below meth c nL cells slots (XB_0 g A s ξ1) Q n lv st) : CF p l e R s m args below meth c nL cells slots (XB_0 g A s ξ) Q pc lv (.ref v :: .ref a :: st) := by
  obtain ⟨ci, fs, hO, h⟩ := h
  by_cases hi : (ci = 0 ∧ 4 < fs.length)
  · have h : (if (ci = 0 ∧ 4 < fs.length) then nx (sXd ξ a (.inr (ci, fs.set 4 (.ref v)))) kk else False) := h
    rw [if_pos hi] at h
    have he := dO_at hO
    obtain ⟨rfl, hi⟩ : ci = 0 ∧ _ := hi
    have hi : True ∧ _ := ⟨trivial, hi⟩
    exact xdpF_0 (C9 := RX6) (T := TX6) (N := 78) (ci := 0) (j := 4) (ty := .array .int) E in_X6 (fun D9 hK9 => va_apart (own := RX6) E.2.2.2.2 in_X6 tyX6 tyX6_ok nmX6 hK9 rfl) rfl he (by decide) q1505 (fun _ h9 => h9) rfl hmn rfl (by decide +kernel) rfl rfl hi.2 d hn (k _ h)
  · have h : (if (ci = 0 ∧ 4 < fs.length) then nx (sXd ξ a (.inr (ci, fs.set 4 (.ref v)))) kk else False) := h
    rw [if_neg hi] at h; cases h
theorem xdqX6_26 (E : EV p s m args c cc nL RX6) {a : Nat} {v : Nat} {kk : XS → Prop} (hmn : meth.name = "<init>") (d : decode cc pc = .ok (.putfield 26, 3)) (h : bndp (dO ξ a) (fun ci fs => (if (ci = 0 ∧ 5 < fs.length) then nx (sXd ξ a (.inr (ci, fs.set 5 (.ref v)))) kk else False))) (hn : pc + 3 = n) (k : ∀ ξ1 : XS, kk ξ1 → CF p l e R s m args below meth c nL cells slots (XB_0 g A s ξ1) Q n lv st) : CF p l e R s m args below meth c nL cells slots (XB_0 g A s ξ) Q pc lv (.ref v :: .ref a :: st) := by
  obtain ⟨ci, fs, hO, h⟩ := h
  by_cases hi : (ci = 0 ∧ 5 < fs.length)
  · have h : (if (ci = 0 ∧ 5 < fs.length) then nx (sXd ξ a (.inr (ci, fs.set 5 (.ref v)))) kk else False) := h
    rw [if_pos hi] at h
    have he := dO_at hO
    obtain ⟨rfl, hi⟩ : ci = 0 ∧ _ := hi
    have hi : True ∧ _ := ⟨trivial, hi⟩
    exact xdpF_0 (C9 := RX6) (T := TX6) (N := 78) (ci := 0) (j := 5) (ty := .array .int) E in_X6 (fun D9 hK9 => va_apart (own := RX6) E.2.2.2.2 in_X6 tyX6 tyX6_ok nmX6 hK9 rfl) rfl he (by decide) q1506 (fun _ h9 => h9) rfl hmn rfl (by decide +kernel) rfl rfl hi.2 d hn (k _ h)
  · have h : (if (ci = 0 ∧ 5 < fs.length) then nx (sXd ξ a (.inr (ci, fs.set 5 (.ref v)))) kk else False) := h
    rw [if_neg hi] at h; cases h
theorem xdqX6_29 (E : EV p s m args c cc nL RX6) {a : Nat} {v : Nat} {kk : XS → Prop} (hmn : meth.name = "<init>") (d : decode cc pc = .ok (.putfield 29, 3)) (h : bndp (dO ξ a) (fun ci fs => (if (ci = 0 ∧ 6 < fs.length) then nx (sXd ξ a (.inr (ci, fs.set 6 (.ref v)))) kk else False))) (hn : pc + 3 = n) (k : ∀ ξ1 : XS, kk ξ1 → CF p l e R s m args below meth c nL cells slots (XB_0 g A s ξ1) Q n lv st) : CF p l e R s m args below meth c nL cells slots (XB_0 g A s ξ) Q pc lv (.ref v :: .ref a :: st) := by
  obtain ⟨ci, fs, hO, h⟩ := h
  by_cases hi : (ci = 0 ∧ 6 < fs.length)
  · have h : (if (ci = 0 ∧ 6 < fs.length) then nx (sXd ξ a (.inr (ci, fs.set 6 (.ref v)))) kk else False) := h
    rw [if_pos hi] at h
    have he := dO_at hO
    obtain ⟨rfl, hi⟩ : ci = 0 ∧ _ := hi
    have hi : True ∧ _ := ⟨trivial, hi⟩
    exact xdpF_0 (C9 := RX6) (T := TX6) (N := 78) (ci := 0) (j := 6) (ty := .array .int) E in_X6 (fun D9 hK9 => va_apart (own := RX6) E.2.2.2.2 in_X6 tyX6 tyX6_ok nmX6 hK9 rfl) rfl he (by decide) q1507 (fun _ h9 => h9) rfl hmn rfl (by decide +kernel) rfl rfl hi.2 d hn (k _ h)
  · have h : (if (ci = 0 ∧ 6 < fs.length) then nx (sXd ξ a (.inr (ci, fs.set 6 (.ref v)))) kk else False) := h
    rw [if_neg hi] at h; cases h
theorem xdqX6_32 (E : EV p s m args c cc nL RX6) {a : Nat} {v : Nat} {kk : XS → Prop} (hmn : meth.name = "<init>") (d : decode cc pc = .ok (.putfield 32, 3)) (h : bndp (dO ξ a) (fun ci fs => (if (ci = 0 ∧ 7 < fs.length) then nx (sXd ξ a (.inr (ci, fs.set 7 (.ref v)))) kk else False))) (hn : pc + 3 = n) (k : ∀ ξ1 : XS, kk ξ1 → CF p l e R s m args below meth c nL cells slots (XB_0 g A s ξ1) Q n lv st) : CF p l e R s m args below meth c nL cells slots (XB_0 g A s ξ) Q pc lv (.ref v :: .ref a :: st) := by
  obtain ⟨ci, fs, hO, h⟩ := h
  by_cases hi : (ci = 0 ∧ 7 < fs.length)
  · have h : (if (ci = 0 ∧ 7 < fs.length) then nx (sXd ξ a (.inr (ci, fs.set 7 (.ref v)))) kk else False) := h
    rw [if_pos hi] at h
    have he := dO_at hO
    obtain ⟨rfl, hi⟩ : ci = 0 ∧ _ := hi
    have hi : True ∧ _ := ⟨trivial, hi⟩
    exact xdpF_0 (C9 := RX6) (T := TX6) (N := 78) (ci := 0) (j := 7) (ty := .array .int) E in_X6 (fun D9 hK9 => va_apart (own := RX6) E.2.2.2.2 in_X6 tyX6 tyX6_ok nmX6 hK9 rfl) rfl he (by decide) q1508 (fun _ h9 => h9) rfl hmn rfl (by decide +kernel) rfl rfl hi.2 d hn (k _ h)
  · have h : (if (ci = 0 ∧ 7 < fs.length) then nx (sXd ξ a (.inr (ci, fs.set 7 (.ref v)))) kk else False) := h
    rw [if_neg hi] at h; cases h
theorem xdqX6_35 (E : EV p s m args c cc nL RX6) {a : Nat} {v : Nat} {kk : XS → Prop} (hmn : meth.name = "<init>") (d : decode cc pc = .ok (.putfield 35, 3)) (h : bndp (dO ξ a) (fun ci fs => (if (ci = 0 ∧ 8 < fs.length) then nx (sXd ξ a (.inr (ci, fs.set 8 (.ref v)))) kk else False))) (hn : pc + 3 = n) (k : ∀ ξ1 : XS, kk ξ1 → CF p l e R s m args below meth c nL cells slots (XB_0 g A s ξ1) Q n lv st) : CF p l e R s m args below meth c nL cells slots (XB_0 g A s ξ) Q pc lv (.ref v :: .ref a :: st) := by
  obtain ⟨ci, fs, hO, h⟩ := h
  by_cases hi : (ci = 0 ∧ 8 < fs.length)
  · have h : (if (ci = 0 ∧ 8 < fs.length) then nx (sXd ξ a (.inr (ci, fs.set 8 (.ref v)))) kk else False) := h
    rw [if_pos hi] at h
    have he := dO_at hO
    obtain ⟨rfl, hi⟩ : ci = 0 ∧ _ := hi
    have hi : True ∧ _ := ⟨trivial, hi⟩
    exact xdpF_0 (C9 := RX6) (T := TX6) (N := 78) (ci := 0) (j := 8) (ty := .array .int) E in_X6 (fun D9 hK9 => va_apart (own := RX6) E.2.2.2.2 in_X6 tyX6 tyX6_ok nmX6 hK9 rfl) rfl he (by decide) q1509 (fun _ h9 => h9) rfl hmn rfl (by decide +kernel) rfl rfl hi.2 d hn (k _ h)
  · have h : (if (ci = 0 ∧ 8 < fs.length) then nx (sXd ξ a (.inr (ci, fs.set 8 (.ref v)))) kk else False) := h
    rw [if_neg hi] at h; cases h
theorem xdqX6_38 (E : EV p s m args c cc nL RX6) {a : Nat} {v : Nat} {kk : XS → Prop} (hmn : meth.name = "<init>") (d : decode cc pc = .ok (.putfield 38, 3)) (h : bndp (dO ξ a) (fun ci fs => (if (ci = 0 ∧ 9 < fs.length) then nx (sXd ξ a (.inr (ci, fs.set 9 (.ref v)))) kk else False))) (hn : pc + 3 = n) (k : ∀ ξ1 : XS, kk ξ1 → CF p l e R s m args below meth c nL cells slots (XB_0 g A s ξ1) Q n lv st) : CF p l e R s m args below meth c nL cells slots (XB_0 g A s ξ) Q pc lv (.ref v :: .ref a :: st) := by
  obtain ⟨ci, fs, hO, h⟩ := h
  by_cases hi : (ci = 0 ∧ 9 < fs.length)
  · have h : (if (ci = 0 ∧ 9 < fs.length) then nx (sXd ξ a (.inr (ci, fs.set 9 (.ref v)))) kk else False) := h
    rw [if_pos hi] at h
    have he := dO_at hO
    obtain ⟨rfl, hi⟩ : ci = 0 ∧ _ := hi
    have hi : True ∧ _ := ⟨trivial, hi⟩
    exact xdpF_0 (C9 := RX6) (T := TX6) (N := 78) (ci := 0) (j := 9) (ty := .array .int) E in_X6 (fun D9 hK9 => va_apart (own := RX6) E.2.2.2.2 in_X6 tyX6 tyX6_ok nmX6 hK9 rfl) rfl he (by decide) q1510 (fun _ h9 => h9) rfl hmn rfl (by decide +kernel) rfl rfl hi.2 d hn (k _ h)
  · have h : (if (ci = 0 ∧ 9 < fs.length) then nx (sXd ξ a (.inr (ci, fs.set 9 (.ref v)))) kk else False) := h
    rw [if_neg hi] at h; cases h
theorem xdqX6_41 (E : EV p s m args c cc nL RX6) {a : Nat} {v : Nat} {kk : XS → Prop} (hmn : meth.name = "<init>") (d : decode cc pc = .ok (.putfield 41, 3)) (h : bndp (dO ξ a) (fun ci fs => (if (ci = 0 ∧ 10 < fs.length) then nx (sXd ξ a (.inr (ci, fs.set 10 (.ref v)))) kk else False))) (hn : pc + 3 = n) (k : ∀ ξ1 : XS, kk ξ1 → CF p l e R s m args below meth c nL cells slots (XB_0 g A s ξ1) Q n lv st) : CF p l e R s m args below meth c nL cells slots (XB_0 g A s ξ) Q pc lv (.ref v :: .ref a :: st) := by
  obtain ⟨ci, fs, hO, h⟩ := h
  by_cases hi : (ci = 0 ∧ 10 < fs.length)
  · have h : (if (ci = 0 ∧ 10 < fs.length) then nx (sXd ξ a (.inr (ci, fs.set 10 (.ref v)))) kk else False) := h
    rw [if_pos hi] at h
    have he := dO_at hO
    obtain ⟨rfl, hi⟩ : ci = 0 ∧ _ := hi
    have hi : True ∧ _ := ⟨trivial, hi⟩
    exact xdpF_0 (C9 := RX6) (T := TX6) (N := 78) (ci := 0) (j := 10) (ty := .array .int) E in_X6 (fun D9 hK9 => va_apart (own := RX6) E.2.2.2.2 in_X6 tyX6 tyX6_ok nmX6 hK9 rfl) rfl he (by decide) q1511 (fun _ h9 => h9) rfl hmn rfl (by decide +kernel) rfl rfl hi.2 d hn (k _ h)
  · have h : (if (ci = 0 ∧ 10 < fs.length) then nx (sXd ξ a (.inr (ci, fs.set 10 (.ref v)))) kk else False) := h
    rw [if_neg hi] at h; cases h
theorem xdqX6_44 (E : EV p s m args c cc nL RX6) {a : Nat} {v : Nat} {kk : XS → Prop} (hmn : meth.name = "<init>") (d : decode cc pc = .ok (.putfield 44, 3)) (h : bndp (dO ξ a) (fun ci fs => (if (ci = 0 ∧ 11 < fs.length) then nx (sXd ξ a (.inr (ci, fs.set 11 (.ref v)))) kk else False))) (hn : pc + 3 = n) (k : ∀ ξ1 : XS, kk ξ1 → CF p l e R s m args below meth c nL cells slots (XB_0 g A s ξ1) Q n lv st) : CF p l e R s m args below meth c nL cells slots (XB_0 g A s ξ) Q pc lv (.ref v :: .ref a :: st) := by
  obtain ⟨ci, fs, hO, h⟩ := h
  by_cases hi : (ci = 0 ∧ 11 < fs.length)
  · have h : (if (ci = 0 ∧ 11 < fs.length) then nx (sXd ξ a (.inr (ci, fs.set 11 (.ref v)))) kk else False) := h
    rw [if_pos hi] at h
    have he := dO_at hO
    obtain ⟨rfl, hi⟩ : ci = 0 ∧ _ := hi
    have hi : True ∧ _ := ⟨trivial, hi⟩
    exact xdpF_0 (C9 := RX6) (T := TX6) (N := 78) (ci := 0) (j := 11) (ty := .array .int) E in_X6 (fun D9 hK9 => va_apart (own := RX6) E.2.2.2.2 in_X6 tyX6 tyX6_ok nmX6 hK9 rfl) rfl he (by decide) q1512 (fun _ h9 => h9) rfl hmn rfl (by decide +kernel) rfl rfl hi.2 d hn (k _ h)
  · have h : (if (ci = 0 ∧ 11 < fs.length) then nx (sXd ξ a (.inr (ci, fs.set 11 (.ref v)))) kk else False) := h
    rw [if_neg hi] at h; cases h
theorem xdqX6_47 (E : EV p s m args c cc nL RX6) {a : Nat} {v : Nat} {kk : XS → Prop} (hmn : meth.name = "<init>") (d : decode cc pc = .ok (.putfield 47, 3)) (h : bndp (dO ξ a) (fun ci fs => (if (ci = 0 ∧ 12 < fs.length) then nx (sXd ξ a (.inr (ci, fs.set 12 (.ref v)))) kk else False))) (hn : pc + 3 = n) (k : ∀ ξ1 : XS, kk ξ1 → CF p l e R s m args below meth c nL cells slots (XB_0 g A s ξ1) Q n lv st) : CF p l e R s m args below meth c nL cells slots (XB_0 g A s ξ) Q pc lv (.ref v :: .ref a :: st) := by
  obtain ⟨ci, fs, hO, h⟩ := h
  by_cases hi : (ci = 0 ∧ 12 < fs.length)
  · have h : (if (ci = 0 ∧ 12 < fs.length) then nx (sXd ξ a (.inr (ci, fs.set 12 (.ref v)))) kk else False) := h
    rw [if_pos hi] at h
    have he := dO_at hO
    obtain ⟨rfl, hi⟩ : ci = 0 ∧ _ := hi
    have hi : True ∧ _ := ⟨trivial, hi⟩
    exact xdpF_0 (C9 := RX6) (T := TX6) (N := 78) (ci := 0) (j := 12) (ty := .array .int) E in_X6 (fun D9 hK9 => va_apart (own := RX6) E.2.2.2.2 in_X6 tyX6 tyX6_ok nmX6 hK9 rfl) rfl he (by decide) q1513 (fun _ h9 => h9) rfl hmn rfl (by decide +kernel) rfl rfl hi.2 d hn (k _ h)
  · have h : (if (ci = 0 ∧ 12 < fs.length) then nx (sXd ξ a (.inr (ci, fs.set 12 (.ref v)))) kk else False) := h
    rw [if_neg hi] at h; cases h
theorem xdqX6_50 (E : EV p s m args c cc nL RX6) {a : Nat} {v : Nat} {kk : XS → Prop} (hmn : meth.name = "<init>") (d : decode cc pc = .ok (.putfield 50, 3)) (h : bndp (dO ξ a) (fun ci fs => (if (ci = 0 ∧ 13 < fs.length) then nx (sXd ξ a (.inr (ci, fs.set 13 (.ref v)))) kk else False))) (hn : pc + 3 = n) (k : ∀ ξ1 : XS, kk ξ1 → CF p l e R s m args below meth c nL cells slots (XB_0 g A s ξ1) Q n lv st) : CF p l e R s m args below meth c nL cells slots (XB_0 g A s ξ) Q pc lv (.ref v :: .ref a :: st) := by
  obtain ⟨ci, fs, hO, h⟩ := h
  by_cases hi : (ci = 0 ∧ 13 < fs.length)
  · have h : (if (ci = 0 ∧ 13 < fs.length) then nx (sXd ξ a (.inr (ci, fs.set 13 (.ref v)))) kk else False) := h
    rw [if_pos hi] at h
    have he := dO_at hO
    obtain ⟨rfl, hi⟩ : ci = 0 ∧ _ := hi
    have hi : True ∧ _ := ⟨trivial, hi⟩
    exact xdpF_0 (C9 := RX6) (T := TX6) (N := 78) (ci := 0) (j := 13) (ty := .array .int) E in_X6 (fun D9 hK9 => va_apart (own := RX6) E.2.2.2.2 in_X6 tyX6 tyX6_ok nmX6 hK9 rfl) rfl he (by decide) q1514 (fun _ h9 => h9) rfl hmn rfl (by decide +kernel) rfl rfl hi.2 d hn (k _ h)
  · have h : (if (ci = 0 ∧ 13 < fs.length) then nx (sXd ξ a (.inr (ci, fs.set 13 (.ref v)))) kk else False) := h
    rw [if_neg hi] at h; cases h
theorem xdqX6_53 (E : EV p s m args c cc nL RX6) {a : Nat} {v : Int32} {kk : XS → Prop} (d : decode cc pc = .ok (.putfield 53, 3)) (h : bndp (dO ξ a) (fun ci fs => (if (ci = 0 ∧ 14 < fs.length) then nx (sXd ξ a (.inr (ci, fs.set 14 (.int v)))) kk else False))) (hn : pc + 3 = n) (k : ∀ ξ1 : XS, kk ξ1 → CF p l e R s m args below meth c nL cells slots (XB_0 g A s ξ1) Q n lv st) : CF p l e R s m args below meth c nL cells slots (XB_0 g A s ξ) Q pc lv (.int v :: .ref a :: st) := by
  obtain ⟨ci, fs, hO, h⟩ := h
  by_cases hi : (ci = 0 ∧ 14 < fs.length)
  · have h : (if (ci = 0 ∧ 14 < fs.length) then nx (sXd ξ a (.inr (ci, fs.set 14 (.int v)))) kk else False) := h
    rw [if_pos hi] at h
    have he := dO_at hO
    obtain ⟨rfl, hi⟩ : ci = 0 ∧ _ := hi
    have hi : True ∧ _ := ⟨trivial, hi⟩
    exact xdp_0 (C9 := RX6) (T := TX6) (N := 78) (ci := 0) (j := 14) (ty := .int) E in_X6 tyX6 tyX6_ok nmX6 rfl he (by decide) q1515 (fun _ h9 => h9) rfl (by decide +kernel) rfl rfl hi.2 d hn (k _ h)
  · have h : (if (ci = 0 ∧ 14 < fs.length) then nx (sXd ξ a (.inr (ci, fs.set 14 (.int v)))) kk else False) := h
    rw [if_neg hi] at h; cases h
theorem xdqX6_56 (E : EV p s m args c cc nL RX6) {a : Nat} {v : Int32} {kk : XS → Prop} (d : decode cc pc = .ok (.putfield 56, 3)) (h : bndp (dO ξ a) (fun ci fs => (if (ci = 0 ∧ 15 < fs.length) then nx (sXd ξ a (.inr (ci, fs.set 15 (.int v)))) kk else False))) (hn : pc + 3 = n) (k : ∀ ξ1 : XS, kk ξ1 → CF p l e R s m args below meth c nL cells slots (XB_0 g A s ξ1) Q n lv st) : CF p l e R s m args below meth c nL cells slots (XB_0 g A s ξ) Q pc lv (.int v :: .ref a :: st) := by
  obtain ⟨ci, fs, hO, h⟩ := h
  by_cases hi : (ci = 0 ∧ 15 < fs.length)
  · have h : (if (ci = 0 ∧ 15 < fs.length) then nx (sXd ξ a (.inr (ci, fs.set 15 (.int v)))) kk else False) := h
    rw [if_pos hi] at h
    have he := dO_at hO
    obtain ⟨rfl, hi⟩ : ci = 0 ∧ _ := hi
    have hi : True ∧ _ := ⟨trivial, hi⟩
    exact xdp_0 (C9 := RX6) (T := TX6) (N := 78) (ci := 0) (j := 15) (ty := .int) E in_X6 tyX6 tyX6_ok nmX6 rfl he (by decide) q1516 (fun _ h9 => h9) rfl (by decide +kernel) rfl rfl hi.2 d hn (k _ h)
  · have h : (if (ci = 0 ∧ 15 < fs.length) then nx (sXd ξ a (.inr (ci, fs.set 15 (.int v)))) kk else False) := h
    rw [if_neg hi] at h; cases h
theorem xdqX6_59 (E : EV p s m args c cc nL RX6) {a : Nat} {v : Int32} {kk : XS → Prop} (d : decode cc pc = .ok (.putfield 59, 3)) (h : bndp (dO ξ a) (fun ci fs => (if (ci = 0 ∧ 16 < fs.length) then nx (sXd ξ a (.inr (ci, fs.set 16 (.int v)))) kk else False))) (hn : pc + 3 = n) (k : ∀ ξ1 : XS, kk ξ1 → CF p l e R s m args below meth c nL cells slots (XB_0 g A s ξ1) Q n lv st) : CF p l e R s m args below meth c nL cells slots (XB_0 g A s ξ) Q pc lv (.int v :: .ref a :: st) := by
  obtain ⟨ci, fs, hO, h⟩ := h
  by_cases hi : (ci = 0 ∧ 16 < fs.length)
  · have h : (if (ci = 0 ∧ 16 < fs.length) then nx (sXd ξ a (.inr (ci, fs.set 16 (.int v)))) kk else False) := h
    rw [if_pos hi] at h
    have he := dO_at hO
    obtain ⟨rfl, hi⟩ : ci = 0 ∧ _ := hi
    have hi : True ∧ _ := ⟨trivial, hi⟩
    exact xdp_0 (C9 := RX6) (T := TX6) (N := 78) (ci := 0) (j := 16) (ty := .int) E in_X6 tyX6 tyX6_ok nmX6 rfl he (by decide) q1517 (fun _ h9 => h9) rfl (by decide +kernel) rfl rfl hi.2 d hn (k _ h)
  · have h : (if (ci = 0 ∧ 16 < fs.length) then nx (sXd ξ a (.inr (ci, fs.set 16 (.int v)))) kk else False) := h
    rw [if_neg hi] at h; cases h
theorem xdqX6_62 (E : EV p s m args c cc nL RX6) {a : Nat} {v : Int32} {kk : XS → Prop} (d : decode cc pc = .ok (.putfield 62, 3)) (h : bndp (dO ξ a) (fun ci fs => (if (ci = 0 ∧ 17 < fs.length) then nx (sXd ξ a (.inr (ci, fs.set 17 (.int v)))) kk else False))) (hn : pc + 3 = n) (k : ∀ ξ1 : XS, kk ξ1 → CF p l e R s m args below meth c nL cells slots (XB_0 g A s ξ1) Q n lv st) : CF p l e R s m args below meth c nL cells slots (XB_0 g A s ξ) Q pc lv (.int v :: .ref a :: st) := by
  obtain ⟨ci, fs, hO, h⟩ := h
  by_cases hi : (ci = 0 ∧ 17 < fs.length)
  · have h : (if (ci = 0 ∧ 17 < fs.length) then nx (sXd ξ a (.inr (ci, fs.set 17 (.int v)))) kk else False) := h
    rw [if_pos hi] at h
    have he := dO_at hO
    obtain ⟨rfl, hi⟩ : ci = 0 ∧ _ := hi
    have hi : True ∧ _ := ⟨trivial, hi⟩
    exact xdp_0 (C9 := RX6) (T := TX6) (N := 78) (ci := 0) (j := 17) (ty := .int) E in_X6 tyX6 tyX6_ok nmX6 rfl he (by decide) q1518 (fun _ h9 => h9) rfl (by decide +kernel) rfl rfl hi.2 d hn (k _ h)
  · have h : (if (ci = 0 ∧ 17 < fs.length) then nx (sXd ξ a (.inr (ci, fs.set 17 (.int v)))) kk else False) := h
    rw [if_neg hi] at h; cases h
theorem xdqX6_65 (E : EV p s m args c cc nL RX6) {a : Nat} {v : Int32} {kk : XS → Prop} (d : decode cc pc = .ok (.putfield 65, 3)) (h : bndp (dO ξ a) (fun ci fs => (if (ci = 0 ∧ 18 < fs.length) then nx (sXd ξ a (.inr (ci, fs.set 18 (.int v)))) kk else False))) (hn : pc + 3 = n) (k : ∀ ξ1 : XS, kk ξ1 → CF p l e R s m args below meth c nL cells slots (XB_0 g A s ξ1) Q n lv st) : CF p l e R s m args below meth c nL cells slots (XB_0 g A s ξ) Q pc lv (.int v :: .ref a :: st) := by
  obtain ⟨ci, fs, hO, h⟩ := h
  by_cases hi : (ci = 0 ∧ 18 < fs.length)
  · have h : (if (ci = 0 ∧ 18 < fs.length) then nx (sXd ξ a (.inr (ci, fs.set 18 (.int v)))) kk else False) := h
    rw [if_pos hi] at h
    have he := dO_at hO
    obtain ⟨rfl, hi⟩ : ci = 0 ∧ _ := hi
    have hi : True ∧ _ := ⟨trivial, hi⟩
    exact xdp_0 (C9 := RX6) (T := TX6) (N := 78) (ci := 0) (j := 18) (ty := .int) E in_X6 tyX6 tyX6_ok nmX6 rfl he (by decide) q1519 (fun _ h9 => h9) rfl (by decide +kernel) rfl rfl hi.2 d hn (k _ h)
  · have h : (if (ci = 0 ∧ 18 < fs.length) then nx (sXd ξ a (.inr (ci, fs.set 18 (.int v)))) kk else False) := h
    rw [if_neg hi] at h; cases h
theorem xdqX6_68 (E : EV p s m args c cc nL RX6) {a : Nat} {v : Nat} {kk : XS → Prop} (hmn : meth.name = "<init>") (d : decode cc pc = .ok (.putfield 68, 3)) (h : bndp (dO ξ a) (fun ci fs => (if (ci = 0 ∧ 19 < fs.length) then nx (sXd ξ a (.inr (ci, fs.set 19 (.ref v)))) kk else False))) (hn : pc + 3 = n) (k : ∀ ξ1 : XS, kk ξ1 → CF p l e R s m args below meth c nL cells slots (XB_0 g A s ξ1) Q n lv st) : CF p l e R s m args below meth c nL cells slots (XB_0 g A s ξ) Q pc lv (.ref v :: .ref a :: st) := by
  obtain ⟨ci, fs, hO, h⟩ := h
  by_cases hi : (ci = 0 ∧ 19 < fs.length)
  · have h : (if (ci = 0 ∧ 19 < fs.length) then nx (sXd ξ a (.inr (ci, fs.set 19 (.ref v)))) kk else False) := h
    rw [if_pos hi] at h
    have he := dO_at hO
    obtain ⟨rfl, hi⟩ : ci = 0 ∧ _ := hi
    have hi : True ∧ _ := ⟨trivial, hi⟩
    exact xdpF_0 (C9 := RX6) (T := TX6) (N := 78) (ci := 0) (j := 19) (ty := .array .int) E in_X6 (fun D9 hK9 => va_apart (own := RX6) E.2.2.2.2 in_X6 tyX6 tyX6_ok nmX6 hK9 rfl) rfl he (by decide) q1520 (fun _ h9 => h9) rfl hmn rfl (by decide +kernel) rfl rfl hi.2 d hn (k _ h)
  · have h : (if (ci = 0 ∧ 19 < fs.length) then nx (sXd ξ a (.inr (ci, fs.set 19 (.ref v)))) kk else False) := h
    rw [if_neg hi] at h; cases h
theorem xdqX6_71 (E : EV p s m args c cc nL RX6) {a : Nat} {v : Nat} {kk : XS → Prop} (hmn : meth.name = "<init>") (d : decode cc pc = .ok (.putfield 71, 3)) (h : bndp (dO ξ a) (fun ci fs => (if (ci = 0 ∧ 20 < fs.length) then nx (sXd ξ a (.inr (ci, fs.set 20 (.ref v)))) kk else False))) (hn : pc + 3 = n) (k : ∀ ξ1 : XS, kk ξ1 → CF p l e R s m args below meth c nL cells slots (XB_0 g A s ξ1) Q n lv st) : CF p l e R s m args below meth c nL cells slots (XB_0 g A s ξ) Q pc lv (.ref v :: .ref a :: st) := by
  obtain ⟨ci, fs, hO, h⟩ := h
  by_cases hi : (ci = 0 ∧ 20 < fs.length)
  · have h : (if (ci = 0 ∧ 20 < fs.length) then nx (sXd ξ a (.inr (ci, fs.set 20 (.ref v)))) kk else False) := h
    rw [if_pos hi] at h
    have he := dO_at hO
    obtain ⟨rfl, hi⟩ : ci = 0 ∧ _ := hi
    have hi : True ∧ _ := ⟨trivial, hi⟩
    exact xdpF_0 (C9 := RX6) (T := TX6) (N := 78) (ci := 0) (j := 20) (ty := .array .int) E in_X6 (fun D9 hK9 => va_apart (own := RX6) E.2.2.2.2 in_X6 tyX6 tyX6_ok nmX6 hK9 rfl) rfl he (by decide) q1521 (fun _ h9 => h9) rfl hmn rfl (by decide +kernel) rfl rfl hi.2 d hn (k _ h)
  · have h : (if (ci = 0 ∧ 20 < fs.length) then nx (sXd ξ a (.inr (ci, fs.set 20 (.ref v)))) kk else False) := h
    rw [if_neg hi] at h; cases h
theorem xdqX6_74 (E : EV p s m args c cc nL RX6) {a : Nat} {v : Nat} {kk : XS → Prop} (hmn : meth.name = "<init>") (d : decode cc pc = .ok (.putfield 74, 3)) (h : bndp (dO ξ a) (fun ci fs => (if (ci = 0 ∧ 21 < fs.length) then nx (sXd ξ a (.inr (ci, fs.set 21 (.ref v)))) kk else False))) (hn : pc + 3 = n) (k : ∀ ξ1 : XS, kk ξ1 → CF p l e R s m args below meth c nL cells slots (XB_0 g A s ξ1) Q n lv st) : CF p l e R s m args below meth c nL cells slots (XB_0 g A s ξ) Q pc lv (.ref v :: .ref a :: st) := by
  obtain ⟨ci, fs, hO, h⟩ := h
  by_cases hi : (ci = 0 ∧ 21 < fs.length)
  · have h : (if (ci = 0 ∧ 21 < fs.length) then nx (sXd ξ a (.inr (ci, fs.set 21 (.ref v)))) kk else False) := h
    rw [if_pos hi] at h
    have he := dO_at hO
    obtain ⟨rfl, hi⟩ : ci = 0 ∧ _ := hi
    have hi : True ∧ _ := ⟨trivial, hi⟩
    exact xdpF_0 (C9 := RX6) (T := TX6) (N := 78) (ci := 0) (j := 21) (ty := .array .int) E in_X6 (fun D9 hK9 => va_apart (own := RX6) E.2.2.2.2 in_X6 tyX6 tyX6_ok nmX6 hK9 rfl) rfl he (by decide) q1522 (fun _ h9 => h9) rfl hmn rfl (by decide +kernel) rfl rfl hi.2 d hn (k _ h)
  · have h : (if (ci = 0 ∧ 21 < fs.length) then nx (sXd ξ a (.inr (ci, fs.set 21 (.ref v)))) kk else False) := h
    rw [if_neg hi] at h; cases h
theorem xdqX6_77 (E : EV p s m args c cc nL RX6) {a : Nat} {v : Nat} {kk : XS → Prop} (hmn : meth.name = "<init>") (d : decode cc pc = .ok (.putfield 77, 3)) (h : bndp (dO ξ a) (fun ci fs => (if (ci = 0 ∧ 22 < fs.length) then nx (sXd ξ a (.inr (ci, fs.set 22 (.ref v)))) kk else False))) (hn : pc + 3 = n) (k : ∀ ξ1 : XS, kk ξ1 → CF p l e R s m args below meth c nL cells slots (XB_0 g A s ξ1) Q n lv st) : CF p l e R s m args below meth c nL cells slots (XB_0 g A s ξ) Q pc lv (.ref v :: .ref a :: st) := by
  obtain ⟨ci, fs, hO, h⟩ := h
  by_cases hi : (ci = 0 ∧ 22 < fs.length)
  · have h : (if (ci = 0 ∧ 22 < fs.length) then nx (sXd ξ a (.inr (ci, fs.set 22 (.ref v)))) kk else False) := h
    rw [if_pos hi] at h
    have he := dO_at hO
    obtain ⟨rfl, hi⟩ : ci = 0 ∧ _ := hi
    have hi : True ∧ _ := ⟨trivial, hi⟩
    exact xdpF_0 (C9 := RX6) (T := TX6) (N := 78) (ci := 0) (j := 22) (ty := .array .int) E in_X6 (fun D9 hK9 => va_apart (own := RX6) E.2.2.2.2 in_X6 tyX6 tyX6_ok nmX6 hK9 rfl) rfl he (by decide) q1523 (fun _ h9 => h9) rfl hmn rfl (by decide +kernel) rfl rfl hi.2 d hn (k _ h)
  · have h : (if (ci = 0 ∧ 22 < fs.length) then nx (sXd ξ a (.inr (ci, fs.set 22 (.ref v)))) kk else False) := h
    rw [if_neg hi] at h; cases h
theorem xdqX6_80 (E : EV p s m args c cc nL RX6) {a : Nat} {v : Nat} {kk : XS → Prop} (hmn : meth.name = "<init>") (d : decode cc pc = .ok (.putfield 80, 3)) (h : bndp (dO ξ a) (fun ci fs => (if (ci = 0 ∧ 23 < fs.length) then nx (sXd ξ a (.inr (ci, fs.set 23 (.ref v)))) kk else False))) (hn : pc + 3 = n) (k : ∀ ξ1 : XS, kk ξ1 → CF p l e R s m args below meth c nL cells slots (XB_0 g A s ξ1) Q n lv st) : CF p l e R s m args below meth c nL cells slots (XB_0 g A s ξ) Q pc lv (.ref v :: .ref a :: st) := by
  obtain ⟨ci, fs, hO, h⟩ := h
  by_cases hi : (ci = 0 ∧ 23 < fs.length)
  · have h : (if (ci = 0 ∧ 23 < fs.length) then nx (sXd ξ a (.inr (ci, fs.set 23 (.ref v)))) kk else False) := h
    rw [if_pos hi] at h
    have he := dO_at hO
    obtain ⟨rfl, hi⟩ : ci = 0 ∧ _ := hi
    have hi : True ∧ _ := ⟨trivial, hi⟩
    exact xdpF_0 (C9 := RX6) (T := TX6) (N := 78) (ci := 0) (j := 23) (ty := .array .int) E in_X6 (fun D9 hK9 => va_apart (own := RX6) E.2.2.2.2 in_X6 tyX6 tyX6_ok nmX6 hK9 rfl) rfl he (by decide) q1524 (fun _ h9 => h9) rfl hmn rfl (by decide +kernel) rfl rfl hi.2 d hn (k _ h)
  · have h : (if (ci = 0 ∧ 23 < fs.length) then nx (sXd ξ a (.inr (ci, fs.set 23 (.ref v)))) kk else False) := h
    rw [if_neg hi] at h; cases h
theorem xdqX6_83 (E : EV p s m args c cc nL RX6) {a : Nat} {v : Nat} {kk : XS → Prop} (hmn : meth.name = "<init>") (d : decode cc pc = .ok (.putfield 83, 3)) (h : bndp (dO ξ a) (fun ci fs => (if (ci = 0 ∧ 24 < fs.length) then nx (sXd ξ a (.inr (ci, fs.set 24 (.ref v)))) kk else False))) (hn : pc + 3 = n) (k : ∀ ξ1 : XS, kk ξ1 → CF p l e R s m args below meth c nL cells slots (XB_0 g A s ξ1) Q n lv st) : CF p l e R s m args below meth c nL cells slots (XB_0 g A s ξ) Q pc lv (.ref v :: .ref a :: st) := by
  obtain ⟨ci, fs, hO, h⟩ := h
  by_cases hi : (ci = 0 ∧ 24 < fs.length)
  · have h : (if (ci = 0 ∧ 24 < fs.length) then nx (sXd ξ a (.inr (ci, fs.set 24 (.ref v)))) kk else False) := h
    rw [if_pos hi] at h
    have he := dO_at hO
    obtain ⟨rfl, hi⟩ : ci = 0 ∧ _ := hi
    have hi : True ∧ _ := ⟨trivial, hi⟩
    exact xdpF_0 (C9 := RX6) (T := TX6) (N := 78) (ci := 0) (j := 24) (ty := .array .int) E in_X6 (fun D9 hK9 => va_apart (own := RX6) E.2.2.2.2 in_X6 tyX6 tyX6_ok nmX6 hK9 rfl) rfl he (by decide) q1525 (fun _ h9 => h9) rfl hmn rfl (by decide +kernel) rfl rfl hi.2 d hn (k _ h)
  · have h : (if (ci = 0 ∧ 24 < fs.length) then nx (sXd ξ a (.inr (ci, fs.set 24 (.ref v)))) kk else False) := h
    rw [if_neg hi] at h; cases h
theorem xdqX6_86 (E : EV p s m args c cc nL RX6) {a : Nat} {v : Nat} {kk : XS → Prop} (hmn : meth.name = "<init>") (d : decode cc pc = .ok (.putfield 86, 3)) (h : bndp (dO ξ a) (fun ci fs => (if (ci = 0 ∧ 25 < fs.length) then nx (sXd ξ a (.inr (ci, fs.set 25 (.ref v)))) kk else False))) (hn : pc + 3 = n) (k : ∀ ξ1 : XS, kk ξ1 → CF p l e R s m args below meth c nL cells slots (XB_0 g A s ξ1) Q n lv st) : CF p l e R s m args below meth c nL cells slots (XB_0 g A s ξ) Q pc lv (.ref v :: .ref a :: st) := by
  obtain ⟨ci, fs, hO, h⟩ := h
  by_cases hi : (ci = 0 ∧ 25 < fs.length)
  · have h : (if (ci = 0 ∧ 25 < fs.length) then nx (sXd ξ a (.inr (ci, fs.set 25 (.ref v)))) kk else False) := h
    rw [if_pos hi] at h
    have he := dO_at hO
    obtain ⟨rfl, hi⟩ : ci = 0 ∧ _ := hi
    have hi : True ∧ _ := ⟨trivial, hi⟩
    exact xdpF_0 (C9 := RX6) (T := TX6) (N := 78) (ci := 0) (j := 25) (ty := .array .int) E in_X6 (fun D9 hK9 => va_apart (own := RX6) E.2.2.2.2 in_X6 tyX6 tyX6_ok nmX6 hK9 rfl) rfl he (by decide) q1526 (fun _ h9 => h9) rfl hmn rfl (by decide +kernel) rfl rfl hi.2 d hn (k _ h)
  · have h : (if (ci = 0 ∧ 25 < fs.length) then nx (sXd ξ a (.inr (ci, fs.set 25 (.ref v)))) kk else False) := h
    rw [if_neg hi] at h; cases h
theorem xdqX6_89 (E : EV p s m args c cc nL RX6) {a : Nat} {v : Nat} {kk : XS → Prop} (hmn : meth.name = "<init>") (d : decode cc pc = .ok (.putfield 89, 3)) (h : bndp (dO ξ a) (fun ci fs => (if (ci = 0 ∧ 26 < fs.length) then nx (sXd ξ a (.inr (ci, fs.set 26 (.ref v)))) kk else False))) (hn : pc + 3 = n) (k : ∀ ξ1 : XS, kk ξ1 → CF p l e R s m args below meth c nL cells slots (XB_0 g A s ξ1) Q n lv st) : CF p l e R s m args below meth c nL cells slots (XB_0 g A s ξ) Q pc lv (.ref v :: .ref a :: st) := by
  obtain ⟨ci, fs, hO, h⟩ := h
  by_cases hi : (ci = 0 ∧ 26 < fs.length)
  · have h : (if (ci = 0 ∧ 26 < fs.length) then nx (sXd ξ a (.inr (ci, fs.set 26 (.ref v)))) kk else False) := h
    rw [if_pos hi] at h
    have he := dO_at hO
    obtain ⟨rfl, hi⟩ : ci = 0 ∧ _ := hi
    have hi : True ∧ _ := ⟨trivial, hi⟩
    exact xdpF_0 (C9 := RX6) (T := TX6) (N := 78) (ci := 0) (j := 26) (ty := .array .int) E in_X6 (fun D9 hK9 => va_apart (own := RX6) E.2.2.2.2 in_X6 tyX6 tyX6_ok nmX6 hK9 rfl) rfl he (by decide) q1527 (fun _ h9 => h9) rfl hmn rfl (by decide +kernel) rfl rfl hi.2 d hn (k _ h)
  · have h : (if (ci = 0 ∧ 26 < fs.length) then nx (sXd ξ a (.inr (ci, fs.set 26 (.ref v)))) kk else False) := h
    rw [if_neg hi] at h; cases h
theorem xdqX6_92 (E : EV p s m args c cc nL RX6) {a : Nat} {v : Nat} {kk : XS → Prop} (hmn : meth.name = "<init>") (d : decode cc pc = .ok (.putfield 92, 3)) (h : bndp (dO ξ a) (fun ci fs => (if (ci = 0 ∧ 27 < fs.length) then nx (sXd ξ a (.inr (ci, fs.set 27 (.ref v)))) kk else False))) (hn : pc + 3 = n) (k : ∀ ξ1 : XS, kk ξ1 → CF p l e R s m args below meth c nL cells slots (XB_0 g A s ξ1) Q n lv st) : CF p l e R s m args below meth c nL cells slots (XB_0 g A s ξ) Q pc lv (.ref v :: .ref a :: st) := by
  obtain ⟨ci, fs, hO, h⟩ := h
  by_cases hi : (ci = 0 ∧ 27 < fs.length)
  · have h : (if (ci = 0 ∧ 27 < fs.length) then nx (sXd ξ a (.inr (ci, fs.set 27 (.ref v)))) kk else False) := h
    rw [if_pos hi] at h
    have he := dO_at hO
    obtain ⟨rfl, hi⟩ : ci = 0 ∧ _ := hi
    have hi : True ∧ _ := ⟨trivial, hi⟩
    exact xdpF_0 (C9 := RX6) (T := TX6) (N := 78) (ci := 0) (j := 27) (ty := .array .int) E in_X6 (fun D9 hK9 => va_apart (own := RX6) E.2.2.2.2 in_X6 tyX6 tyX6_ok nmX6 hK9 rfl) rfl he (by decide) q1528 (fun _ h9 => h9) rfl hmn rfl (by decide +kernel) rfl rfl hi.2 d hn (k _ h)
  · have h : (if (ci = 0 ∧ 27 < fs.length) then nx (sXd ξ a (.inr (ci, fs.set 27 (.ref v)))) kk else False) := h
    rw [if_neg hi] at h; cases h
theorem xdqX6_95 (E : EV p s m args c cc nL RX6) {a : Nat} {v : Int32} {kk : XS → Prop} (d : decode cc pc = .ok (.putfield 95, 3)) (h : bndp (dO ξ a) (fun ci fs => (if (ci = 0 ∧ 28 < fs.length) then nx (sXd ξ a (.inr (ci, fs.set 28 (.int v)))) kk else False))) (hn : pc + 3 = n) (k : ∀ ξ1 : XS, kk ξ1 → CF p l e R s m args below meth c nL cells slots (XB_0 g A s ξ1) Q n lv st) : CF p l e R s m args below meth c nL cells slots (XB_0 g A s ξ) Q pc lv (.int v :: .ref a :: st) := by
  obtain ⟨ci, fs, hO, h⟩ := h
  by_cases hi : (ci = 0 ∧ 28 < fs.length)
  · have h : (if (ci = 0 ∧ 28 < fs.length) then nx (sXd ξ a (.inr (ci, fs.set 28 (.int v)))) kk else False) := h
    rw [if_pos hi] at h
    have he := dO_at hO
    obtain ⟨rfl, hi⟩ : ci = 0 ∧ _ := hi
    have hi : True ∧ _ := ⟨trivial, hi⟩
    exact xdp_0 (C9 := RX6) (T := TX6) (N := 78) (ci := 0) (j := 28) (ty := .int) E in_X6 tyX6 tyX6_ok nmX6 rfl he (by decide) q1529 (fun _ h9 => h9) rfl (by decide +kernel) rfl rfl hi.2 d hn (k _ h)
  · have h : (if (ci = 0 ∧ 28 < fs.length) then nx (sXd ξ a (.inr (ci, fs.set 28 (.int v)))) kk else False) := h
    rw [if_neg hi] at h; cases h
theorem xdqX6_98 (E : EV p s m args c cc nL RX6) {a : Nat} {v : Int32} {kk : XS → Prop} (d : decode cc pc = .ok (.putfield 98, 3)) (h : bndp (dO ξ a) (fun ci fs => (if (ci = 0 ∧ 29 < fs.length) then nx (sXd ξ a (.inr (ci, fs.set 29 (.int v)))) kk else False))) (hn : pc + 3 = n) (k : ∀ ξ1 : XS, kk ξ1 → CF p l e R s m args below meth c nL cells slots (XB_0 g A s ξ1) Q n lv st) : CF p l e R s m args below meth c nL cells slots (XB_0 g A s ξ) Q pc lv (.int v :: .ref a :: st) := by
  obtain ⟨ci, fs, hO, h⟩ := h
  by_cases hi : (ci = 0 ∧ 29 < fs.length)
  · have h : (if (ci = 0 ∧ 29 < fs.length) then nx (sXd ξ a (.inr (ci, fs.set 29 (.int v)))) kk else False) := h
    rw [if_pos hi] at h
    have he := dO_at hO
    obtain ⟨rfl, hi⟩ : ci = 0 ∧ _ := hi
    have hi : True ∧ _ := ⟨trivial, hi⟩
    exact xdp_0 (C9 := RX6) (T := TX6) (N := 78) (ci := 0) (j := 29) (ty := .int) E in_X6 tyX6 tyX6_ok nmX6 rfl he (by decide) q1530 (fun _ h9 => h9) rfl (by decide +kernel) rfl rfl hi.2 d hn (k _ h)
  · have h : (if (ci = 0 ∧ 29 < fs.length) then nx (sXd ξ a (.inr (ci, fs.set 29 (.int v)))) kk else False) := h
    rw [if_neg hi] at h; cases h
theorem xdqX6_101 (E : EV p s m args c cc nL RX6) {a : Nat} {v : Int32} {kk : XS → Prop} (d : decode cc pc = .ok (.putfield 101, 3)) (h : bndp (dO ξ a) (fun ci fs => (if (ci = 0 ∧ 30 < fs.length) then nx (sXd ξ a (.inr (ci, fs.set 30 (.int v)))) kk else False))) (hn : pc + 3 = n) (k : ∀ ξ1 : XS, kk ξ1 → CF p l e R s m args below meth c nL cells slots (XB_0 g A s ξ1) Q n lv st) : CF p l e R s m args below meth c nL cells slots (XB_0 g A s ξ) Q pc lv (.int v :: .ref a :: st) := by
  obtain ⟨ci, fs, hO, h⟩ := h
  by_cases hi : (ci = 0 ∧ 30 < fs.length)
  · have h : (if (ci = 0 ∧ 30 < fs.length) then nx (sXd ξ a (.inr (ci, fs.set 30 (.int v)))) kk else False) := h
    rw [if_pos hi] at h
    have he := dO_at hO
    obtain ⟨rfl, hi⟩ : ci = 0 ∧ _ := hi
    have hi : True ∧ _ := ⟨trivial, hi⟩
    exact xdp_0 (C9 := RX6) (T := TX6) (N := 78) (ci := 0) (j := 30) (ty := .int) E in_X6 tyX6 tyX6_ok nmX6 rfl he (by decide) q1531 (fun _ h9 => h9) rfl (by decide +kernel) rfl rfl hi.2 d hn (k _ h)
  · have h : (if (ci = 0 ∧ 30 < fs.length) then nx (sXd ξ a (.inr (ci, fs.set 30 (.int v)))) kk else False) := h
    rw [if_neg hi] at h; cases h
theorem xdqX6_104 (E : EV p s m args c cc nL RX6) {a : Nat} {v : Nat} {kk : XS → Prop} (hmn : meth.name = "<init>") (d : decode cc pc = .ok (.putfield 104, 3)) (h : bndp (dO ξ a) (fun ci fs => (if (ci = 0 ∧ 31 < fs.length) then nx (sXd ξ a (.inr (ci, fs.set 31 (.ref v)))) kk else False))) (hn : pc + 3 = n) (k : ∀ ξ1 : XS, kk ξ1 → CF p l e R s m args below meth c nL cells slots (XB_0 g A s ξ1) Q n lv st) : CF p l e R s m args below meth c nL cells slots (XB_0 g A s ξ) Q pc lv (.ref v :: .ref a :: st) := by
  obtain ⟨ci, fs, hO, h⟩ := h
  by_cases hi : (ci = 0 ∧ 31 < fs.length)
  · have h : (if (ci = 0 ∧ 31 < fs.length) then nx (sXd ξ a (.inr (ci, fs.set 31 (.ref v)))) kk else False) := h
    rw [if_pos hi] at h
    have he := dO_at hO
    obtain ⟨rfl, hi⟩ : ci = 0 ∧ _ := hi
    have hi : True ∧ _ := ⟨trivial, hi⟩
    exact xdpF_0 (C9 := RX6) (T := TX6) (N := 78) (ci := 0) (j := 31) (ty := .array .int) E in_X6 (fun D9 hK9 => va_apart (own := RX6) E.2.2.2.2 in_X6 tyX6 tyX6_ok nmX6 hK9 rfl) rfl he (by decide) q1532 (fun _ h9 => h9) rfl hmn rfl (by decide +kernel) rfl rfl hi.2 d hn (k _ h)
  · have h : (if (ci = 0 ∧ 31 < fs.length) then nx (sXd ξ a (.inr (ci, fs.set 31 (.ref v)))) kk else False) := h
    rw [if_neg hi] at h; cases h
theorem xdqX6_107 (E : EV p s m args c cc nL RX6) {a : Nat} {v : Nat} {kk : XS → Prop} (hmn : meth.name = "<init>") (d : decode cc pc = .ok (.putfield 107, 3)) (h : bndp (dO ξ a) (fun ci fs => (if (ci = 0 ∧ 32 < fs.length) then nx (sXd ξ a (.inr (ci, fs.set 32 (.ref v)))) kk else False))) (hn : pc + 3 = n) (k : ∀ ξ1 : XS, kk ξ1 → CF p l e R s m args below meth c nL cells slots (XB_0 g A s ξ1) Q n lv st) : CF p l e R s m args below meth c nL cells slots (XB_0 g A s ξ) Q pc lv (.ref v :: .ref a :: st) := by
  obtain ⟨ci, fs, hO, h⟩ := h
  by_cases hi : (ci = 0 ∧ 32 < fs.length)
  · have h : (if (ci = 0 ∧ 32 < fs.length) then nx (sXd ξ a (.inr (ci, fs.set 32 (.ref v)))) kk else False) := h
    rw [if_pos hi] at h
    have he := dO_at hO
    obtain ⟨rfl, hi⟩ : ci = 0 ∧ _ := hi
    have hi : True ∧ _ := ⟨trivial, hi⟩
    exact xdpF_0 (C9 := RX6) (T := TX6) (N := 78) (ci := 0) (j := 32) (ty := .array .boolean) E in_X6 (fun D9 hK9 => va_apart (own := RX6) E.2.2.2.2 in_X6 tyX6 tyX6_ok nmX6 hK9 rfl) rfl he (by decide) q1533 (fun _ h9 => h9) rfl hmn rfl (by decide +kernel) rfl rfl hi.2 d hn (k _ h)
  · have h : (if (ci = 0 ∧ 32 < fs.length) then nx (sXd ξ a (.inr (ci, fs.set 32 (.ref v)))) kk else False) := h
    rw [if_neg hi] at h; cases h
theorem xdqX6_111 (E : EV p s m args c cc nL RX6) {a : Nat} {v : Int32} {kk : XS → Prop} (d : decode cc pc = .ok (.putfield 111, 3)) (h : bndp (dO ξ a) (fun ci fs => (if (ci = 0 ∧ 33 < fs.length) then nx (sXd ξ a (.inr (ci, fs.set 33 (.int v)))) kk else False))) (hn : pc + 3 = n) (k : ∀ ξ1 : XS, kk ξ1 → CF p l e R s m args below meth c nL cells slots (XB_0 g A s ξ1) Q n lv st) : CF p l e R s m args below meth c nL cells slots (XB_0 g A s ξ) Q pc lv (.int v :: .ref a :: st) := by
  obtain ⟨ci, fs, hO, h⟩ := h
  by_cases hi : (ci = 0 ∧ 33 < fs.length)
  · have h : (if (ci = 0 ∧ 33 < fs.length) then nx (sXd ξ a (.inr (ci, fs.set 33 (.int v)))) kk else False) := h
    rw [if_pos hi] at h
    have he := dO_at hO
    obtain ⟨rfl, hi⟩ : ci = 0 ∧ _ := hi
    have hi : True ∧ _ := ⟨trivial, hi⟩
    exact xdp_0 (C9 := RX6) (T := TX6) (N := 78) (ci := 0) (j := 33) (ty := .int) E in_X6 tyX6 tyX6_ok nmX6 rfl he (by decide) q1534 (fun _ h9 => h9) rfl (by decide +kernel) rfl rfl hi.2 d hn (k _ h)
  · have h : (if (ci = 0 ∧ 33 < fs.length) then nx (sXd ξ a (.inr (ci, fs.set 33 (.int v)))) kk else False) := h
    rw [if_neg hi] at h; cases h
theorem xdqX6_114 (E : EV p s m args c cc nL RX6) {a : Nat} {v : Nat} {kk : XS → Prop} (hmn : meth.name = "<init>") (d : decode cc pc = .ok (.putfield 114, 3)) (h : bndp (dO ξ a) (fun ci fs => (if (ci = 0 ∧ 34 < fs.length) then nx (sXd ξ a (.inr (ci, fs.set 34 (.ref v)))) kk else False))) (hn : pc + 3 = n) (k : ∀ ξ1 : XS, kk ξ1 → CF p l e R s m args below meth c nL cells slots (XB_0 g A s ξ1) Q n lv st) : CF p l e R s m args below meth c nL cells slots (XB_0 g A s ξ) Q pc lv (.ref v :: .ref a :: st) := by
  obtain ⟨ci, fs, hO, h⟩ := h
  by_cases hi : (ci = 0 ∧ 34 < fs.length)
  · have h : (if (ci = 0 ∧ 34 < fs.length) then nx (sXd ξ a (.inr (ci, fs.set 34 (.ref v)))) kk else False) := h
    rw [if_pos hi] at h
    have he := dO_at hO
    obtain ⟨rfl, hi⟩ : ci = 0 ∧ _ := hi
    have hi : True ∧ _ := ⟨trivial, hi⟩
    exact xdpF_0 (C9 := RX6) (T := TX6) (N := 78) (ci := 0) (j := 34) (ty := .array .int) E in_X6 (fun D9 hK9 => va_apart (own := RX6) E.2.2.2.2 in_X6 tyX6 tyX6_ok nmX6 hK9 rfl) rfl he (by decide) q1535 (fun _ h9 => h9) rfl hmn rfl (by decide +kernel) rfl rfl hi.2 d hn (k _ h)
  · have h : (if (ci = 0 ∧ 34 < fs.length) then nx (sXd ξ a (.inr (ci, fs.set 34 (.ref v)))) kk else False) := h
    rw [if_neg hi] at h; cases h
theorem xdqX6_117 (E : EV p s m args c cc nL RX6) {a : Nat} {v : Int32} {kk : XS → Prop} (d : decode cc pc = .ok (.putfield 117, 3)) (h : bndp (dO ξ a) (fun ci fs => (if (ci = 0 ∧ 35 < fs.length) then nx (sXd ξ a (.inr (ci, fs.set 35 (.int v)))) kk else False))) (hn : pc + 3 = n) (k : ∀ ξ1 : XS, kk ξ1 → CF p l e R s m args below meth c nL cells slots (XB_0 g A s ξ1) Q n lv st) : CF p l e R s m args below meth c nL cells slots (XB_0 g A s ξ) Q pc lv (.int v :: .ref a :: st) := by
  obtain ⟨ci, fs, hO, h⟩ := h
  by_cases hi : (ci = 0 ∧ 35 < fs.length)
  · have h : (if (ci = 0 ∧ 35 < fs.length) then nx (sXd ξ a (.inr (ci, fs.set 35 (.int v)))) kk else False) := h
    rw [if_pos hi] at h
    have he := dO_at hO
    obtain ⟨rfl, hi⟩ : ci = 0 ∧ _ := hi
    have hi : True ∧ _ := ⟨trivial, hi⟩
    exact xdp_0 (C9 := RX6) (T := TX6) (N := 78) (ci := 0) (j := 35) (ty := .int) E in_X6 tyX6 tyX6_ok nmX6 rfl he (by decide) q1536 (fun _ h9 => h9) rfl (by decide +kernel) rfl rfl hi.2 d hn (k _ h)
  · have h : (if (ci = 0 ∧ 35 < fs.length) then nx (sXd ξ a (.inr (ci, fs.set 35 (.int v)))) kk else False) := h
    rw [if_neg hi] at h; cases h
theorem xdqX6_120 (E : EV p s m args c cc nL RX6) {a : Nat} {v : Nat} {kk : XS → Prop} (hmn : meth.name = "<init>") (d : decode cc pc = .ok (.putfield 120, 3)) (h : bndp (dO ξ a) (fun ci fs => (if (ci = 0 ∧ 36 < fs.length) then nx (sXd ξ a (.inr (ci, fs.set 36 (.ref v)))) kk else False))) (hn : pc + 3 = n) (k : ∀ ξ1 : XS, kk ξ1 → CF p l e R s m args below meth c nL cells slots (XB_0 g A s ξ1) Q n lv st) : CF p l e R s m args below meth c nL cells slots (XB_0 g A s ξ) Q pc lv (.ref v :: .ref a :: st) := by
  obtain ⟨ci, fs, hO, h⟩ := h
  by_cases hi : (ci = 0 ∧ 36 < fs.length)
  · have h : (if (ci = 0 ∧ 36 < fs.length) then nx (sXd ξ a (.inr (ci, fs.set 36 (.ref v)))) kk else False) := h
    rw [if_pos hi] at h
    have he := dO_at hO
    obtain ⟨rfl, hi⟩ : ci = 0 ∧ _ := hi
    have hi : True ∧ _ := ⟨trivial, hi⟩
    exact xdpF_0 (C9 := RX6) (T := TX6) (N := 78) (ci := 0) (j := 36) (ty := .array .int) E in_X6 (fun D9 hK9 => va_apart (own := RX6) E.2.2.2.2 in_X6 tyX6 tyX6_ok nmX6 hK9 rfl) rfl he (by decide) q1537 (fun _ h9 => h9) rfl hmn rfl (by decide +kernel) rfl rfl hi.2 d hn (k _ h)
  · have h : (if (ci = 0 ∧ 36 < fs.length) then nx (sXd ξ a (.inr (ci, fs.set 36 (.ref v)))) kk else False) := h
    rw [if_neg hi] at h; cases h
theorem xdqX6_123 (E : EV p s m args c cc nL RX6) {a : Nat} {v : Nat} {kk : XS → Prop} (hmn : meth.name = "<init>") (d : decode cc pc = .ok (.putfield 123, 3)) (h : bndp (dO ξ a) (fun ci fs => (if (ci = 0 ∧ 37 < fs.length) then nx (sXd ξ a (.inr (ci, fs.set 37 (.ref v)))) kk else False))) (hn : pc + 3 = n) (k : ∀ ξ1 : XS, kk ξ1 → CF p l e R s m args below meth c nL cells slots (XB_0 g A s ξ1) Q n lv st) : CF p l e R s m args below meth c nL cells slots (XB_0 g A s ξ) Q pc lv (.ref v :: .ref a :: st) := by
  obtain ⟨ci, fs, hO, h⟩ := h
  by_cases hi : (ci = 0 ∧ 37 < fs.length)
  · have h : (if (ci = 0 ∧ 37 < fs.length) then nx (sXd ξ a (.inr (ci, fs.set 37 (.ref v)))) kk else False) := h
    rw [if_pos hi] at h
    have he := dO_at hO
    obtain ⟨rfl, hi⟩ : ci = 0 ∧ _ := hi
    have hi : True ∧ _ := ⟨trivial, hi⟩
    exact xdpF_0 (C9 := RX6) (T := TX6) (N := 78) (ci := 0) (j := 37) (ty := .array .int) E in_X6 (fun D9 hK9 => va_apart (own := RX6) E.2.2.2.2 in_X6 tyX6 tyX6_ok nmX6 hK9 rfl) rfl he (by decide) q1538 (fun _ h9 => h9) rfl hmn rfl (by decide +kernel) rfl rfl hi.2 d hn (k _ h)
  · have h : (if (ci = 0 ∧ 37 < fs.length) then nx (sXd ξ a (.inr (ci, fs.set 37 (.ref v)))) kk else False) := h
    rw [if_neg hi] at h; cases h
theorem xdqX6_126 (E : EV p s m args c cc nL RX6) {a : Nat} {v : Nat} {kk : XS → Prop} (hmn : meth.name = "<init>") (d : decode cc pc = .ok (.putfield 126, 3)) (h : bndp (dO ξ a) (fun ci fs => (if (ci = 0 ∧ 38 < fs.length) then nx (sXd ξ a (.inr (ci, fs.set 38 (.ref v)))) kk else False))) (hn : pc + 3 = n) (k : ∀ ξ1 : XS, kk ξ1 → CF p l e R s m args below meth c nL cells slots (XB_0 g A s ξ1) Q n lv st) : CF p l e R s m args below meth c nL cells slots (XB_0 g A s ξ) Q pc lv (.ref v :: .ref a :: st) := by
  obtain ⟨ci, fs, hO, h⟩ := h
  by_cases hi : (ci = 0 ∧ 38 < fs.length)
  · have h : (if (ci = 0 ∧ 38 < fs.length) then nx (sXd ξ a (.inr (ci, fs.set 38 (.ref v)))) kk else False) := h
    rw [if_pos hi] at h
    have he := dO_at hO
    obtain ⟨rfl, hi⟩ : ci = 0 ∧ _ := hi
    have hi : True ∧ _ := ⟨trivial, hi⟩
    exact xdpF_0 (C9 := RX6) (T := TX6) (N := 78) (ci := 0) (j := 38) (ty := .array .int) E in_X6 (fun D9 hK9 => va_apart (own := RX6) E.2.2.2.2 in_X6 tyX6 tyX6_ok nmX6 hK9 rfl) rfl he (by decide) q1539 (fun _ h9 => h9) rfl hmn rfl (by decide +kernel) rfl rfl hi.2 d hn (k _ h)
  · have h : (if (ci = 0 ∧ 38 < fs.length) then nx (sXd ξ a (.inr (ci, fs.set 38 (.ref v)))) kk else False) := h
    rw [if_neg hi] at h; cases h
theorem xdqX6_129 (E : EV p s m args c cc nL RX6) {a : Nat} {v : Nat} {kk : XS → Prop} (hmn : meth.name = "<init>") (d : decode cc pc = .ok (.putfield 129, 3)) (h : bndp (dO ξ a) (fun ci fs => (if (ci = 0 ∧ 39 < fs.length) then nx (sXd ξ a (.inr (ci, fs.set 39 (.ref v)))) kk else False))) (hn : pc + 3 = n) (k : ∀ ξ1 : XS, kk ξ1 → CF p l e R s m args below meth c nL cells slots (XB_0 g A s ξ1) Q n lv st) : CF p l e R s m args below meth c nL cells slots (XB_0 g A s ξ) Q pc lv (.ref v :: .ref a :: st) := by
  obtain ⟨ci, fs, hO, h⟩ := h
  by_cases hi : (ci = 0 ∧ 39 < fs.length)
  · have h : (if (ci = 0 ∧ 39 < fs.length) then nx (sXd ξ a (.inr (ci, fs.set 39 (.ref v)))) kk else False) := h
    rw [if_pos hi] at h
    have he := dO_at hO
    obtain ⟨rfl, hi⟩ : ci = 0 ∧ _ := hi
    have hi : True ∧ _ := ⟨trivial, hi⟩
    exact xdpF_0 (C9 := RX6) (T := TX6) (N := 78) (ci := 0) (j := 39) (ty := .array .int) E in_X6 (fun D9 hK9 => va_apart (own := RX6) E.2.2.2.2 in_X6 tyX6 tyX6_ok nmX6 hK9 rfl) rfl he (by decide) q1540 (fun _ h9 => h9) rfl hmn rfl (by decide +kernel) rfl rfl hi.2 d hn (k _ h)
  · have h : (if (ci = 0 ∧ 39 < fs.length) then nx (sXd ξ a (.inr (ci, fs.set 39 (.ref v)))) kk else False) := h
    rw [if_neg hi] at h; cases h
theorem xdqX6_132 (E : EV p s m args c cc nL RX6) {a : Nat} {v : Int32} {kk : XS → Prop} (d : decode cc pc = .ok (.putfield 132, 3)) (h : bndp (dO ξ a) (fun ci fs => (if (ci = 0 ∧ 40 < fs.length) then nx (sXd ξ a (.inr (ci, fs.set 40 (.int v)))) kk else False))) (hn : pc + 3 = n) (k : ∀ ξ1 : XS, kk ξ1 → CF p l e R s m args below meth c nL cells slots (XB_0 g A s ξ1) Q n lv st) : CF p l e R s m args below meth c nL cells slots (XB_0 g A s ξ) Q pc lv (.int v :: .ref a :: st) := by
  obtain ⟨ci, fs, hO, h⟩ := h
  by_cases hi : (ci = 0 ∧ 40 < fs.length)
  · have h : (if (ci = 0 ∧ 40 < fs.length) then nx (sXd ξ a (.inr (ci, fs.set 40 (.int v)))) kk else False) := h
    rw [if_pos hi] at h
    have he := dO_at hO
    obtain ⟨rfl, hi⟩ : ci = 0 ∧ _ := hi
    have hi : True ∧ _ := ⟨trivial, hi⟩
    exact xdp_0 (C9 := RX6) (T := TX6) (N := 78) (ci := 0) (j := 40) (ty := .int) E in_X6 tyX6 tyX6_ok nmX6 rfl he (by decide) q1541 (fun _ h9 => h9) rfl (by decide +kernel) rfl rfl hi.2 d hn (k _ h)
  · have h : (if (ci = 0 ∧ 40 < fs.length) then nx (sXd ξ a (.inr (ci, fs.set 40 (.int v)))) kk else False) := h
    rw [if_neg hi] at h; cases h
theorem xdqX6_135 (E : EV p s m args c cc nL RX6) {a : Nat} {v : Nat} {kk : XS → Prop} (hmn : meth.name = "<init>") (d : decode cc pc = .ok (.putfield 135, 3)) (h : bndp (dO ξ a) (fun ci fs => (if (ci = 0 ∧ 41 < fs.length) then nx (sXd ξ a (.inr (ci, fs.set 41 (.ref v)))) kk else False))) (hn : pc + 3 = n) (k : ∀ ξ1 : XS, kk ξ1 → CF p l e R s m args below meth c nL cells slots (XB_0 g A s ξ1) Q n lv st) : CF p l e R s m args below meth c nL cells slots (XB_0 g A s ξ) Q pc lv (.ref v :: .ref a :: st) := by
  obtain ⟨ci, fs, hO, h⟩ := h
  by_cases hi : (ci = 0 ∧ 41 < fs.length)
  · have h : (if (ci = 0 ∧ 41 < fs.length) then nx (sXd ξ a (.inr (ci, fs.set 41 (.ref v)))) kk else False) := h
    rw [if_pos hi] at h
    have he := dO_at hO
    obtain ⟨rfl, hi⟩ : ci = 0 ∧ _ := hi
    have hi : True ∧ _ := ⟨trivial, hi⟩
    exact xdpF_0 (C9 := RX6) (T := TX6) (N := 78) (ci := 0) (j := 41) (ty := .array .int) E in_X6 (fun D9 hK9 => va_apart (own := RX6) E.2.2.2.2 in_X6 tyX6 tyX6_ok nmX6 hK9 rfl) rfl he (by decide) q1542 (fun _ h9 => h9) rfl hmn rfl (by decide +kernel) rfl rfl hi.2 d hn (k _ h)
  · have h : (if (ci = 0 ∧ 41 < fs.length) then nx (sXd ξ a (.inr (ci, fs.set 41 (.ref v)))) kk else False) := h
    rw [if_neg hi] at h; cases h
theorem xdqX6_138 (E : EV p s m args c cc nL RX6) {a : Nat} {v : Nat} {kk : XS → Prop} (hmn : meth.name = "<init>") (d : decode cc pc = .ok (.putfield 138, 3)) (h : bndp (dO ξ a) (fun ci fs => (if (ci = 0 ∧ 42 < fs.length) then nx (sXd ξ a (.inr (ci, fs.set 42 (.ref v)))) kk else False))) (hn : pc + 3 = n) (k : ∀ ξ1 : XS, kk ξ1 → CF p l e R s m args below meth c nL cells slots (XB_0 g A s ξ1) Q n lv st) : CF p l e R s m args below meth c nL cells slots (XB_0 g A s ξ) Q pc lv (.ref v :: .ref a :: st) := by
  obtain ⟨ci, fs, hO, h⟩ := h
  by_cases hi : (ci = 0 ∧ 42 < fs.length)
  · have h : (if (ci = 0 ∧ 42 < fs.length) then nx (sXd ξ a (.inr (ci, fs.set 42 (.ref v)))) kk else False) := h
    rw [if_pos hi] at h
    have he := dO_at hO
    obtain ⟨rfl, hi⟩ : ci = 0 ∧ _ := hi
    have hi : True ∧ _ := ⟨trivial, hi⟩
    exact xdpF_0 (C9 := RX6) (T := TX6) (N := 78) (ci := 0) (j := 42) (ty := .array .int) E in_X6 (fun D9 hK9 => va_apart (own := RX6) E.2.2.2.2 in_X6 tyX6 tyX6_ok nmX6 hK9 rfl) rfl he (by decide) q1543 (fun _ h9 => h9) rfl hmn rfl (by decide +kernel) rfl rfl hi.2 d hn (k _ h)
  · have h : (if (ci = 0 ∧ 42 < fs.length) then nx (sXd ξ a (.inr (ci, fs.set 42 (.ref v)))) kk else False) := h
    rw [if_neg hi] at h; cases h
theorem xdqX6_141 (E : EV p s m args c cc nL RX6) {a : Nat} {v : Int32} {kk : XS → Prop} (d : decode cc pc = .ok (.putfield 141, 3)) (h : bndp (dO ξ a) (fun ci fs => (if (ci = 0 ∧ 43 < fs.length) then nx (sXd ξ a (.inr (ci, fs.set 43 (.int v)))) kk else False))) (hn : pc + 3 = n) (k : ∀ ξ1 : XS, kk ξ1 → CF p l e R s m args below meth c nL cells slots (XB_0 g A s ξ1) Q n lv st) : CF p l e R s m args below meth c nL cells slots (XB_0 g A s ξ) Q pc lv (.int v :: .ref a :: st) := by
  obtain ⟨ci, fs, hO, h⟩ := h
  by_cases hi : (ci = 0 ∧ 43 < fs.length)
  · have h : (if (ci = 0 ∧ 43 < fs.length) then nx (sXd ξ a (.inr (ci, fs.set 43 (.int v)))) kk else False) := h
    rw [if_pos hi] at h
    have he := dO_at hO
    obtain ⟨rfl, hi⟩ : ci = 0 ∧ _ := hi
    have hi : True ∧ _ := ⟨trivial, hi⟩
    exact xdp_0 (C9 := RX6) (T := TX6) (N := 78) (ci := 0) (j := 43) (ty := .int) E in_X6 tyX6 tyX6_ok nmX6 rfl he (by decide) q1544 (fun _ h9 => h9) rfl (by decide +kernel) rfl rfl hi.2 d hn (k _ h)
  · have h : (if (ci = 0 ∧ 43 < fs.length) then nx (sXd ξ a (.inr (ci, fs.set 43 (.int v)))) kk else False) := h
    rw [if_neg hi] at h; cases h
theorem xdqX6_144 (E : EV p s m args c cc nL RX6) {a : Nat} {v : Nat} {kk : XS → Prop} (hmn : meth.name = "<init>") (d : decode cc pc = .ok (.putfield 144, 3)) (h : bndp (dO ξ a) (fun ci fs => (if (ci = 0 ∧ 44 < fs.length) then nx (sXd ξ a (.inr (ci, fs.set 44 (.ref v)))) kk else False))) (hn : pc + 3 = n) (k : ∀ ξ1 : XS, kk ξ1 → CF p l e R s m args below meth c nL cells slots (XB_0 g A s ξ1) Q n lv st) : CF p l e R s m args below meth c nL cells slots (XB_0 g A s ξ) Q pc lv (.ref v :: .ref a :: st) := by
  obtain ⟨ci, fs, hO, h⟩ := h
  by_cases hi : (ci = 0 ∧ 44 < fs.length)
  · have h : (if (ci = 0 ∧ 44 < fs.length) then nx (sXd ξ a (.inr (ci, fs.set 44 (.ref v)))) kk else False) := h
    rw [if_pos hi] at h
    have he := dO_at hO
    obtain ⟨rfl, hi⟩ : ci = 0 ∧ _ := hi
    have hi : True ∧ _ := ⟨trivial, hi⟩
    exact xdpF_0 (C9 := RX6) (T := TX6) (N := 78) (ci := 0) (j := 44) (ty := .array .int) E in_X6 (fun D9 hK9 => va_apart (own := RX6) E.2.2.2.2 in_X6 tyX6 tyX6_ok nmX6 hK9 rfl) rfl he (by decide) q1545 (fun _ h9 => h9) rfl hmn rfl (by decide +kernel) rfl rfl hi.2 d hn (k _ h)
  · have h : (if (ci = 0 ∧ 44 < fs.length) then nx (sXd ξ a (.inr (ci, fs.set 44 (.ref v)))) kk else False) := h
    rw [if_neg hi] at h; cases h
theorem xdqX6_147 (E : EV p s m args c cc nL RX6) {a : Nat} {v : Nat} {kk : XS → Prop} (hmn : meth.name = "<init>") (d : decode cc pc = .ok (.putfield 147, 3)) (h : bndp (dO ξ a) (fun ci fs => (if (ci = 0 ∧ 45 < fs.length) then nx (sXd ξ a (.inr (ci, fs.set 45 (.ref v)))) kk else False))) (hn : pc + 3 = n) (k : ∀ ξ1 : XS, kk ξ1 → CF p l e R s m args below meth c nL cells slots (XB_0 g A s ξ1) Q n lv st) : CF p l e R s m args below meth c nL cells slots (XB_0 g A s ξ) Q pc lv (.ref v :: .ref a :: st) := by
  obtain ⟨ci, fs, hO, h⟩ := h
  by_cases hi : (ci = 0 ∧ 45 < fs.length)
  · have h : (if (ci = 0 ∧ 45 < fs.length) then nx (sXd ξ a (.inr (ci, fs.set 45 (.ref v)))) kk else False) := h
    rw [if_pos hi] at h
    have he := dO_at hO
    obtain ⟨rfl, hi⟩ : ci = 0 ∧ _ := hi
    have hi : True ∧ _ := ⟨trivial, hi⟩
    exact xdpF_0 (C9 := RX6) (T := TX6) (N := 78) (ci := 0) (j := 45) (ty := .array .int) E in_X6 (fun D9 hK9 => va_apart (own := RX6) E.2.2.2.2 in_X6 tyX6 tyX6_ok nmX6 hK9 rfl) rfl he (by decide) q1546 (fun _ h9 => h9) rfl hmn rfl (by decide +kernel) rfl rfl hi.2 d hn (k _ h)
  · have h : (if (ci = 0 ∧ 45 < fs.length) then nx (sXd ξ a (.inr (ci, fs.set 45 (.ref v)))) kk else False) := h
    rw [if_neg hi] at h; cases h
theorem xdqX6_150 (E : EV p s m args c cc nL RX6) {a : Nat} {v : Nat} {kk : XS → Prop} (hmn : meth.name = "<init>") (d : decode cc pc = .ok (.putfield 150, 3)) (h : bndp (dO ξ a) (fun ci fs => (if (ci = 0 ∧ 46 < fs.length) then nx (sXd ξ a (.inr (ci, fs.set 46 (.ref v)))) kk else False))) (hn : pc + 3 = n) (k : ∀ ξ1 : XS, kk ξ1 → CF p l e R s m args below meth c nL cells slots (XB_0 g A s ξ1) Q n lv st) : CF p l e R s m args below meth c nL cells slots (XB_0 g A s ξ) Q pc lv (.ref v :: .ref a :: st) := by
  obtain ⟨ci, fs, hO, h⟩ := h
  by_cases hi : (ci = 0 ∧ 46 < fs.length)
  · have h : (if (ci = 0 ∧ 46 < fs.length) then nx (sXd ξ a (.inr (ci, fs.set 46 (.ref v)))) kk else False) := h
    rw [if_pos hi] at h
    have he := dO_at hO
    obtain ⟨rfl, hi⟩ : ci = 0 ∧ _ := hi
    have hi : True ∧ _ := ⟨trivial, hi⟩
    exact xdpF_0 (C9 := RX6) (T := TX6) (N := 78) (ci := 0) (j := 46) (ty := .array .int) E in_X6 (fun D9 hK9 => va_apart (own := RX6) E.2.2.2.2 in_X6 tyX6 tyX6_ok nmX6 hK9 rfl) rfl he (by decide) q1547 (fun _ h9 => h9) rfl hmn rfl (by decide +kernel) rfl rfl hi.2 d hn (k _ h)
  · have h : (if (ci = 0 ∧ 46 < fs.length) then nx (sXd ξ a (.inr (ci, fs.set 46 (.ref v)))) kk else False) := h
    rw [if_neg hi] at h; cases h
theorem xdqX6_153 (E : EV p s m args c cc nL RX6) {a : Nat} {v : Int32} {kk : XS → Prop} (d : decode cc pc = .ok (.putfield 153, 3)) (h : bndp (dO ξ a) (fun ci fs => (if (ci = 0 ∧ 47 < fs.length) then nx (sXd ξ a (.inr (ci, fs.set 47 (.int v)))) kk else False))) (hn : pc + 3 = n) (k : ∀ ξ1 : XS, kk ξ1 → CF p l e R s m args below meth c nL cells slots (XB_0 g A s ξ1) Q n lv st) : CF p l e R s m args below meth c nL cells slots (XB_0 g A s ξ) Q pc lv (.int v :: .ref a :: st) := by
  obtain ⟨ci, fs, hO, h⟩ := h
  by_cases hi : (ci = 0 ∧ 47 < fs.length)
  · have h : (if (ci = 0 ∧ 47 < fs.length) then nx (sXd ξ a (.inr (ci, fs.set 47 (.int v)))) kk else False) := h
    rw [if_pos hi] at h
    have he := dO_at hO
    obtain ⟨rfl, hi⟩ : ci = 0 ∧ _ := hi
    have hi : True ∧ _ := ⟨trivial, hi⟩
    exact xdp_0 (C9 := RX6) (T := TX6) (N := 78) (ci := 0) (j := 47) (ty := .int) E in_X6 tyX6 tyX6_ok nmX6 rfl he (by decide) q1548 (fun _ h9 => h9) rfl (by decide +kernel) rfl rfl hi.2 d hn (k _ h)
  · have h : (if (ci = 0 ∧ 47 < fs.length) then nx (sXd ξ a (.inr (ci, fs.set 47 (.int v)))) kk else False) := h
    rw [if_neg hi] at h; cases h
theorem xdqX6_156 (E : EV p s m args c cc nL RX6) {a : Nat} {v : Nat} {kk : XS → Prop} (hmn : meth.name = "<init>") (d : decode cc pc = .ok (.putfield 156, 3)) (h : bndp (dO ξ a) (fun ci fs => (if (ci = 0 ∧ 48 < fs.length) then nx (sXd ξ a (.inr (ci, fs.set 48 (.ref v)))) kk else False))) (hn : pc + 3 = n) (k : ∀ ξ1 : XS, kk ξ1 → CF p l e R s m args below meth c nL cells slots (XB_0 g A s ξ1) Q n lv st) : CF p l e R s m args below meth c nL cells slots (XB_0 g A s ξ) Q pc lv (.ref v :: .ref a :: st) := by
  obtain ⟨ci, fs, hO, h⟩ := h
  by_cases hi : (ci = 0 ∧ 48 < fs.length)
  · have h : (if (ci = 0 ∧ 48 < fs.length) then nx (sXd ξ a (.inr (ci, fs.set 48 (.ref v)))) kk else False) := h
    rw [if_pos hi] at h
    have he := dO_at hO
    obtain ⟨rfl, hi⟩ : ci = 0 ∧ _ := hi
    have hi : True ∧ _ := ⟨trivial, hi⟩
    exact xdpF_0 (C9 := RX6) (T := TX6) (N := 78) (ci := 0) (j := 48) (ty := .array .int) E in_X6 (fun D9 hK9 => va_apart (own := RX6) E.2.2.2.2 in_X6 tyX6 tyX6_ok nmX6 hK9 rfl) rfl he (by decide) q1549 (fun _ h9 => h9) rfl hmn rfl (by decide +kernel) rfl rfl hi.2 d hn (k _ h)
  · have h : (if (ci = 0 ∧ 48 < fs.length) then nx (sXd ξ a (.inr (ci, fs.set 48 (.ref v)))) kk else False) := h
    rw [if_neg hi] at h; cases h
theorem xdqX6_159 (E : EV p s m args c cc nL RX6) {a : Nat} {v : Nat} {kk : XS → Prop} (hmn : meth.name = "<init>") (d : decode cc pc = .ok (.putfield 159, 3)) (h : bndp (dO ξ a) (fun ci fs => (if (ci = 0 ∧ 49 < fs.length) then nx (sXd ξ a (.inr (ci, fs.set 49 (.ref v)))) kk else False))) (hn : pc + 3 = n) (k : ∀ ξ1 : XS, kk ξ1 → CF p l e R s m args below meth c nL cells slots (XB_0 g A s ξ1) Q n lv st) : CF p l e R s m args below meth c nL cells slots (XB_0 g A s ξ) Q pc lv (.ref v :: .ref a :: st) := by
  obtain ⟨ci, fs, hO, h⟩ := h
  by_cases hi : (ci = 0 ∧ 49 < fs.length)
  · have h : (if (ci = 0 ∧ 49 < fs.length) then nx (sXd ξ a (.inr (ci, fs.set 49 (.ref v)))) kk else False) := h
    rw [if_pos hi] at h
    have he := dO_at hO
    obtain ⟨rfl, hi⟩ : ci = 0 ∧ _ := hi
    have hi : True ∧ _ := ⟨trivial, hi⟩
    exact xdpF_0 (C9 := RX6) (T := TX6) (N := 78) (ci := 0) (j := 49) (ty := .array .int) E in_X6 (fun D9 hK9 => va_apart (own := RX6) E.2.2.2.2 in_X6 tyX6 tyX6_ok nmX6 hK9 rfl) rfl he (by decide) q1550 (fun _ h9 => h9) rfl hmn rfl (by decide +kernel) rfl rfl hi.2 d hn (k _ h)
  · have h : (if (ci = 0 ∧ 49 < fs.length) then nx (sXd ξ a (.inr (ci, fs.set 49 (.ref v)))) kk else False) := h
    rw [if_neg hi] at h; cases h
theorem xdqX6_162 (E : EV p s m args c cc nL RX6) {a : Nat} {v : Int32} {kk : XS → Prop} (d : decode cc pc = .ok (.putfield 162, 3)) (h : bndp (dO ξ a) (fun ci fs => (if (ci = 0 ∧ 50 < fs.length ∧ (v = 0 ∨ v = 1)) then nx (sXd ξ a (.inr (ci, fs.set 50 (.int v)))) kk else False))) (hn : pc + 3 = n) (k : ∀ ξ1 : XS, kk ξ1 → CF p l e R s m args below meth c nL cells slots (XB_0 g A s ξ1) Q n lv st) : CF p l e R s m args below meth c nL cells slots (XB_0 g A s ξ) Q pc lv (.int v :: .ref a :: st) := by
  obtain ⟨ci, fs, hO, h⟩ := h
  by_cases hi : (ci = 0 ∧ 50 < fs.length ∧ (v = 0 ∨ v = 1))
  · have h : (if (ci = 0 ∧ 50 < fs.length ∧ (v = 0 ∨ v = 1)) then nx (sXd ξ a (.inr (ci, fs.set 50 (.int v)))) kk else False) := h
    rw [if_pos hi] at h
    have he := dO_at hO
    obtain ⟨rfl, hi⟩ : ci = 0 ∧ _ := hi
    have hi : True ∧ _ := ⟨trivial, hi⟩
    exact xdp_0 (C9 := RX6) (T := TX6) (N := 78) (ci := 0) (j := 50) (ty := .boolean) E in_X6 tyX6 tyX6_ok nmX6 rfl he (by decide) q1551 (fun _ h9 => h9) rfl (by decide +kernel) (nzz hi.2.2) (fzz hi.2.2) hi.2.1 d hn (k _ h)
  · have h : (if (ci = 0 ∧ 50 < fs.length ∧ (v = 0 ∨ v = 1)) then nx (sXd ξ a (.inr (ci, fs.set 50 (.int v)))) kk else False) := h
    rw [if_neg hi] at h; cases h
theorem xdqX6_166 (E : EV p s m args c cc nL RX6) {a : Nat} {v : Int32} {kk : XS → Prop} (d : decode cc pc = .ok (.putfield 166, 3)) (h : bndp (dO ξ a) (fun ci fs => (if (ci = 0 ∧ 51 < fs.length) then nx (sXd ξ a (.inr (ci, fs.set 51 (.int v)))) kk else False))) (hn : pc + 3 = n) (k : ∀ ξ1 : XS, kk ξ1 → CF p l e R s m args below meth c nL cells slots (XB_0 g A s ξ1) Q n lv st) : CF p l e R s m args below meth c nL cells slots (XB_0 g A s ξ) Q pc lv (.int v :: .ref a :: st) := by
  obtain ⟨ci, fs, hO, h⟩ := h
  by_cases hi : (ci = 0 ∧ 51 < fs.length)
  · have h : (if (ci = 0 ∧ 51 < fs.length) then nx (sXd ξ a (.inr (ci, fs.set 51 (.int v)))) kk else False) := h
    rw [if_pos hi] at h
    have he := dO_at hO
    obtain ⟨rfl, hi⟩ : ci = 0 ∧ _ := hi
    have hi : True ∧ _ := ⟨trivial, hi⟩
    exact xdp_0 (C9 := RX6) (T := TX6) (N := 78) (ci := 0) (j := 51) (ty := .int) E in_X6 tyX6 tyX6_ok nmX6 rfl he (by decide) q1552 (fun _ h9 => h9) rfl (by decide +kernel) rfl rfl hi.2 d hn (k _ h)
  · have h : (if (ci = 0 ∧ 51 < fs.length) then nx (sXd ξ a (.inr (ci, fs.set 51 (.int v)))) kk else False) := h
    rw [if_neg hi] at h; cases h
theorem xdqX6_169 (E : EV p s m args c cc nL RX6) {a : Nat} {v : Int32} {kk : XS → Prop} (d : decode cc pc = .ok (.putfield 169, 3)) (h : bndp (dO ξ a) (fun ci fs => (if (ci = 0 ∧ 52 < fs.length) then nx (sXd ξ a (.inr (ci, fs.set 52 (.int v)))) kk else False))) (hn : pc + 3 = n) (k : ∀ ξ1 : XS, kk ξ1 → CF p l e R s m args below meth c nL cells slots (XB_0 g A s ξ1) Q n lv st) : CF p l e R s m args below meth c nL cells slots (XB_0 g A s ξ) Q pc lv (.int v :: .ref a :: st) := by
  obtain ⟨ci, fs, hO, h⟩ := h
  by_cases hi : (ci = 0 ∧ 52 < fs.length)
  · have h : (if (ci = 0 ∧ 52 < fs.length) then nx (sXd ξ a (.inr (ci, fs.set 52 (.int v)))) kk else False) := h
    rw [if_pos hi] at h
    have he := dO_at hO
    obtain ⟨rfl, hi⟩ : ci = 0 ∧ _ := hi
    have hi : True ∧ _ := ⟨trivial, hi⟩
    exact xdp_0 (C9 := RX6) (T := TX6) (N := 78) (ci := 0) (j := 52) (ty := .int) E in_X6 tyX6 tyX6_ok nmX6 rfl he (by decide) q1553 (fun _ h9 => h9) rfl (by decide +kernel) rfl rfl hi.2 d hn (k _ h)
  · have h : (if (ci = 0 ∧ 52 < fs.length) then nx (sXd ξ a (.inr (ci, fs.set 52 (.int v)))) kk else False) := h
    rw [if_neg hi] at h; cases h
theorem xdqX6_172 (E : EV p s m args c cc nL RX6) {a : Nat} {v : Int32} {kk : XS → Prop} (d : decode cc pc = .ok (.putfield 172, 3)) (h : bndp (dO ξ a) (fun ci fs => (if (ci = 0 ∧ 53 < fs.length) then nx (sXd ξ a (.inr (ci, fs.set 53 (.int v)))) kk else False))) (hn : pc + 3 = n) (k : ∀ ξ1 : XS, kk ξ1 → CF p l e R s m args below meth c nL cells slots (XB_0 g A s ξ1) Q n lv st) : CF p l e R s m args below meth c nL cells slots (XB_0 g A s ξ) Q pc lv (.int v :: .ref a :: st) := by
  obtain ⟨ci, fs, hO, h⟩ := h
  by_cases hi : (ci = 0 ∧ 53 < fs.length)
  · have h : (if (ci = 0 ∧ 53 < fs.length) then nx (sXd ξ a (.inr (ci, fs.set 53 (.int v)))) kk else False) := h
    rw [if_pos hi] at h
    have he := dO_at hO
    obtain ⟨rfl, hi⟩ : ci = 0 ∧ _ := hi
    have hi : True ∧ _ := ⟨trivial, hi⟩
    exact xdp_0 (C9 := RX6) (T := TX6) (N := 78) (ci := 0) (j := 53) (ty := .int) E in_X6 tyX6 tyX6_ok nmX6 rfl he (by decide) q1554 (fun _ h9 => h9) rfl (by decide +kernel) rfl rfl hi.2 d hn (k _ h)
  · have h : (if (ci = 0 ∧ 53 < fs.length) then nx (sXd ξ a (.inr (ci, fs.set 53 (.int v)))) kk else False) := h
    rw [if_neg hi] at h; cases h
theorem xdqX6_175 (E : EV p s m args c cc nL RX6) {a : Nat} {v : Int32} {kk : XS → Prop} (d : decode cc pc = .ok (.putfield 175, 3)) (h : bndp (dO ξ a) (fun ci fs => (if (ci = 0 ∧ 54 < fs.length) then nx (sXd ξ a (.inr (ci, fs.set 54 (.int v)))) kk else False))) (hn : pc + 3 = n) (k : ∀ ξ1 : XS, kk ξ1 → CF p l e R s m args below meth c nL cells slots (XB_0 g A s ξ1) Q n lv st) : CF p l e R s m args below meth c nL cells slots (XB_0 g A s ξ) Q pc lv (.int v :: .ref a :: st) := by
  obtain ⟨ci, fs, hO, h⟩ := h
  by_cases hi : (ci = 0 ∧ 54 < fs.length)
  · have h : (if (ci = 0 ∧ 54 < fs.length) then nx (sXd ξ a (.inr (ci, fs.set 54 (.int v)))) kk else False) := h
    rw [if_pos hi] at h
    have he := dO_at hO
    obtain ⟨rfl, hi⟩ : ci = 0 ∧ _ := hi
    have hi : True ∧ _ := ⟨trivial, hi⟩
    exact xdp_0 (C9 := RX6) (T := TX6) (N := 78) (ci := 0) (j := 54) (ty := .int) E in_X6 tyX6 tyX6_ok nmX6 rfl he (by decide) q1555 (fun _ h9 => h9) rfl (by decide +kernel) rfl rfl hi.2 d hn (k _ h)
  · have h : (if (ci = 0 ∧ 54 < fs.length) then nx (sXd ξ a (.inr (ci, fs.set 54 (.int v)))) kk else False) := h
    rw [if_neg hi] at h; cases h
theorem xdqX6_178 (E : EV p s m args c cc nL RX6) {a : Nat} {v : Int32} {kk : XS → Prop} (d : decode cc pc = .ok (.putfield 178, 3)) (h : bndp (dO ξ a) (fun ci fs => (if (ci = 0 ∧ 55 < fs.length) then nx (sXd ξ a (.inr (ci, fs.set 55 (.int v)))) kk else False))) (hn : pc + 3 = n) (k : ∀ ξ1 : XS, kk ξ1 → CF p l e R s m args below meth c nL cells slots (XB_0 g A s ξ1) Q n lv st) : CF p l e R s m args below meth c nL cells slots (XB_0 g A s ξ) Q pc lv (.int v :: .ref a :: st) := by
  obtain ⟨ci, fs, hO, h⟩ := h
  by_cases hi : (ci = 0 ∧ 55 < fs.length)
  · have h : (if (ci = 0 ∧ 55 < fs.length) then nx (sXd ξ a (.inr (ci, fs.set 55 (.int v)))) kk else False) := h
    rw [if_pos hi] at h
    have he := dO_at hO
    obtain ⟨rfl, hi⟩ : ci = 0 ∧ _ := hi
    have hi : True ∧ _ := ⟨trivial, hi⟩
    exact xdp_0 (C9 := RX6) (T := TX6) (N := 78) (ci := 0) (j := 55) (ty := .int) E in_X6 tyX6 tyX6_ok nmX6 rfl he (by decide) q1556 (fun _ h9 => h9) rfl (by decide +kernel) rfl rfl hi.2 d hn (k _ h)
  · have h : (if (ci = 0 ∧ 55 < fs.length) then nx (sXd ξ a (.inr (ci, fs.set 55 (.int v)))) kk else False) := h
    rw [if_neg hi] at h; cases h
theorem xdqX6_181 (E : EV p s m args c cc nL RX6) {a : Nat} {v : Int32} {kk : XS → Prop} (d : decode cc pc = .ok (.putfield 181, 3)) (h : bndp (dO ξ a) (fun ci fs => (if (ci = 0 ∧ 56 < fs.length) then nx (sXd ξ a (.inr (ci, fs.set 56 (.int v)))) kk else False))) (hn : pc + 3 = n) (k : ∀ ξ1 : XS, kk ξ1 → CF p l e R s m args below meth c nL cells slots (XB_0 g A s ξ1) Q n lv st) : CF p l e R s m args below meth c nL cells slots (XB_0 g A s ξ) Q pc lv (.int v :: .ref a :: st) := by
  obtain ⟨ci, fs, hO, h⟩ := h
  by_cases hi : (ci = 0 ∧ 56 < fs.length)
  · have h : (if (ci = 0 ∧ 56 < fs.length) then nx (sXd ξ a (.inr (ci, fs.set 56 (.int v)))) kk else False) := h
    rw [if_pos hi] at h
    have he := dO_at hO
    obtain ⟨rfl, hi⟩ : ci = 0 ∧ _ := hi
    have hi : True ∧ _ := ⟨trivial, hi⟩
    exact xdp_0 (C9 := RX6) (T := TX6) (N := 78) (ci := 0) (j := 56) (ty := .int) E in_X6 tyX6 tyX6_ok nmX6 rfl he (by decide) q1557 (fun _ h9 => h9) rfl (by decide +kernel) rfl rfl hi.2 d hn (k _ h)
  · have h : (if (ci = 0 ∧ 56 < fs.length) then nx (sXd ξ a (.inr (ci, fs.set 56 (.int v)))) kk else False) := h
    rw [if_neg hi] at h; cases h
theorem xdqX6_184 (E : EV p s m args c cc nL RX6) {a : Nat} {v : Nat} {kk : XS → Prop} (hmn : meth.name = "<init>") (d : decode cc pc = .ok (.putfield 184, 3)) (h : bndp (dO ξ a) (fun ci fs => (if (ci = 0 ∧ 57 < fs.length) then nx (sXd ξ a (.inr (ci, fs.set 57 (.ref v)))) kk else False))) (hn : pc + 3 = n) (k : ∀ ξ1 : XS, kk ξ1 → CF p l e R s m args below meth c nL cells slots (XB_0 g A s ξ1) Q n lv st) : CF p l e R s m args below meth c nL cells slots (XB_0 g A s ξ) Q pc lv (.ref v :: .ref a :: st) := by
  obtain ⟨ci, fs, hO, h⟩ := h
  by_cases hi : (ci = 0 ∧ 57 < fs.length)
  · have h : (if (ci = 0 ∧ 57 < fs.length) then nx (sXd ξ a (.inr (ci, fs.set 57 (.ref v)))) kk else False) := h
    rw [if_pos hi] at h
    have he := dO_at hO
    obtain ⟨rfl, hi⟩ : ci = 0 ∧ _ := hi
    have hi : True ∧ _ := ⟨trivial, hi⟩
    exact xdpF_0 (C9 := RX6) (T := TX6) (N := 78) (ci := 0) (j := 57) (ty := .array .int) E in_X6 (fun D9 hK9 => va_apart (own := RX6) E.2.2.2.2 in_X6 tyX6 tyX6_ok nmX6 hK9 rfl) rfl he (by decide) q1558 (fun _ h9 => h9) rfl hmn rfl (by decide +kernel) rfl rfl hi.2 d hn (k _ h)
  · have h : (if (ci = 0 ∧ 57 < fs.length) then nx (sXd ξ a (.inr (ci, fs.set 57 (.ref v)))) kk else False) := h
    rw [if_neg hi] at h; cases h
theorem xdqX6_187 (E : EV p s m args c cc nL RX6) {a : Nat} {v : Nat} {kk : XS → Prop} (hmn : meth.name = "<init>") (d : decode cc pc = .ok (.putfield 187, 3)) (h : bndp (dO ξ a) (fun ci fs => (if (ci = 0 ∧ 58 < fs.length) then nx (sXd ξ a (.inr (ci, fs.set 58 (.ref v)))) kk else False))) (hn : pc + 3 = n) (k : ∀ ξ1 : XS, kk ξ1 → CF p l e R s m args below meth c nL cells slots (XB_0 g A s ξ1) Q n lv st) : CF p l e R s m args below meth c nL cells slots (XB_0 g A s ξ) Q pc lv (.ref v :: .ref a :: st) := by
  obtain ⟨ci, fs, hO, h⟩ := h
  by_cases hi : (ci = 0 ∧ 58 < fs.length)
  · have h : (if (ci = 0 ∧ 58 < fs.length) then nx (sXd ξ a (.inr (ci, fs.set 58 (.ref v)))) kk else False) := h
    rw [if_pos hi] at h
    have he := dO_at hO
    obtain ⟨rfl, hi⟩ : ci = 0 ∧ _ := hi
    have hi : True ∧ _ := ⟨trivial, hi⟩
    exact xdpF_0 (C9 := RX6) (T := TX6) (N := 78) (ci := 0) (j := 58) (ty := .array .int) E in_X6 (fun D9 hK9 => va_apart (own := RX6) E.2.2.2.2 in_X6 tyX6 tyX6_ok nmX6 hK9 rfl) rfl he (by decide) q1559 (fun _ h9 => h9) rfl hmn rfl (by decide +kernel) rfl rfl hi.2 d hn (k _ h)
  · have h : (if (ci = 0 ∧ 58 < fs.length) then nx (sXd ξ a (.inr (ci, fs.set 58 (.ref v)))) kk else False) := h
    rw [if_neg hi] at h; cases h
theorem xdqX6_190 (E : EV p s m args c cc nL RX6) {a : Nat} {v : Nat} {kk : XS → Prop} (hmn : meth.name = "<init>") (d : decode cc pc = .ok (.putfield 190, 3)) (h : bndp (dO ξ a) (fun ci fs => (if (ci = 0 ∧ 59 < fs.length) then nx (sXd ξ a (.inr (ci, fs.set 59 (.ref v)))) kk else False))) (hn : pc + 3 = n) (k : ∀ ξ1 : XS, kk ξ1 → CF p l e R s m args below meth c nL cells slots (XB_0 g A s ξ1) Q n lv st) : CF p l e R s m args below meth c nL cells slots (XB_0 g A s ξ) Q pc lv (.ref v :: .ref a :: st) := by
  obtain ⟨ci, fs, hO, h⟩ := h
  by_cases hi : (ci = 0 ∧ 59 < fs.length)
  · have h : (if (ci = 0 ∧ 59 < fs.length) then nx (sXd ξ a (.inr (ci, fs.set 59 (.ref v)))) kk else False) := h
    rw [if_pos hi] at h
    have he := dO_at hO
    obtain ⟨rfl, hi⟩ : ci = 0 ∧ _ := hi
    have hi : True ∧ _ := ⟨trivial, hi⟩
    exact xdpF_0 (C9 := RX6) (T := TX6) (N := 78) (ci := 0) (j := 59) (ty := .array .int) E in_X6 (fun D9 hK9 => va_apart (own := RX6) E.2.2.2.2 in_X6 tyX6 tyX6_ok nmX6 hK9 rfl) rfl he (by decide) q1560 (fun _ h9 => h9) rfl hmn rfl (by decide +kernel) rfl rfl hi.2 d hn (k _ h)
  · have h : (if (ci = 0 ∧ 59 < fs.length) then nx (sXd ξ a (.inr (ci, fs.set 59 (.ref v)))) kk else False) := h
    rw [if_neg hi] at h; cases h
theorem xdqX6_193 (E : EV p s m args c cc nL RX6) {a : Nat} {v : Nat} {kk : XS → Prop} (hmn : meth.name = "<init>") (d : decode cc pc = .ok (.putfield 193, 3)) (h : bndp (dO ξ a) (fun ci fs => (if (ci = 0 ∧ 60 < fs.length) then nx (sXd ξ a (.inr (ci, fs.set 60 (.ref v)))) kk else False))) (hn : pc + 3 = n) (k : ∀ ξ1 : XS, kk ξ1 → CF p l e R s m args below meth c nL cells slots (XB_0 g A s ξ1) Q n lv st) : CF p l e R s m args below meth c nL cells slots (XB_0 g A s ξ) Q pc lv (.ref v :: .ref a :: st) := by
  obtain ⟨ci, fs, hO, h⟩ := h
  by_cases hi : (ci = 0 ∧ 60 < fs.length)
  · have h : (if (ci = 0 ∧ 60 < fs.length) then nx (sXd ξ a (.inr (ci, fs.set 60 (.ref v)))) kk else False) := h
    rw [if_pos hi] at h
    have he := dO_at hO
    obtain ⟨rfl, hi⟩ : ci = 0 ∧ _ := hi
    have hi : True ∧ _ := ⟨trivial, hi⟩
    exact xdpF_0 (C9 := RX6) (T := TX6) (N := 78) (ci := 0) (j := 60) (ty := .array .int) E in_X6 (fun D9 hK9 => va_apart (own := RX6) E.2.2.2.2 in_X6 tyX6 tyX6_ok nmX6 hK9 rfl) rfl he (by decide) q1561 (fun _ h9 => h9) rfl hmn rfl (by decide +kernel) rfl rfl hi.2 d hn (k _ h)
  · have h : (if (ci = 0 ∧ 60 < fs.length) then nx (sXd ξ a (.inr (ci, fs.set 60 (.ref v)))) kk else False) := h
    rw [if_neg hi] at h; cases h
theorem xdqX6_196 (E : EV p s m args c cc nL RX6) {a : Nat} {v : Nat} {kk : XS → Prop} (hmn : meth.name = "<init>") (d : decode cc pc = .ok (.putfield 196, 3)) (h : bndp (dO ξ a) (fun ci fs => (if (ci = 0 ∧ 61 < fs.length) then nx (sXd ξ a (.inr (ci, fs.set 61 (.ref v)))) kk else False))) (hn : pc + 3 = n) (k : ∀ ξ1 : XS, kk ξ1 → CF p l e R s m args below meth c nL cells slots (XB_0 g A s ξ1) Q n lv st) : CF p l e R s m args below meth c nL cells slots (XB_0 g A s ξ) Q pc lv (.ref v :: .ref a :: st) := by
  obtain ⟨ci, fs, hO, h⟩ := h
  by_cases hi : (ci = 0 ∧ 61 < fs.length)
  · have h : (if (ci = 0 ∧ 61 < fs.length) then nx (sXd ξ a (.inr (ci, fs.set 61 (.ref v)))) kk else False) := h
    rw [if_pos hi] at h
    have he := dO_at hO
    obtain ⟨rfl, hi⟩ : ci = 0 ∧ _ := hi
    have hi : True ∧ _ := ⟨trivial, hi⟩
    exact xdpF_0 (C9 := RX6) (T := TX6) (N := 78) (ci := 0) (j := 61) (ty := .array .int) E in_X6 (fun D9 hK9 => va_apart (own := RX6) E.2.2.2.2 in_X6 tyX6 tyX6_ok nmX6 hK9 rfl) rfl he (by decide) q1562 (fun _ h9 => h9) rfl hmn rfl (by decide +kernel) rfl rfl hi.2 d hn (k _ h)
  · have h : (if (ci = 0 ∧ 61 < fs.length) then nx (sXd ξ a (.inr (ci, fs.set 61 (.ref v)))) kk else False) := h
    rw [if_neg hi] at h; cases h
theorem xdqX6_199 (E : EV p s m args c cc nL RX6) {a : Nat} {v : Nat} {kk : XS → Prop} (hmn : meth.name = "<init>") (d : decode cc pc = .ok (.putfield 199, 3)) (h : bndp (dO ξ a) (fun ci fs => (if (ci = 0 ∧ 62 < fs.length) then nx (sXd ξ a (.inr (ci, fs.set 62 (.ref v)))) kk else False))) (hn : pc + 3 = n) (k : ∀ ξ1 : XS, kk ξ1 → CF p l e R s m args below meth c nL cells slots (XB_0 g A s ξ1) Q n lv st) : CF p l e R s m args below meth c nL cells slots (XB_0 g A s ξ) Q pc lv (.ref v :: .ref a :: st) := by
  obtain ⟨ci, fs, hO, h⟩ := h
  by_cases hi : (ci = 0 ∧ 62 < fs.length)
  · have h : (if (ci = 0 ∧ 62 < fs.length) then nx (sXd ξ a (.inr (ci, fs.set 62 (.ref v)))) kk else False) := h
    rw [if_pos hi] at h
    have he := dO_at hO
    obtain ⟨rfl, hi⟩ : ci = 0 ∧ _ := hi
    have hi : True ∧ _ := ⟨trivial, hi⟩
    exact xdpF_0 (C9 := RX6) (T := TX6) (N := 78) (ci := 0) (j := 62) (ty := .array .int) E in_X6 (fun D9 hK9 => va_apart (own := RX6) E.2.2.2.2 in_X6 tyX6 tyX6_ok nmX6 hK9 rfl) rfl he (by decide) q1563 (fun _ h9 => h9) rfl hmn rfl (by decide +kernel) rfl rfl hi.2 d hn (k _ h)
  · have h : (if (ci = 0 ∧ 62 < fs.length) then nx (sXd ξ a (.inr (ci, fs.set 62 (.ref v)))) kk else False) := h
    rw [if_neg hi] at h; cases h
theorem xdqX6_202 (E : EV p s m args c cc nL RX6) {a : Nat} {v : Nat} {kk : XS → Prop} (hmn : meth.name = "<init>") (d : decode cc pc = .ok (.putfield 202, 3)) (h : bndp (dO ξ a) (fun ci fs => (if (ci = 0 ∧ 63 < fs.length) then nx (sXd ξ a (.inr (ci, fs.set 63 (.ref v)))) kk else False))) (hn : pc + 3 = n) (k : ∀ ξ1 : XS, kk ξ1 → CF p l e R s m args below meth c nL cells slots (XB_0 g A s ξ1) Q n lv st) : CF p l e R s m args below meth c nL cells slots (XB_0 g A s ξ) Q pc lv (.ref v :: .ref a :: st) := by
  obtain ⟨ci, fs, hO, h⟩ := h
  by_cases hi : (ci = 0 ∧ 63 < fs.length)
  · have h : (if (ci = 0 ∧ 63 < fs.length) then nx (sXd ξ a (.inr (ci, fs.set 63 (.ref v)))) kk else False) := h
    rw [if_pos hi] at h
    have he := dO_at hO
    obtain ⟨rfl, hi⟩ : ci = 0 ∧ _ := hi
    have hi : True ∧ _ := ⟨trivial, hi⟩
    exact xdpF_0 (C9 := RX6) (T := TX6) (N := 78) (ci := 0) (j := 63) (ty := .array .int) E in_X6 (fun D9 hK9 => va_apart (own := RX6) E.2.2.2.2 in_X6 tyX6 tyX6_ok nmX6 hK9 rfl) rfl he (by decide) q1564 (fun _ h9 => h9) rfl hmn rfl (by decide +kernel) rfl rfl hi.2 d hn (k _ h)
  · have h : (if (ci = 0 ∧ 63 < fs.length) then nx (sXd ξ a (.inr (ci, fs.set 63 (.ref v)))) kk else False) := h
    rw [if_neg hi] at h; cases h
theorem xdqX6_205 (E : EV p s m args c cc nL RX6) {a : Nat} {v : Nat} {kk : XS → Prop} (hmn : meth.name = "<init>") (d : decode cc pc = .ok (.putfield 205, 3)) (h : bndp (dO ξ a) (fun ci fs => (if (ci = 0 ∧ 64 < fs.length) then nx (sXd ξ a (.inr (ci, fs.set 64 (.ref v)))) kk else False))) (hn : pc + 3 = n) (k : ∀ ξ1 : XS, kk ξ1 → CF p l e R s m args below meth c nL cells slots (XB_0 g A s ξ1) Q n lv st) : CF p l e R s m args below meth c nL cells slots (XB_0 g A s ξ) Q pc lv (.ref v :: .ref a :: st) := by
  obtain ⟨ci, fs, hO, h⟩ := h
  by_cases hi : (ci = 0 ∧ 64 < fs.length)
  · have h : (if (ci = 0 ∧ 64 < fs.length) then nx (sXd ξ a (.inr (ci, fs.set 64 (.ref v)))) kk else False) := h
    rw [if_pos hi] at h
    have he := dO_at hO
    obtain ⟨rfl, hi⟩ : ci = 0 ∧ _ := hi
    have hi : True ∧ _ := ⟨trivial, hi⟩
    exact xdpF_0 (C9 := RX6) (T := TX6) (N := 78) (ci := 0) (j := 64) (ty := .array .int) E in_X6 (fun D9 hK9 => va_apart (own := RX6) E.2.2.2.2 in_X6 tyX6 tyX6_ok nmX6 hK9 rfl) rfl he (by decide) q1565 (fun _ h9 => h9) rfl hmn rfl (by decide +kernel) rfl rfl hi.2 d hn (k _ h)
  · have h : (if (ci = 0 ∧ 64 < fs.length) then nx (sXd ξ a (.inr (ci, fs.set 64 (.ref v)))) kk else False) := h
    rw [if_neg hi] at h; cases h
theorem xdqX6_208 (E : EV p s m args c cc nL RX6) {a : Nat} {v : Nat} {kk : XS → Prop} (hmn : meth.name = "<init>") (d : decode cc pc = .ok (.putfield 208, 3)) (h : bndp (dO ξ a) (fun ci fs => (if (ci = 0 ∧ 65 < fs.length) then nx (sXd ξ a (.inr (ci, fs.set 65 (.ref v)))) kk else False))) (hn : pc + 3 = n) (k : ∀ ξ1 : XS, kk ξ1 → CF p l e R s m args below meth c nL cells slots (XB_0 g A s ξ1) Q n lv st) : CF p l e R s m args below meth c nL cells slots (XB_0 g A s ξ) Q pc lv (.ref v :: .ref a :: st) := by
  obtain ⟨ci, fs, hO, h⟩ := h
  by_cases hi : (ci = 0 ∧ 65 < fs.length)
  · have h : (if (ci = 0 ∧ 65 < fs.length) then nx (sXd ξ a (.inr (ci, fs.set 65 (.ref v)))) kk else False) := h
    rw [if_pos hi] at h
    have he := dO_at hO
    obtain ⟨rfl, hi⟩ : ci = 0 ∧ _ := hi
    have hi : True ∧ _ := ⟨trivial, hi⟩
    exact xdpF_0 (C9 := RX6) (T := TX6) (N := 78) (ci := 0) (j := 65) (ty := .array .int) E in_X6 (fun D9 hK9 => va_apart (own := RX6) E.2.2.2.2 in_X6 tyX6 tyX6_ok nmX6 hK9 rfl) rfl he (by decide) q1566 (fun _ h9 => h9) rfl hmn rfl (by decide +kernel) rfl rfl hi.2 d hn (k _ h)
  · have h : (if (ci = 0 ∧ 65 < fs.length) then nx (sXd ξ a (.inr (ci, fs.set 65 (.ref v)))) kk else False) := h
    rw [if_neg hi] at h; cases h
theorem xdqX6_211 (E : EV p s m args c cc nL RX6) {a : Nat} {v : Nat} {kk : XS → Prop} (hmn : meth.name = "<init>") (d : decode cc pc = .ok (.putfield 211, 3)) (h : bndp (dO ξ a) (fun ci fs => (if (ci = 0 ∧ 66 < fs.length) then nx (sXd ξ a (.inr (ci, fs.set 66 (.ref v)))) kk else False))) (hn : pc + 3 = n) (k : ∀ ξ1 : XS, kk ξ1 → CF p l e R s m args below meth c nL cells slots (XB_0 g A s ξ1) Q n lv st) : CF p l e R s m args below meth c nL cells slots (XB_0 g A s ξ) Q pc lv (.ref v :: .ref a :: st) := by
  obtain ⟨ci, fs, hO, h⟩ := h
  by_cases hi : (ci = 0 ∧ 66 < fs.length)
  · have h : (if (ci = 0 ∧ 66 < fs.length) then nx (sXd ξ a (.inr (ci, fs.set 66 (.ref v)))) kk else False) := h
    rw [if_pos hi] at h
    have he := dO_at hO
    obtain ⟨rfl, hi⟩ : ci = 0 ∧ _ := hi
    have hi : True ∧ _ := ⟨trivial, hi⟩
    exact xdpF_0 (C9 := RX6) (T := TX6) (N := 78) (ci := 0) (j := 66) (ty := .array .int) E in_X6 (fun D9 hK9 => va_apart (own := RX6) E.2.2.2.2 in_X6 tyX6 tyX6_ok nmX6 hK9 rfl) rfl he (by decide) q1567 (fun _ h9 => h9) rfl hmn rfl (by decide +kernel) rfl rfl hi.2 d hn (k _ h)
  · have h : (if (ci = 0 ∧ 66 < fs.length) then nx (sXd ξ a (.inr (ci, fs.set 66 (.ref v)))) kk else False) := h
    rw [if_neg hi] at h; cases h
theorem xdqX6_214 (E : EV p s m args c cc nL RX6) {a : Nat} {v : Nat} {kk : XS → Prop} (hmn : meth.name = "<init>") (d : decode cc pc = .ok (.putfield 214, 3)) (h : bndp (dO ξ a) (fun ci fs => (if (ci = 0 ∧ 67 < fs.length) then nx (sXd ξ a (.inr (ci, fs.set 67 (.ref v)))) kk else False))) (hn : pc + 3 = n) (k : ∀ ξ1 : XS, kk ξ1 → CF p l e R s m args below meth c nL cells slots (XB_0 g A s ξ1) Q n lv st) : CF p l e R s m args below meth c nL cells slots (XB_0 g A s ξ) Q pc lv (.ref v :: .ref a :: st) := by
  obtain ⟨ci, fs, hO, h⟩ := h
  by_cases hi : (ci = 0 ∧ 67 < fs.length)
  · have h : (if (ci = 0 ∧ 67 < fs.length) then nx (sXd ξ a (.inr (ci, fs.set 67 (.ref v)))) kk else False) := h
    rw [if_pos hi] at h
    have he := dO_at hO
    obtain ⟨rfl, hi⟩ : ci = 0 ∧ _ := hi
    have hi : True ∧ _ := ⟨trivial, hi⟩
    exact xdpF_0 (C9 := RX6) (T := TX6) (N := 78) (ci := 0) (j := 67) (ty := .array .int) E in_X6 (fun D9 hK9 => va_apart (own := RX6) E.2.2.2.2 in_X6 tyX6 tyX6_ok nmX6 hK9 rfl) rfl he (by decide) q1568 (fun _ h9 => h9) rfl hmn rfl (by decide +kernel) rfl rfl hi.2 d hn (k _ h)
  · have h : (if (ci = 0 ∧ 67 < fs.length) then nx (sXd ξ a (.inr (ci, fs.set 67 (.ref v)))) kk else False) := h
    rw [if_neg hi] at h; cases h
theorem xdqX6_217 (E : EV p s m args c cc nL RX6) {a : Nat} {v : Nat} {kk : XS → Prop} (hmn : meth.name = "<init>") (d : decode cc pc = .ok (.putfield 217, 3)) (h : bndp (dO ξ a) (fun ci fs => (if (ci = 0 ∧ 68 < fs.length) then nx (sXd ξ a (.inr (ci, fs.set 68 (.ref v)))) kk else False))) (hn : pc + 3 = n) (k : ∀ ξ1 : XS, kk ξ1 → CF p l e R s m args below meth c nL cells slots (XB_0 g A s ξ1) Q n lv st) : CF p l e R s m args below meth c nL cells slots (XB_0 g A s ξ) Q pc lv (.ref v :: .ref a :: st) := by
  obtain ⟨ci, fs, hO, h⟩ := h
  by_cases hi : (ci = 0 ∧ 68 < fs.length)
  · have h : (if (ci = 0 ∧ 68 < fs.length) then nx (sXd ξ a (.inr (ci, fs.set 68 (.ref v)))) kk else False) := h
    rw [if_pos hi] at h
    have he := dO_at hO
    obtain ⟨rfl, hi⟩ : ci = 0 ∧ _ := hi
    have hi : True ∧ _ := ⟨trivial, hi⟩
    exact xdpF_0 (C9 := RX6) (T := TX6) (N := 78) (ci := 0) (j := 68) (ty := .array .int) E in_X6 (fun D9 hK9 => va_apart (own := RX6) E.2.2.2.2 in_X6 tyX6 tyX6_ok nmX6 hK9 rfl) rfl he (by decide) q1569 (fun _ h9 => h9) rfl hmn rfl (by decide +kernel) rfl rfl hi.2 d hn (k _ h)
  · have h : (if (ci = 0 ∧ 68 < fs.length) then nx (sXd ξ a (.inr (ci, fs.set 68 (.ref v)))) kk else False) := h
    rw [if_neg hi] at h; cases h
theorem xdqX6_220 (E : EV p s m args c cc nL RX6) {a : Nat} {v : Nat} {kk : XS → Prop} (hmn : meth.name = "<init>") (d : decode cc pc = .ok (.putfield 220, 3)) (h : bndp (dO ξ a) (fun ci fs => (if (ci = 0 ∧ 69 < fs.length) then nx (sXd ξ a (.inr (ci, fs.set 69 (.ref v)))) kk else False))) (hn : pc + 3 = n) (k : ∀ ξ1 : XS, kk ξ1 → CF p l e R s m args below meth c nL cells slots (XB_0 g A s ξ1) Q n lv st) : CF p l e R s m args below meth c nL cells slots (XB_0 g A s ξ) Q pc lv (.ref v :: .ref a :: st) := by
  obtain ⟨ci, fs, hO, h⟩ := h
  by_cases hi : (ci = 0 ∧ 69 < fs.length)
  · have h : (if (ci = 0 ∧ 69 < fs.length) then nx (sXd ξ a (.inr (ci, fs.set 69 (.ref v)))) kk else False) := h
    rw [if_pos hi] at h
    have he := dO_at hO
    obtain ⟨rfl, hi⟩ : ci = 0 ∧ _ := hi
    have hi : True ∧ _ := ⟨trivial, hi⟩
    exact xdpF_0 (C9 := RX6) (T := TX6) (N := 78) (ci := 0) (j := 69) (ty := .array .int) E in_X6 (fun D9 hK9 => va_apart (own := RX6) E.2.2.2.2 in_X6 tyX6 tyX6_ok nmX6 hK9 rfl) rfl he (by decide) q1570 (fun _ h9 => h9) rfl hmn rfl (by decide +kernel) rfl rfl hi.2 d hn (k _ h)
  · have h : (if (ci = 0 ∧ 69 < fs.length) then nx (sXd ξ a (.inr (ci, fs.set 69 (.ref v)))) kk else False) := h
    rw [if_neg hi] at h; cases h
theorem xdqX6_223 (E : EV p s m args c cc nL RX6) {a : Nat} {v : Nat} {kk : XS → Prop} (hmn : meth.name = "<init>") (d : decode cc pc = .ok (.putfield 223, 3)) (h : bndp (dO ξ a) (fun ci fs => (if (ci = 0 ∧ 70 < fs.length) then nx (sXd ξ a (.inr (ci, fs.set 70 (.ref v)))) kk else False))) (hn : pc + 3 = n) (k : ∀ ξ1 : XS, kk ξ1 → CF p l e R s m args below meth c nL cells slots (XB_0 g A s ξ1) Q n lv st) : CF p l e R s m args below meth c nL cells slots (XB_0 g A s ξ) Q pc lv (.ref v :: .ref a :: st) := by
  obtain ⟨ci, fs, hO, h⟩ := h
  by_cases hi : (ci = 0 ∧ 70 < fs.length)
  · have h : (if (ci = 0 ∧ 70 < fs.length) then nx (sXd ξ a (.inr (ci, fs.set 70 (.ref v)))) kk else False) := h
    rw [if_pos hi] at h
    have he := dO_at hO
    obtain ⟨rfl, hi⟩ : ci = 0 ∧ _ := hi
    have hi : True ∧ _ := ⟨trivial, hi⟩
    exact xdpF_0 (C9 := RX6) (T := TX6) (N := 78) (ci := 0) (j := 70) (ty := .array .int) E in_X6 (fun D9 hK9 => va_apart (own := RX6) E.2.2.2.2 in_X6 tyX6 tyX6_ok nmX6 hK9 rfl) rfl he (by decide) q1571 (fun _ h9 => h9) rfl hmn rfl (by decide +kernel) rfl rfl hi.2 d hn (k _ h)
  · have h : (if (ci = 0 ∧ 70 < fs.length) then nx (sXd ξ a (.inr (ci, fs.set 70 (.ref v)))) kk else False) := h
    rw [if_neg hi] at h; cases h
theorem xdqX6_226 (E : EV p s m args c cc nL RX6) {a : Nat} {v : Nat} {kk : XS → Prop} (hmn : meth.name = "<init>") (d : decode cc pc = .ok (.putfield 226, 3)) (h : bndp (dO ξ a) (fun ci fs => (if (ci = 0 ∧ 71 < fs.length) then nx (sXd ξ a (.inr (ci, fs.set 71 (.ref v)))) kk else False))) (hn : pc + 3 = n) (k : ∀ ξ1 : XS, kk ξ1 → CF p l e R s m args below meth c nL cells slots (XB_0 g A s ξ1) Q n lv st) : CF p l e R s m args below meth c nL cells slots (XB_0 g A s ξ) Q pc lv (.ref v :: .ref a :: st) := by
  obtain ⟨ci, fs, hO, h⟩ := h
  by_cases hi : (ci = 0 ∧ 71 < fs.length)
  · have h : (if (ci = 0 ∧ 71 < fs.length) then nx (sXd ξ a (.inr (ci, fs.set 71 (.ref v)))) kk else False) := h
    rw [if_pos hi] at h
    have he := dO_at hO
    obtain ⟨rfl, hi⟩ : ci = 0 ∧ _ := hi
    have hi : True ∧ _ := ⟨trivial, hi⟩
    exact xdpF_0 (C9 := RX6) (T := TX6) (N := 78) (ci := 0) (j := 71) (ty := .array .int) E in_X6 (fun D9 hK9 => va_apart (own := RX6) E.2.2.2.2 in_X6 tyX6 tyX6_ok nmX6 hK9 rfl) rfl he (by decide) q1572 (fun _ h9 => h9) rfl hmn rfl (by decide +kernel) rfl rfl hi.2 d hn (k _ h)
  · have h : (if (ci = 0 ∧ 71 < fs.length) then nx (sXd ξ a (.inr (ci, fs.set 71 (.ref v)))) kk else False) := h
    rw [if_neg hi] at h; cases h
theorem xdqX6_229 (E : EV p s m args c cc nL RX6) {a : Nat} {v : Int32} {kk : XS → Prop} (d : decode cc pc = .ok (.putfield 229, 3)) (h : bndp (dO ξ a) (fun ci fs => (if (ci = 0 ∧ 72 < fs.length) then nx (sXd ξ a (.inr (ci, fs.set 72 (.int v)))) kk else False))) (hn : pc + 3 = n) (k : ∀ ξ1 : XS, kk ξ1 → CF p l e R s m args below meth c nL cells slots (XB_0 g A s ξ1) Q n lv st) : CF p l e R s m args below meth c nL cells slots (XB_0 g A s ξ) Q pc lv (.int v :: .ref a :: st) := by
  obtain ⟨ci, fs, hO, h⟩ := h
  by_cases hi : (ci = 0 ∧ 72 < fs.length)
  · have h : (if (ci = 0 ∧ 72 < fs.length) then nx (sXd ξ a (.inr (ci, fs.set 72 (.int v)))) kk else False) := h
    rw [if_pos hi] at h
    have he := dO_at hO
    obtain ⟨rfl, hi⟩ : ci = 0 ∧ _ := hi
    have hi : True ∧ _ := ⟨trivial, hi⟩
    exact xdp_0 (C9 := RX6) (T := TX6) (N := 78) (ci := 0) (j := 72) (ty := .int) E in_X6 tyX6 tyX6_ok nmX6 rfl he (by decide) q1573 (fun _ h9 => h9) rfl (by decide +kernel) rfl rfl hi.2 d hn (k _ h)
  · have h : (if (ci = 0 ∧ 72 < fs.length) then nx (sXd ξ a (.inr (ci, fs.set 72 (.int v)))) kk else False) := h
    rw [if_neg hi] at h; cases h
theorem xdqX6_232 (E : EV p s m args c cc nL RX6) {a : Nat} {v : Nat} {kk : XS → Prop} (hmn : meth.name = "<init>") (d : decode cc pc = .ok (.putfield 232, 3)) (h : bndp (dO ξ a) (fun ci fs => (if (ci = 0 ∧ 73 < fs.length) then nx (sXd ξ a (.inr (ci, fs.set 73 (.ref v)))) kk else False))) (hn : pc + 3 = n) (k : ∀ ξ1 : XS, kk ξ1 → CF p l e R s m args below meth c nL cells slots (XB_0 g A s ξ1) Q n lv st) : CF p l e R s m args below meth c nL cells slots (XB_0 g A s ξ) Q pc lv (.ref v :: .ref a :: st) := by
  obtain ⟨ci, fs, hO, h⟩ := h
  by_cases hi : (ci = 0 ∧ 73 < fs.length)
  · have h : (if (ci = 0 ∧ 73 < fs.length) then nx (sXd ξ a (.inr (ci, fs.set 73 (.ref v)))) kk else False) := h
    rw [if_pos hi] at h
    have he := dO_at hO
    obtain ⟨rfl, hi⟩ : ci = 0 ∧ _ := hi
    have hi : True ∧ _ := ⟨trivial, hi⟩
    exact xdpF_0 (C9 := RX6) (T := TX6) (N := 78) (ci := 0) (j := 73) (ty := .array .int) E in_X6 (fun D9 hK9 => va_apart (own := RX6) E.2.2.2.2 in_X6 tyX6 tyX6_ok nmX6 hK9 rfl) rfl he (by decide) q1574 (fun _ h9 => h9) rfl hmn rfl (by decide +kernel) rfl rfl hi.2 d hn (k _ h)
  · have h : (if (ci = 0 ∧ 73 < fs.length) then nx (sXd ξ a (.inr (ci, fs.set 73 (.ref v)))) kk else False) := h
    rw [if_neg hi] at h; cases h
theorem xdqX6_235 (E : EV p s m args c cc nL RX6) {a : Nat} {v : Nat} {kk : XS → Prop} (hmn : meth.name = "<init>") (d : decode cc pc = .ok (.putfield 235, 3)) (h : bndp (dO ξ a) (fun ci fs => (if (ci = 0 ∧ 74 < fs.length) then nx (sXd ξ a (.inr (ci, fs.set 74 (.ref v)))) kk else False))) (hn : pc + 3 = n) (k : ∀ ξ1 : XS, kk ξ1 → CF p l e R s m args below meth c nL cells slots (XB_0 g A s ξ1) Q n lv st) : CF p l e R s m args below meth c nL cells slots (XB_0 g A s ξ) Q pc lv (.ref v :: .ref a :: st) := by
  obtain ⟨ci, fs, hO, h⟩ := h
  by_cases hi : (ci = 0 ∧ 74 < fs.length)
  · have h : (if (ci = 0 ∧ 74 < fs.length) then nx (sXd ξ a (.inr (ci, fs.set 74 (.ref v)))) kk else False) := h
    rw [if_pos hi] at h
    have he := dO_at hO
    obtain ⟨rfl, hi⟩ : ci = 0 ∧ _ := hi
    have hi : True ∧ _ := ⟨trivial, hi⟩
    exact xdpF_0 (C9 := RX6) (T := TX6) (N := 78) (ci := 0) (j := 74) (ty := .array .int) E in_X6 (fun D9 hK9 => va_apart (own := RX6) E.2.2.2.2 in_X6 tyX6 tyX6_ok nmX6 hK9 rfl) rfl he (by decide) q1575 (fun _ h9 => h9) rfl hmn rfl (by decide +kernel) rfl rfl hi.2 d hn (k _ h)
  · have h : (if (ci = 0 ∧ 74 < fs.length) then nx (sXd ξ a (.inr (ci, fs.set 74 (.ref v)))) kk else False) := h
    rw [if_neg hi] at h; cases h
theorem xdqX6_238 (E : EV p s m args c cc nL RX6) {a : Nat} {v : Nat} {kk : XS → Prop} (hmn : meth.name = "<init>") (d : decode cc pc = .ok (.putfield 238, 3)) (h : bndp (dO ξ a) (fun ci fs => (if (ci = 0 ∧ 75 < fs.length) then nx (sXd ξ a (.inr (ci, fs.set 75 (.ref v)))) kk else False))) (hn : pc + 3 = n) (k : ∀ ξ1 : XS, kk ξ1 → CF p l e R s m args below meth c nL cells slots (XB_0 g A s ξ1) Q n lv st) : CF p l e R s m args below meth c nL cells slots (XB_0 g A s ξ) Q pc lv (.ref v :: .ref a :: st) := by
  obtain ⟨ci, fs, hO, h⟩ := h
  by_cases hi : (ci = 0 ∧ 75 < fs.length)
  · have h : (if (ci = 0 ∧ 75 < fs.length) then nx (sXd ξ a (.inr (ci, fs.set 75 (.ref v)))) kk else False) := h
    rw [if_pos hi] at h
    have he := dO_at hO
    obtain ⟨rfl, hi⟩ : ci = 0 ∧ _ := hi
    have hi : True ∧ _ := ⟨trivial, hi⟩
    exact xdpF_0 (C9 := RX6) (T := TX6) (N := 78) (ci := 0) (j := 75) (ty := .array .int) E in_X6 (fun D9 hK9 => va_apart (own := RX6) E.2.2.2.2 in_X6 tyX6 tyX6_ok nmX6 hK9 rfl) rfl he (by decide) q1576 (fun _ h9 => h9) rfl hmn rfl (by decide +kernel) rfl rfl hi.2 d hn (k _ h)
  · have h : (if (ci = 0 ∧ 75 < fs.length) then nx (sXd ξ a (.inr (ci, fs.set 75 (.ref v)))) kk else False) := h
    rw [if_neg hi] at h; cases h
theorem xdqX6_241 (E : EV p s m args c cc nL RX6) {a : Nat} {v : Nat} {kk : XS → Prop} (hmn : meth.name = "<init>") (d : decode cc pc = .ok (.putfield 241, 3)) (h : bndp (dO ξ a) (fun ci fs => (if (ci = 0 ∧ 76 < fs.length) then nx (sXd ξ a (.inr (ci, fs.set 76 (.ref v)))) kk else False))) (hn : pc + 3 = n) (k : ∀ ξ1 : XS, kk ξ1 → CF p l e R s m args below meth c nL cells slots (XB_0 g A s ξ1) Q n lv st) : CF p l e R s m args below meth c nL cells slots (XB_0 g A s ξ) Q pc lv (.ref v :: .ref a :: st) := by
  obtain ⟨ci, fs, hO, h⟩ := h
  by_cases hi : (ci = 0 ∧ 76 < fs.length)
  · have h : (if (ci = 0 ∧ 76 < fs.length) then nx (sXd ξ a (.inr (ci, fs.set 76 (.ref v)))) kk else False) := h
    rw [if_pos hi] at h
    have he := dO_at hO
    obtain ⟨rfl, hi⟩ : ci = 0 ∧ _ := hi
    have hi : True ∧ _ := ⟨trivial, hi⟩
    exact xdpF_0 (C9 := RX6) (T := TX6) (N := 78) (ci := 0) (j := 76) (ty := .array .long) E in_X6 (fun D9 hK9 => va_apart (own := RX6) E.2.2.2.2 in_X6 tyX6 tyX6_ok nmX6 hK9 rfl) rfl he (by decide) q1577 (fun _ h9 => h9) rfl hmn rfl (by decide +kernel) rfl rfl hi.2 d hn (k _ h)
  · have h : (if (ci = 0 ∧ 76 < fs.length) then nx (sXd ξ a (.inr (ci, fs.set 76 (.ref v)))) kk else False) := h
    rw [if_neg hi] at h; cases h
theorem xdqX6_245 (E : EV p s m args c cc nL RX6) {a : Nat} {v : Nat} {kk : XS → Prop} (hmn : meth.name = "<init>") (d : decode cc pc = .ok (.putfield 245, 3)) (h : bndp (dO ξ a) (fun ci fs => (if (ci = 0 ∧ 77 < fs.length) then nx (sXd ξ a (.inr (ci, fs.set 77 (.ref v)))) kk else False))) (hn : pc + 3 = n) (k : ∀ ξ1 : XS, kk ξ1 → CF p l e R s m args below meth c nL cells slots (XB_0 g A s ξ1) Q n lv st) : CF p l e R s m args below meth c nL cells slots (XB_0 g A s ξ) Q pc lv (.ref v :: .ref a :: st) := by
  obtain ⟨ci, fs, hO, h⟩ := h
  by_cases hi : (ci = 0 ∧ 77 < fs.length)
  · have h : (if (ci = 0 ∧ 77 < fs.length) then nx (sXd ξ a (.inr (ci, fs.set 77 (.ref v)))) kk else False) := h
    rw [if_pos hi] at h
    have he := dO_at hO
    obtain ⟨rfl, hi⟩ : ci = 0 ∧ _ := hi
    have hi : True ∧ _ := ⟨trivial, hi⟩
    exact xdpF_0 (C9 := RX6) (T := TX6) (N := 78) (ci := 0) (j := 77) (ty := .array .long) E in_X6 (fun D9 hK9 => va_apart (own := RX6) E.2.2.2.2 in_X6 tyX6 tyX6_ok nmX6 hK9 rfl) rfl he (by decide) q1578 (fun _ h9 => h9) rfl hmn rfl (by decide +kernel) rfl rfl hi.2 d hn (k _ h)
  · have h : (if (ci = 0 ∧ 77 < fs.length) then nx (sXd ξ a (.inr (ci, fs.set 77 (.ref v)))) kk else False) := h
    rw [if_neg hi] at h; cases h
end XC
def y6_init (N : Nat) (g : XG) (a0 : Nat)  (ξ : XS) (mc ms : Nat) (K : XS → Prop) : Prop :=
  bndp (dO ξ a0) fun ci_2 fs_3 => if (ci_2 = 0 ∧ 0 < fs_3.length) then nx (sXd ξ a0 (.inr (ci_2, fs_3.set 0 (.int (0 : Int32))))) (fun s_1 =>
  bndp (dO s_1 a0) fun ci_5 fs_6 => if (ci_5 = 0 ∧ 1 < fs_6.length) then nx (sXd s_1 a0 (.inr (ci_5, fs_6.set 1 (.int (0 : Int32))))) (fun s_4 =>
  bndp (dO s_4 a0) fun ci_8 fs_9 => if (ci_8 = 0 ∧ 2 < fs_9.length) then nx (sXd s_4 a0 (.inr (ci_8, fs_9.set 2 (.int (0 : Int32))))) (fun s_7 =>
  if (¬ (6 : Int32) < 0 ∧ (6 : Int32).toNatClampNeg ≤ 10000) then mkc s_7 (6 : Int32).toNatClampNeg mc ms (fun q_10 =>
  bndp (dO (pXd s_7 q_10 (.inl (xc g 0, (6 : Int32).toNatClampNeg, .inl (fun _ => 0)))) a0) fun ci_12 fs_13 => if (ci_12 = 0 ∧ 3 < fs_13.length) then nx (sXd (pXd s_7 q_10 (.inl (xc g 0, (6 : Int32).toNatClampNeg, .inl (fun _ => 0)))) a0 (.inr (ci_12, fs_13.set 3 (.ref q_10)))) (fun s_11 =>
  if (¬ (6 : Int32) < 0 ∧ (6 : Int32).toNatClampNeg ≤ 10000) then mkc s_11 (6 : Int32).toNatClampNeg (mc - 1) (ms - (6 : Int32).toNatClampNeg) (fun q_14 =>
  bndp (dO (pXd s_11 q_14 (.inl (xc g 0, (6 : Int32).toNatClampNeg, .inl (fun _ => 0)))) a0) fun ci_16 fs_17 => if (ci_16 = 0 ∧ 4 < fs_17.length) then nx (sXd (pXd s_11 q_14 (.inl (xc g 0, (6 : Int32).toNatClampNeg, .inl (fun _ => 0)))) a0 (.inr (ci_16, fs_17.set 4 (.ref q_14)))) (fun s_15 =>
  if (¬ (6 : Int32) < 0 ∧ (6 : Int32).toNatClampNeg ≤ 10000) then mkc s_15 (6 : Int32).toNatClampNeg ((mc - 1) - 1) ((ms - (6 : Int32).toNatClampNeg) - (6 : Int32).toNatClampNeg) (fun q_18 =>
  bndp (dO (pXd s_15 q_18 (.inl (xc g 0, (6 : Int32).toNatClampNeg, .inl (fun _ => 0)))) a0) fun ci_20 fs_21 => if (ci_20 = 0 ∧ 5 < fs_21.length) then nx (sXd (pXd s_15 q_18 (.inl (xc g 0, (6 : Int32).toNatClampNeg, .inl (fun _ => 0)))) a0 (.inr (ci_20, fs_21.set 5 (.ref q_18)))) (fun s_19 =>
  if (¬ (6 : Int32) < 0 ∧ (6 : Int32).toNatClampNeg ≤ 10000) then mkc s_19 (6 : Int32).toNatClampNeg (((mc - 1) - 1) - 1) (((ms - (6 : Int32).toNatClampNeg) - (6 : Int32).toNatClampNeg) - (6 : Int32).toNatClampNeg) (fun q_22 =>
  bndp (dO (pXd s_19 q_22 (.inl (xc g 0, (6 : Int32).toNatClampNeg, .inl (fun _ => 0)))) a0) fun ci_24 fs_25 => if (ci_24 = 0 ∧ 6 < fs_25.length) then nx (sXd (pXd s_19 q_22 (.inl (xc g 0, (6 : Int32).toNatClampNeg, .inl (fun _ => 0)))) a0 (.inr (ci_24, fs_25.set 6 (.ref q_22)))) (fun s_23 =>
  if (¬ (6 : Int32) < 0 ∧ (6 : Int32).toNatClampNeg ≤ 10000) then mkc s_23 (6 : Int32).toNatClampNeg ((((mc - 1) - 1) - 1) - 1) ((((ms - (6 : Int32).toNatClampNeg) - (6 : Int32).toNatClampNeg) - (6 : Int32).toNatClampNeg) - (6 : Int32).toNatClampNeg) (fun q_26 =>
  bndp (dO (pXd s_23 q_26 (.inl (xc g 0, (6 : Int32).toNatClampNeg, .inl (fun _ => 0)))) a0) fun ci_28 fs_29 => if (ci_28 = 0 ∧ 7 < fs_29.length) then nx (sXd (pXd s_23 q_26 (.inl (xc g 0, (6 : Int32).toNatClampNeg, .inl (fun _ => 0)))) a0 (.inr (ci_28, fs_29.set 7 (.ref q_26)))) (fun s_27 =>
  if (¬ (6 : Int32) < 0 ∧ (6 : Int32).toNatClampNeg ≤ 10000) then mkc s_27 (6 : Int32).toNatClampNeg (((((mc - 1) - 1) - 1) - 1) - 1) (((((ms - (6 : Int32).toNatClampNeg) - (6 : Int32).toNatClampNeg) - (6 : Int32).toNatClampNeg) - (6 : Int32).toNatClampNeg) - (6 : Int32).toNatClampNeg) (fun q_30 =>
  bndp (dO (pXd s_27 q_30 (.inl (xc g 0, (6 : Int32).toNatClampNeg, .inl (fun _ => 0)))) a0) fun ci_32 fs_33 => if (ci_32 = 0 ∧ 8 < fs_33.length) then nx (sXd (pXd s_27 q_30 (.inl (xc g 0, (6 : Int32).toNatClampNeg, .inl (fun _ => 0)))) a0 (.inr (ci_32, fs_33.set 8 (.ref q_30)))) (fun s_31 =>
  if (¬ (6 : Int32) < 0 ∧ (6 : Int32).toNatClampNeg ≤ 10000) then mkc s_31 (6 : Int32).toNatClampNeg ((((((mc - 1) - 1) - 1) - 1) - 1) - 1) ((((((ms - (6 : Int32).toNatClampNeg) - (6 : Int32).toNatClampNeg) - (6 : Int32).toNatClampNeg) - (6 : Int32).toNatClampNeg) - (6 : Int32).toNatClampNeg) - (6 : Int32).toNatClampNeg) (fun q_34 =>
  bndp (dO (pXd s_31 q_34 (.inl (xc g 0, (6 : Int32).toNatClampNeg, .inl (fun _ => 0)))) a0) fun ci_36 fs_37 => if (ci_36 = 0 ∧ 9 < fs_37.length) then nx (sXd (pXd s_31 q_34 (.inl (xc g 0, (6 : Int32).toNatClampNeg, .inl (fun _ => 0)))) a0 (.inr (ci_36, fs_37.set 9 (.ref q_34)))) (fun s_35 =>
  if (¬ (6 : Int32) < 0 ∧ (6 : Int32).toNatClampNeg ≤ 10000) then mkc s_35 (6 : Int32).toNatClampNeg (((((((mc - 1) - 1) - 1) - 1) - 1) - 1) - 1) (((((((ms - (6 : Int32).toNatClampNeg) - (6 : Int32).toNatClampNeg) - (6 : Int32).toNatClampNeg) - (6 : Int32).toNatClampNeg) - (6 : Int32).toNatClampNeg) - (6 : Int32).toNatClampNeg) - (6 : Int32).toNatClampNeg) (fun q_38 =>
  bndp (dO (pXd s_35 q_38 (.inl (xc g 0, (6 : Int32).toNatClampNeg, .inl (fun _ => 0)))) a0) fun ci_40 fs_41 => if (ci_40 = 0 ∧ 10 < fs_41.length) then nx (sXd (pXd s_35 q_38 (.inl (xc g 0, (6 : Int32).toNatClampNeg, .inl (fun _ => 0)))) a0 (.inr (ci_40, fs_41.set 10 (.ref q_38)))) (fun s_39 =>
  if (¬ (6 : Int32) < 0 ∧ (6 : Int32).toNatClampNeg ≤ 10000) then mkc s_39 (6 : Int32).toNatClampNeg ((((((((mc - 1) - 1) - 1) - 1) - 1) - 1) - 1) - 1) ((((((((ms - (6 : Int32).toNatClampNeg) - (6 : Int32).toNatClampNeg) - (6 : Int32).toNatClampNeg) - (6 : Int32).toNatClampNeg) - (6 : Int32).toNatClampNeg) - (6 : Int32).toNatClampNeg) - (6 : Int32).toNatClampNeg) - (6 : Int32).toNatClampNeg) (fun q_42 =>
  bndp (dO (pXd s_39 q_42 (.inl (xc g 0, (6 : Int32).toNatClampNeg, .inl (fun _ => 0)))) a0) fun ci_44 fs_45 => if (ci_44 = 0 ∧ 11 < fs_45.length) then nx (sXd (pXd s_39 q_42 (.inl (xc g 0, (6 : Int32).toNatClampNeg, .inl (fun _ => 0)))) a0 (.inr (ci_44, fs_45.set 11 (.ref q_42)))) (fun s_43 =>
  if (¬ (24 : Int32) < 0 ∧ (24 : Int32).toNatClampNeg ≤ 10000) then mkc s_43 (24 : Int32).toNatClampNeg (((((((((mc - 1) - 1) - 1) - 1) - 1) - 1) - 1) - 1) - 1) (((((((((ms - (6 : Int32).toNatClampNeg) - (6 : Int32).toNatClampNeg) - (6 : Int32).toNatClampNeg) - (6 : Int32).toNatClampNeg) - (6 : Int32).toNatClampNeg) - (6 : Int32).toNatClampNeg) - (6 : Int32).toNatClampNeg) - (6 : Int32).toNatClampNeg) - (6 : Int32).toNatClampNeg) (fun q_46 =>
  bndp (dO (pXd s_43 q_46 (.inl (xc g 0, (24 : Int32).toNatClampNeg, .inl (fun _ => 0)))) a0) fun ci_48 fs_49 => if (ci_48 = 0 ∧ 12 < fs_49.length) then nx (sXd (pXd s_43 q_46 (.inl (xc g 0, (24 : Int32).toNatClampNeg, .inl (fun _ => 0)))) a0 (.inr (ci_48, fs_49.set 12 (.ref q_46)))) (fun s_47 =>
  if (¬ (5 : Int32) < 0 ∧ (5 : Int32).toNatClampNeg ≤ 10000) then mkc s_47 (5 : Int32).toNatClampNeg ((((((((((mc - 1) - 1) - 1) - 1) - 1) - 1) - 1) - 1) - 1) - 1) ((((((((((ms - (6 : Int32).toNatClampNeg) - (6 : Int32).toNatClampNeg) - (6 : Int32).toNatClampNeg) - (6 : Int32).toNatClampNeg) - (6 : Int32).toNatClampNeg) - (6 : Int32).toNatClampNeg) - (6 : Int32).toNatClampNeg) - (6 : Int32).toNatClampNeg) - (6 : Int32).toNatClampNeg) - (24 : Int32).toNatClampNeg) (fun q_50 =>
  bndp (dO (pXd s_47 q_50 (.inl (xc g 0, (5 : Int32).toNatClampNeg, .inl (fun _ => 0)))) a0) fun ci_52 fs_53 => if (ci_52 = 0 ∧ 13 < fs_53.length) then nx (sXd (pXd s_47 q_50 (.inl (xc g 0, (5 : Int32).toNatClampNeg, .inl (fun _ => 0)))) a0 (.inr (ci_52, fs_53.set 13 (.ref q_50)))) (fun s_51 =>
  bndp (dO s_51 a0) fun ci_55 fs_56 => if (ci_55 = 0 ∧ 14 < fs_56.length) then nx (sXd s_51 a0 (.inr (ci_55, fs_56.set 14 (.int (0 : Int32))))) (fun s_54 =>
  bndp (dO s_54 a0) fun ci_58 fs_59 => if (ci_58 = 0 ∧ 15 < fs_59.length) then nx (sXd s_54 a0 (.inr (ci_58, fs_59.set 15 (.int (-1 : Int32))))) (fun s_57 =>
  bndp (dO s_57 a0) fun ci_61 fs_62 => if (ci_61 = 0 ∧ 16 < fs_62.length) then nx (sXd s_57 a0 (.inr (ci_61, fs_62.set 16 (.int (0 : Int32))))) (fun s_60 =>
  bndp (dO s_60 a0) fun ci_64 fs_65 => if (ci_64 = 0 ∧ 17 < fs_65.length) then nx (sXd s_60 a0 (.inr (ci_64, fs_65.set 17 (.int (0 : Int32))))) (fun s_63 =>
  bndp (dO s_63 a0) fun ci_67 fs_68 => if (ci_67 = 0 ∧ 18 < fs_68.length) then nx (sXd s_63 a0 (.inr (ci_67, fs_68.set 18 (.int (0 : Int32))))) (fun s_66 =>
  if (¬ (100 : Int32) < 0 ∧ (100 : Int32).toNatClampNeg ≤ 10000) then mkc s_66 (100 : Int32).toNatClampNeg (((((((((((mc - 1) - 1) - 1) - 1) - 1) - 1) - 1) - 1) - 1) - 1) - 1) (((((((((((ms - (6 : Int32).toNatClampNeg) - (6 : Int32).toNatClampNeg) - (6 : Int32).toNatClampNeg) - (6 : Int32).toNatClampNeg) - (6 : Int32).toNatClampNeg) - (6 : Int32).toNatClampNeg) - (6 : Int32).toNatClampNeg) - (6 : Int32).toNatClampNeg) - (6 : Int32).toNatClampNeg) - (24 : Int32).toNatClampNeg) - (5 : Int32).toNatClampNeg) (fun q_69 =>
  bndp (dO (pXd s_66 q_69 (.inl (xc g 0, (100 : Int32).toNatClampNeg, .inl (fun _ => 0)))) a0) fun ci_71 fs_72 => if (ci_71 = 0 ∧ 19 < fs_72.length) then nx (sXd (pXd s_66 q_69 (.inl (xc g 0, (100 : Int32).toNatClampNeg, .inl (fun _ => 0)))) a0 (.inr (ci_71, fs_72.set 19 (.ref q_69)))) (fun s_70 =>
  if (¬ (6 : Int32) < 0 ∧ (6 : Int32).toNatClampNeg ≤ 10000) then mkc s_70 (6 : Int32).toNatClampNeg ((((((((((((mc - 1) - 1) - 1) - 1) - 1) - 1) - 1) - 1) - 1) - 1) - 1) - 1) ((((((((((((ms - (6 : Int32).toNatClampNeg) - (6 : Int32).toNatClampNeg) - (6 : Int32).toNatClampNeg) - (6 : Int32).toNatClampNeg) - (6 : Int32).toNatClampNeg) - (6 : Int32).toNatClampNeg) - (6 : Int32).toNatClampNeg) - (6 : Int32).toNatClampNeg) - (6 : Int32).toNatClampNeg) - (24 : Int32).toNatClampNeg) - (5 : Int32).toNatClampNeg) - (100 : Int32).toNatClampNeg) (fun q_73 =>
  bndp (dO (pXd s_70 q_73 (.inl (xc g 0, (6 : Int32).toNatClampNeg, .inl (fun _ => 0)))) a0) fun ci_75 fs_76 => if (ci_75 = 0 ∧ 20 < fs_76.length) then nx (sXd (pXd s_70 q_73 (.inl (xc g 0, (6 : Int32).toNatClampNeg, .inl (fun _ => 0)))) a0 (.inr (ci_75, fs_76.set 20 (.ref q_73)))) (fun s_74 =>
  if (¬ (60 : Int32) < 0 ∧ (60 : Int32).toNatClampNeg ≤ 10000) then mkc s_74 (60 : Int32).toNatClampNeg (((((((((((((mc - 1) - 1) - 1) - 1) - 1) - 1) - 1) - 1) - 1) - 1) - 1) - 1) - 1) (((((((((((((ms - (6 : Int32).toNatClampNeg) - (6 : Int32).toNatClampNeg) - (6 : Int32).toNatClampNeg) - (6 : Int32).toNatClampNeg) - (6 : Int32).toNatClampNeg) - (6 : Int32).toNatClampNeg) - (6 : Int32).toNatClampNeg) - (6 : Int32).toNatClampNeg) - (6 : Int32).toNatClampNeg) - (24 : Int32).toNatClampNeg) - (5 : Int32).toNatClampNeg) - (100 : Int32).toNatClampNeg) - (6 : Int32).toNatClampNeg) (fun q_77 =>
  bndp (dO (pXd s_74 q_77 (.inl (xc g 0, (60 : Int32).toNatClampNeg, .inl (fun _ => 0)))) a0) fun ci_79 fs_80 => if (ci_79 = 0 ∧ 21 < fs_80.length) then nx (sXd (pXd s_74 q_77 (.inl (xc g 0, (60 : Int32).toNatClampNeg, .inl (fun _ => 0)))) a0 (.inr (ci_79, fs_80.set 21 (.ref q_77)))) (fun s_78 =>
  if (¬ (60 : Int32) < 0 ∧ (60 : Int32).toNatClampNeg ≤ 10000) then mkc s_78 (60 : Int32).toNatClampNeg ((((((((((((((mc - 1) - 1) - 1) - 1) - 1) - 1) - 1) - 1) - 1) - 1) - 1) - 1) - 1) - 1) ((((((((((((((ms - (6 : Int32).toNatClampNeg) - (6 : Int32).toNatClampNeg) - (6 : Int32).toNatClampNeg) - (6 : Int32).toNatClampNeg) - (6 : Int32).toNatClampNeg) - (6 : Int32).toNatClampNeg) - (6 : Int32).toNatClampNeg) - (6 : Int32).toNatClampNeg) - (6 : Int32).toNatClampNeg) - (24 : Int32).toNatClampNeg) - (5 : Int32).toNatClampNeg) - (100 : Int32).toNatClampNeg) - (6 : Int32).toNatClampNeg) - (60 : Int32).toNatClampNeg) (fun q_81 =>
  bndp (dO (pXd s_78 q_81 (.inl (xc g 0, (60 : Int32).toNatClampNeg, .inl (fun _ => 0)))) a0) fun ci_83 fs_84 => if (ci_83 = 0 ∧ 22 < fs_84.length) then nx (sXd (pXd s_78 q_81 (.inl (xc g 0, (60 : Int32).toNatClampNeg, .inl (fun _ => 0)))) a0 (.inr (ci_83, fs_84.set 22 (.ref q_81)))) (fun s_82 =>
  if (¬ (60 : Int32) < 0 ∧ (60 : Int32).toNatClampNeg ≤ 10000) then mkc s_82 (60 : Int32).toNatClampNeg (((((((((((((((mc - 1) - 1) - 1) - 1) - 1) - 1) - 1) - 1) - 1) - 1) - 1) - 1) - 1) - 1) - 1) (((((((((((((((ms - (6 : Int32).toNatClampNeg) - (6 : Int32).toNatClampNeg) - (6 : Int32).toNatClampNeg) - (6 : Int32).toNatClampNeg) - (6 : Int32).toNatClampNeg) - (6 : Int32).toNatClampNeg) - (6 : Int32).toNatClampNeg) - (6 : Int32).toNatClampNeg) - (6 : Int32).toNatClampNeg) - (24 : Int32).toNatClampNeg) - (5 : Int32).toNatClampNeg) - (100 : Int32).toNatClampNeg) - (6 : Int32).toNatClampNeg) - (60 : Int32).toNatClampNeg) - (60 : Int32).toNatClampNeg) (fun q_85 =>
  bndp (dO (pXd s_82 q_85 (.inl (xc g 0, (60 : Int32).toNatClampNeg, .inl (fun _ => 0)))) a0) fun ci_87 fs_88 => if (ci_87 = 0 ∧ 23 < fs_88.length) then nx (sXd (pXd s_82 q_85 (.inl (xc g 0, (60 : Int32).toNatClampNeg, .inl (fun _ => 0)))) a0 (.inr (ci_87, fs_88.set 23 (.ref q_85)))) (fun s_86 =>
  if (¬ (60 : Int32) < 0 ∧ (60 : Int32).toNatClampNeg ≤ 10000) then mkc s_86 (60 : Int32).toNatClampNeg ((((((((((((((((mc - 1) - 1) - 1) - 1) - 1) - 1) - 1) - 1) - 1) - 1) - 1) - 1) - 1) - 1) - 1) - 1) ((((((((((((((((ms - (6 : Int32).toNatClampNeg) - (6 : Int32).toNatClampNeg) - (6 : Int32).toNatClampNeg) - (6 : Int32).toNatClampNeg) - (6 : Int32).toNatClampNeg) - (6 : Int32).toNatClampNeg) - (6 : Int32).toNatClampNeg) - (6 : Int32).toNatClampNeg) - (6 : Int32).toNatClampNeg) - (24 : Int32).toNatClampNeg) - (5 : Int32).toNatClampNeg) - (100 : Int32).toNatClampNeg) - (6 : Int32).toNatClampNeg) - (60 : Int32).toNatClampNeg) - (60 : Int32).toNatClampNeg) - (60 : Int32).toNatClampNeg) (fun q_89 =>
  bndp (dO (pXd s_86 q_89 (.inl (xc g 0, (60 : Int32).toNatClampNeg, .inl (fun _ => 0)))) a0) fun ci_91 fs_92 => if (ci_91 = 0 ∧ 24 < fs_92.length) then nx (sXd (pXd s_86 q_89 (.inl (xc g 0, (60 : Int32).toNatClampNeg, .inl (fun _ => 0)))) a0 (.inr (ci_91, fs_92.set 24 (.ref q_89)))) (fun s_90 =>
  if (¬ (60 : Int32) < 0 ∧ (60 : Int32).toNatClampNeg ≤ 10000) then mkc s_90 (60 : Int32).toNatClampNeg (((((((((((((((((mc - 1) - 1) - 1) - 1) - 1) - 1) - 1) - 1) - 1) - 1) - 1) - 1) - 1) - 1) - 1) - 1) - 1) (((((((((((((((((ms - (6 : Int32).toNatClampNeg) - (6 : Int32).toNatClampNeg) - (6 : Int32).toNatClampNeg) - (6 : Int32).toNatClampNeg) - (6 : Int32).toNatClampNeg) - (6 : Int32).toNatClampNeg) - (6 : Int32).toNatClampNeg) - (6 : Int32).toNatClampNeg) - (6 : Int32).toNatClampNeg) - (24 : Int32).toNatClampNeg) - (5 : Int32).toNatClampNeg) - (100 : Int32).toNatClampNeg) - (6 : Int32).toNatClampNeg) - (60 : Int32).toNatClampNeg) - (60 : Int32).toNatClampNeg) - (60 : Int32).toNatClampNeg) - (60 : Int32).toNatClampNeg) (fun q_93 =>
  bndp (dO (pXd s_90 q_93 (.inl (xc g 0, (60 : Int32).toNatClampNeg, .inl (fun _ => 0)))) a0) fun ci_95 fs_96 => if (ci_95 = 0 ∧ 25 < fs_96.length) then nx (sXd (pXd s_90 q_93 (.inl (xc g 0, (60 : Int32).toNatClampNeg, .inl (fun _ => 0)))) a0 (.inr (ci_95, fs_96.set 25 (.ref q_93)))) (fun s_94 =>
  if (¬ (600 : Int32) < 0 ∧ (600 : Int32).toNatClampNeg ≤ 10000) then mkc s_94 (600 : Int32).toNatClampNeg ((((((((((((((((((mc - 1) - 1) - 1) - 1) - 1) - 1) - 1) - 1) - 1) - 1) - 1) - 1) - 1) - 1) - 1) - 1) - 1) - 1) ((((((((((((((((((ms - (6 : Int32).toNatClampNeg) - (6 : Int32).toNatClampNeg) - (6 : Int32).toNatClampNeg) - (6 : Int32).toNatClampNeg) - (6 : Int32).toNatClampNeg) - (6 : Int32).toNatClampNeg) - (6 : Int32).toNatClampNeg) - (6 : Int32).toNatClampNeg) - (6 : Int32).toNatClampNeg) - (24 : Int32).toNatClampNeg) - (5 : Int32).toNatClampNeg) - (100 : Int32).toNatClampNeg) - (6 : Int32).toNatClampNeg) - (60 : Int32).toNatClampNeg) - (60 : Int32).toNatClampNeg) - (60 : Int32).toNatClampNeg) - (60 : Int32).toNatClampNeg) - (60 : Int32).toNatClampNeg) (fun q_97 =>
  bndp (dO (pXd s_94 q_97 (.inl (xc g 0, (600 : Int32).toNatClampNeg, .inl (fun _ => 0)))) a0) fun ci_99 fs_100 => if (ci_99 = 0 ∧ 26 < fs_100.length) then nx (sXd (pXd s_94 q_97 (.inl (xc g 0, (600 : Int32).toNatClampNeg, .inl (fun _ => 0)))) a0 (.inr (ci_99, fs_100.set 26 (.ref q_97)))) (fun s_98 =>
  if (¬ (101 : Int32) < 0 ∧ (101 : Int32).toNatClampNeg ≤ 10000) then mkc s_98 (101 : Int32).toNatClampNeg (((((((((((((((((((mc - 1) - 1) - 1) - 1) - 1) - 1) - 1) - 1) - 1) - 1) - 1) - 1) - 1) - 1) - 1) - 1) - 1) - 1) - 1) (((((((((((((((((((ms - (6 : Int32).toNatClampNeg) - (6 : Int32).toNatClampNeg) - (6 : Int32).toNatClampNeg) - (6 : Int32).toNatClampNeg) - (6 : Int32).toNatClampNeg) - (6 : Int32).toNatClampNeg) - (6 : Int32).toNatClampNeg) - (6 : Int32).toNatClampNeg) - (6 : Int32).toNatClampNeg) - (24 : Int32).toNatClampNeg) - (5 : Int32).toNatClampNeg) - (100 : Int32).toNatClampNeg) - (6 : Int32).toNatClampNeg) - (60 : Int32).toNatClampNeg) - (60 : Int32).toNatClampNeg) - (60 : Int32).toNatClampNeg) - (60 : Int32).toNatClampNeg) - (60 : Int32).toNatClampNeg) - (600 : Int32).toNatClampNeg) (fun q_101 =>
  bndp (dO (pXd s_98 q_101 (.inl (xc g 0, (101 : Int32).toNatClampNeg, .inl (fun _ => 0)))) a0) fun ci_103 fs_104 => if (ci_103 = 0 ∧ 27 < fs_104.length) then nx (sXd (pXd s_98 q_101 (.inl (xc g 0, (101 : Int32).toNatClampNeg, .inl (fun _ => 0)))) a0 (.inr (ci_103, fs_104.set 27 (.ref q_101)))) (fun s_102 =>
  bndp (dO s_102 a0) fun ci_106 fs_107 => if (ci_106 = 0 ∧ 28 < fs_107.length) then nx (sXd s_102 a0 (.inr (ci_106, fs_107.set 28 (.int (0 : Int32))))) (fun s_105 =>
  bndp (dO s_105 a0) fun ci_109 fs_110 => if (ci_109 = 0 ∧ 29 < fs_110.length) then nx (sXd s_105 a0 (.inr (ci_109, fs_110.set 29 (.int (0 : Int32))))) (fun s_108 =>
  bndp (dO s_108 a0) fun ci_112 fs_113 => if (ci_112 = 0 ∧ 30 < fs_113.length) then nx (sXd s_108 a0 (.inr (ci_112, fs_113.set 30 (.int (0 : Int32))))) (fun s_111 =>
  if (¬ (16 : Int32) < 0 ∧ (16 : Int32).toNatClampNeg ≤ 10000) then mkc s_111 (16 : Int32).toNatClampNeg ((((((((((((((((((((mc - 1) - 1) - 1) - 1) - 1) - 1) - 1) - 1) - 1) - 1) - 1) - 1) - 1) - 1) - 1) - 1) - 1) - 1) - 1) - 1) ((((((((((((((((((((ms - (6 : Int32).toNatClampNeg) - (6 : Int32).toNatClampNeg) - (6 : Int32).toNatClampNeg) - (6 : Int32).toNatClampNeg) - (6 : Int32).toNatClampNeg) - (6 : Int32).toNatClampNeg) - (6 : Int32).toNatClampNeg) - (6 : Int32).toNatClampNeg) - (6 : Int32).toNatClampNeg) - (24 : Int32).toNatClampNeg) - (5 : Int32).toNatClampNeg) - (100 : Int32).toNatClampNeg) - (6 : Int32).toNatClampNeg) - (60 : Int32).toNatClampNeg) - (60 : Int32).toNatClampNeg) - (60 : Int32).toNatClampNeg) - (60 : Int32).toNatClampNeg) - (60 : Int32).toNatClampNeg) - (600 : Int32).toNatClampNeg) - (101 : Int32).toNatClampNeg) (fun q_114 =>
  bndp (dA (pXd s_111 q_114 (.inl (xc g 0, (16 : Int32).toNatClampNeg, .inl (fun _ => 0)))) q_114 (xc g 0)) fun n_116 f_117 => if inb (0 : Int32) n_116 = true then nx (sXd (pXd s_111 q_114 (.inl (xc g 0, (16 : Int32).toNatClampNeg, .inl (fun _ => 0)))) q_114 (.inl (xc g 0, n_116, .inl (upd f_117 (0 : Int32).toNatClampNeg (115 : Int32))))) (fun s_115 =>
  bndp (dA s_115 q_114 (xc g 0)) fun n_119 f_120 => if inb (1 : Int32) n_119 = true then nx (sXd s_115 q_114 (.inl (xc g 0, n_119, .inl (upd f_120 (1 : Int32).toNatClampNeg (117 : Int32))))) (fun s_118 =>
  bndp (dA s_118 q_114 (xc g 0)) fun n_122 f_123 => if inb (2 : Int32) n_122 = true then nx (sXd s_118 q_114 (.inl (xc g 0, n_122, .inl (upd f_123 (2 : Int32).toNatClampNeg (105 : Int32))))) (fun s_121 =>
  bndp (dA s_121 q_114 (xc g 0)) fun n_125 f_126 => if inb (3 : Int32) n_125 = true then nx (sXd s_121 q_114 (.inl (xc g 0, n_125, .inl (upd f_126 (3 : Int32).toNatClampNeg (116 : Int32))))) (fun s_124 =>
  bndp (dA s_124 q_114 (xc g 0)) fun n_128 f_129 => if inb (4 : Int32) n_128 = true then nx (sXd s_124 q_114 (.inl (xc g 0, n_128, .inl (upd f_129 (4 : Int32).toNatClampNeg (103 : Int32))))) (fun s_127 =>
  bndp (dA s_127 q_114 (xc g 0)) fun n_131 f_132 => if inb (5 : Int32) n_131 = true then nx (sXd s_127 q_114 (.inl (xc g 0, n_131, .inl (upd f_132 (5 : Int32).toNatClampNeg (97 : Int32))))) (fun s_130 =>
  bndp (dA s_130 q_114 (xc g 0)) fun n_134 f_135 => if inb (6 : Int32) n_134 = true then nx (sXd s_130 q_114 (.inl (xc g 0, n_134, .inl (upd f_135 (6 : Int32).toNatClampNeg (108 : Int32))))) (fun s_133 =>
  bndp (dA s_133 q_114 (xc g 0)) fun n_137 f_138 => if inb (7 : Int32) n_137 = true then nx (sXd s_133 q_114 (.inl (xc g 0, n_137, .inl (upd f_138 (7 : Int32).toNatClampNeg (108 : Int32))))) (fun s_136 =>
  bndp (dA s_136 q_114 (xc g 0)) fun n_140 f_141 => if inb (8 : Int32) n_140 = true then nx (sXd s_136 q_114 (.inl (xc g 0, n_140, .inl (upd f_141 (8 : Int32).toNatClampNeg (109 : Int32))))) (fun s_139 =>
  bndp (dA s_139 q_114 (xc g 0)) fun n_143 f_144 => if inb (9 : Int32) n_143 = true then nx (sXd s_139 q_114 (.inl (xc g 0, n_143, .inl (upd f_144 (9 : Int32).toNatClampNeg (111 : Int32))))) (fun s_142 =>
  bndp (dA s_142 q_114 (xc g 0)) fun n_146 f_147 => if inb (10 : Int32) n_146 = true then nx (sXd s_142 q_114 (.inl (xc g 0, n_146, .inl (upd f_147 (10 : Int32).toNatClampNeg (116 : Int32))))) (fun s_145 =>
  bndp (dA s_145 q_114 (xc g 0)) fun n_149 f_150 => if inb (11 : Int32) n_149 = true then nx (sXd s_145 q_114 (.inl (xc g 0, n_149, .inl (upd f_150 (11 : Int32).toNatClampNeg (104 : Int32))))) (fun s_148 =>
  bndp (dA s_148 q_114 (xc g 0)) fun n_152 f_153 => if inb (12 : Int32) n_152 = true then nx (sXd s_148 q_114 (.inl (xc g 0, n_152, .inl (upd f_153 (12 : Int32).toNatClampNeg (119 : Int32))))) (fun s_151 =>
  bndp (dA s_151 q_114 (xc g 0)) fun n_155 f_156 => if inb (13 : Int32) n_155 = true then nx (sXd s_151 q_114 (.inl (xc g 0, n_155, .inl (upd f_156 (13 : Int32).toNatClampNeg (111 : Int32))))) (fun s_154 =>
  bndp (dA s_154 q_114 (xc g 0)) fun n_158 f_159 => if inb (14 : Int32) n_158 = true then nx (sXd s_154 q_114 (.inl (xc g 0, n_158, .inl (upd f_159 (14 : Int32).toNatClampNeg (114 : Int32))))) (fun s_157 =>
  bndp (dA s_157 q_114 (xc g 0)) fun n_161 f_162 => if inb (15 : Int32) n_161 = true then nx (sXd s_157 q_114 (.inl (xc g 0, n_161, .inl (upd f_162 (15 : Int32).toNatClampNeg (107 : Int32))))) (fun s_160 =>
  bndp (dO s_160 a0) fun ci_164 fs_165 => if (ci_164 = 0 ∧ 31 < fs_165.length) then nx (sXd s_160 a0 (.inr (ci_164, fs_165.set 31 (.ref q_114)))) (fun s_163 =>
  if (¬ (100 : Int32) < 0 ∧ (100 : Int32).toNatClampNeg ≤ 10000) then mkc s_163 (100 : Int32).toNatClampNeg (((((((((((((((((((((mc - 1) - 1) - 1) - 1) - 1) - 1) - 1) - 1) - 1) - 1) - 1) - 1) - 1) - 1) - 1) - 1) - 1) - 1) - 1) - 1) - 1) (((((((((((((((((((((ms - (6 : Int32).toNatClampNeg) - (6 : Int32).toNatClampNeg) - (6 : Int32).toNatClampNeg) - (6 : Int32).toNatClampNeg) - (6 : Int32).toNatClampNeg) - (6 : Int32).toNatClampNeg) - (6 : Int32).toNatClampNeg) - (6 : Int32).toNatClampNeg) - (6 : Int32).toNatClampNeg) - (24 : Int32).toNatClampNeg) - (5 : Int32).toNatClampNeg) - (100 : Int32).toNatClampNeg) - (6 : Int32).toNatClampNeg) - (60 : Int32).toNatClampNeg) - (60 : Int32).toNatClampNeg) - (60 : Int32).toNatClampNeg) - (60 : Int32).toNatClampNeg) - (60 : Int32).toNatClampNeg) - (600 : Int32).toNatClampNeg) - (101 : Int32).toNatClampNeg) - (16 : Int32).toNatClampNeg) (fun q_166 =>
  bndp (dO (pXd s_163 q_166 (.inl (xc g 2, (100 : Int32).toNatClampNeg, .inl (fun _ => 0)))) a0) fun ci_168 fs_169 => if (ci_168 = 0 ∧ 32 < fs_169.length) then nx (sXd (pXd s_163 q_166 (.inl (xc g 2, (100 : Int32).toNatClampNeg, .inl (fun _ => 0)))) a0 (.inr (ci_168, fs_169.set 32 (.ref q_166)))) (fun s_167 =>
  bndp (dO s_167 a0) fun ci_171 fs_172 => if (ci_171 = 0 ∧ 33 < fs_172.length) then nx (sXd s_167 a0 (.inr (ci_171, fs_172.set 33 (.int (9999 : Int32))))) (fun s_170 =>
  if (¬ (6 : Int32) < 0 ∧ (6 : Int32).toNatClampNeg ≤ 10000) then mkc s_170 (6 : Int32).toNatClampNeg ((((((((((((((((((((((mc - 1) - 1) - 1) - 1) - 1) - 1) - 1) - 1) - 1) - 1) - 1) - 1) - 1) - 1) - 1) - 1) - 1) - 1) - 1) - 1) - 1) - 1) ((((((((((((((((((((((ms - (6 : Int32).toNatClampNeg) - (6 : Int32).toNatClampNeg) - (6 : Int32).toNatClampNeg) - (6 : Int32).toNatClampNeg) - (6 : Int32).toNatClampNeg) - (6 : Int32).toNatClampNeg) - (6 : Int32).toNatClampNeg) - (6 : Int32).toNatClampNeg) - (6 : Int32).toNatClampNeg) - (24 : Int32).toNatClampNeg) - (5 : Int32).toNatClampNeg) - (100 : Int32).toNatClampNeg) - (6 : Int32).toNatClampNeg) - (60 : Int32).toNatClampNeg) - (60 : Int32).toNatClampNeg) - (60 : Int32).toNatClampNeg) - (60 : Int32).toNatClampNeg) - (60 : Int32).toNatClampNeg) - (600 : Int32).toNatClampNeg) - (101 : Int32).toNatClampNeg) - (16 : Int32).toNatClampNeg) - (100 : Int32).toNatClampNeg) (fun q_173 =>
  bndp (dO (pXd s_170 q_173 (.inl (xc g 0, (6 : Int32).toNatClampNeg, .inl (fun _ => 0)))) a0) fun ci_175 fs_176 => if (ci_175 = 0 ∧ 34 < fs_176.length) then nx (sXd (pXd s_170 q_173 (.inl (xc g 0, (6 : Int32).toNatClampNeg, .inl (fun _ => 0)))) a0 (.inr (ci_175, fs_176.set 34 (.ref q_173)))) (fun s_174 =>
  bndp (dO s_174 a0) fun ci_178 fs_179 => if (ci_178 = 0 ∧ 35 < fs_179.length) then nx (sXd s_174 a0 (.inr (ci_178, fs_179.set 35 (.int (0 : Int32))))) (fun s_177 =>
  if (¬ (6 : Int32) < 0 ∧ (6 : Int32).toNatClampNeg ≤ 10000) then mkc s_177 (6 : Int32).toNatClampNeg (((((((((((((((((((((((mc - 1) - 1) - 1) - 1) - 1) - 1) - 1) - 1) - 1) - 1) - 1) - 1) - 1) - 1) - 1) - 1) - 1) - 1) - 1) - 1) - 1) - 1) - 1) (((((((((((((((((((((((ms - (6 : Int32).toNatClampNeg) - (6 : Int32).toNatClampNeg) - (6 : Int32).toNatClampNeg) - (6 : Int32).toNatClampNeg) - (6 : Int32).toNatClampNeg) - (6 : Int32).toNatClampNeg) - (6 : Int32).toNatClampNeg) - (6 : Int32).toNatClampNeg) - (6 : Int32).toNatClampNeg) - (24 : Int32).toNatClampNeg) - (5 : Int32).toNatClampNeg) - (100 : Int32).toNatClampNeg) - (6 : Int32).toNatClampNeg) - (60 : Int32).toNatClampNeg) - (60 : Int32).toNatClampNeg) - (60 : Int32).toNatClampNeg) - (60 : Int32).toNatClampNeg) - (60 : Int32).toNatClampNeg) - (600 : Int32).toNatClampNeg) - (101 : Int32).toNatClampNeg) - (16 : Int32).toNatClampNeg) - (100 : Int32).toNatClampNeg) - (6 : Int32).toNatClampNeg) (fun q_180 =>
  bndp (dO (pXd s_177 q_180 (.inl (xc g 0, (6 : Int32).toNatClampNeg, .inl (fun _ => 0)))) a0) fun ci_182 fs_183 => if (ci_182 = 0 ∧ 36 < fs_183.length) then nx (sXd (pXd s_177 q_180 (.inl (xc g 0, (6 : Int32).toNatClampNeg, .inl (fun _ => 0)))) a0 (.inr (ci_182, fs_183.set 36 (.ref q_180)))) (fun s_181 =>
  if (¬ (6 : Int32) < 0 ∧ (6 : Int32).toNatClampNeg ≤ 10000) then mkc s_181 (6 : Int32).toNatClampNeg ((((((((((((((((((((((((mc - 1) - 1) - 1) - 1) - 1) - 1) - 1) - 1) - 1) - 1) - 1) - 1) - 1) - 1) - 1) - 1) - 1) - 1) - 1) - 1) - 1) - 1) - 1) - 1) ((((((((((((((((((((((((ms - (6 : Int32).toNatClampNeg) - (6 : Int32).toNatClampNeg) - (6 : Int32).toNatClampNeg) - (6 : Int32).toNatClampNeg) - (6 : Int32).toNatClampNeg) - (6 : Int32).toNatClampNeg) - (6 : Int32).toNatClampNeg) - (6 : Int32).toNatClampNeg) - (6 : Int32).toNatClampNeg) - (24 : Int32).toNatClampNeg) - (5 : Int32).toNatClampNeg) - (100 : Int32).toNatClampNeg) - (6 : Int32).toNatClampNeg) - (60 : Int32).toNatClampNeg) - (60 : Int32).toNatClampNeg) - (60 : Int32).toNatClampNeg) - (60 : Int32).toNatClampNeg) - (60 : Int32).toNatClampNeg) - (600 : Int32).toNatClampNeg) - (101 : Int32).toNatClampNeg) - (16 : Int32).toNatClampNeg) - (100 : Int32).toNatClampNeg) - (6 : Int32).toNatClampNeg) - (6 : Int32).toNatClampNeg) (fun q_184 =>
  bndp (dO (pXd s_181 q_184 (.inl (xc g 0, (6 : Int32).toNatClampNeg, .inl (fun _ => 0)))) a0) fun ci_186 fs_187 => if (ci_186 = 0 ∧ 37 < fs_187.length) then nx (sXd (pXd s_181 q_184 (.inl (xc g 0, (6 : Int32).toNatClampNeg, .inl (fun _ => 0)))) a0 (.inr (ci_186, fs_187.set 37 (.ref q_184)))) (fun s_185 =>
  if (¬ (6 : Int32) < 0 ∧ (6 : Int32).toNatClampNeg ≤ 10000) then mkc s_185 (6 : Int32).toNatClampNeg (((((((((((((((((((((((((mc - 1) - 1) - 1) - 1) - 1) - 1) - 1) - 1) - 1) - 1) - 1) - 1) - 1) - 1) - 1) - 1) - 1) - 1) - 1) - 1) - 1) - 1) - 1) - 1) - 1) (((((((((((((((((((((((((ms - (6 : Int32).toNatClampNeg) - (6 : Int32).toNatClampNeg) - (6 : Int32).toNatClampNeg) - (6 : Int32).toNatClampNeg) - (6 : Int32).toNatClampNeg) - (6 : Int32).toNatClampNeg) - (6 : Int32).toNatClampNeg) - (6 : Int32).toNatClampNeg) - (6 : Int32).toNatClampNeg) - (24 : Int32).toNatClampNeg) - (5 : Int32).toNatClampNeg) - (100 : Int32).toNatClampNeg) - (6 : Int32).toNatClampNeg) - (60 : Int32).toNatClampNeg) - (60 : Int32).toNatClampNeg) - (60 : Int32).toNatClampNeg) - (60 : Int32).toNatClampNeg) - (60 : Int32).toNatClampNeg) - (600 : Int32).toNatClampNeg) - (101 : Int32).toNatClampNeg) - (16 : Int32).toNatClampNeg) - (100 : Int32).toNatClampNeg) - (6 : Int32).toNatClampNeg) - (6 : Int32).toNatClampNeg) - (6 : Int32).toNatClampNeg) (fun q_188 =>
  bndp (dO (pXd s_185 q_188 (.inl (xc g 0, (6 : Int32).toNatClampNeg, .inl (fun _ => 0)))) a0) fun ci_190 fs_191 => if (ci_190 = 0 ∧ 38 < fs_191.length) then nx (sXd (pXd s_185 q_188 (.inl (xc g 0, (6 : Int32).toNatClampNeg, .inl (fun _ => 0)))) a0 (.inr (ci_190, fs_191.set 38 (.ref q_188)))) (fun s_189 =>
  if (¬ (36 : Int32) < 0 ∧ (36 : Int32).toNatClampNeg ≤ 10000) then mkc s_189 (36 : Int32).toNatClampNeg ((((((((((((((((((((((((((mc - 1) - 1) - 1) - 1) - 1) - 1) - 1) - 1) - 1) - 1) - 1) - 1) - 1) - 1) - 1) - 1) - 1) - 1) - 1) - 1) - 1) - 1) - 1) - 1) - 1) - 1) ((((((((((((((((((((((((((ms - (6 : Int32).toNatClampNeg) - (6 : Int32).toNatClampNeg) - (6 : Int32).toNatClampNeg) - (6 : Int32).toNatClampNeg) - (6 : Int32).toNatClampNeg) - (6 : Int32).toNatClampNeg) - (6 : Int32).toNatClampNeg) - (6 : Int32).toNatClampNeg) - (6 : Int32).toNatClampNeg) - (24 : Int32).toNatClampNeg) - (5 : Int32).toNatClampNeg) - (100 : Int32).toNatClampNeg) - (6 : Int32).toNatClampNeg) - (60 : Int32).toNatClampNeg) - (60 : Int32).toNatClampNeg) - (60 : Int32).toNatClampNeg) - (60 : Int32).toNatClampNeg) - (60 : Int32).toNatClampNeg) - (600 : Int32).toNatClampNeg) - (101 : Int32).toNatClampNeg) - (16 : Int32).toNatClampNeg) - (100 : Int32).toNatClampNeg) - (6 : Int32).toNatClampNeg) - (6 : Int32).toNatClampNeg) - (6 : Int32).toNatClampNeg) - (6 : Int32).toNatClampNeg) (fun q_192 =>
  bndp (dO (pXd s_189 q_192 (.inl (xc g 0, (36 : Int32).toNatClampNeg, .inl (fun _ => 0)))) a0) fun ci_194 fs_195 => if (ci_194 = 0 ∧ 39 < fs_195.length) then nx (sXd (pXd s_189 q_192 (.inl (xc g 0, (36 : Int32).toNatClampNeg, .inl (fun _ => 0)))) a0 (.inr (ci_194, fs_195.set 39 (.ref q_192)))) (fun s_193 =>
  bndp (dO s_193 a0) fun ci_197 fs_198 => if (ci_197 = 0 ∧ 40 < fs_198.length) then nx (sXd s_193 a0 (.inr (ci_197, fs_198.set 40 (.int (0 : Int32))))) (fun s_196 =>
  if (¬ (448 : Int32) < 0 ∧ (448 : Int32).toNatClampNeg ≤ 10000) then mkc s_196 (448 : Int32).toNatClampNeg (((((((((((((((((((((((((((mc - 1) - 1) - 1) - 1) - 1) - 1) - 1) - 1) - 1) - 1) - 1) - 1) - 1) - 1) - 1) - 1) - 1) - 1) - 1) - 1) - 1) - 1) - 1) - 1) - 1) - 1) - 1) (((((((((((((((((((((((((((ms - (6 : Int32).toNatClampNeg) - (6 : Int32).toNatClampNeg) - (6 : Int32).toNatClampNeg) - (6 : Int32).toNatClampNeg) - (6 : Int32).toNatClampNeg) - (6 : Int32).toNatClampNeg) - (6 : Int32).toNatClampNeg) - (6 : Int32).toNatClampNeg) - (6 : Int32).toNatClampNeg) - (24 : Int32).toNatClampNeg) - (5 : Int32).toNatClampNeg) - (100 : Int32).toNatClampNeg) - (6 : Int32).toNatClampNeg) - (60 : Int32).toNatClampNeg) - (60 : Int32).toNatClampNeg) - (60 : Int32).toNatClampNeg) - (60 : Int32).toNatClampNeg) - (60 : Int32).toNatClampNeg) - (600 : Int32).toNatClampNeg) - (101 : Int32).toNatClampNeg) - (16 : Int32).toNatClampNeg) - (100 : Int32).toNatClampNeg) - (6 : Int32).toNatClampNeg) - (6 : Int32).toNatClampNeg) - (6 : Int32).toNatClampNeg) - (6 : Int32).toNatClampNeg) - (36 : Int32).toNatClampNeg) (fun q_199 =>
  bndp (dO (pXd s_196 q_199 (.inl (xc g 0, (448 : Int32).toNatClampNeg, .inl (fun _ => 0)))) a0) fun ci_201 fs_202 => if (ci_201 = 0 ∧ 41 < fs_202.length) then nx (sXd (pXd s_196 q_199 (.inl (xc g 0, (448 : Int32).toNatClampNeg, .inl (fun _ => 0)))) a0 (.inr (ci_201, fs_202.set 41 (.ref q_199)))) (fun s_200 =>
  if (¬ (64 : Int32) < 0 ∧ (64 : Int32).toNatClampNeg ≤ 10000) then mkc s_200 (64 : Int32).toNatClampNeg ((((((((((((((((((((((((((((mc - 1) - 1) - 1) - 1) - 1) - 1) - 1) - 1) - 1) - 1) - 1) - 1) - 1) - 1) - 1) - 1) - 1) - 1) - 1) - 1) - 1) - 1) - 1) - 1) - 1) - 1) - 1) - 1) ((((((((((((((((((((((((((((ms - (6 : Int32).toNatClampNeg) - (6 : Int32).toNatClampNeg) - (6 : Int32).toNatClampNeg) - (6 : Int32).toNatClampNeg) - (6 : Int32).toNatClampNeg) - (6 : Int32).toNatClampNeg) - (6 : Int32).toNatClampNeg) - (6 : Int32).toNatClampNeg) - (6 : Int32).toNatClampNeg) - (24 : Int32).toNatClampNeg) - (5 : Int32).toNatClampNeg) - (100 : Int32).toNatClampNeg) - (6 : Int32).toNatClampNeg) - (60 : Int32).toNatClampNeg) - (60 : Int32).toNatClampNeg) - (60 : Int32).toNatClampNeg) - (60 : Int32).toNatClampNeg) - (60 : Int32).toNatClampNeg) - (600 : Int32).toNatClampNeg) - (101 : Int32).toNatClampNeg) - (16 : Int32).toNatClampNeg) - (100 : Int32).toNatClampNeg) - (6 : Int32).toNatClampNeg) - (6 : Int32).toNatClampNeg) - (6 : Int32).toNatClampNeg) - (6 : Int32).toNatClampNeg) - (36 : Int32).toNatClampNeg) - (448 : Int32).toNatClampNeg) (fun q_203 =>
  bndp (dO (pXd s_200 q_203 (.inl (xc g 0, (64 : Int32).toNatClampNeg, .inl (fun _ => 0)))) a0) fun ci_205 fs_206 => if (ci_205 = 0 ∧ 42 < fs_206.length) then nx (sXd (pXd s_200 q_203 (.inl (xc g 0, (64 : Int32).toNatClampNeg, .inl (fun _ => 0)))) a0 (.inr (ci_205, fs_206.set 42 (.ref q_203)))) (fun s_204 =>
  bndp (dO s_204 a0) fun ci_208 fs_209 => if (ci_208 = 0 ∧ 43 < fs_209.length) then nx (sXd s_204 a0 (.inr (ci_208, fs_209.set 43 (.int (0 : Int32))))) (fun s_207 =>
  if (¬ (6 : Int32) < 0 ∧ (6 : Int32).toNatClampNeg ≤ 10000) then mkc s_207 (6 : Int32).toNatClampNeg (((((((((((((((((((((((((((((mc - 1) - 1) - 1) - 1) - 1) - 1) - 1) - 1) - 1) - 1) - 1) - 1) - 1) - 1) - 1) - 1) - 1) - 1) - 1) - 1) - 1) - 1) - 1) - 1) - 1) - 1) - 1) - 1) - 1) (((((((((((((((((((((((((((((ms - (6 : Int32).toNatClampNeg) - (6 : Int32).toNatClampNeg) - (6 : Int32).toNatClampNeg) - (6 : Int32).toNatClampNeg) - (6 : Int32).toNatClampNeg) - (6 : Int32).toNatClampNeg) - (6 : Int32).toNatClampNeg) - (6 : Int32).toNatClampNeg) - (6 : Int32).toNatClampNeg) - (24 : Int32).toNatClampNeg) - (5 : Int32).toNatClampNeg) - (100 : Int32).toNatClampNeg) - (6 : Int32).toNatClampNeg) - (60 : Int32).toNatClampNeg) - (60 : Int32).toNatClampNeg) - (60 : Int32).toNatClampNeg) - (60 : Int32).toNatClampNeg) - (60 : Int32).toNatClampNeg) - (600 : Int32).toNatClampNeg) - (101 : Int32).toNatClampNeg) - (16 : Int32).toNatClampNeg) - (100 : Int32).toNatClampNeg) - (6 : Int32).toNatClampNeg) - (6 : Int32).toNatClampNeg) - (6 : Int32).toNatClampNeg) - (6 : Int32).toNatClampNeg) - (36 : Int32).toNatClampNeg) - (448 : Int32).toNatClampNeg) - (64 : Int32).toNatClampNeg) (fun q_210 =>
  bndp (dO (pXd s_207 q_210 (.inl (xc g 0, (6 : Int32).toNatClampNeg, .inl (fun _ => 0)))) a0) fun ci_212 fs_213 => if (ci_212 = 0 ∧ 44 < fs_213.length) then nx (sXd (pXd s_207 q_210 (.inl (xc g 0, (6 : Int32).toNatClampNeg, .inl (fun _ => 0)))) a0 (.inr (ci_212, fs_213.set 44 (.ref q_210)))) (fun s_211 =>
  if (¬ (6 : Int32) < 0 ∧ (6 : Int32).toNatClampNeg ≤ 10000) then mkc s_211 (6 : Int32).toNatClampNeg ((((((((((((((((((((((((((((((mc - 1) - 1) - 1) - 1) - 1) - 1) - 1) - 1) - 1) - 1) - 1) - 1) - 1) - 1) - 1) - 1) - 1) - 1) - 1) - 1) - 1) - 1) - 1) - 1) - 1) - 1) - 1) - 1) - 1) - 1) ((((((((((((((((((((((((((((((ms - (6 : Int32).toNatClampNeg) - (6 : Int32).toNatClampNeg) - (6 : Int32).toNatClampNeg) - (6 : Int32).toNatClampNeg) - (6 : Int32).toNatClampNeg) - (6 : Int32).toNatClampNeg) - (6 : Int32).toNatClampNeg) - (6 : Int32).toNatClampNeg) - (6 : Int32).toNatClampNeg) - (24 : Int32).toNatClampNeg) - (5 : Int32).toNatClampNeg) - (100 : Int32).toNatClampNeg) - (6 : Int32).toNatClampNeg) - (60 : Int32).toNatClampNeg) - (60 : Int32).toNatClampNeg) - (60 : Int32).toNatClampNeg) - (60 : Int32).toNatClampNeg) - (60 : Int32).toNatClampNeg) - (600 : Int32).toNatClampNeg) - (101 : Int32).toNatClampNeg) - (16 : Int32).toNatClampNeg) - (100 : Int32).toNatClampNeg) - (6 : Int32).toNatClampNeg) - (6 : Int32).toNatClampNeg) - (6 : Int32).toNatClampNeg) - (6 : Int32).toNatClampNeg) - (36 : Int32).toNatClampNeg) - (448 : Int32).toNatClampNeg) - (64 : Int32).toNatClampNeg) - (6 : Int32).toNatClampNeg) (fun q_214 =>
  bndp (dO (pXd s_211 q_214 (.inl (xc g 0, (6 : Int32).toNatClampNeg, .inl (fun _ => 0)))) a0) fun ci_216 fs_217 => if (ci_216 = 0 ∧ 45 < fs_217.length) then nx (sXd (pXd s_211 q_214 (.inl (xc g 0, (6 : Int32).toNatClampNeg, .inl (fun _ => 0)))) a0 (.inr (ci_216, fs_217.set 45 (.ref q_214)))) (fun s_215 =>
  if (¬ (64 : Int32) < 0 ∧ (64 : Int32).toNatClampNeg ≤ 10000) then mkc s_215 (64 : Int32).toNatClampNeg (((((((((((((((((((((((((((((((mc - 1) - 1) - 1) - 1) - 1) - 1) - 1) - 1) - 1) - 1) - 1) - 1) - 1) - 1) - 1) - 1) - 1) - 1) - 1) - 1) - 1) - 1) - 1) - 1) - 1) - 1) - 1) - 1) - 1) - 1) - 1) (((((((((((((((((((((((((((((((ms - (6 : Int32).toNatClampNeg) - (6 : Int32).toNatClampNeg) - (6 : Int32).toNatClampNeg) - (6 : Int32).toNatClampNeg) - (6 : Int32).toNatClampNeg) - (6 : Int32).toNatClampNeg) - (6 : Int32).toNatClampNeg) - (6 : Int32).toNatClampNeg) - (6 : Int32).toNatClampNeg) - (24 : Int32).toNatClampNeg) - (5 : Int32).toNatClampNeg) - (100 : Int32).toNatClampNeg) - (6 : Int32).toNatClampNeg) - (60 : Int32).toNatClampNeg) - (60 : Int32).toNatClampNeg) - (60 : Int32).toNatClampNeg) - (60 : Int32).toNatClampNeg) - (60 : Int32).toNatClampNeg) - (600 : Int32).toNatClampNeg) - (101 : Int32).toNatClampNeg) - (16 : Int32).toNatClampNeg) - (100 : Int32).toNatClampNeg) - (6 : Int32).toNatClampNeg) - (6 : Int32).toNatClampNeg) - (6 : Int32).toNatClampNeg) - (6 : Int32).toNatClampNeg) - (36 : Int32).toNatClampNeg) - (448 : Int32).toNatClampNeg) - (64 : Int32).toNatClampNeg) - (6 : Int32).toNatClampNeg) - (6 : Int32).toNatClampNeg) (fun q_218 =>
  bndp (dO (pXd s_215 q_218 (.inl (xc g 0, (64 : Int32).toNatClampNeg, .inl (fun _ => 0)))) a0) fun ci_220 fs_221 => if (ci_220 = 0 ∧ 46 < fs_221.length) then nx (sXd (pXd s_215 q_218 (.inl (xc g 0, (64 : Int32).toNatClampNeg, .inl (fun _ => 0)))) a0 (.inr (ci_220, fs_221.set 46 (.ref q_218)))) (fun s_219 =>
  bndp (dO s_219 a0) fun ci_223 fs_224 => if (ci_223 = 0 ∧ 47 < fs_224.length) then nx (sXd s_219 a0 (.inr (ci_223, fs_224.set 47 (.int (0 : Int32))))) (fun s_222 =>
  if (¬ (8 : Int32) < 0 ∧ (8 : Int32).toNatClampNeg ≤ 10000) then mkc s_222 (8 : Int32).toNatClampNeg ((((((((((((((((((((((((((((((((mc - 1) - 1) - 1) - 1) - 1) - 1) - 1) - 1) - 1) - 1) - 1) - 1) - 1) - 1) - 1) - 1) - 1) - 1) - 1) - 1) - 1) - 1) - 1) - 1) - 1) - 1) - 1) - 1) - 1) - 1) - 1) - 1) ((((((((((((((((((((((((((((((((ms - (6 : Int32).toNatClampNeg) - (6 : Int32).toNatClampNeg) - (6 : Int32).toNatClampNeg) - (6 : Int32).toNatClampNeg) - (6 : Int32).toNatClampNeg) - (6 : Int32).toNatClampNeg) - (6 : Int32).toNatClampNeg) - (6 : Int32).toNatClampNeg) - (6 : Int32).toNatClampNeg) - (24 : Int32).toNatClampNeg) - (5 : Int32).toNatClampNeg) - (100 : Int32).toNatClampNeg) - (6 : Int32).toNatClampNeg) - (60 : Int32).toNatClampNeg) - (60 : Int32).toNatClampNeg) - (60 : Int32).toNatClampNeg) - (60 : Int32).toNatClampNeg) - (60 : Int32).toNatClampNeg) - (600 : Int32).toNatClampNeg) - (101 : Int32).toNatClampNeg) - (16 : Int32).toNatClampNeg) - (100 : Int32).toNatClampNeg) - (6 : Int32).toNatClampNeg) - (6 : Int32).toNatClampNeg) - (6 : Int32).toNatClampNeg) - (6 : Int32).toNatClampNeg) - (36 : Int32).toNatClampNeg) - (448 : Int32).toNatClampNeg) - (64 : Int32).toNatClampNeg) - (6 : Int32).toNatClampNeg) - (6 : Int32).toNatClampNeg) - (64 : Int32).toNatClampNeg) (fun q_225 =>
  bndp (dO (pXd s_222 q_225 (.inl (xc g 0, (8 : Int32).toNatClampNeg, .inl (fun _ => 0)))) a0) fun ci_227 fs_228 => if (ci_227 = 0 ∧ 48 < fs_228.length) then nx (sXd (pXd s_222 q_225 (.inl (xc g 0, (8 : Int32).toNatClampNeg, .inl (fun _ => 0)))) a0 (.inr (ci_227, fs_228.set 48 (.ref q_225)))) (fun s_226 =>
  if (¬ (8 : Int32) < 0 ∧ (8 : Int32).toNatClampNeg ≤ 10000) then mkc s_226 (8 : Int32).toNatClampNeg (((((((((((((((((((((((((((((((((mc - 1) - 1) - 1) - 1) - 1) - 1) - 1) - 1) - 1) - 1) - 1) - 1) - 1) - 1) - 1) - 1) - 1) - 1) - 1) - 1) - 1) - 1) - 1) - 1) - 1) - 1) - 1) - 1) - 1) - 1) - 1) - 1) - 1) (((((((((((((((((((((((((((((((((ms - (6 : Int32).toNatClampNeg) - (6 : Int32).toNatClampNeg) - (6 : Int32).toNatClampNeg) - (6 : Int32).toNatClampNeg) - (6 : Int32).toNatClampNeg) - (6 : Int32).toNatClampNeg) - (6 : Int32).toNatClampNeg) - (6 : Int32).toNatClampNeg) - (6 : Int32).toNatClampNeg) - (24 : Int32).toNatClampNeg) - (5 : Int32).toNatClampNeg) - (100 : Int32).toNatClampNeg) - (6 : Int32).toNatClampNeg) - (60 : Int32).toNatClampNeg) - (60 : Int32).toNatClampNeg) - (60 : Int32).toNatClampNeg) - (60 : Int32).toNatClampNeg) - (60 : Int32).toNatClampNeg) - (600 : Int32).toNatClampNeg) - (101 : Int32).toNatClampNeg) - (16 : Int32).toNatClampNeg) - (100 : Int32).toNatClampNeg) - (6 : Int32).toNatClampNeg) - (6 : Int32).toNatClampNeg) - (6 : Int32).toNatClampNeg) - (6 : Int32).toNatClampNeg) - (36 : Int32).toNatClampNeg) - (448 : Int32).toNatClampNeg) - (64 : Int32).toNatClampNeg) - (6 : Int32).toNatClampNeg) - (6 : Int32).toNatClampNeg) - (64 : Int32).toNatClampNeg) - (8 : Int32).toNatClampNeg) (fun q_229 =>
  bndp (dO (pXd s_226 q_229 (.inl (xc g 0, (8 : Int32).toNatClampNeg, .inl (fun _ => 0)))) a0) fun ci_231 fs_232 => if (ci_231 = 0 ∧ 49 < fs_232.length) then nx (sXd (pXd s_226 q_229 (.inl (xc g 0, (8 : Int32).toNatClampNeg, .inl (fun _ => 0)))) a0 (.inr (ci_231, fs_232.set 49 (.ref q_229)))) (fun s_230 =>
  bndp (dO s_230 a0) fun ci_234 fs_235 => if (ci_234 = 0 ∧ 50 < fs_235.length ∧ ((0 : Int32) = 0 ∨ (0 : Int32) = 1)) then nx (sXd s_230 a0 (.inr (ci_234, fs_235.set 50 (.int (0 : Int32))))) (fun s_233 =>
  bndp (dO s_233 a0) fun ci_237 fs_238 => if (ci_237 = 0 ∧ 51 < fs_238.length) then nx (sXd s_233 a0 (.inr (ci_237, fs_238.set 51 (.int (-1 : Int32))))) (fun s_236 =>
  bndp (dO s_236 a0) fun ci_240 fs_241 => if (ci_240 = 0 ∧ 52 < fs_241.length) then nx (sXd s_236 a0 (.inr (ci_240, fs_241.set 52 (.int (0 : Int32))))) (fun s_239 =>
  bndp (dO s_239 a0) fun ci_243 fs_244 => if (ci_243 = 0 ∧ 53 < fs_244.length) then nx (sXd s_239 a0 (.inr (ci_243, fs_244.set 53 (.int (0 : Int32))))) (fun s_242 =>
  bndp (dO s_242 a0) fun ci_246 fs_247 => if (ci_246 = 0 ∧ 54 < fs_247.length) then nx (sXd s_242 a0 (.inr (ci_246, fs_247.set 54 (.int (0 : Int32))))) (fun s_245 =>
  bndp (dO s_245 a0) fun ci_249 fs_250 => if (ci_249 = 0 ∧ 55 < fs_250.length) then nx (sXd s_245 a0 (.inr (ci_249, fs_250.set 55 (.int (0 : Int32))))) (fun s_248 =>
  bndp (dO s_248 a0) fun ci_252 fs_253 => if (ci_252 = 0 ∧ 56 < fs_253.length) then nx (sXd s_248 a0 (.inr (ci_252, fs_253.set 56 (.int (0 : Int32))))) (fun s_251 =>
  if (¬ (6 : Int32) < 0 ∧ (6 : Int32).toNatClampNeg ≤ 10000) then mkc s_251 (6 : Int32).toNatClampNeg ((((((((((((((((((((((((((((((((((mc - 1) - 1) - 1) - 1) - 1) - 1) - 1) - 1) - 1) - 1) - 1) - 1) - 1) - 1) - 1) - 1) - 1) - 1) - 1) - 1) - 1) - 1) - 1) - 1) - 1) - 1) - 1) - 1) - 1) - 1) - 1) - 1) - 1) - 1) ((((((((((((((((((((((((((((((((((ms - (6 : Int32).toNatClampNeg) - (6 : Int32).toNatClampNeg) - (6 : Int32).toNatClampNeg) - (6 : Int32).toNatClampNeg) - (6 : Int32).toNatClampNeg) - (6 : Int32).toNatClampNeg) - (6 : Int32).toNatClampNeg) - (6 : Int32).toNatClampNeg) - (6 : Int32).toNatClampNeg) - (24 : Int32).toNatClampNeg) - (5 : Int32).toNatClampNeg) - (100 : Int32).toNatClampNeg) - (6 : Int32).toNatClampNeg) - (60 : Int32).toNatClampNeg) - (60 : Int32).toNatClampNeg) - (60 : Int32).toNatClampNeg) - (60 : Int32).toNatClampNeg) - (60 : Int32).toNatClampNeg) - (600 : Int32).toNatClampNeg) - (101 : Int32).toNatClampNeg) - (16 : Int32).toNatClampNeg) - (100 : Int32).toNatClampNeg) - (6 : Int32).toNatClampNeg) - (6 : Int32).toNatClampNeg) - (6 : Int32).toNatClampNeg) - (6 : Int32).toNatClampNeg) - (36 : Int32).toNatClampNeg) - (448 : Int32).toNatClampNeg) - (64 : Int32).toNatClampNeg) - (6 : Int32).toNatClampNeg) - (6 : Int32).toNatClampNeg) - (64 : Int32).toNatClampNeg) - (8 : Int32).toNatClampNeg) - (8 : Int32).toNatClampNeg) (fun q_254 =>
  bndp (dO (pXd s_251 q_254 (.inl (xc g 0, (6 : Int32).toNatClampNeg, .inl (fun _ => 0)))) a0) fun ci_256 fs_257 => if (ci_256 = 0 ∧ 57 < fs_257.length) then nx (sXd (pXd s_251 q_254 (.inl (xc g 0, (6 : Int32).toNatClampNeg, .inl (fun _ => 0)))) a0 (.inr (ci_256, fs_257.set 57 (.ref q_254)))) (fun s_255 =>
  if (¬ (6 : Int32) < 0 ∧ (6 : Int32).toNatClampNeg ≤ 10000) then mkc s_255 (6 : Int32).toNatClampNeg (((((((((((((((((((((((((((((((((((mc - 1) - 1) - 1) - 1) - 1) - 1) - 1) - 1) - 1) - 1) - 1) - 1) - 1) - 1) - 1) - 1) - 1) - 1) - 1) - 1) - 1) - 1) - 1) - 1) - 1) - 1) - 1) - 1) - 1) - 1) - 1) - 1) - 1) - 1) - 1) (((((((((((((((((((((((((((((((((((ms - (6 : Int32).toNatClampNeg) - (6 : Int32).toNatClampNeg) - (6 : Int32).toNatClampNeg) - (6 : Int32).toNatClampNeg) - (6 : Int32).toNatClampNeg) - (6 : Int32).toNatClampNeg) - (6 : Int32).toNatClampNeg) - (6 : Int32).toNatClampNeg) - (6 : Int32).toNatClampNeg) - (24 : Int32).toNatClampNeg) - (5 : Int32).toNatClampNeg) - (100 : Int32).toNatClampNeg) - (6 : Int32).toNatClampNeg) - (60 : Int32).toNatClampNeg) - (60 : Int32).toNatClampNeg) - (60 : Int32).toNatClampNeg) - (60 : Int32).toNatClampNeg) - (60 : Int32).toNatClampNeg) - (600 : Int32).toNatClampNeg) - (101 : Int32).toNatClampNeg) - (16 : Int32).toNatClampNeg) - (100 : Int32).toNatClampNeg) - (6 : Int32).toNatClampNeg) - (6 : Int32).toNatClampNeg) - (6 : Int32).toNatClampNeg) - (6 : Int32).toNatClampNeg) - (36 : Int32).toNatClampNeg) - (448 : Int32).toNatClampNeg) - (64 : Int32).toNatClampNeg) - (6 : Int32).toNatClampNeg) - (6 : Int32).toNatClampNeg) - (64 : Int32).toNatClampNeg) - (8 : Int32).toNatClampNeg) - (8 : Int32).toNatClampNeg) - (6 : Int32).toNatClampNeg) (fun q_258 =>
  bndp (dO (pXd s_255 q_258 (.inl (xc g 0, (6 : Int32).toNatClampNeg, .inl (fun _ => 0)))) a0) fun ci_260 fs_261 => if (ci_260 = 0 ∧ 58 < fs_261.length) then nx (sXd (pXd s_255 q_258 (.inl (xc g 0, (6 : Int32).toNatClampNeg, .inl (fun _ => 0)))) a0 (.inr (ci_260, fs_261.set 58 (.ref q_258)))) (fun s_259 =>
  if (¬ (6 : Int32) < 0 ∧ (6 : Int32).toNatClampNeg ≤ 10000) then mkc s_259 (6 : Int32).toNatClampNeg ((((((((((((((((((((((((((((((((((((mc - 1) - 1) - 1) - 1) - 1) - 1) - 1) - 1) - 1) - 1) - 1) - 1) - 1) - 1) - 1) - 1) - 1) - 1) - 1) - 1) - 1) - 1) - 1) - 1) - 1) - 1) - 1) - 1) - 1) - 1) - 1) - 1) - 1) - 1) - 1) - 1) ((((((((((((((((((((((((((((((((((((ms - (6 : Int32).toNatClampNeg) - (6 : Int32).toNatClampNeg) - (6 : Int32).toNatClampNeg) - (6 : Int32).toNatClampNeg) - (6 : Int32).toNatClampNeg) - (6 : Int32).toNatClampNeg) - (6 : Int32).toNatClampNeg) - (6 : Int32).toNatClampNeg) - (6 : Int32).toNatClampNeg) - (24 : Int32).toNatClampNeg) - (5 : Int32).toNatClampNeg) - (100 : Int32).toNatClampNeg) - (6 : Int32).toNatClampNeg) - (60 : Int32).toNatClampNeg) - (60 : Int32).toNatClampNeg) - (60 : Int32).toNatClampNeg) - (60 : Int32).toNatClampNeg) - (60 : Int32).toNatClampNeg) - (600 : Int32).toNatClampNeg) - (101 : Int32).toNatClampNeg) - (16 : Int32).toNatClampNeg) - (100 : Int32).toNatClampNeg) - (6 : Int32).toNatClampNeg) - (6 : Int32).toNatClampNeg) - (6 : Int32).toNatClampNeg) - (6 : Int32).toNatClampNeg) - (36 : Int32).toNatClampNeg) - (448 : Int32).toNatClampNeg) - (64 : Int32).toNatClampNeg) - (6 : Int32).toNatClampNeg) - (6 : Int32).toNatClampNeg) - (64 : Int32).toNatClampNeg) - (8 : Int32).toNatClampNeg) - (8 : Int32).toNatClampNeg) - (6 : Int32).toNatClampNeg) - (6 : Int32).toNatClampNeg) (fun q_262 =>
  bndp (dO (pXd s_259 q_262 (.inl (xc g 0, (6 : Int32).toNatClampNeg, .inl (fun _ => 0)))) a0) fun ci_264 fs_265 => if (ci_264 = 0 ∧ 59 < fs_265.length) then nx (sXd (pXd s_259 q_262 (.inl (xc g 0, (6 : Int32).toNatClampNeg, .inl (fun _ => 0)))) a0 (.inr (ci_264, fs_265.set 59 (.ref q_262)))) (fun s_263 =>
  if (¬ (6 : Int32) < 0 ∧ (6 : Int32).toNatClampNeg ≤ 10000) then mkc s_263 (6 : Int32).toNatClampNeg (((((((((((((((((((((((((((((((((((((mc - 1) - 1) - 1) - 1) - 1) - 1) - 1) - 1) - 1) - 1) - 1) - 1) - 1) - 1) - 1) - 1) - 1) - 1) - 1) - 1) - 1) - 1) - 1) - 1) - 1) - 1) - 1) - 1) - 1) - 1) - 1) - 1) - 1) - 1) - 1) - 1) - 1) (((((((((((((((((((((((((((((((((((((ms - (6 : Int32).toNatClampNeg) - (6 : Int32).toNatClampNeg) - (6 : Int32).toNatClampNeg) - (6 : Int32).toNatClampNeg) - (6 : Int32).toNatClampNeg) - (6 : Int32).toNatClampNeg) - (6 : Int32).toNatClampNeg) - (6 : Int32).toNatClampNeg) - (6 : Int32).toNatClampNeg) - (24 : Int32).toNatClampNeg) - (5 : Int32).toNatClampNeg) - (100 : Int32).toNatClampNeg) - (6 : Int32).toNatClampNeg) - (60 : Int32).toNatClampNeg) - (60 : Int32).toNatClampNeg) - (60 : Int32).toNatClampNeg) - (60 : Int32).toNatClampNeg) - (60 : Int32).toNatClampNeg) - (600 : Int32).toNatClampNeg) - (101 : Int32).toNatClampNeg) - (16 : Int32).toNatClampNeg) - (100 : Int32).toNatClampNeg) - (6 : Int32).toNatClampNeg) - (6 : Int32).toNatClampNeg) - (6 : Int32).toNatClampNeg) - (6 : Int32).toNatClampNeg) - (36 : Int32).toNatClampNeg) - (448 : Int32).toNatClampNeg) - (64 : Int32).toNatClampNeg) - (6 : Int32).toNatClampNeg) - (6 : Int32).toNatClampNeg) - (64 : Int32).toNatClampNeg) - (8 : Int32).toNatClampNeg) - (8 : Int32).toNatClampNeg) - (6 : Int32).toNatClampNeg) - (6 : Int32).toNatClampNeg) - (6 : Int32).toNatClampNeg) (fun q_266 =>
  bndp (dO (pXd s_263 q_266 (.inl (xc g 0, (6 : Int32).toNatClampNeg, .inl (fun _ => 0)))) a0) fun ci_268 fs_269 => if (ci_268 = 0 ∧ 60 < fs_269.length) then nx (sXd (pXd s_263 q_266 (.inl (xc g 0, (6 : Int32).toNatClampNeg, .inl (fun _ => 0)))) a0 (.inr (ci_268, fs_269.set 60 (.ref q_266)))) (fun s_267 =>
  if (¬ (6 : Int32) < 0 ∧ (6 : Int32).toNatClampNeg ≤ 10000) then mkc s_267 (6 : Int32).toNatClampNeg ((((((((((((((((((((((((((((((((((((((mc - 1) - 1) - 1) - 1) - 1) - 1) - 1) - 1) - 1) - 1) - 1) - 1) - 1) - 1) - 1) - 1) - 1) - 1) - 1) - 1) - 1) - 1) - 1) - 1) - 1) - 1) - 1) - 1) - 1) - 1) - 1) - 1) - 1) - 1) - 1) - 1) - 1) - 1) ((((((((((((((((((((((((((((((((((((((ms - (6 : Int32).toNatClampNeg) - (6 : Int32).toNatClampNeg) - (6 : Int32).toNatClampNeg) - (6 : Int32).toNatClampNeg) - (6 : Int32).toNatClampNeg) - (6 : Int32).toNatClampNeg) - (6 : Int32).toNatClampNeg) - (6 : Int32).toNatClampNeg) - (6 : Int32).toNatClampNeg) - (24 : Int32).toNatClampNeg) - (5 : Int32).toNatClampNeg) - (100 : Int32).toNatClampNeg) - (6 : Int32).toNatClampNeg) - (60 : Int32).toNatClampNeg) - (60 : Int32).toNatClampNeg) - (60 : Int32).toNatClampNeg) - (60 : Int32).toNatClampNeg) - (60 : Int32).toNatClampNeg) - (600 : Int32).toNatClampNeg) - (101 : Int32).toNatClampNeg) - (16 : Int32).toNatClampNeg) - (100 : Int32).toNatClampNeg) - (6 : Int32).toNatClampNeg) - (6 : Int32).toNatClampNeg) - (6 : Int32).toNatClampNeg) - (6 : Int32).toNatClampNeg) - (36 : Int32).toNatClampNeg) - (448 : Int32).toNatClampNeg) - (64 : Int32).toNatClampNeg) - (6 : Int32).toNatClampNeg) - (6 : Int32).toNatClampNeg) - (64 : Int32).toNatClampNeg) - (8 : Int32).toNatClampNeg) - (8 : Int32).toNatClampNeg) - (6 : Int32).toNatClampNeg) - (6 : Int32).toNatClampNeg) - (6 : Int32).toNatClampNeg) - (6 : Int32).toNatClampNeg) (fun q_270 =>
  bndp (dO (pXd s_267 q_270 (.inl (xc g 0, (6 : Int32).toNatClampNeg, .inl (fun _ => 0)))) a0) fun ci_272 fs_273 => if (ci_272 = 0 ∧ 61 < fs_273.length) then nx (sXd (pXd s_267 q_270 (.inl (xc g 0, (6 : Int32).toNatClampNeg, .inl (fun _ => 0)))) a0 (.inr (ci_272, fs_273.set 61 (.ref q_270)))) (fun s_271 =>
  if (¬ (6 : Int32) < 0 ∧ (6 : Int32).toNatClampNeg ≤ 10000) then mkc s_271 (6 : Int32).toNatClampNeg (((((((((((((((((((((((((((((((((((((((mc - 1) - 1) - 1) - 1) - 1) - 1) - 1) - 1) - 1) - 1) - 1) - 1) - 1) - 1) - 1) - 1) - 1) - 1) - 1) - 1) - 1) - 1) - 1) - 1) - 1) - 1) - 1) - 1) - 1) - 1) - 1) - 1) - 1) - 1) - 1) - 1) - 1) - 1) - 1) (((((((((((((((((((((((((((((((((((((((ms - (6 : Int32).toNatClampNeg) - (6 : Int32).toNatClampNeg) - (6 : Int32).toNatClampNeg) - (6 : Int32).toNatClampNeg) - (6 : Int32).toNatClampNeg) - (6 : Int32).toNatClampNeg) - (6 : Int32).toNatClampNeg) - (6 : Int32).toNatClampNeg) - (6 : Int32).toNatClampNeg) - (24 : Int32).toNatClampNeg) - (5 : Int32).toNatClampNeg) - (100 : Int32).toNatClampNeg) - (6 : Int32).toNatClampNeg) - (60 : Int32).toNatClampNeg) - (60 : Int32).toNatClampNeg) - (60 : Int32).toNatClampNeg) - (60 : Int32).toNatClampNeg) - (60 : Int32).toNatClampNeg) - (600 : Int32).toNatClampNeg) - (101 : Int32).toNatClampNeg) - (16 : Int32).toNatClampNeg) - (100 : Int32).toNatClampNeg) - (6 : Int32).toNatClampNeg) - (6 : Int32).toNatClampNeg) - (6 : Int32).toNatClampNeg) - (6 : Int32).toNatClampNeg) - (36 : Int32).toNatClampNeg) - (448 : Int32).toNatClampNeg) - (64 : Int32).toNatClampNeg) - (6 : Int32).toNatClampNeg) - (6 : Int32).toNatClampNeg) - (64 : Int32).toNatClampNeg) - (8 : Int32).toNatClampNeg) - (8 : Int32).toNatClampNeg) - (6 : Int32).toNatClampNeg) - (6 : Int32).toNatClampNeg) - (6 : Int32).toNatClampNeg) - (6 : Int32).toNatClampNeg) - (6 : Int32).toNatClampNeg) (fun q_274 =>
  bndp (dO (pXd s_271 q_274 (.inl (xc g 0, (6 : Int32).toNatClampNeg, .inl (fun _ => 0)))) a0) fun ci_276 fs_277 => if (ci_276 = 0 ∧ 62 < fs_277.length) then nx (sXd (pXd s_271 q_274 (.inl (xc g 0, (6 : Int32).toNatClampNeg, .inl (fun _ => 0)))) a0 (.inr (ci_276, fs_277.set 62 (.ref q_274)))) (fun s_275 =>
  if (¬ (6 : Int32) < 0 ∧ (6 : Int32).toNatClampNeg ≤ 10000) then mkc s_275 (6 : Int32).toNatClampNeg ((((((((((((((((((((((((((((((((((((((((mc - 1) - 1) - 1) - 1) - 1) - 1) - 1) - 1) - 1) - 1) - 1) - 1) - 1) - 1) - 1) - 1) - 1) - 1) - 1) - 1) - 1) - 1) - 1) - 1) - 1) - 1) - 1) - 1) - 1) - 1) - 1) - 1) - 1) - 1) - 1) - 1) - 1) - 1) - 1) - 1) ((((((((((((((((((((((((((((((((((((((((ms - (6 : Int32).toNatClampNeg) - (6 : Int32).toNatClampNeg) - (6 : Int32).toNatClampNeg) - (6 : Int32).toNatClampNeg) - (6 : Int32).toNatClampNeg) - (6 : Int32).toNatClampNeg) - (6 : Int32).toNatClampNeg) - (6 : Int32).toNatClampNeg) - (6 : Int32).toNatClampNeg) - (24 : Int32).toNatClampNeg) - (5 : Int32).toNatClampNeg) - (100 : Int32).toNatClampNeg) - (6 : Int32).toNatClampNeg) - (60 : Int32).toNatClampNeg) - (60 : Int32).toNatClampNeg) - (60 : Int32).toNatClampNeg) - (60 : Int32).toNatClampNeg) - (60 : Int32).toNatClampNeg) - (600 : Int32).toNatClampNeg) - (101 : Int32).toNatClampNeg) - (16 : Int32).toNatClampNeg) - (100 : Int32).toNatClampNeg) - (6 : Int32).toNatClampNeg) - (6 : Int32).toNatClampNeg) - (6 : Int32).toNatClampNeg) - (6 : Int32).toNatClampNeg) - (36 : Int32).toNatClampNeg) - (448 : Int32).toNatClampNeg) - (64 : Int32).toNatClampNeg) - (6 : Int32).toNatClampNeg) - (6 : Int32).toNatClampNeg) - (64 : Int32).toNatClampNeg) - (8 : Int32).toNatClampNeg) - (8 : Int32).toNatClampNeg) - (6 : Int32).toNatClampNeg) - (6 : Int32).toNatClampNeg) - (6 : Int32).toNatClampNeg) - (6 : Int32).toNatClampNeg) - (6 : Int32).toNatClampNeg) - (6 : Int32).toNatClampNeg) (fun q_278 =>
  bndp (dO (pXd s_275 q_278 (.inl (xc g 0, (6 : Int32).toNatClampNeg, .inl (fun _ => 0)))) a0) fun ci_280 fs_281 => if (ci_280 = 0 ∧ 63 < fs_281.length) then nx (sXd (pXd s_275 q_278 (.inl (xc g 0, (6 : Int32).toNatClampNeg, .inl (fun _ => 0)))) a0 (.inr (ci_280, fs_281.set 63 (.ref q_278)))) (fun s_279 =>
  if (¬ (6 : Int32) < 0 ∧ (6 : Int32).toNatClampNeg ≤ 10000) then mkc s_279 (6 : Int32).toNatClampNeg (((((((((((((((((((((((((((((((((((((((((mc - 1) - 1) - 1) - 1) - 1) - 1) - 1) - 1) - 1) - 1) - 1) - 1) - 1) - 1) - 1) - 1) - 1) - 1) - 1) - 1) - 1) - 1) - 1) - 1) - 1) - 1) - 1) - 1) - 1) - 1) - 1) - 1) - 1) - 1) - 1) - 1) - 1) - 1) - 1) - 1) - 1) (((((((((((((((((((((((((((((((((((((((((ms - (6 : Int32).toNatClampNeg) - (6 : Int32).toNatClampNeg) - (6 : Int32).toNatClampNeg) - (6 : Int32).toNatClampNeg) - (6 : Int32).toNatClampNeg) - (6 : Int32).toNatClampNeg) - (6 : Int32).toNatClampNeg) - (6 : Int32).toNatClampNeg) - (6 : Int32).toNatClampNeg) - (24 : Int32).toNatClampNeg) - (5 : Int32).toNatClampNeg) - (100 : Int32).toNatClampNeg) - (6 : Int32).toNatClampNeg) - (60 : Int32).toNatClampNeg) - (60 : Int32).toNatClampNeg) - (60 : Int32).toNatClampNeg) - (60 : Int32).toNatClampNeg) - (60 : Int32).toNatClampNeg) - (600 : Int32).toNatClampNeg) - (101 : Int32).toNatClampNeg) - (16 : Int32).toNatClampNeg) - (100 : Int32).toNatClampNeg) - (6 : Int32).toNatClampNeg) - (6 : Int32).toNatClampNeg) - (6 : Int32).toNatClampNeg) - (6 : Int32).toNatClampNeg) - (36 : Int32).toNatClampNeg) - (448 : Int32).toNatClampNeg) - (64 : Int32).toNatClampNeg) - (6 : Int32).toNatClampNeg) - (6 : Int32).toNatClampNeg) - (64 : Int32).toNatClampNeg) - (8 : Int32).toNatClampNeg) - (8 : Int32).toNatClampNeg) - (6 : Int32).toNatClampNeg) - (6 : Int32).toNatClampNeg) - (6 : Int32).toNatClampNeg) - (6 : Int32).toNatClampNeg) - (6 : Int32).toNatClampNeg) - (6 : Int32).toNatClampNeg) - (6 : Int32).toNatClampNeg) (fun q_282 =>
  bndp (dO (pXd s_279 q_282 (.inl (xc g 0, (6 : Int32).toNatClampNeg, .inl (fun _ => 0)))) a0) fun ci_284 fs_285 => if (ci_284 = 0 ∧ 64 < fs_285.length) then nx (sXd (pXd s_279 q_282 (.inl (xc g 0, (6 : Int32).toNatClampNeg, .inl (fun _ => 0)))) a0 (.inr (ci_284, fs_285.set 64 (.ref q_282)))) (fun s_283 =>
  if (¬ (6 : Int32) < 0 ∧ (6 : Int32).toNatClampNeg ≤ 10000) then mkc s_283 (6 : Int32).toNatClampNeg ((((((((((((((((((((((((((((((((((((((((((mc - 1) - 1) - 1) - 1) - 1) - 1) - 1) - 1) - 1) - 1) - 1) - 1) - 1) - 1) - 1) - 1) - 1) - 1) - 1) - 1) - 1) - 1) - 1) - 1) - 1) - 1) - 1) - 1) - 1) - 1) - 1) - 1) - 1) - 1) - 1) - 1) - 1) - 1) - 1) - 1) - 1) - 1) ((((((((((((((((((((((((((((((((((((((((((ms - (6 : Int32).toNatClampNeg) - (6 : Int32).toNatClampNeg) - (6 : Int32).toNatClampNeg) - (6 : Int32).toNatClampNeg) - (6 : Int32).toNatClampNeg) - (6 : Int32).toNatClampNeg) - (6 : Int32).toNatClampNeg) - (6 : Int32).toNatClampNeg) - (6 : Int32).toNatClampNeg) - (24 : Int32).toNatClampNeg) - (5 : Int32).toNatClampNeg) - (100 : Int32).toNatClampNeg) - (6 : Int32).toNatClampNeg) - (60 : Int32).toNatClampNeg) - (60 : Int32).toNatClampNeg) - (60 : Int32).toNatClampNeg) - (60 : Int32).toNatClampNeg) - (60 : Int32).toNatClampNeg) - (600 : Int32).toNatClampNeg) - (101 : Int32).toNatClampNeg) - (16 : Int32).toNatClampNeg) - (100 : Int32).toNatClampNeg) - (6 : Int32).toNatClampNeg) - (6 : Int32).toNatClampNeg) - (6 : Int32).toNatClampNeg) - (6 : Int32).toNatClampNeg) - (36 : Int32).toNatClampNeg) - (448 : Int32).toNatClampNeg) - (64 : Int32).toNatClampNeg) - (6 : Int32).toNatClampNeg) - (6 : Int32).toNatClampNeg) - (64 : Int32).toNatClampNeg) - (8 : Int32).toNatClampNeg) - (8 : Int32).toNatClampNeg) - (6 : Int32).toNatClampNeg) - (6 : Int32).toNatClampNeg) - (6 : Int32).toNatClampNeg) - (6 : Int32).toNatClampNeg) - (6 : Int32).toNatClampNeg) - (6 : Int32).toNatClampNeg) - (6 : Int32).toNatClampNeg) - (6 : Int32).toNatClampNeg) (fun q_286 =>
  bndp (dO (pXd s_283 q_286 (.inl (xc g 0, (6 : Int32).toNatClampNeg, .inl (fun _ => 0)))) a0) fun ci_288 fs_289 => if (ci_288 = 0 ∧ 65 < fs_289.length) then nx (sXd (pXd s_283 q_286 (.inl (xc g 0, (6 : Int32).toNatClampNeg, .inl (fun _ => 0)))) a0 (.inr (ci_288, fs_289.set 65 (.ref q_286)))) (fun s_287 =>
  if (¬ (24 : Int32) < 0 ∧ (24 : Int32).toNatClampNeg ≤ 10000) then mkc s_287 (24 : Int32).toNatClampNeg (((((((((((((((((((((((((((((((((((((((((((mc - 1) - 1) - 1) - 1) - 1) - 1) - 1) - 1) - 1) - 1) - 1) - 1) - 1) - 1) - 1) - 1) - 1) - 1) - 1) - 1) - 1) - 1) - 1) - 1) - 1) - 1) - 1) - 1) - 1) - 1) - 1) - 1) - 1) - 1) - 1) - 1) - 1) - 1) - 1) - 1) - 1) - 1) - 1) (((((((((((((((((((((((((((((((((((((((((((ms - (6 : Int32).toNatClampNeg) - (6 : Int32).toNatClampNeg) - (6 : Int32).toNatClampNeg) - (6 : Int32).toNatClampNeg) - (6 : Int32).toNatClampNeg) - (6 : Int32).toNatClampNeg) - (6 : Int32).toNatClampNeg) - (6 : Int32).toNatClampNeg) - (6 : Int32).toNatClampNeg) - (24 : Int32).toNatClampNeg) - (5 : Int32).toNatClampNeg) - (100 : Int32).toNatClampNeg) - (6 : Int32).toNatClampNeg) - (60 : Int32).toNatClampNeg) - (60 : Int32).toNatClampNeg) - (60 : Int32).toNatClampNeg) - (60 : Int32).toNatClampNeg) - (60 : Int32).toNatClampNeg) - (600 : Int32).toNatClampNeg) - (101 : Int32).toNatClampNeg) - (16 : Int32).toNatClampNeg) - (100 : Int32).toNatClampNeg) - (6 : Int32).toNatClampNeg) - (6 : Int32).toNatClampNeg) - (6 : Int32).toNatClampNeg) - (6 : Int32).toNatClampNeg) - (36 : Int32).toNatClampNeg) - (448 : Int32).toNatClampNeg) - (64 : Int32).toNatClampNeg) - (6 : Int32).toNatClampNeg) - (6 : Int32).toNatClampNeg) - (64 : Int32).toNatClampNeg) - (8 : Int32).toNatClampNeg) - (8 : Int32).toNatClampNeg) - (6 : Int32).toNatClampNeg) - (6 : Int32).toNatClampNeg) - (6 : Int32).toNatClampNeg) - (6 : Int32).toNatClampNeg) - (6 : Int32).toNatClampNeg) - (6 : Int32).toNatClampNeg) - (6 : Int32).toNatClampNeg) - (6 : Int32).toNatClampNeg) - (6 : Int32).toNatClampNeg) (fun q_290 =>
  bndp (dO (pXd s_287 q_290 (.inl (xc g 0, (24 : Int32).toNatClampNeg, .inl (fun _ => 0)))) a0) fun ci_292 fs_293 => if (ci_292 = 0 ∧ 66 < fs_293.length) then nx (sXd (pXd s_287 q_290 (.inl (xc g 0, (24 : Int32).toNatClampNeg, .inl (fun _ => 0)))) a0 (.inr (ci_292, fs_293.set 66 (.ref q_290)))) (fun s_291 =>
  if (¬ (5 : Int32) < 0 ∧ (5 : Int32).toNatClampNeg ≤ 10000) then mkc s_291 (5 : Int32).toNatClampNeg ((((((((((((((((((((((((((((((((((((((((((((mc - 1) - 1) - 1) - 1) - 1) - 1) - 1) - 1) - 1) - 1) - 1) - 1) - 1) - 1) - 1) - 1) - 1) - 1) - 1) - 1) - 1) - 1) - 1) - 1) - 1) - 1) - 1) - 1) - 1) - 1) - 1) - 1) - 1) - 1) - 1) - 1) - 1) - 1) - 1) - 1) - 1) - 1) - 1) - 1) ((((((((((((((((((((((((((((((((((((((((((((ms - (6 : Int32).toNatClampNeg) - (6 : Int32).toNatClampNeg) - (6 : Int32).toNatClampNeg) - (6 : Int32).toNatClampNeg) - (6 : Int32).toNatClampNeg) - (6 : Int32).toNatClampNeg) - (6 : Int32).toNatClampNeg) - (6 : Int32).toNatClampNeg) - (6 : Int32).toNatClampNeg) - (24 : Int32).toNatClampNeg) - (5 : Int32).toNatClampNeg) - (100 : Int32).toNatClampNeg) - (6 : Int32).toNatClampNeg) - (60 : Int32).toNatClampNeg) - (60 : Int32).toNatClampNeg) - (60 : Int32).toNatClampNeg) - (60 : Int32).toNatClampNeg) - (60 : Int32).toNatClampNeg) - (600 : Int32).toNatClampNeg) - (101 : Int32).toNatClampNeg) - (16 : Int32).toNatClampNeg) - (100 : Int32).toNatClampNeg) - (6 : Int32).toNatClampNeg) - (6 : Int32).toNatClampNeg) - (6 : Int32).toNatClampNeg) - (6 : Int32).toNatClampNeg) - (36 : Int32).toNatClampNeg) - (448 : Int32).toNatClampNeg) - (64 : Int32).toNatClampNeg) - (6 : Int32).toNatClampNeg) - (6 : Int32).toNatClampNeg) - (64 : Int32).toNatClampNeg) - (8 : Int32).toNatClampNeg) - (8 : Int32).toNatClampNeg) - (6 : Int32).toNatClampNeg) - (6 : Int32).toNatClampNeg) - (6 : Int32).toNatClampNeg) - (6 : Int32).toNatClampNeg) - (6 : Int32).toNatClampNeg) - (6 : Int32).toNatClampNeg) - (6 : Int32).toNatClampNeg) - (6 : Int32).toNatClampNeg) - (6 : Int32).toNatClampNeg) - (24 : Int32).toNatClampNeg) (fun q_294 =>
  bndp (dO (pXd s_291 q_294 (.inl (xc g 0, (5 : Int32).toNatClampNeg, .inl (fun _ => 0)))) a0) fun ci_296 fs_297 => if (ci_296 = 0 ∧ 67 < fs_297.length) then nx (sXd (pXd s_291 q_294 (.inl (xc g 0, (5 : Int32).toNatClampNeg, .inl (fun _ => 0)))) a0 (.inr (ci_296, fs_297.set 67 (.ref q_294)))) (fun s_295 =>
  if (¬ (6 : Int32) < 0 ∧ (6 : Int32).toNatClampNeg ≤ 10000) then mkc s_295 (6 : Int32).toNatClampNeg (((((((((((((((((((((((((((((((((((((((((((((mc - 1) - 1) - 1) - 1) - 1) - 1) - 1) - 1) - 1) - 1) - 1) - 1) - 1) - 1) - 1) - 1) - 1) - 1) - 1) - 1) - 1) - 1) - 1) - 1) - 1) - 1) - 1) - 1) - 1) - 1) - 1) - 1) - 1) - 1) - 1) - 1) - 1) - 1) - 1) - 1) - 1) - 1) - 1) - 1) - 1) (((((((((((((((((((((((((((((((((((((((((((((ms - (6 : Int32).toNatClampNeg) - (6 : Int32).toNatClampNeg) - (6 : Int32).toNatClampNeg) - (6 : Int32).toNatClampNeg) - (6 : Int32).toNatClampNeg) - (6 : Int32).toNatClampNeg) - (6 : Int32).toNatClampNeg) - (6 : Int32).toNatClampNeg) - (6 : Int32).toNatClampNeg) - (24 : Int32).toNatClampNeg) - (5 : Int32).toNatClampNeg) - (100 : Int32).toNatClampNeg) - (6 : Int32).toNatClampNeg) - (60 : Int32).toNatClampNeg) - (60 : Int32).toNatClampNeg) - (60 : Int32).toNatClampNeg) - (60 : Int32).toNatClampNeg) - (60 : Int32).toNatClampNeg) - (600 : Int32).toNatClampNeg) - (101 : Int32).toNatClampNeg) - (16 : Int32).toNatClampNeg) - (100 : Int32).toNatClampNeg) - (6 : Int32).toNatClampNeg) - (6 : Int32).toNatClampNeg) - (6 : Int32).toNatClampNeg) - (6 : Int32).toNatClampNeg) - (36 : Int32).toNatClampNeg) - (448 : Int32).toNatClampNeg) - (64 : Int32).toNatClampNeg) - (6 : Int32).toNatClampNeg) - (6 : Int32).toNatClampNeg) - (64 : Int32).toNatClampNeg) - (8 : Int32).toNatClampNeg) - (8 : Int32).toNatClampNeg) - (6 : Int32).toNatClampNeg) - (6 : Int32).toNatClampNeg) - (6 : Int32).toNatClampNeg) - (6 : Int32).toNatClampNeg) - (6 : Int32).toNatClampNeg) - (6 : Int32).toNatClampNeg) - (6 : Int32).toNatClampNeg) - (6 : Int32).toNatClampNeg) - (6 : Int32).toNatClampNeg) - (24 : Int32).toNatClampNeg) - (5 : Int32).toNatClampNeg) (fun q_298 =>
  bndp (dO (pXd s_295 q_298 (.inl (xc g 0, (6 : Int32).toNatClampNeg, .inl (fun _ => 0)))) a0) fun ci_300 fs_301 => if (ci_300 = 0 ∧ 68 < fs_301.length) then nx (sXd (pXd s_295 q_298 (.inl (xc g 0, (6 : Int32).toNatClampNeg, .inl (fun _ => 0)))) a0 (.inr (ci_300, fs_301.set 68 (.ref q_298)))) (fun s_299 =>
  if (¬ (6 : Int32) < 0 ∧ (6 : Int32).toNatClampNeg ≤ 10000) then mkc s_299 (6 : Int32).toNatClampNeg ((((((((((((((((((((((((((((((((((((((((((((((mc - 1) - 1) - 1) - 1) - 1) - 1) - 1) - 1) - 1) - 1) - 1) - 1) - 1) - 1) - 1) - 1) - 1) - 1) - 1) - 1) - 1) - 1) - 1) - 1) - 1) - 1) - 1) - 1) - 1) - 1) - 1) - 1) - 1) - 1) - 1) - 1) - 1) - 1) - 1) - 1) - 1) - 1) - 1) - 1) - 1) - 1) ((((((((((((((((((((((((((((((((((((((((((((((ms - (6 : Int32).toNatClampNeg) - (6 : Int32).toNatClampNeg) - (6 : Int32).toNatClampNeg) - (6 : Int32).toNatClampNeg) - (6 : Int32).toNatClampNeg) - (6 : Int32).toNatClampNeg) - (6 : Int32).toNatClampNeg) - (6 : Int32).toNatClampNeg) - (6 : Int32).toNatClampNeg) - (24 : Int32).toNatClampNeg) - (5 : Int32).toNatClampNeg) - (100 : Int32).toNatClampNeg) - (6 : Int32).toNatClampNeg) - (60 : Int32).toNatClampNeg) - (60 : Int32).toNatClampNeg) - (60 : Int32).toNatClampNeg) - (60 : Int32).toNatClampNeg) - (60 : Int32).toNatClampNeg) - (600 : Int32).toNatClampNeg) - (101 : Int32).toNatClampNeg) - (16 : Int32).toNatClampNeg) - (100 : Int32).toNatClampNeg) - (6 : Int32).toNatClampNeg) - (6 : Int32).toNatClampNeg) - (6 : Int32).toNatClampNeg) - (6 : Int32).toNatClampNeg) - (36 : Int32).toNatClampNeg) - (448 : Int32).toNatClampNeg) - (64 : Int32).toNatClampNeg) - (6 : Int32).toNatClampNeg) - (6 : Int32).toNatClampNeg) - (64 : Int32).toNatClampNeg) - (8 : Int32).toNatClampNeg) - (8 : Int32).toNatClampNeg) - (6 : Int32).toNatClampNeg) - (6 : Int32).toNatClampNeg) - (6 : Int32).toNatClampNeg) - (6 : Int32).toNatClampNeg) - (6 : Int32).toNatClampNeg) - (6 : Int32).toNatClampNeg) - (6 : Int32).toNatClampNeg) - (6 : Int32).toNatClampNeg) - (6 : Int32).toNatClampNeg) - (24 : Int32).toNatClampNeg) - (5 : Int32).toNatClampNeg) - (6 : Int32).toNatClampNeg) (fun q_302 =>
  bndp (dO (pXd s_299 q_302 (.inl (xc g 0, (6 : Int32).toNatClampNeg, .inl (fun _ => 0)))) a0) fun ci_304 fs_305 => if (ci_304 = 0 ∧ 69 < fs_305.length) then nx (sXd (pXd s_299 q_302 (.inl (xc g 0, (6 : Int32).toNatClampNeg, .inl (fun _ => 0)))) a0 (.inr (ci_304, fs_305.set 69 (.ref q_302)))) (fun s_303 =>
  if (¬ (8 : Int32) < 0 ∧ (8 : Int32).toNatClampNeg ≤ 10000) then mkc s_303 (8 : Int32).toNatClampNeg (((((((((((((((((((((((((((((((((((((((((((((((mc - 1) - 1) - 1) - 1) - 1) - 1) - 1) - 1) - 1) - 1) - 1) - 1) - 1) - 1) - 1) - 1) - 1) - 1) - 1) - 1) - 1) - 1) - 1) - 1) - 1) - 1) - 1) - 1) - 1) - 1) - 1) - 1) - 1) - 1) - 1) - 1) - 1) - 1) - 1) - 1) - 1) - 1) - 1) - 1) - 1) - 1) - 1) (((((((((((((((((((((((((((((((((((((((((((((((ms - (6 : Int32).toNatClampNeg) - (6 : Int32).toNatClampNeg) - (6 : Int32).toNatClampNeg) - (6 : Int32).toNatClampNeg) - (6 : Int32).toNatClampNeg) - (6 : Int32).toNatClampNeg) - (6 : Int32).toNatClampNeg) - (6 : Int32).toNatClampNeg) - (6 : Int32).toNatClampNeg) - (24 : Int32).toNatClampNeg) - (5 : Int32).toNatClampNeg) - (100 : Int32).toNatClampNeg) - (6 : Int32).toNatClampNeg) - (60 : Int32).toNatClampNeg) - (60 : Int32).toNatClampNeg) - (60 : Int32).toNatClampNeg) - (60 : Int32).toNatClampNeg) - (60 : Int32).toNatClampNeg) - (600 : Int32).toNatClampNeg) - (101 : Int32).toNatClampNeg) - (16 : Int32).toNatClampNeg) - (100 : Int32).toNatClampNeg) - (6 : Int32).toNatClampNeg) - (6 : Int32).toNatClampNeg) - (6 : Int32).toNatClampNeg) - (6 : Int32).toNatClampNeg) - (36 : Int32).toNatClampNeg) - (448 : Int32).toNatClampNeg) - (64 : Int32).toNatClampNeg) - (6 : Int32).toNatClampNeg) - (6 : Int32).toNatClampNeg) - (64 : Int32).toNatClampNeg) - (8 : Int32).toNatClampNeg) - (8 : Int32).toNatClampNeg) - (6 : Int32).toNatClampNeg) - (6 : Int32).toNatClampNeg) - (6 : Int32).toNatClampNeg) - (6 : Int32).toNatClampNeg) - (6 : Int32).toNatClampNeg) - (6 : Int32).toNatClampNeg) - (6 : Int32).toNatClampNeg) - (6 : Int32).toNatClampNeg) - (6 : Int32).toNatClampNeg) - (24 : Int32).toNatClampNeg) - (5 : Int32).toNatClampNeg) - (6 : Int32).toNatClampNeg) - (6 : Int32).toNatClampNeg) (fun q_306 =>
  bndp (dO (pXd s_303 q_306 (.inl (xc g 0, (8 : Int32).toNatClampNeg, .inl (fun _ => 0)))) a0) fun ci_308 fs_309 => if (ci_308 = 0 ∧ 70 < fs_309.length) then nx (sXd (pXd s_303 q_306 (.inl (xc g 0, (8 : Int32).toNatClampNeg, .inl (fun _ => 0)))) a0 (.inr (ci_308, fs_309.set 70 (.ref q_306)))) (fun s_307 =>
  if (¬ (8 : Int32) < 0 ∧ (8 : Int32).toNatClampNeg ≤ 10000) then mkc s_307 (8 : Int32).toNatClampNeg ((((((((((((((((((((((((((((((((((((((((((((((((mc - 1) - 1) - 1) - 1) - 1) - 1) - 1) - 1) - 1) - 1) - 1) - 1) - 1) - 1) - 1) - 1) - 1) - 1) - 1) - 1) - 1) - 1) - 1) - 1) - 1) - 1) - 1) - 1) - 1) - 1) - 1) - 1) - 1) - 1) - 1) - 1) - 1) - 1) - 1) - 1) - 1) - 1) - 1) - 1) - 1) - 1) - 1) - 1) ((((((((((((((((((((((((((((((((((((((((((((((((ms - (6 : Int32).toNatClampNeg) - (6 : Int32).toNatClampNeg) - (6 : Int32).toNatClampNeg) - (6 : Int32).toNatClampNeg) - (6 : Int32).toNatClampNeg) - (6 : Int32).toNatClampNeg) - (6 : Int32).toNatClampNeg) - (6 : Int32).toNatClampNeg) - (6 : Int32).toNatClampNeg) - (24 : Int32).toNatClampNeg) - (5 : Int32).toNatClampNeg) - (100 : Int32).toNatClampNeg) - (6 : Int32).toNatClampNeg) - (60 : Int32).toNatClampNeg) - (60 : Int32).toNatClampNeg) - (60 : Int32).toNatClampNeg) - (60 : Int32).toNatClampNeg) - (60 : Int32).toNatClampNeg) - (600 : Int32).toNatClampNeg) - (101 : Int32).toNatClampNeg) - (16 : Int32).toNatClampNeg) - (100 : Int32).toNatClampNeg) - (6 : Int32).toNatClampNeg) - (6 : Int32).toNatClampNeg) - (6 : Int32).toNatClampNeg) - (6 : Int32).toNatClampNeg) - (36 : Int32).toNatClampNeg) - (448 : Int32).toNatClampNeg) - (64 : Int32).toNatClampNeg) - (6 : Int32).toNatClampNeg) - (6 : Int32).toNatClampNeg) - (64 : Int32).toNatClampNeg) - (8 : Int32).toNatClampNeg) - (8 : Int32).toNatClampNeg) - (6 : Int32).toNatClampNeg) - (6 : Int32).toNatClampNeg) - (6 : Int32).toNatClampNeg) - (6 : Int32).toNatClampNeg) - (6 : Int32).toNatClampNeg) - (6 : Int32).toNatClampNeg) - (6 : Int32).toNatClampNeg) - (6 : Int32).toNatClampNeg) - (6 : Int32).toNatClampNeg) - (24 : Int32).toNatClampNeg) - (5 : Int32).toNatClampNeg) - (6 : Int32).toNatClampNeg) - (6 : Int32).toNatClampNeg) - (8 : Int32).toNatClampNeg) (fun q_310 =>
  bndp (dO (pXd s_307 q_310 (.inl (xc g 0, (8 : Int32).toNatClampNeg, .inl (fun _ => 0)))) a0) fun ci_312 fs_313 => if (ci_312 = 0 ∧ 71 < fs_313.length) then nx (sXd (pXd s_307 q_310 (.inl (xc g 0, (8 : Int32).toNatClampNeg, .inl (fun _ => 0)))) a0 (.inr (ci_312, fs_313.set 71 (.ref q_310)))) (fun s_311 =>
  bndp (dO s_311 a0) fun ci_315 fs_316 => if (ci_315 = 0 ∧ 72 < fs_316.length) then nx (sXd s_311 a0 (.inr (ci_315, fs_316.set 72 (.int (0 : Int32))))) (fun s_314 =>
  if (¬ (20 : Int32) < 0 ∧ (20 : Int32).toNatClampNeg ≤ 10000) then mkc s_314 (20 : Int32).toNatClampNeg (((((((((((((((((((((((((((((((((((((((((((((((((mc - 1) - 1) - 1) - 1) - 1) - 1) - 1) - 1) - 1) - 1) - 1) - 1) - 1) - 1) - 1) - 1) - 1) - 1) - 1) - 1) - 1) - 1) - 1) - 1) - 1) - 1) - 1) - 1) - 1) - 1) - 1) - 1) - 1) - 1) - 1) - 1) - 1) - 1) - 1) - 1) - 1) - 1) - 1) - 1) - 1) - 1) - 1) - 1) - 1) (((((((((((((((((((((((((((((((((((((((((((((((((ms - (6 : Int32).toNatClampNeg) - (6 : Int32).toNatClampNeg) - (6 : Int32).toNatClampNeg) - (6 : Int32).toNatClampNeg) - (6 : Int32).toNatClampNeg) - (6 : Int32).toNatClampNeg) - (6 : Int32).toNatClampNeg) - (6 : Int32).toNatClampNeg) - (6 : Int32).toNatClampNeg) - (24 : Int32).toNatClampNeg) - (5 : Int32).toNatClampNeg) - (100 : Int32).toNatClampNeg) - (6 : Int32).toNatClampNeg) - (60 : Int32).toNatClampNeg) - (60 : Int32).toNatClampNeg) - (60 : Int32).toNatClampNeg) - (60 : Int32).toNatClampNeg) - (60 : Int32).toNatClampNeg) - (600 : Int32).toNatClampNeg) - (101 : Int32).toNatClampNeg) - (16 : Int32).toNatClampNeg) - (100 : Int32).toNatClampNeg) - (6 : Int32).toNatClampNeg) - (6 : Int32).toNatClampNeg) - (6 : Int32).toNatClampNeg) - (6 : Int32).toNatClampNeg) - (36 : Int32).toNatClampNeg) - (448 : Int32).toNatClampNeg) - (64 : Int32).toNatClampNeg) - (6 : Int32).toNatClampNeg) - (6 : Int32).toNatClampNeg) - (64 : Int32).toNatClampNeg) - (8 : Int32).toNatClampNeg) - (8 : Int32).toNatClampNeg) - (6 : Int32).toNatClampNeg) - (6 : Int32).toNatClampNeg) - (6 : Int32).toNatClampNeg) - (6 : Int32).toNatClampNeg) - (6 : Int32).toNatClampNeg) - (6 : Int32).toNatClampNeg) - (6 : Int32).toNatClampNeg) - (6 : Int32).toNatClampNeg) - (6 : Int32).toNatClampNeg) - (24 : Int32).toNatClampNeg) - (5 : Int32).toNatClampNeg) - (6 : Int32).toNatClampNeg) - (6 : Int32).toNatClampNeg) - (8 : Int32).toNatClampNeg) - (8 : Int32).toNatClampNeg) (fun q_317 =>
  bndp (dO (pXd s_314 q_317 (.inl (xc g 0, (20 : Int32).toNatClampNeg, .inl (fun _ => 0)))) a0) fun ci_319 fs_320 => if (ci_319 = 0 ∧ 73 < fs_320.length) then nx (sXd (pXd s_314 q_317 (.inl (xc g 0, (20 : Int32).toNatClampNeg, .inl (fun _ => 0)))) a0 (.inr (ci_319, fs_320.set 73 (.ref q_317)))) (fun s_318 =>
  if (¬ (6 : Int32) < 0 ∧ (6 : Int32).toNatClampNeg ≤ 10000) then mkc s_318 (6 : Int32).toNatClampNeg ((((((((((((((((((((((((((((((((((((((((((((((((((mc - 1) - 1) - 1) - 1) - 1) - 1) - 1) - 1) - 1) - 1) - 1) - 1) - 1) - 1) - 1) - 1) - 1) - 1) - 1) - 1) - 1) - 1) - 1) - 1) - 1) - 1) - 1) - 1) - 1) - 1) - 1) - 1) - 1) - 1) - 1) - 1) - 1) - 1) - 1) - 1) - 1) - 1) - 1) - 1) - 1) - 1) - 1) - 1) - 1) - 1) ((((((((((((((((((((((((((((((((((((((((((((((((((ms - (6 : Int32).toNatClampNeg) - (6 : Int32).toNatClampNeg) - (6 : Int32).toNatClampNeg) - (6 : Int32).toNatClampNeg) - (6 : Int32).toNatClampNeg) - (6 : Int32).toNatClampNeg) - (6 : Int32).toNatClampNeg) - (6 : Int32).toNatClampNeg) - (6 : Int32).toNatClampNeg) - (24 : Int32).toNatClampNeg) - (5 : Int32).toNatClampNeg) - (100 : Int32).toNatClampNeg) - (6 : Int32).toNatClampNeg) - (60 : Int32).toNatClampNeg) - (60 : Int32).toNatClampNeg) - (60 : Int32).toNatClampNeg) - (60 : Int32).toNatClampNeg) - (60 : Int32).toNatClampNeg) - (600 : Int32).toNatClampNeg) - (101 : Int32).toNatClampNeg) - (16 : Int32).toNatClampNeg) - (100 : Int32).toNatClampNeg) - (6 : Int32).toNatClampNeg) - (6 : Int32).toNatClampNeg) - (6 : Int32).toNatClampNeg) - (6 : Int32).toNatClampNeg) - (36 : Int32).toNatClampNeg) - (448 : Int32).toNatClampNeg) - (64 : Int32).toNatClampNeg) - (6 : Int32).toNatClampNeg) - (6 : Int32).toNatClampNeg) - (64 : Int32).toNatClampNeg) - (8 : Int32).toNatClampNeg) - (8 : Int32).toNatClampNeg) - (6 : Int32).toNatClampNeg) - (6 : Int32).toNatClampNeg) - (6 : Int32).toNatClampNeg) - (6 : Int32).toNatClampNeg) - (6 : Int32).toNatClampNeg) - (6 : Int32).toNatClampNeg) - (6 : Int32).toNatClampNeg) - (6 : Int32).toNatClampNeg) - (6 : Int32).toNatClampNeg) - (24 : Int32).toNatClampNeg) - (5 : Int32).toNatClampNeg) - (6 : Int32).toNatClampNeg) - (6 : Int32).toNatClampNeg) - (8 : Int32).toNatClampNeg) - (8 : Int32).toNatClampNeg) - (20 : Int32).toNatClampNeg) (fun q_321 =>
  bndp (dA (pXd s_318 q_321 (.inl (xc g 0, (6 : Int32).toNatClampNeg, .inl (fun _ => 0)))) q_321 (xc g 0)) fun n_323 f_324 => if inb (0 : Int32) n_323 = true then nx (sXd (pXd s_318 q_321 (.inl (xc g 0, (6 : Int32).toNatClampNeg, .inl (fun _ => 0)))) q_321 (.inl (xc g 0, n_323, .inl (upd f_324 (0 : Int32).toNatClampNeg (-1 : Int32))))) (fun s_322 =>
  bndp (dA s_322 q_321 (xc g 0)) fun n_326 f_327 => if inb (1 : Int32) n_326 = true then nx (sXd s_322 q_321 (.inl (xc g 0, n_326, .inl (upd f_327 (1 : Int32).toNatClampNeg (-1 : Int32))))) (fun s_325 =>
  bndp (dA s_325 q_321 (xc g 0)) fun n_329 f_330 => if inb (2 : Int32) n_329 = true then nx (sXd s_325 q_321 (.inl (xc g 0, n_329, .inl (upd f_330 (2 : Int32).toNatClampNeg (-1 : Int32))))) (fun s_328 =>
  bndp (dA s_328 q_321 (xc g 0)) fun n_332 f_333 => if inb (3 : Int32) n_332 = true then nx (sXd s_328 q_321 (.inl (xc g 0, n_332, .inl (upd f_333 (3 : Int32).toNatClampNeg (-1 : Int32))))) (fun s_331 =>
  bndp (dA s_331 q_321 (xc g 0)) fun n_335 f_336 => if inb (4 : Int32) n_335 = true then nx (sXd s_331 q_321 (.inl (xc g 0, n_335, .inl (upd f_336 (4 : Int32).toNatClampNeg (-1 : Int32))))) (fun s_334 =>
  bndp (dA s_334 q_321 (xc g 0)) fun n_338 f_339 => if inb (5 : Int32) n_338 = true then nx (sXd s_334 q_321 (.inl (xc g 0, n_338, .inl (upd f_339 (5 : Int32).toNatClampNeg (-1 : Int32))))) (fun s_337 =>
  bndp (dO s_337 a0) fun ci_341 fs_342 => if (ci_341 = 0 ∧ 74 < fs_342.length) then nx (sXd s_337 a0 (.inr (ci_341, fs_342.set 74 (.ref q_321)))) (fun s_340 =>
  if (¬ (6 : Int32) < 0 ∧ (6 : Int32).toNatClampNeg ≤ 10000) then mkc s_340 (6 : Int32).toNatClampNeg (((((((((((((((((((((((((((((((((((((((((((((((((((mc - 1) - 1) - 1) - 1) - 1) - 1) - 1) - 1) - 1) - 1) - 1) - 1) - 1) - 1) - 1) - 1) - 1) - 1) - 1) - 1) - 1) - 1) - 1) - 1) - 1) - 1) - 1) - 1) - 1) - 1) - 1) - 1) - 1) - 1) - 1) - 1) - 1) - 1) - 1) - 1) - 1) - 1) - 1) - 1) - 1) - 1) - 1) - 1) - 1) - 1) - 1) (((((((((((((((((((((((((((((((((((((((((((((((((((ms - (6 : Int32).toNatClampNeg) - (6 : Int32).toNatClampNeg) - (6 : Int32).toNatClampNeg) - (6 : Int32).toNatClampNeg) - (6 : Int32).toNatClampNeg) - (6 : Int32).toNatClampNeg) - (6 : Int32).toNatClampNeg) - (6 : Int32).toNatClampNeg) - (6 : Int32).toNatClampNeg) - (24 : Int32).toNatClampNeg) - (5 : Int32).toNatClampNeg) - (100 : Int32).toNatClampNeg) - (6 : Int32).toNatClampNeg) - (60 : Int32).toNatClampNeg) - (60 : Int32).toNatClampNeg) - (60 : Int32).toNatClampNeg) - (60 : Int32).toNatClampNeg) - (60 : Int32).toNatClampNeg) - (600 : Int32).toNatClampNeg) - (101 : Int32).toNatClampNeg) - (16 : Int32).toNatClampNeg) - (100 : Int32).toNatClampNeg) - (6 : Int32).toNatClampNeg) - (6 : Int32).toNatClampNeg) - (6 : Int32).toNatClampNeg) - (6 : Int32).toNatClampNeg) - (36 : Int32).toNatClampNeg) - (448 : Int32).toNatClampNeg) - (64 : Int32).toNatClampNeg) - (6 : Int32).toNatClampNeg) - (6 : Int32).toNatClampNeg) - (64 : Int32).toNatClampNeg) - (8 : Int32).toNatClampNeg) - (8 : Int32).toNatClampNeg) - (6 : Int32).toNatClampNeg) - (6 : Int32).toNatClampNeg) - (6 : Int32).toNatClampNeg) - (6 : Int32).toNatClampNeg) - (6 : Int32).toNatClampNeg) - (6 : Int32).toNatClampNeg) - (6 : Int32).toNatClampNeg) - (6 : Int32).toNatClampNeg) - (6 : Int32).toNatClampNeg) - (24 : Int32).toNatClampNeg) - (5 : Int32).toNatClampNeg) - (6 : Int32).toNatClampNeg) - (6 : Int32).toNatClampNeg) - (8 : Int32).toNatClampNeg) - (8 : Int32).toNatClampNeg) - (20 : Int32).toNatClampNeg) - (6 : Int32).toNatClampNeg) (fun q_343 =>
  bndp (dO (pXd s_340 q_343 (.inl (xc g 0, (6 : Int32).toNatClampNeg, .inl (fun _ => 0)))) a0) fun ci_345 fs_346 => if (ci_345 = 0 ∧ 75 < fs_346.length) then nx (sXd (pXd s_340 q_343 (.inl (xc g 0, (6 : Int32).toNatClampNeg, .inl (fun _ => 0)))) a0 (.inr (ci_345, fs_346.set 75 (.ref q_343)))) (fun s_344 =>
  if (¬ (360 : Int32) < 0 ∧ (360 : Int32).toNatClampNeg ≤ 10000) then mkc s_344 (360 : Int32).toNatClampNeg ((((((((((((((((((((((((((((((((((((((((((((((((((((mc - 1) - 1) - 1) - 1) - 1) - 1) - 1) - 1) - 1) - 1) - 1) - 1) - 1) - 1) - 1) - 1) - 1) - 1) - 1) - 1) - 1) - 1) - 1) - 1) - 1) - 1) - 1) - 1) - 1) - 1) - 1) - 1) - 1) - 1) - 1) - 1) - 1) - 1) - 1) - 1) - 1) - 1) - 1) - 1) - 1) - 1) - 1) - 1) - 1) - 1) - 1) - 1) ((((((((((((((((((((((((((((((((((((((((((((((((((((ms - (6 : Int32).toNatClampNeg) - (6 : Int32).toNatClampNeg) - (6 : Int32).toNatClampNeg) - (6 : Int32).toNatClampNeg) - (6 : Int32).toNatClampNeg) - (6 : Int32).toNatClampNeg) - (6 : Int32).toNatClampNeg) - (6 : Int32).toNatClampNeg) - (6 : Int32).toNatClampNeg) - (24 : Int32).toNatClampNeg) - (5 : Int32).toNatClampNeg) - (100 : Int32).toNatClampNeg) - (6 : Int32).toNatClampNeg) - (60 : Int32).toNatClampNeg) - (60 : Int32).toNatClampNeg) - (60 : Int32).toNatClampNeg) - (60 : Int32).toNatClampNeg) - (60 : Int32).toNatClampNeg) - (600 : Int32).toNatClampNeg) - (101 : Int32).toNatClampNeg) - (16 : Int32).toNatClampNeg) - (100 : Int32).toNatClampNeg) - (6 : Int32).toNatClampNeg) - (6 : Int32).toNatClampNeg) - (6 : Int32).toNatClampNeg) - (6 : Int32).toNatClampNeg) - (36 : Int32).toNatClampNeg) - (448 : Int32).toNatClampNeg) - (64 : Int32).toNatClampNeg) - (6 : Int32).toNatClampNeg) - (6 : Int32).toNatClampNeg) - (64 : Int32).toNatClampNeg) - (8 : Int32).toNatClampNeg) - (8 : Int32).toNatClampNeg) - (6 : Int32).toNatClampNeg) - (6 : Int32).toNatClampNeg) - (6 : Int32).toNatClampNeg) - (6 : Int32).toNatClampNeg) - (6 : Int32).toNatClampNeg) - (6 : Int32).toNatClampNeg) - (6 : Int32).toNatClampNeg) - (6 : Int32).toNatClampNeg) - (6 : Int32).toNatClampNeg) - (24 : Int32).toNatClampNeg) - (5 : Int32).toNatClampNeg) - (6 : Int32).toNatClampNeg) - (6 : Int32).toNatClampNeg) - (8 : Int32).toNatClampNeg) - (8 : Int32).toNatClampNeg) - (20 : Int32).toNatClampNeg) - (6 : Int32).toNatClampNeg) - (6 : Int32).toNatClampNeg) (fun q_347 =>
  bndp (dO (pXd s_344 q_347 (.inl (xc g 3, (360 : Int32).toNatClampNeg, .inr (.inl (fun _ => 0))))) a0) fun ci_349 fs_350 => if (ci_349 = 0 ∧ 76 < fs_350.length) then nx (sXd (pXd s_344 q_347 (.inl (xc g 3, (360 : Int32).toNatClampNeg, .inr (.inl (fun _ => 0))))) a0 (.inr (ci_349, fs_350.set 76 (.ref q_347)))) (fun s_348 =>
  if (¬ (60 : Int32) < 0 ∧ (60 : Int32).toNatClampNeg ≤ 10000) then mkc s_348 (60 : Int32).toNatClampNeg (((((((((((((((((((((((((((((((((((((((((((((((((((((mc - 1) - 1) - 1) - 1) - 1) - 1) - 1) - 1) - 1) - 1) - 1) - 1) - 1) - 1) - 1) - 1) - 1) - 1) - 1) - 1) - 1) - 1) - 1) - 1) - 1) - 1) - 1) - 1) - 1) - 1) - 1) - 1) - 1) - 1) - 1) - 1) - 1) - 1) - 1) - 1) - 1) - 1) - 1) - 1) - 1) - 1) - 1) - 1) - 1) - 1) - 1) - 1) - 1) (((((((((((((((((((((((((((((((((((((((((((((((((((((ms - (6 : Int32).toNatClampNeg) - (6 : Int32).toNatClampNeg) - (6 : Int32).toNatClampNeg) - (6 : Int32).toNatClampNeg) - (6 : Int32).toNatClampNeg) - (6 : Int32).toNatClampNeg) - (6 : Int32).toNatClampNeg) - (6 : Int32).toNatClampNeg) - (6 : Int32).toNatClampNeg) - (24 : Int32).toNatClampNeg) - (5 : Int32).toNatClampNeg) - (100 : Int32).toNatClampNeg) - (6 : Int32).toNatClampNeg) - (60 : Int32).toNatClampNeg) - (60 : Int32).toNatClampNeg) - (60 : Int32).toNatClampNeg) - (60 : Int32).toNatClampNeg) - (60 : Int32).toNatClampNeg) - (600 : Int32).toNatClampNeg) - (101 : Int32).toNatClampNeg) - (16 : Int32).toNatClampNeg) - (100 : Int32).toNatClampNeg) - (6 : Int32).toNatClampNeg) - (6 : Int32).toNatClampNeg) - (6 : Int32).toNatClampNeg) - (6 : Int32).toNatClampNeg) - (36 : Int32).toNatClampNeg) - (448 : Int32).toNatClampNeg) - (64 : Int32).toNatClampNeg) - (6 : Int32).toNatClampNeg) - (6 : Int32).toNatClampNeg) - (64 : Int32).toNatClampNeg) - (8 : Int32).toNatClampNeg) - (8 : Int32).toNatClampNeg) - (6 : Int32).toNatClampNeg) - (6 : Int32).toNatClampNeg) - (6 : Int32).toNatClampNeg) - (6 : Int32).toNatClampNeg) - (6 : Int32).toNatClampNeg) - (6 : Int32).toNatClampNeg) - (6 : Int32).toNatClampNeg) - (6 : Int32).toNatClampNeg) - (6 : Int32).toNatClampNeg) - (24 : Int32).toNatClampNeg) - (5 : Int32).toNatClampNeg) - (6 : Int32).toNatClampNeg) - (6 : Int32).toNatClampNeg) - (8 : Int32).toNatClampNeg) - (8 : Int32).toNatClampNeg) - (20 : Int32).toNatClampNeg) - (6 : Int32).toNatClampNeg) - (6 : Int32).toNatClampNeg) - (360 : Int32).toNatClampNeg) (fun q_351 =>
  bndp (dO (pXd s_348 q_351 (.inl (xc g 3, (60 : Int32).toNatClampNeg, .inr (.inl (fun _ => 0))))) a0) fun ci_353 fs_354 => if (ci_353 = 0 ∧ 77 < fs_354.length) then nx (sXd (pXd s_348 q_351 (.inl (xc g 3, (60 : Int32).toNatClampNeg, .inr (.inl (fun _ => 0))))) a0 (.inr (ci_353, fs_354.set 77 (.ref q_351)))) (fun s_352 =>
  K s_352) else False) else False) else False) else False) else False) else False) else False) else False) else False) else False) else False) else False) else False) else False) else False) else False) else False) else False) else False) else False) else False) else False) else False) else False) else False) else False) else False) else False) else False) else False) else False) else False) else False) else False) else False) else False) else False) else False) else False) else False) else False) else False) else False) else False) else False) else False) else False) else False) else False) else False) else False) else False) else False) else False) else False) else False) else False) else False) else False) else False) else False) else False) else False) else False) else False) else False) else False) else False) else False) else False) else False) else False) else False) else False) else False) else False) else False) else False) else False) else False) else False) else False) else False) else False) else False) else False) else False) else False) else False) else False) else False) else False) else False) else False) else False) else False) else False) else False) else False) else False) else False) else False) else False) else False) else False) else False) else False) else False) else False) else False) else False) else False) else False) else False) else False) else False) else False) else False) else False) else False) else False) else False) else False) else False) else False) else False) else False) else False) else False) else False) else False) else False) else False) else False) else False) else False) else False) else False) else False) else False) else False) else False) else False) else False) else False) else False) else False) else False) else False) else False) else False) else False) else False) else False
set_option maxHeartbeats 4000000 in
theorem met_y6_init (l : Launch) (g : XG) (N : Nat) (a0 : Nat)   (ξ : XS) (mc ms : Nat) (K : XS → Prop) (h : y6_init N g a0  ξ mc ms K) : MetYv_0 l g yX6_init (ws_ yX6_init cX6_init 1 none) 1 40 [.ref a0] ξ mc ms K := by
  refine met_yv_0 (lv0 := [(0, .ref a0)]) (own := RX6) (by decide) rfl (Nat.le_of_ble_eq_true rfl) rfl ?_
  intro p e s m below meth c A Q E hmn hq
  have hmn : meth.name = "<init>" := hmn
  have hR : 1 ≤ ({ frames := 1, cells := mc, slots := ms, locals := 40 } : Room).frames ∧ 40 ≤ ({ frames := 1, cells := mc, slots := ms, locals := 40 } : Room).locals := ⟨Nat.le_refl _, Nat.le_refl _⟩
  have hb : 0 + mc ≤ ({ frames := 1, cells := mc, slots := ms, locals := 40 } : Room).cells ∧ 0 + ms ≤ ({ frames := 1, cells := mc, slots := ms, locals := 40 } : Room).slots := ⟨Nat.le_of_eq (Nat.zero_add _), Nat.le_of_eq (Nat.zero_add _)⟩
  unfold y6_init at h
  refine cf_aload_n E dX6_init_0 0 rfl rfl ?_
  refine xoi_0 E q1500 q144 q145 (rmle hR rfl rfl) (Nat.le_of_ble_eq_true rfl) dX6_init_1 rfl ?_
  refine cf_aload_n E dX6_init_4 0 rfl rfl ?_
  refine cf_iconst E dX6_init_5 ic_0 rfl ?_
  refine xdqX6_7 E dX6_init_6 h rfl (fun s_1 h => ?_)
  refine cf_aload_n E dX6_init_9 0 rfl rfl ?_
  refine cf_iconst E dX6_init_10 ic_0 rfl ?_
  refine xdqX6_13 E dX6_init_11 h rfl (fun s_4 h => ?_)
  refine cf_aload_n E dX6_init_14 0 rfl rfl ?_
  refine cf_iconst E dX6_init_15 ic_0 rfl ?_
  refine xdqX6_16 E dX6_init_16 h rfl (fun s_7 h => ?_)
  refine cf_aload_n E dX6_init_19 0 rfl rfl ?_
  refine cf_bipush E dX6_init_20 bp_6 rfl ?_
  refine xnewa_0_0 E hb dX6_init_22 h rfl (fun q_10 hb h => ?_)
  refine xdqX6_19 E hmn dX6_init_24 h rfl (fun s_11 h => ?_)
  refine cf_aload_n E dX6_init_27 0 rfl rfl ?_
  refine cf_bipush E dX6_init_28 bp_6 rfl ?_
  refine xnewa_0_0 E hb dX6_init_30 h rfl (fun q_14 hb h => ?_)
  refine xdqX6_23 E hmn dX6_init_32 h rfl (fun s_15 h => ?_)
  refine cf_aload_n E dX6_init_35 0 rfl rfl ?_
  refine cf_bipush E dX6_init_36 bp_6 rfl ?_
  refine xnewa_0_0 E hb dX6_init_38 h rfl (fun q_18 hb h => ?_)
  refine xdqX6_26 E hmn dX6_init_40 h rfl (fun s_19 h => ?_)
  refine cf_aload_n E dX6_init_43 0 rfl rfl ?_
  refine cf_bipush E dX6_init_44 bp_6 rfl ?_
  refine xnewa_0_0 E hb dX6_init_46 h rfl (fun q_22 hb h => ?_)
  refine xdqX6_29 E hmn dX6_init_48 h rfl (fun s_23 h => ?_)
  refine cf_aload_n E dX6_init_51 0 rfl rfl ?_
  refine cf_bipush E dX6_init_52 bp_6 rfl ?_
  refine xnewa_0_0 E hb dX6_init_54 h rfl (fun q_26 hb h => ?_)
  refine xdqX6_32 E hmn dX6_init_56 h rfl (fun s_27 h => ?_)
  refine cf_aload_n E dX6_init_59 0 rfl rfl ?_
  refine cf_bipush E dX6_init_60 bp_6 rfl ?_
  refine xnewa_0_0 E hb dX6_init_62 h rfl (fun q_30 hb h => ?_)
  refine xdqX6_35 E hmn dX6_init_64 h rfl (fun s_31 h => ?_)
  refine cf_aload_n E dX6_init_67 0 rfl rfl ?_
  refine cf_bipush E dX6_init_68 bp_6 rfl ?_
  refine xnewa_0_0 E hb dX6_init_70 h rfl (fun q_34 hb h => ?_)
  refine xdqX6_38 E hmn dX6_init_72 h rfl (fun s_35 h => ?_)
  refine cf_aload_n E dX6_init_75 0 rfl rfl ?_
  refine cf_bipush E dX6_init_76 bp_6 rfl ?_
  refine xnewa_0_0 E hb dX6_init_78 h rfl (fun q_38 hb h => ?_)
  refine xdqX6_41 E hmn dX6_init_80 h rfl (fun s_39 h => ?_)
  refine cf_aload_n E dX6_init_83 0 rfl rfl ?_
  refine cf_bipush E dX6_init_84 bp_6 rfl ?_
  refine xnewa_0_0 E hb dX6_init_86 h rfl (fun q_42 hb h => ?_)
  refine xdqX6_44 E hmn dX6_init_88 h rfl (fun s_43 h => ?_)
  refine cf_aload_n E dX6_init_91 0 rfl rfl ?_
  refine cf_bipush E dX6_init_92 bp_24 rfl ?_
  refine xnewa_0_0 E hb dX6_init_94 h rfl (fun q_46 hb h => ?_)
  refine xdqX6_47 E hmn dX6_init_96 h rfl (fun s_47 h => ?_)
  refine cf_aload_n E dX6_init_99 0 rfl rfl ?_
  refine cf_iconst E dX6_init_100 ic_5 rfl ?_
  refine xnewa_0_0 E hb dX6_init_101 h rfl (fun q_50 hb h => ?_)
  refine xdqX6_50 E hmn dX6_init_103 h rfl (fun s_51 h => ?_)
  refine cf_aload_n E dX6_init_106 0 rfl rfl ?_
  refine cf_iconst E dX6_init_107 ic_0 rfl ?_
  refine xdqX6_53 E dX6_init_108 h rfl (fun s_54 h => ?_)
  refine cf_aload_n E dX6_init_111 0 rfl rfl ?_
  refine cf_iconst E dX6_init_112 ic_m1 rfl ?_
  refine xdqX6_56 E dX6_init_113 h rfl (fun s_57 h => ?_)
  refine cf_aload_n E dX6_init_116 0 rfl rfl ?_
  refine cf_iconst E dX6_init_117 ic_0 rfl ?_
  refine xdqX6_59 E dX6_init_118 h rfl (fun s_60 h => ?_)
  refine cf_aload_n E dX6_init_121 0 rfl rfl ?_
  refine cf_iconst E dX6_init_122 ic_0 rfl ?_
  refine xdqX6_62 E dX6_init_123 h rfl (fun s_63 h => ?_)
  refine cf_aload_n E dX6_init_126 0 rfl rfl ?_
  refine cf_iconst E dX6_init_127 ic_0 rfl ?_
  refine xdqX6_65 E dX6_init_128 h rfl (fun s_66 h => ?_)
  refine cf_aload_n E dX6_init_131 0 rfl rfl ?_
  refine cf_bipush E dX6_init_132 bp_100 rfl ?_
  refine xnewa_0_0 E hb dX6_init_134 h rfl (fun q_69 hb h => ?_)
  refine xdqX6_68 E hmn dX6_init_136 h rfl (fun s_70 h => ?_)
  refine cf_aload_n E dX6_init_139 0 rfl rfl ?_
  refine cf_bipush E dX6_init_140 bp_6 rfl ?_
  refine xnewa_0_0 E hb dX6_init_142 h rfl (fun q_73 hb h => ?_)
  refine xdqX6_71 E hmn dX6_init_144 h rfl (fun s_74 h => ?_)
  refine cf_aload_n E dX6_init_147 0 rfl rfl ?_
  refine cf_bipush E dX6_init_148 bp_60 rfl ?_
  refine xnewa_0_0 E hb dX6_init_150 h rfl (fun q_77 hb h => ?_)
  refine xdqX6_74 E hmn dX6_init_152 h rfl (fun s_78 h => ?_)
  refine cf_aload_n E dX6_init_155 0 rfl rfl ?_
  refine cf_bipush E dX6_init_156 bp_60 rfl ?_
  refine xnewa_0_0 E hb dX6_init_158 h rfl (fun q_81 hb h => ?_)
  refine xdqX6_77 E hmn dX6_init_160 h rfl (fun s_82 h => ?_)
  refine cf_aload_n E dX6_init_163 0 rfl rfl ?_
  refine cf_bipush E dX6_init_164 bp_60 rfl ?_
  refine xnewa_0_0 E hb dX6_init_166 h rfl (fun q_85 hb h => ?_)
  refine xdqX6_80 E hmn dX6_init_168 h rfl (fun s_86 h => ?_)
  refine cf_aload_n E dX6_init_171 0 rfl rfl ?_
  refine cf_bipush E dX6_init_172 bp_60 rfl ?_
  refine xnewa_0_0 E hb dX6_init_174 h rfl (fun q_89 hb h => ?_)
  refine xdqX6_83 E hmn dX6_init_176 h rfl (fun s_90 h => ?_)
  refine cf_aload_n E dX6_init_179 0 rfl rfl ?_
  refine cf_bipush E dX6_init_180 bp_60 rfl ?_
  refine xnewa_0_0 E hb dX6_init_182 h rfl (fun q_93 hb h => ?_)
  refine xdqX6_86 E hmn dX6_init_184 h rfl (fun s_94 h => ?_)
  refine cf_aload_n E dX6_init_187 0 rfl rfl ?_
  refine cf_sipush E dX6_init_188 sp_600 rfl ?_
  refine xnewa_0_0 E hb dX6_init_191 h rfl (fun q_97 hb h => ?_)
  refine xdqX6_89 E hmn dX6_init_193 h rfl (fun s_98 h => ?_)
  refine cf_aload_n E dX6_init_196 0 rfl rfl ?_
  refine cf_bipush E dX6_init_197 bp_101 rfl ?_
  refine xnewa_0_0 E hb dX6_init_199 h rfl (fun q_101 hb h => ?_)
  refine xdqX6_92 E hmn dX6_init_201 h rfl (fun s_102 h => ?_)
  refine cf_aload_n E dX6_init_204 0 rfl rfl ?_
  refine cf_iconst E dX6_init_205 ic_0 rfl ?_
  refine xdqX6_95 E dX6_init_206 h rfl (fun s_105 h => ?_)
  refine cf_aload_n E dX6_init_209 0 rfl rfl ?_
  refine cf_iconst E dX6_init_210 ic_0 rfl ?_
  refine xdqX6_98 E dX6_init_211 h rfl (fun s_108 h => ?_)
  refine cf_aload_n E dX6_init_214 0 rfl rfl ?_
  refine cf_iconst E dX6_init_215 ic_0 rfl ?_
  refine xdqX6_101 E dX6_init_216 h rfl (fun s_111 h => ?_)
  refine cf_aload_n E dX6_init_219 0 rfl rfl ?_
  refine cf_bipush E dX6_init_220 bp_16 rfl ?_
  refine xnewa_0_0 E hb dX6_init_222 h rfl (fun q_114 hb h => ?_)
  refine cf_dup E dX6_init_224 rfl rfl ?_
  refine cf_iconst E dX6_init_225 ic_0 rfl ?_
  refine cf_bipush E dX6_init_226 bp_115 rfl ?_
  refine xdast_ip_0 E dX6_init_228 h rfl (fun s_115 h => ?_)
  refine cf_dup E dX6_init_229 rfl rfl ?_
  refine cf_iconst E dX6_init_230 ic_1 rfl ?_
  refine cf_bipush E dX6_init_231 bp_117 rfl ?_
  refine xdast_ip_0 E dX6_init_233 h rfl (fun s_118 h => ?_)
  refine cf_dup E dX6_init_234 rfl rfl ?_
  refine cf_iconst E dX6_init_235 ic_2 rfl ?_
  refine cf_bipush E dX6_init_236 bp_105 rfl ?_
  refine xdast_ip_0 E dX6_init_238 h rfl (fun s_121 h => ?_)
  refine cf_dup E dX6_init_239 rfl rfl ?_
  refine cf_iconst E dX6_init_240 ic_3 rfl ?_
  refine cf_bipush E dX6_init_241 bp_116 rfl ?_
  refine xdast_ip_0 E dX6_init_243 h rfl (fun s_124 h => ?_)
  refine cf_dup E dX6_init_244 rfl rfl ?_
  refine cf_iconst E dX6_init_245 ic_4 rfl ?_
  refine cf_bipush E dX6_init_246 bp_103 rfl ?_
  refine xdast_ip_0 E dX6_init_248 h rfl (fun s_127 h => ?_)
  refine cf_dup E dX6_init_249 rfl rfl ?_
  refine cf_iconst E dX6_init_250 ic_5 rfl ?_
  refine cf_bipush E dX6_init_251 bp_97 rfl ?_
  refine xdast_ip_0 E dX6_init_253 h rfl (fun s_130 h => ?_)
  refine cf_dup E dX6_init_254 rfl rfl ?_
  refine cf_bipush E dX6_init_255 bp_6 rfl ?_
  refine cf_bipush E dX6_init_257 bp_108 rfl ?_
  refine xdast_ip_0 E dX6_init_259 h rfl (fun s_133 h => ?_)
  refine cf_dup E dX6_init_260 rfl rfl ?_
  refine cf_bipush E dX6_init_261 bp_7 rfl ?_
  refine cf_bipush E dX6_init_263 bp_108 rfl ?_
  refine xdast_ip_0 E dX6_init_265 h rfl (fun s_136 h => ?_)
  refine cf_dup E dX6_init_266 rfl rfl ?_
  refine cf_bipush E dX6_init_267 bp_8 rfl ?_
  refine cf_bipush E dX6_init_269 bp_109 rfl ?_
  refine xdast_ip_0 E dX6_init_271 h rfl (fun s_139 h => ?_)
  refine cf_dup E dX6_init_272 rfl rfl ?_
  refine cf_bipush E dX6_init_273 bp_9 rfl ?_
  refine cf_bipush E dX6_init_275 bp_111 rfl ?_
  refine xdast_ip_0 E dX6_init_277 h rfl (fun s_142 h => ?_)
  refine cf_dup E dX6_init_278 rfl rfl ?_
  refine cf_bipush E dX6_init_279 bp_10 rfl ?_
  refine cf_bipush E dX6_init_281 bp_116 rfl ?_
  refine xdast_ip_0 E dX6_init_283 h rfl (fun s_145 h => ?_)
  refine cf_dup E dX6_init_284 rfl rfl ?_
  refine cf_bipush E dX6_init_285 bp_11 rfl ?_
  refine cf_bipush E dX6_init_287 bp_104 rfl ?_
  refine xdast_ip_0 E dX6_init_289 h rfl (fun s_148 h => ?_)
  refine cf_dup E dX6_init_290 rfl rfl ?_
  refine cf_bipush E dX6_init_291 bp_12 rfl ?_
  refine cf_bipush E dX6_init_293 bp_119 rfl ?_
  refine xdast_ip_0 E dX6_init_295 h rfl (fun s_151 h => ?_)
  refine cf_dup E dX6_init_296 rfl rfl ?_
  refine cf_bipush E dX6_init_297 bp_13 rfl ?_
  refine cf_bipush E dX6_init_299 bp_111 rfl ?_
  refine xdast_ip_0 E dX6_init_301 h rfl (fun s_154 h => ?_)
  refine cf_dup E dX6_init_302 rfl rfl ?_
  refine cf_bipush E dX6_init_303 bp_14 rfl ?_
  refine cf_bipush E dX6_init_305 bp_114 rfl ?_
  refine xdast_ip_0 E dX6_init_307 h rfl (fun s_157 h => ?_)
  refine cf_dup E dX6_init_308 rfl rfl ?_
  refine cf_bipush E dX6_init_309 bp_15 rfl ?_
  refine cf_bipush E dX6_init_311 bp_107 rfl ?_
  refine xdast_ip_0 E dX6_init_313 h rfl (fun s_160 h => ?_)
  refine xdqX6_104 E hmn dX6_init_314 h rfl (fun s_163 h => ?_)
  refine cf_aload_n E dX6_init_317 0 rfl rfl ?_
  refine cf_bipush E dX6_init_318 bp_100 rfl ?_
  refine xnewa_2_0 E hb dX6_init_320 h rfl (fun q_166 hb h => ?_)
  refine xdqX6_107 E hmn dX6_init_322 h rfl (fun s_167 h => ?_)
  refine cf_aload_n E dX6_init_325 0 rfl rfl ?_
  refine cf_sipush E dX6_init_326 sp_9999 rfl ?_
  refine xdqX6_111 E dX6_init_329 h rfl (fun s_170 h => ?_)
  refine cf_aload_n E dX6_init_332 0 rfl rfl ?_
  refine cf_bipush E dX6_init_333 bp_6 rfl ?_
  refine xnewa_0_0 E hb dX6_init_335 h rfl (fun q_173 hb h => ?_)
  refine xdqX6_114 E hmn dX6_init_337 h rfl (fun s_174 h => ?_)
  refine cf_aload_n E dX6_init_340 0 rfl rfl ?_
  refine cf_iconst E dX6_init_341 ic_0 rfl ?_
  refine xdqX6_117 E dX6_init_342 h rfl (fun s_177 h => ?_)
  refine cf_aload_n E dX6_init_345 0 rfl rfl ?_
  refine cf_bipush E dX6_init_346 bp_6 rfl ?_
  refine xnewa_0_0 E hb dX6_init_348 h rfl (fun q_180 hb h => ?_)
  refine xdqX6_120 E hmn dX6_init_350 h rfl (fun s_181 h => ?_)
  refine cf_aload_n E dX6_init_353 0 rfl rfl ?_
  refine cf_bipush E dX6_init_354 bp_6 rfl ?_
  refine xnewa_0_0 E hb dX6_init_356 h rfl (fun q_184 hb h => ?_)
  refine xdqX6_123 E hmn dX6_init_358 h rfl (fun s_185 h => ?_)
  refine cf_aload_n E dX6_init_361 0 rfl rfl ?_
  refine cf_bipush E dX6_init_362 bp_6 rfl ?_
  refine xnewa_0_0 E hb dX6_init_364 h rfl (fun q_188 hb h => ?_)
  refine xdqX6_126 E hmn dX6_init_366 h rfl (fun s_189 h => ?_)
  refine cf_aload_n E dX6_init_369 0 rfl rfl ?_
  refine cf_bipush E dX6_init_370 bp_36 rfl ?_
  refine xnewa_0_0 E hb dX6_init_372 h rfl (fun q_192 hb h => ?_)
  refine xdqX6_129 E hmn dX6_init_374 h rfl (fun s_193 h => ?_)
  refine cf_aload_n E dX6_init_377 0 rfl rfl ?_
  refine cf_iconst E dX6_init_378 ic_0 rfl ?_
  refine xdqX6_132 E dX6_init_379 h rfl (fun s_196 h => ?_)
  refine cf_aload_n E dX6_init_382 0 rfl rfl ?_
  refine cf_sipush E dX6_init_383 sp_448 rfl ?_
  refine xnewa_0_0 E hb dX6_init_386 h rfl (fun q_199 hb h => ?_)
  refine xdqX6_135 E hmn dX6_init_388 h rfl (fun s_200 h => ?_)
  refine cf_aload_n E dX6_init_391 0 rfl rfl ?_
  refine cf_bipush E dX6_init_392 bp_64 rfl ?_
  refine xnewa_0_0 E hb dX6_init_394 h rfl (fun q_203 hb h => ?_)
  refine xdqX6_138 E hmn dX6_init_396 h rfl (fun s_204 h => ?_)
  refine cf_aload_n E dX6_init_399 0 rfl rfl ?_
  refine cf_iconst E dX6_init_400 ic_0 rfl ?_
  refine xdqX6_141 E dX6_init_401 h rfl (fun s_207 h => ?_)
  refine cf_aload_n E dX6_init_404 0 rfl rfl ?_
  refine cf_bipush E dX6_init_405 bp_6 rfl ?_
  refine xnewa_0_0 E hb dX6_init_407 h rfl (fun q_210 hb h => ?_)
  refine xdqX6_144 E hmn dX6_init_409 h rfl (fun s_211 h => ?_)
  refine cf_aload_n E dX6_init_412 0 rfl rfl ?_
  refine cf_bipush E dX6_init_413 bp_6 rfl ?_
  refine xnewa_0_0 E hb dX6_init_415 h rfl (fun q_214 hb h => ?_)
  refine xdqX6_147 E hmn dX6_init_417 h rfl (fun s_215 h => ?_)
  refine cf_aload_n E dX6_init_420 0 rfl rfl ?_
  refine cf_bipush E dX6_init_421 bp_64 rfl ?_
  refine xnewa_0_0 E hb dX6_init_423 h rfl (fun q_218 hb h => ?_)
  refine xdqX6_150 E hmn dX6_init_425 h rfl (fun s_219 h => ?_)
  refine cf_aload_n E dX6_init_428 0 rfl rfl ?_
  refine cf_iconst E dX6_init_429 ic_0 rfl ?_
  refine xdqX6_153 E dX6_init_430 h rfl (fun s_222 h => ?_)
  refine cf_aload_n E dX6_init_433 0 rfl rfl ?_
  refine cf_bipush E dX6_init_434 bp_8 rfl ?_
  refine xnewa_0_0 E hb dX6_init_436 h rfl (fun q_225 hb h => ?_)
  refine xdqX6_156 E hmn dX6_init_438 h rfl (fun s_226 h => ?_)
  refine cf_aload_n E dX6_init_441 0 rfl rfl ?_
  refine cf_bipush E dX6_init_442 bp_8 rfl ?_
  refine xnewa_0_0 E hb dX6_init_444 h rfl (fun q_229 hb h => ?_)
  refine xdqX6_159 E hmn dX6_init_446 h rfl (fun s_230 h => ?_)
  refine cf_aload_n E dX6_init_449 0 rfl rfl ?_
  refine cf_iconst E dX6_init_450 ic_0 rfl ?_
  refine xdqX6_162 E dX6_init_451 h rfl (fun s_233 h => ?_)
  refine cf_aload_n E dX6_init_454 0 rfl rfl ?_
  refine cf_iconst E dX6_init_455 ic_m1 rfl ?_
  refine xdqX6_166 E dX6_init_456 h rfl (fun s_236 h => ?_)
  refine cf_aload_n E dX6_init_459 0 rfl rfl ?_
  refine cf_iconst E dX6_init_460 ic_0 rfl ?_
  refine xdqX6_169 E dX6_init_461 h rfl (fun s_239 h => ?_)
  refine cf_aload_n E dX6_init_464 0 rfl rfl ?_
  refine cf_iconst E dX6_init_465 ic_0 rfl ?_
  refine xdqX6_172 E dX6_init_466 h rfl (fun s_242 h => ?_)
  refine cf_aload_n E dX6_init_469 0 rfl rfl ?_
  refine cf_iconst E dX6_init_470 ic_0 rfl ?_
  refine xdqX6_175 E dX6_init_471 h rfl (fun s_245 h => ?_)
  refine cf_aload_n E dX6_init_474 0 rfl rfl ?_
  refine cf_iconst E dX6_init_475 ic_0 rfl ?_
  refine xdqX6_178 E dX6_init_476 h rfl (fun s_248 h => ?_)
  refine cf_aload_n E dX6_init_479 0 rfl rfl ?_
  refine cf_iconst E dX6_init_480 ic_0 rfl ?_
  refine xdqX6_181 E dX6_init_481 h rfl (fun s_251 h => ?_)
  refine cf_aload_n E dX6_init_484 0 rfl rfl ?_
  refine cf_bipush E dX6_init_485 bp_6 rfl ?_
  refine xnewa_0_0 E hb dX6_init_487 h rfl (fun q_254 hb h => ?_)
  refine xdqX6_184 E hmn dX6_init_489 h rfl (fun s_255 h => ?_)
  refine cf_aload_n E dX6_init_492 0 rfl rfl ?_
  refine cf_bipush E dX6_init_493 bp_6 rfl ?_
  refine xnewa_0_0 E hb dX6_init_495 h rfl (fun q_258 hb h => ?_)
  refine xdqX6_187 E hmn dX6_init_497 h rfl (fun s_259 h => ?_)
  refine cf_aload_n E dX6_init_500 0 rfl rfl ?_
  refine cf_bipush E dX6_init_501 bp_6 rfl ?_
  refine xnewa_0_0 E hb dX6_init_503 h rfl (fun q_262 hb h => ?_)
  refine xdqX6_190 E hmn dX6_init_505 h rfl (fun s_263 h => ?_)
  refine cf_aload_n E dX6_init_508 0 rfl rfl ?_
  refine cf_bipush E dX6_init_509 bp_6 rfl ?_
  refine xnewa_0_0 E hb dX6_init_511 h rfl (fun q_266 hb h => ?_)
  refine xdqX6_193 E hmn dX6_init_513 h rfl (fun s_267 h => ?_)
  refine cf_aload_n E dX6_init_516 0 rfl rfl ?_
  refine cf_bipush E dX6_init_517 bp_6 rfl ?_
  refine xnewa_0_0 E hb dX6_init_519 h rfl (fun q_270 hb h => ?_)
  refine xdqX6_196 E hmn dX6_init_521 h rfl (fun s_271 h => ?_)
  refine cf_aload_n E dX6_init_524 0 rfl rfl ?_
  refine cf_bipush E dX6_init_525 bp_6 rfl ?_
  refine xnewa_0_0 E hb dX6_init_527 h rfl (fun q_274 hb h => ?_)
  refine xdqX6_199 E hmn dX6_init_529 h rfl (fun s_275 h => ?_)
  refine cf_aload_n E dX6_init_532 0 rfl rfl ?_
  refine cf_bipush E dX6_init_533 bp_6 rfl ?_
  refine xnewa_0_0 E hb dX6_init_535 h rfl (fun q_278 hb h => ?_)
  refine xdqX6_202 E hmn dX6_init_537 h rfl (fun s_279 h => ?_)
  refine cf_aload_n E dX6_init_540 0 rfl rfl ?_
  refine cf_bipush E dX6_init_541 bp_6 rfl ?_
  refine xnewa_0_0 E hb dX6_init_543 h rfl (fun q_282 hb h => ?_)
  refine xdqX6_205 E hmn dX6_init_545 h rfl (fun s_283 h => ?_)
  refine cf_aload_n E dX6_init_548 0 rfl rfl ?_
  refine cf_bipush E dX6_init_549 bp_6 rfl ?_
  refine xnewa_0_0 E hb dX6_init_551 h rfl (fun q_286 hb h => ?_)
  refine xdqX6_208 E hmn dX6_init_553 h rfl (fun s_287 h => ?_)
  refine cf_aload_n E dX6_init_556 0 rfl rfl ?_
  refine cf_bipush E dX6_init_557 bp_24 rfl ?_
  refine xnewa_0_0 E hb dX6_init_559 h rfl (fun q_290 hb h => ?_)
  refine xdqX6_211 E hmn dX6_init_561 h rfl (fun s_291 h => ?_)
  refine cf_aload_n E dX6_init_564 0 rfl rfl ?_
  refine cf_iconst E dX6_init_565 ic_5 rfl ?_
  refine xnewa_0_0 E hb dX6_init_566 h rfl (fun q_294 hb h => ?_)
  refine xdqX6_214 E hmn dX6_init_568 h rfl (fun s_295 h => ?_)
  refine cf_aload_n E dX6_init_571 0 rfl rfl ?_
  refine cf_bipush E dX6_init_572 bp_6 rfl ?_
  refine xnewa_0_0 E hb dX6_init_574 h rfl (fun q_298 hb h => ?_)
  refine xdqX6_217 E hmn dX6_init_576 h rfl (fun s_299 h => ?_)
  refine cf_aload_n E dX6_init_579 0 rfl rfl ?_
  refine cf_bipush E dX6_init_580 bp_6 rfl ?_
  refine xnewa_0_0 E hb dX6_init_582 h rfl (fun q_302 hb h => ?_)
  refine xdqX6_220 E hmn dX6_init_584 h rfl (fun s_303 h => ?_)
  refine cf_aload_n E dX6_init_587 0 rfl rfl ?_
  refine cf_bipush E dX6_init_588 bp_8 rfl ?_
  refine xnewa_0_0 E hb dX6_init_590 h rfl (fun q_306 hb h => ?_)
  refine xdqX6_223 E hmn dX6_init_592 h rfl (fun s_307 h => ?_)
  refine cf_aload_n E dX6_init_595 0 rfl rfl ?_
  refine cf_bipush E dX6_init_596 bp_8 rfl ?_
  refine xnewa_0_0 E hb dX6_init_598 h rfl (fun q_310 hb h => ?_)
  refine xdqX6_226 E hmn dX6_init_600 h rfl (fun s_311 h => ?_)
  refine cf_aload_n E dX6_init_603 0 rfl rfl ?_
  refine cf_iconst E dX6_init_604 ic_0 rfl ?_
  refine xdqX6_229 E dX6_init_605 h rfl (fun s_314 h => ?_)
  refine cf_aload_n E dX6_init_608 0 rfl rfl ?_
  refine cf_bipush E dX6_init_609 bp_20 rfl ?_
  refine xnewa_0_0 E hb dX6_init_611 h rfl (fun q_317 hb h => ?_)
  refine xdqX6_232 E hmn dX6_init_613 h rfl (fun s_318 h => ?_)
  refine cf_aload_n E dX6_init_616 0 rfl rfl ?_
  refine cf_bipush E dX6_init_617 bp_6 rfl ?_
  refine xnewa_0_0 E hb dX6_init_619 h rfl (fun q_321 hb h => ?_)
  refine cf_dup E dX6_init_621 rfl rfl ?_
  refine cf_iconst E dX6_init_622 ic_0 rfl ?_
  refine cf_iconst E dX6_init_623 ic_m1 rfl ?_
  refine xdast_ip_0 E dX6_init_624 h rfl (fun s_322 h => ?_)
  refine cf_dup E dX6_init_625 rfl rfl ?_
  refine cf_iconst E dX6_init_626 ic_1 rfl ?_
  refine cf_iconst E dX6_init_627 ic_m1 rfl ?_
  refine xdast_ip_0 E dX6_init_628 h rfl (fun s_325 h => ?_)
  refine cf_dup E dX6_init_629 rfl rfl ?_
  refine cf_iconst E dX6_init_630 ic_2 rfl ?_
  refine cf_iconst E dX6_init_631 ic_m1 rfl ?_
  refine xdast_ip_0 E dX6_init_632 h rfl (fun s_328 h => ?_)
  refine cf_dup E dX6_init_633 rfl rfl ?_
  refine cf_iconst E dX6_init_634 ic_3 rfl ?_
  refine cf_iconst E dX6_init_635 ic_m1 rfl ?_
  refine xdast_ip_0 E dX6_init_636 h rfl (fun s_331 h => ?_)
  refine cf_dup E dX6_init_637 rfl rfl ?_
  refine cf_iconst E dX6_init_638 ic_4 rfl ?_
  refine cf_iconst E dX6_init_639 ic_m1 rfl ?_
  refine xdast_ip_0 E dX6_init_640 h rfl (fun s_334 h => ?_)
  refine cf_dup E dX6_init_641 rfl rfl ?_
  refine cf_iconst E dX6_init_642 ic_5 rfl ?_
  refine cf_iconst E dX6_init_643 ic_m1 rfl ?_
  refine xdast_ip_0 E dX6_init_644 h rfl (fun s_337 h => ?_)
  refine xdqX6_235 E hmn dX6_init_645 h rfl (fun s_340 h => ?_)
  refine cf_aload_n E dX6_init_648 0 rfl rfl ?_
  refine cf_bipush E dX6_init_649 bp_6 rfl ?_
  refine xnewa_0_0 E hb dX6_init_651 h rfl (fun q_343 hb h => ?_)
  refine xdqX6_238 E hmn dX6_init_653 h rfl (fun s_344 h => ?_)
  refine cf_aload_n E dX6_init_656 0 rfl rfl ?_
  refine cf_sipush E dX6_init_657 sp_360 rfl ?_
  refine xnewa_3_0 E hb dX6_init_660 h rfl (fun q_347 hb h => ?_)
  refine xdqX6_241 E hmn dX6_init_662 h rfl (fun s_348 h => ?_)
  refine cf_aload_n E dX6_init_665 0 rfl rfl ?_
  refine cf_bipush E dX6_init_666 bp_60 rfl ?_
  refine xnewa_3_0 E hb dX6_init_668 h rfl (fun q_351 hb h => ?_)
  refine xdqX6_245 E hmn dX6_init_670 h rfl (fun s_352 h => ?_)
  exact hq _ _ _ _ _ (hb0 hb).1 (hb0 hb).2 dX6_init_673 h
