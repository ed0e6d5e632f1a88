/-! HatsDecide, group p3: rows, functions, walks -/
set_option maxRecDepth 100000
section XC
variable {p : Program} {l : Launch} {e : Env} {R : Room} {s : State} {m : MethodId} {args : Array Value} {below : List Frame} {meth : Method} {c : Code} {nL cells slots : Nat} {A : Nat → Prop} {g : XG} {ξ : XS} {Q : State → Prop} {pc n : Nat} {lv : List (Nat × Value)} {st : List Value} {cc : ByteArray} {ρ : Type} {res : ρ}
theorem xdqJ1_7 (E : EV p s m args c cc nL RJ1) {a : Nat} {v : Int32} {kk : XS → Prop} (d : decode cc pc = .ok (.putfield 7, 3)) (h : bndp (dO ξ a) (fun ci fs => (if (ci = 4 ∧ 0 < fs.length) then nx (sXd ξ a (.inr (ci, fs.set 0 (.int v)))) kk else False))) (hn : pc + 3 = n) (k : ∀ ξ1 : XS, kk ξ1 → CF p l e R s m args below meth c nL cells slots (XB g A s ξ1) Q n lv st) : CF p l e R s m args below meth c nL cells slots (XB g A s ξ) Q pc lv (.int v :: .ref a :: st) := by
  obtain ⟨ci, fs, hO, h⟩ := h
  by_cases hi : (ci = 4 ∧ 0 < fs.length)
  · have h : (if (ci = 4 ∧ 0 < fs.length) then nx (sXd ξ a (.inr (ci, fs.set 0 (.int v)))) kk else False) := h
    rw [if_pos hi] at h
    have he := dO_at hO
    obtain ⟨rfl, hi⟩ : ci = 4 ∧ _ := hi
    have hi : True ∧ _ := ⟨trivial, hi⟩
    exact xdp (C9 := RJ2) (T := TJ2) (N := 3) (ci := 4) (j := 0) (ty := .int) E in_J2 tyJ2 tyJ2_ok nmJ2 rfl he (by decide) q195 (fun _ h9 => h9) rfl (by decide +kernel) rfl rfl hi.2 d hn (k _ h)
  · have h : (if (ci = 4 ∧ 0 < fs.length) then nx (sXd ξ a (.inr (ci, fs.set 0 (.int v)))) kk else False) := h
    rw [if_neg hi] at h; cases h
theorem xgsJ2_39 (E : EV p s m args c cc nL RJ2) (d : decode cc pc = .ok (.getstatic 39, 3)) (hn : pc + 3 = n) (k : CF p l e R s m args below meth c nL cells slots (XB g A s ξ) Q n lv (.ref (xa g 400) :: st)) : CF p l e R s m args below meth c nL cells slots (XB g A s ξ) Q pc lv st := by
  subst hn
  exact fun H locs ls hB hl => va_gets E.1 E.2.1 hB.2.2.2.2.2.2.2.2.2.1 hB.2.2.1 E.2.2.2.1 (E.2.2.2.2 _ q191) (fun _ h9 => h9) d (k H locs ls hB hl)
theorem xdqJ2_9 (E : EV p s m args c cc nL RJ2) {a : Nat} {v : Nat} {kk : XS → Prop} (d : decode cc pc = .ok (.putfield 9, 3)) (h : bndp (dO ξ a) (fun ci fs => (if (ci = 4 ∧ 1 < fs.length) then nx (sXd ξ a (.inr (ci, fs.set 1 (.ref v)))) kk else False))) (hn : pc + 3 = n) (k : ∀ ξ1 : XS, kk ξ1 → CF p l e R s m args below meth c nL cells slots (XB g A s ξ1) Q n lv st) : CF p l e R s m args below meth c nL cells slots (XB g A s ξ) Q pc lv (.ref v :: .ref a :: st) := by
  obtain ⟨ci, fs, hO, h⟩ := h
  by_cases hi : (ci = 4 ∧ 1 < fs.length)
  · have h : (if (ci = 4 ∧ 1 < fs.length) then nx (sXd ξ a (.inr (ci, fs.set 1 (.ref v)))) kk else False) := h
    rw [if_pos hi] at h
    have he := dO_at hO
    obtain ⟨rfl, hi⟩ : ci = 4 ∧ _ := hi
    have hi : True ∧ _ := ⟨trivial, hi⟩
    exact xdp (C9 := RJ2) (T := TJ2) (N := 3) (ci := 4) (j := 1) (ty := .array (.object "java/lang/Object")) E in_J2 tyJ2 tyJ2_ok nmJ2 rfl he (by decide) q193 (fun _ h9 => h9) rfl (by decide +kernel) rfl rfl hi.2 d hn (k _ h)
  · have h : (if (ci = 4 ∧ 1 < fs.length) then nx (sXd ξ a (.inr (ci, fs.set 1 (.ref v)))) kk else False) := h
    rw [if_neg hi] at h; cases h
theorem xnwX18_7 (E : EV p s m args c cc nL RX18) {mc ms : Nat} (hb : cells + mc ≤ R.cells ∧ slots + ms ≤ R.slots) {kk : Nat → Prop} (d : decode cc pc = .ok (.new 7, 3)) (h : mkc ξ 3 mc ms kk) (hn : pc + 3 = n) (k : ∀ q, (cells + 1 + (mc - 1) ≤ R.cells ∧ slots + 3 + (ms - 3) ≤ R.slots) → kk q → CF p l e R s m args below meth c nL (cells + 1) (slots + 3) (XB g A s (pXd ξ q (.inr (4, [.int 0, .null, .int 0])))) Q n lv (.ref q :: st)) : CF p l e R s m args below meth c nL cells slots (XB g A s ξ) Q pc lv st :=
  xnew (C9 := RJ2) (T := TJ2) E in_J2 tyJ2 tyJ2_ok q922 q180 q101 rfl (fun j hj => by rcases (show j = 0 ∨ j = 1 ∨ j = 2 by omega) with rfl | rfl | rfl <;> rfl) hb d h hn k
theorem xdqX18_10 (E : EV p s m args c cc nL RX18) {a : Nat} {v : Nat} {kk : XS → Prop} (hmn : meth.name = "<init>") (d : decode cc pc = .ok (.putfield 10, 3)) (h : bndp (dO ξ a) (fun ci fs => (if (ci = 18 ∧ 1 < fs.length) then nx (sXd ξ a (.inr (ci, fs.set 1 (.ref v)))) kk else False))) (hn : pc + 3 = n) (k : ∀ ξ1 : XS, kk ξ1 → CF p l e R s m args below meth c nL cells slots (XB g A s ξ1) Q n lv st) : CF p l e R s m args below meth c nL cells slots (XB g A s ξ) Q pc lv (.ref v :: .ref a :: st) := by
  obtain ⟨ci, fs, hO, h⟩ := h
  by_cases hi : (ci = 18 ∧ 1 < fs.length)
  · have h : (if (ci = 18 ∧ 1 < fs.length) then nx (sXd ξ a (.inr (ci, fs.set 1 (.ref v)))) kk else False) := h
    rw [if_pos hi] at h
    have he := dO_at hO
    obtain ⟨rfl, hi⟩ : ci = 18 ∧ _ := hi
    have hi : True ∧ _ := ⟨trivial, hi⟩
    exact xdpF (C9 := RX18) (T := TX18) (N := 2) (ci := 18) (j := 1) (ty := .object "java/util/ArrayList") E in_X18 (fun D9 hK9 => va_apart (own := RX18) E.2.2.2.2 in_X18 tyX18 tyX18_ok nmX18 hK9 rfl) rfl he (by decide) q925 (fun _ h9 => h9) rfl hmn rfl (by decide +kernel) rfl rfl hi.2 d hn (k _ h)
  · have h : (if (ci = 18 ∧ 1 < fs.length) then nx (sXd ξ a (.inr (ci, fs.set 1 (.ref v)))) kk else False) := h
    rw [if_neg hi] at h; cases h
theorem xdqX18_16 (E : EV p s m args c cc nL RX18) {a : Nat} {v : Int32} {kk : XS → Prop} (hmn : meth.name = "<init>") (d : decode cc pc = .ok (.putfield 16, 3)) (h : bndp (dO ξ a) (fun ci fs => (if (ci = 18 ∧ 0 < fs.length ∧ (v = 0 ∨ v = 1)) then nx (sXd ξ a (.inr (ci, fs.set 0 (.int v)))) kk else False))) (hn : pc + 3 = n) (k : ∀ ξ1 : XS, kk ξ1 → CF p l e R s m args below meth c nL cells slots (XB g A s ξ1) Q n lv st) : CF p l e R s m args below meth c nL cells slots (XB g A s ξ) Q pc lv (.int v :: .ref a :: st) := by
  obtain ⟨ci, fs, hO, h⟩ := h
  by_cases hi : (ci = 18 ∧ 0 < fs.length ∧ (v = 0 ∨ v = 1))
  · have h : (if (ci = 18 ∧ 0 < fs.length ∧ (v = 0 ∨ v = 1)) then nx (sXd ξ a (.inr (ci, fs.set 0 (.int v)))) kk else False) := h
    rw [if_pos hi] at h
    have he := dO_at hO
    obtain ⟨rfl, hi⟩ : ci = 18 ∧ _ := hi
    have hi : True ∧ _ := ⟨trivial, hi⟩
    exact xdpF (C9 := RX18) (T := TX18) (N := 2) (ci := 18) (j := 0) (ty := .boolean) E in_X18 (fun D9 hK9 => va_apart (own := RX18) E.2.2.2.2 in_X18 tyX18 tyX18_ok nmX18 hK9 rfl) rfl he (by decide) q924 (fun _ h9 => h9) rfl hmn rfl (by decide +kernel) (nzz hi.2.2) (fzz hi.2.2) hi.2.1 d hn (k _ h)
  · have h : (if (ci = 18 ∧ 0 < fs.length ∧ (v = 0 ∨ v = 1)) then nx (sXd ξ a (.inr (ci, fs.set 0 (.int v)))) kk else False) := h
    rw [if_neg hi] at h; cases h
theorem xdqX19_7 (E : EV p s m args c cc nL RX19) {a : Nat} {v : Nat} {kk : XS → Prop} (hmn : meth.name = "<init>") (d : decode cc pc = .ok (.putfield 7, 3)) (h : bndp (dO ξ a) (fun ci fs => (if (ci = 19 ∧ 0 < fs.length) then nx (sXd ξ a (.inr (ci, fs.set 0 (.ref v)))) kk else False))) (hn : pc + 3 = n) (k : ∀ ξ1 : XS, kk ξ1 → CF p l e R s m args below meth c nL cells slots (XB g A s ξ1) Q n lv st) : CF p l e R s m args below meth c nL cells slots (XB g A s ξ) Q pc lv (.ref v :: .ref a :: st) := by
  obtain ⟨ci, fs, hO, h⟩ := h
  by_cases hi : (ci = 19 ∧ 0 < fs.length)
  · have h : (if (ci = 19 ∧ 0 < fs.length) then nx (sXd ξ a (.inr (ci, fs.set 0 (.ref v)))) kk else False) := h
    rw [if_pos hi] at h
    have he := dO_at hO
    obtain ⟨rfl, hi⟩ : ci = 19 ∧ _ := hi
    have hi : True ∧ _ := ⟨trivial, hi⟩
    exact xdpF (C9 := RX19) (T := TX19) (N := 1) (ci := 19) (j := 0) (ty := .object "HatsDecide$Test") E in_X19 (fun D9 hK9 => va_apart (own := RX19) E.2.2.2.2 in_X19 tyX19 tyX19_ok nmX19 hK9 rfl) rfl he (by decide) q950 (fun _ h9 => h9) rfl hmn rfl (by decide +kernel) rfl rfl hi.2 d hn (k _ h)
  · have h : (if (ci = 19 ∧ 0 < fs.length) then nx (sXd ξ a (.inr (ci, fs.set 0 (.ref v)))) kk else False) := h
    rw [if_neg hi] at h; cases h
theorem xdqX20_7 (E : EV p s m args c cc nL RX20) {a : Nat} {v : Int32} {kk : XS → Prop} (hmn : meth.name = "<init>") (d : decode cc pc = .ok (.putfield 7, 3)) (h : bndp (dO ξ a) (fun ci fs => (if (ci = 20 ∧ 0 < fs.length) then nx (sXd ξ a (.inr (ci, fs.set 0 (.int v)))) kk else False))) (hn : pc + 3 = n) (k : ∀ ξ1 : XS, kk ξ1 → CF p l e R s m args below meth c nL cells slots (XB g A s ξ1) Q n lv st) : CF p l e R s m args below meth c nL cells slots (XB g A s ξ) Q pc lv (.int v :: .ref a :: st) := by
  obtain ⟨ci, fs, hO, h⟩ := h
  by_cases hi : (ci = 20 ∧ 0 < fs.length)
  · have h : (if (ci = 20 ∧ 0 < fs.length) then nx (sXd ξ a (.inr (ci, fs.set 0 (.int v)))) kk else False) := h
    rw [if_pos hi] at h
    have he := dO_at hO
    obtain ⟨rfl, hi⟩ : ci = 20 ∧ _ := hi
    have hi : True ∧ _ := ⟨trivial, hi⟩
    exact xdpF (C9 := RX20) (T := TX20) (N := 3) (ci := 20) (j := 0) (ty := .int) E in_X20 (fun D9 hK9 => va_apart (own := RX20) E.2.2.2.2 in_X20 tyX20 tyX20_ok nmX20 hK9 rfl) rfl he (by decide) q960 (fun _ h9 => h9) rfl hmn rfl (by decide +kernel) rfl rfl hi.2 d hn (k _ h)
  · have h : (if (ci = 20 ∧ 0 < fs.length) then nx (sXd ξ a (.inr (ci, fs.set 0 (.int v)))) kk else False) := h
    rw [if_neg hi] at h; cases h
theorem xdqX20_13 (E : EV p s m args c cc nL RX20) {a : Nat} {v : Int32} {kk : XS → Prop} (hmn : meth.name = "<init>") (d : decode cc pc = .ok (.putfield 13, 3)) (h : bndp (dO ξ a) (fun ci fs => (if (ci = 20 ∧ 1 < fs.length) then nx (sXd ξ a (.inr (ci, fs.set 1 (.int v)))) kk else False))) (hn : pc + 3 = n) (k : ∀ ξ1 : XS, kk ξ1 → CF p l e R s m args below meth c nL cells slots (XB g A s ξ1) Q n lv st) : CF p l e R s m args below meth c nL cells slots (XB g A s ξ) Q pc lv (.int v :: .ref a :: st) := by
  obtain ⟨ci, fs, hO, h⟩ := h
  by_cases hi : (ci = 20 ∧ 1 < fs.length)
  · have h : (if (ci = 20 ∧ 1 < fs.length) then nx (sXd ξ a (.inr (ci, fs.set 1 (.int v)))) kk else False) := h
    rw [if_pos hi] at h
    have he := dO_at hO
    obtain ⟨rfl, hi⟩ : ci = 20 ∧ _ := hi
    have hi : True ∧ _ := ⟨trivial, hi⟩
    exact xdpF (C9 := RX20) (T := TX20) (N := 3) (ci := 20) (j := 1) (ty := .int) E in_X20 (fun D9 hK9 => va_apart (own := RX20) E.2.2.2.2 in_X20 tyX20 tyX20_ok nmX20 hK9 rfl) rfl he (by decide) q961 (fun _ h9 => h9) rfl hmn rfl (by decide +kernel) rfl rfl hi.2 d hn (k _ h)
  · have h : (if (ci = 20 ∧ 1 < fs.length) then nx (sXd ξ a (.inr (ci, fs.set 1 (.int v)))) kk else False) := h
    rw [if_neg hi] at h; cases h
theorem xdqX20_16 (E : EV p s m args c cc nL RX20) {a : Nat} {v : Int32} {kk : XS → Prop} (hmn : meth.name = "<init>") (d : decode cc pc = .ok (.putfield 16, 3)) (h : bndp (dO ξ a) (fun ci fs => (if (ci = 20 ∧ 2 < fs.length) then nx (sXd ξ a (.inr (ci, fs.set 2 (.int v)))) kk else False))) (hn : pc + 3 = n) (k : ∀ ξ1 : XS, kk ξ1 → CF p l e R s m args below meth c nL cells slots (XB g A s ξ1) Q n lv st) : CF p l e R s m args below meth c nL cells slots (XB g A s ξ) Q pc lv (.int v :: .ref a :: st) := by
  obtain ⟨ci, fs, hO, h⟩ := h
  by_cases hi : (ci = 20 ∧ 2 < fs.length)
  · have h : (if (ci = 20 ∧ 2 < fs.length) then nx (sXd ξ a (.inr (ci, fs.set 2 (.int v)))) kk else False) := h
    rw [if_pos hi] at h
    have he := dO_at hO
    obtain ⟨rfl, hi⟩ : ci = 20 ∧ _ := hi
    have hi : True ∧ _ := ⟨trivial, hi⟩
    exact xdpF (C9 := RX20) (T := TX20) (N := 3) (ci := 20) (j := 2) (ty := .int) E in_X20 (fun D9 hK9 => va_apart (own := RX20) E.2.2.2.2 in_X20 tyX20 tyX20_ok nmX20 hK9 rfl) rfl he (by decide) q962 (fun _ h9 => h9) rfl hmn rfl (by decide +kernel) rfl rfl hi.2 d hn (k _ h)
  · have h : (if (ci = 20 ∧ 2 < fs.length) then nx (sXd ξ a (.inr (ci, fs.set 2 (.int v)))) kk else False) := h
    rw [if_neg hi] at h; cases h
theorem xdqX16_7 (E : EV p s m args c cc nL RX16) {a : Nat} {v : Int32} {kk : XS → Prop} (hmn : meth.name = "<init>") (d : decode cc pc = .ok (.putfield 7, 3)) (h : bndp (dO ξ a) (fun ci fs => (if (ci = 17 ∧ 0 < fs.length) then nx (sXd ξ a (.inr (ci, fs.set 0 (.int v)))) kk else False))) (hn : pc + 3 = n) (k : ∀ ξ1 : XS, kk ξ1 → CF p l e R s m args below meth c nL cells slots (XB g A s ξ1) Q n lv st) : CF p l e R s m args below meth c nL cells slots (XB g A s ξ) Q pc lv (.int v :: .ref a :: st) := by
  obtain ⟨ci, fs, hO, h⟩ := h
  by_cases hi : (ci = 17 ∧ 0 < fs.length)
  · have h : (if (ci = 17 ∧ 0 < fs.length) then nx (sXd ξ a (.inr (ci, fs.set 0 (.int v)))) kk else False) := h
    rw [if_pos hi] at h
    have he := dO_at hO
    obtain ⟨rfl, hi⟩ : ci = 17 ∧ _ := hi
    have hi : True ∧ _ := ⟨trivial, hi⟩
    exact xdpF (C9 := RX16) (T := TX16) (N := 2) (ci := 17) (j := 0) (ty := .int) E in_X16 (fun D9 hK9 => va_apart (own := RX16) E.2.2.2.2 in_X16 tyX16 tyX16_ok nmX16 hK9 rfl) rfl he (by decide) q1045 (fun _ h9 => h9) rfl hmn rfl (by decide +kernel) rfl rfl hi.2 d hn (k _ h)
  · have h : (if (ci = 17 ∧ 0 < fs.length) then nx (sXd ξ a (.inr (ci, fs.set 0 (.int v)))) kk else False) := h
    rw [if_neg hi] at h; cases h
theorem xdqX16_13 (E : EV p s m args c cc nL RX16) {a : Nat} {v : Nat} {kk : XS → Prop} (hmn : meth.name = "<init>") (d : decode cc pc = .ok (.putfield 13, 3)) (h : bndp (dO ξ a) (fun ci fs => (if (ci = 17 ∧ 1 < fs.length) then nx (sXd ξ a (.inr (ci, fs.set 1 (.ref v)))) kk else False))) (hn : pc + 3 = n) (k : ∀ ξ1 : XS, kk ξ1 → CF p l e R s m args below meth c nL cells slots (XB g A s ξ1) Q n lv st) : CF p l e R s m args below meth c nL cells slots (XB g A s ξ) Q pc lv (.ref v :: .ref a :: st) := by
  obtain ⟨ci, fs, hO, h⟩ := h
  by_cases hi : (ci = 17 ∧ 1 < fs.length)
  · have h : (if (ci = 17 ∧ 1 < fs.length) then nx (sXd ξ a (.inr (ci, fs.set 1 (.ref v)))) kk else False) := h
    rw [if_pos hi] at h
    have he := dO_at hO
    obtain ⟨rfl, hi⟩ : ci = 17 ∧ _ := hi
    have hi : True ∧ _ := ⟨trivial, hi⟩
    exact xdpF (C9 := RX16) (T := TX16) (N := 2) (ci := 17) (j := 1) (ty := .object "HatsDecide$Test") E in_X16 (fun D9 hK9 => va_apart (own := RX16) E.2.2.2.2 in_X16 tyX16 tyX16_ok nmX16 hK9 rfl) rfl he (by decide) q1047 (fun _ h9 => h9) rfl hmn rfl (by decide +kernel) rfl rfl hi.2 d hn (k _ h)
  · have h : (if (ci = 17 ∧ 1 < fs.length) then nx (sXd ξ a (.inr (ci, fs.set 1 (.ref v)))) kk else False) := h
    rw [if_neg hi] at h; cases h
theorem xnwX2_9 (E : EV p s m args c cc nL RX2) {mc ms : Nat} (hb : cells + mc ≤ R.cells ∧ slots + ms ≤ R.slots) {kk : Nat → Prop} (d : decode cc pc = .ok (.new 9, 3)) (h : mkc ξ 3 mc ms kk) (hn : pc + 3 = n) (k : ∀ q, (cells + 1 + (mc - 1) ≤ R.cells ∧ slots + 3 + (ms - 3) ≤ R.slots) → kk q → CF p l e R s m args below meth c nL (cells + 1) (slots + 3) (XB g A s (pXd ξ q (.inr (4, [.int 0, .null, .int 0])))) Q n lv (.ref q :: st)) : CF p l e R s m args below meth c nL cells slots (XB g A s ξ) Q pc lv st :=
  xnew (C9 := RJ2) (T := TJ2) E in_J2 tyJ2 tyJ2_ok q179 q180 q101 rfl (fun j hj => by rcases (show j = 0 ∨ j = 1 ∨ j = 2 by omega) with rfl | rfl | rfl <;> rfl) hb d h hn k
theorem xdqX2_12 (E : EV p s m args c cc nL RX2) {a : Nat} {v : Nat} {kk : XS → Prop} (hmn : meth.name = "<init>") (d : decode cc pc = .ok (.putfield 12, 3)) (h : bndp (dO ξ a) (fun ci fs => (if (ci = 3 ∧ 0 < fs.length) then nx (sXd ξ a (.inr (ci, fs.set 0 (.ref v)))) kk else False))) (hn : pc + 3 = n) (k : ∀ ξ1 : XS, kk ξ1 → CF p l e R s m args below meth c nL cells slots (XB g A s ξ1) Q n lv st) : CF p l e R s m args below meth c nL cells slots (XB g A s ξ) Q pc lv (.ref v :: .ref a :: st) := by
  obtain ⟨ci, fs, hO, h⟩ := h
  by_cases hi : (ci = 3 ∧ 0 < fs.length)
  · have h : (if (ci = 3 ∧ 0 < fs.length) then nx (sXd ξ a (.inr (ci, fs.set 0 (.ref v)))) kk else False) := h
    rw [if_pos hi] at h
    have he := dO_at hO
    obtain ⟨rfl, hi⟩ : ci = 3 ∧ _ := hi
    have hi : True ∧ _ := ⟨trivial, hi⟩
    exact xdpF (C9 := RX2) (T := TX2) (N := 4) (ci := 3) (j := 0) (ty := .object "java/util/ArrayList") E in_X2 (fun D9 hK9 => va_apart (own := RX2) E.2.2.2.2 in_X2 tyX2 tyX2_ok nmX2 hK9 rfl) rfl he (by decide) q205 (fun _ h9 => h9) rfl hmn rfl (by decide +kernel) rfl rfl hi.2 d hn (k _ h)
  · have h : (if (ci = 3 ∧ 0 < fs.length) then nx (sXd ξ a (.inr (ci, fs.set 0 (.ref v)))) kk else False) := h
    rw [if_neg hi] at h; cases h
theorem xdqX2_18 (E : EV p s m args c cc nL RX2) {a : Nat} {v : Nat} {kk : XS → Prop} (hmn : meth.name = "<init>") (d : decode cc pc = .ok (.putfield 18, 3)) (h : bndp (dO ξ a) (fun ci fs => (if (ci = 3 ∧ 1 < fs.length) then nx (sXd ξ a (.inr (ci, fs.set 1 (.ref v)))) kk else False))) (hn : pc + 3 = n) (k : ∀ ξ1 : XS, kk ξ1 → CF p l e R s m args below meth c nL cells slots (XB g A s ξ1) Q n lv st) : CF p l e R s m args below meth c nL cells slots (XB g A s ξ) Q pc lv (.ref v :: .ref a :: st) := by
  obtain ⟨ci, fs, hO, h⟩ := h
  by_cases hi : (ci = 3 ∧ 1 < fs.length)
  · have h : (if (ci = 3 ∧ 1 < fs.length) then nx (sXd ξ a (.inr (ci, fs.set 1 (.ref v)))) kk else False) := h
    rw [if_pos hi] at h
    have he := dO_at hO
    obtain ⟨rfl, hi⟩ : ci = 3 ∧ _ := hi
    have hi : True ∧ _ := ⟨trivial, hi⟩
    exact xdpF (C9 := RX2) (T := TX2) (N := 4) (ci := 3) (j := 1) (ty := .array .int) E in_X2 (fun D9 hK9 => va_apart (own := RX2) E.2.2.2.2 in_X2 tyX2 tyX2_ok nmX2 hK9 rfl) rfl he (by decide) q207 (fun _ h9 => h9) rfl hmn rfl (by decide +kernel) rfl rfl hi.2 d hn (k _ h)
  · have h : (if (ci = 3 ∧ 1 < fs.length) then nx (sXd ξ a (.inr (ci, fs.set 1 (.ref v)))) kk else False) := h
    rw [if_neg hi] at h; cases h
theorem xnwX14_9 (E : EV p s m args c cc nL RX14) {mc ms : Nat} (hb : cells + mc ≤ R.cells ∧ slots + ms ≤ R.slots) {kk : Nat → Prop} (d : decode cc pc = .ok (.new 9, 3)) (h : mkc ξ 4 mc ms kk) (hn : pc + 3 = n) (k : ∀ q, (cells + 1 + (mc - 1) ≤ R.cells ∧ slots + 4 + (ms - 4) ≤ R.slots) → kk q → CF p l e R s m args below meth c nL (cells + 1) (slots + 4) (XB g A s (pXd ξ q (.inr (3, [.null, .null, .int 0, .int 0])))) Q n lv (.ref q :: st)) : CF p l e R s m args below meth c nL cells slots (XB g A s ξ) Q pc lv st :=
  xnew (C9 := RX2) (T := TX2) E in_X2 tyX2 tyX2_ok q725 q174 q98 rfl (fun j hj => by rcases (show j = 0 ∨ j = 1 ∨ j = 2 ∨ j = 3 by omega) with rfl | rfl | rfl | rfl <;> rfl) hb d h hn k
theorem xdqX14_12 (E : EV p s m args c cc nL RX14) {a : Nat} {v : Nat} {kk : XS → Prop} (hmn : meth.name = "<init>") (d : decode cc pc = .ok (.putfield 12, 3)) (h : bndp (dO ξ a) (fun ci fs => (if (ci = 15 ∧ 4 < fs.length) then nx (sXd ξ a (.inr (ci, fs.set 4 (.ref v)))) kk else False))) (hn : pc + 3 = n) (k : ∀ ξ1 : XS, kk ξ1 → CF p l e R s m args below meth c nL cells slots (XB g A s ξ1) Q n lv st) : CF p l e R s m args below meth c nL cells slots (XB g A s ξ) Q pc lv (.ref v :: .ref a :: st) := by
  obtain ⟨ci, fs, hO, h⟩ := h
  by_cases hi : (ci = 15 ∧ 4 < fs.length)
  · have h : (if (ci = 15 ∧ 4 < fs.length) then nx (sXd ξ a (.inr (ci, fs.set 4 (.ref v)))) kk else False) := h
    rw [if_pos hi] at h
    have he := dO_at hO
    obtain ⟨rfl, hi⟩ : ci = 15 ∧ _ := hi
    have hi : True ∧ _ := ⟨trivial, hi⟩
    exact xdpF (C9 := RX14) (T := TX14) (N := 5) (ci := 15) (j := 4) (ty := .object "HatsDecide$Town") E in_X14 (fun D9 hK9 => va_apart (own := RX14) E.2.2.2.2 in_X14 tyX14 tyX14_ok nmX14 hK9 rfl) rfl he (by decide) q731 (fun _ h9 => h9) rfl hmn rfl (by decide +kernel) rfl rfl hi.2 d hn (k _ h)
  · have h : (if (ci = 15 ∧ 4 < fs.length) then nx (sXd ξ a (.inr (ci, fs.set 4 (.ref v)))) kk else False) := h
    rw [if_neg hi] at h; cases h
theorem xdqX14_18 (E : EV p s m args c cc nL RX14) {a : Nat} {v : Nat} {kk : XS → Prop} (hmn : meth.name = "<init>") (d : decode cc pc = .ok (.putfield 18, 3)) (h : bndp (dO ξ a) (fun ci fs => (if (ci = 15 ∧ 0 < fs.length) then nx (sXd ξ a (.inr (ci, fs.set 0 (.ref v)))) kk else False))) (hn : pc + 3 = n) (k : ∀ ξ1 : XS, kk ξ1 → CF p l e R s m args below meth c nL cells slots (XB g A s ξ1) Q n lv st) : CF p l e R s m args below meth c nL cells slots (XB g A s ξ) Q pc lv (.ref v :: .ref a :: st) := by
  obtain ⟨ci, fs, hO, h⟩ := h
  by_cases hi : (ci = 15 ∧ 0 < fs.length)
  · have h : (if (ci = 15 ∧ 0 < fs.length) then nx (sXd ξ a (.inr (ci, fs.set 0 (.ref v)))) kk else False) := h
    rw [if_pos hi] at h
    have he := dO_at hO
    obtain ⟨rfl, hi⟩ : ci = 15 ∧ _ := hi
    have hi : True ∧ _ := ⟨trivial, hi⟩
    exact xdpF (C9 := RX14) (T := TX14) (N := 5) (ci := 15) (j := 0) (ty := .array .byte) E in_X14 (fun D9 hK9 => va_apart (own := RX14) E.2.2.2.2 in_X14 tyX14 tyX14_ok nmX14 hK9 rfl) rfl he (by decide) q727 (fun _ h9 => h9) rfl hmn rfl (by decide +kernel) rfl rfl hi.2 d hn (k _ h)
  · have h : (if (ci = 15 ∧ 0 < fs.length) then nx (sXd ξ a (.inr (ci, fs.set 0 (.ref v)))) kk else False) := h
    rw [if_neg hi] at h; cases h
theorem xdqX14_22 (E : EV p s m args c cc nL RX14) {a : Nat} {v : Int32} {kk : XS → Prop} (hmn : meth.name = "<init>") (d : decode cc pc = .ok (.putfield 22, 3)) (h : bndp (dO ξ a) (fun ci fs => (if (ci = 15 ∧ 1 < fs.length) then nx (sXd ξ a (.inr (ci, fs.set 1 (.int v)))) kk else False))) (hn : pc + 3 = n) (k : ∀ ξ1 : XS, kk ξ1 → CF p l e R s m args below meth c nL cells slots (XB g A s ξ1) Q n lv st) : CF p l e R s m args below meth c nL cells slots (XB g A s ξ) Q pc lv (.int v :: .ref a :: st) := by
  obtain ⟨ci, fs, hO, h⟩ := h
  by_cases hi : (ci = 15 ∧ 1 < fs.length)
  · have h : (if (ci = 15 ∧ 1 < fs.length) then nx (sXd ξ a (.inr (ci, fs.set 1 (.int v)))) kk else False) := h
    rw [if_pos hi] at h
    have he := dO_at hO
    obtain ⟨rfl, hi⟩ : ci = 15 ∧ _ := hi
    have hi : True ∧ _ := ⟨trivial, hi⟩
    exact xdpF (C9 := RX14) (T := TX14) (N := 5) (ci := 15) (j := 1) (ty := .int) E in_X14 (fun D9 hK9 => va_apart (own := RX14) E.2.2.2.2 in_X14 tyX14 tyX14_ok nmX14 hK9 rfl) rfl he (by decide) q728 (fun _ h9 => h9) rfl hmn rfl (by decide +kernel) rfl rfl hi.2 d hn (k _ h)
  · have h : (if (ci = 15 ∧ 1 < fs.length) then nx (sXd ξ a (.inr (ci, fs.set 1 (.int v)))) kk else False) := h
    rw [if_neg hi] at h; cases h
end XC
def yj0_init (N : Nat) (g : XG) (a0 : Nat)  (ξ : XS) (mc ms : Nat) (K : XS → Prop) : Prop :=
  K ξ
set_option maxHeartbeats 4000000 in
theorem met_yj0_init (l : Launch) (g : XG) (N : Nat) (a0 : Nat)   (ξ : XS) (mc ms : Nat) (K : XS → Prop) (h : yj0_init N g a0  ξ mc ms K) : MetYv l g yJ0_init (ws_ yJ0_init cJ0_init 1 none) 1 40 [.ref a0] ξ mc ms K := by
  refine met_yv (lv0 := [(0, .ref a0)]) (own := RJ0) (by decide) rfl (Nat.le_of_ble_eq_true rfl) rfl ?_
  intro p e s m below meth c A Q E hmn hq
  have hmn : meth.name = "<init>" := hmn
  have hR : 1 ≤ ({ frames := 1, cells := mc, slots := ms, locals := 40 } : Room).frames ∧ 40 ≤ ({ frames := 1, cells := mc, slots := ms, locals := 40 } : Room).locals := ⟨Nat.le_refl _, Nat.le_refl _⟩
  have hb : 0 + mc ≤ ({ frames := 1, cells := mc, slots := ms, locals := 40 } : Room).cells ∧ 0 + ms ≤ ({ frames := 1, cells := mc, slots := ms, locals := 40 } : Room).slots := ⟨Nat.le_of_eq (Nat.zero_add _), Nat.le_of_eq (Nat.zero_add _)⟩
  unfold yj0_init at h
  refine cf_aload_n E dJ0_init_0 0 rfl rfl ?_
  refine xoi E q190 q144 q145 (rmle hR rfl rfl) (Nat.le_of_ble_eq_true rfl) dJ0_init_1 rfl ?_
  exact hq _ _ _ _ _ (hb0 hb).1 (hb0 hb).2 dJ0_init_4 h
def yj1_init (N : Nat) (g : XG) (a0 : Nat)  (ξ : XS) (mc ms : Nat) (K : XS → Prop) : Prop :=
  bnyv (yj0_init N g a0 ξ) mc ms fun m_1 n_2 s_3 =>
  bndp (dO s_3 a0) fun ci_6 fs_7 => if (ci_6 = 4 ∧ 0 < fs_7.length) then nx (sXd s_3 a0 (.inr (ci_6, fs_7.set 0 (.int (0 : Int32))))) (fun s_5 =>
  K s_5) else False
section XC
variable {p : Program} {l : Launch} {e : Env} {R : Room} {s : State} {m : MethodId} {args : Array Value} {below : List Frame} {meth : Method} {c : Code} {nL cells slots : Nat} {A : Nat → Prop} {g : XG} {ξ : XS} {Q : State → Prop} {pc n : Nat} {lv : List (Nat × Value)} {st : List Value} {cc : ByteArray} {ρ : Type} {res : ρ}
theorem yclJ1_1 (E : EV p s m args c cc nL RJ1) {N mc ms : Nat} {a0 : Nat}   {kk : Nat → Nat → XS → Prop} (hR : 2 ≤ R.frames ∧ 60 ≤ R.locals) (hcat : (st.map fun v => v.category).sum ≤ 8) (hb : cells + mc ≤ R.cells ∧ slots + ms ≤ R.slots) (d : decode cc pc = .ok (.invokespecial 1, 3)) (h : bnyv (yj0_init N g a0  ξ) mc ms kk) (hn : pc + 3 = n) (k : ∀ (m1 n1 : Nat) (ξ1 : XS), (cells + m1 + (mc - m1) ≤ R.cells ∧ slots + n1 + (ms - n1) ≤ R.slots) → kk m1 n1 ξ1 → CF p l e R s m args below meth c nL (cells + m1) (slots + n1) (XB g A s ξ1) Q n lv st) : CF p l e R s m args below meth c nL cells slots (XB g A s ξ) Q pc lv (.ref a0 :: st) := by
  obtain ⟨m1, n1, h1, h2, h⟩ := h
  exact ycallI_v (na := 0) E [] (met_yj0_init l g N a0   ξ m1 n1 _ h) (lw_meth q189) q99 q187 q188 (by decide +kernel) hR rfl rfl hcat ⟨by omega, by omega⟩ d hn (fun ξ1 hk => k m1 n1 ξ1 ⟨by omega, by omega⟩ hk)
end XC
set_option maxHeartbeats 4000000 in
theorem met_yj1_init (l : Launch) (g : XG) (N : Nat) (a0 : Nat)   (ξ : XS) (mc ms : Nat) (K : XS → Prop) (h : yj1_init N g a0  ξ mc ms K) : MetYv l g yJ1_init (ws_ yJ1_init cJ1_init 1 none) 2 60 [.ref a0] ξ mc ms K := by
  refine met_yv (lv0 := [(0, .ref a0)]) (own := RJ1) (by decide) rfl (Nat.le_of_ble_eq_true rfl) rfl ?_
  intro p e s m below meth c A Q E hmn hq
  have hmn : meth.name = "<init>" := hmn
  have hR : 2 ≤ ({ frames := 2, cells := mc, slots := ms, locals := 60 } : Room).frames ∧ 60 ≤ ({ frames := 2, cells := mc, slots := ms, locals := 60 } : Room).locals := ⟨Nat.le_refl _, Nat.le_refl _⟩
  have hb : 0 + mc ≤ ({ frames := 2, cells := mc, slots := ms, locals := 60 } : Room).cells ∧ 0 + ms ≤ ({ frames := 2, cells := mc, slots := ms, locals := 60 } : Room).slots := ⟨Nat.le_of_eq (Nat.zero_add _), Nat.le_of_eq (Nat.zero_add _)⟩
  unfold yj1_init at h
  refine cf_aload_n E dJ1_init_0 0 rfl rfl ?_
  refine yclJ1_1 E (rmle hR rfl rfl) (Nat.le_of_ble_eq_true rfl) hb dJ1_init_1 h rfl (fun m_1 n_2 s_3 hb h => ?_)
  refine cf_aload_n E dJ1_init_4 0 rfl rfl ?_
  refine cf_iconst E dJ1_init_5 ic_0 rfl ?_
  refine xdqJ1_7 E dJ1_init_6 h rfl (fun s_5 h => ?_)
  exact hq _ _ _ _ _ (hb0 hb).1 (hb0 hb).2 dJ1_init_9 h
def yj2_init (N : Nat) (g : XG) (a0 : Nat)  (ξ : XS) (mc ms : Nat) (K : XS → Prop) : Prop :=
  bnyv (yj1_init N g a0 ξ) mc ms fun m_1 n_2 s_3 =>
  bndp (dO s_3 a0) fun ci_6 fs_7 => if (ci_6 = 4 ∧ 1 < fs_7.length) then nx (sXd s_3 a0 (.inr (ci_6, fs_7.set 1 (.ref (xa g 400))))) (fun s_5 =>
  K s_5) else False
section XC
variable {p : Program} {l : Launch} {e : Env} {R : Room} {s : State} {m : MethodId} {args : Array Value} {below : List Frame} {meth : Method} {c : Code} {nL cells slots : Nat} {A : Nat → Prop} {g : XG} {ξ : XS} {Q : State → Prop} {pc n : Nat} {lv : List (Nat × Value)} {st : List Value} {cc : ByteArray} {ρ : Type} {res : ρ}
theorem yclJ2_1 (E : EV p s m args c cc nL RJ2) {N mc ms : Nat} {a0 : Nat}   {kk : Nat → Nat → XS → Prop} (hR : 3 ≤ R.frames ∧ 80 ≤ R.locals) (hcat : (st.map fun v => v.category).sum ≤ 8) (hb : cells + mc ≤ R.cells ∧ slots + ms ≤ R.slots) (d : decode cc pc = .ok (.invokespecial 1, 3)) (h : bnyv (yj1_init N g a0  ξ) mc ms kk) (hn : pc + 3 = n) (k : ∀ (m1 n1 : Nat) (ξ1 : XS), (cells + m1 + (mc - m1) ≤ R.cells ∧ slots + n1 + (ms - n1) ≤ R.slots) → kk m1 n1 ξ1 → CF p l e R s m args below meth c nL (cells + m1) (slots + n1) (XB g A s ξ1) Q n lv st) : CF p l e R s m args below meth c nL cells slots (XB g A s ξ) Q pc lv (.ref a0 :: st) := by
  obtain ⟨m1, n1, h1, h2, h⟩ := h
  exact ycallI_v (na := 0) E [] (met_yj1_init l g N a0   ξ m1 n1 _ h) (lw_meth q186) q100 q184 q185 (by decide +kernel) hR rfl rfl hcat ⟨by omega, by omega⟩ d hn (fun ξ1 hk => k m1 n1 ξ1 ⟨by omega, by omega⟩ hk)
end XC
set_option maxHeartbeats 4000000 in
theorem met_yj2_init (l : Launch) (g : XG) (N : Nat) (a0 : Nat)   (ξ : XS) (mc ms : Nat) (K : XS → Prop) (h : yj2_init N g a0  ξ mc ms K) : MetYv l g yJ2_init (ws_ yJ2_init cJ2_init 1 none) 3 80 [.ref a0] ξ mc ms K := by
  refine met_yv (lv0 := [(0, .ref a0)]) (own := RJ2) (by decide) rfl (Nat.le_of_ble_eq_true rfl) rfl ?_
  intro p e s m below meth c A Q E hmn hq
  have hmn : meth.name = "<init>" := hmn
  have hR : 3 ≤ ({ frames := 3, cells := mc, slots := ms, locals := 80 } : Room).frames ∧ 80 ≤ ({ frames := 3, cells := mc, slots := ms, locals := 80 } : Room).locals := ⟨Nat.le_refl _, Nat.le_refl _⟩
  have hb : 0 + mc ≤ ({ frames := 3, cells := mc, slots := ms, locals := 80 } : Room).cells ∧ 0 + ms ≤ ({ frames := 3, cells := mc, slots := ms, locals := 80 } : Room).slots := ⟨Nat.le_of_eq (Nat.zero_add _), Nat.le_of_eq (Nat.zero_add _)⟩
  unfold yj2_init at h
  refine cf_aload_n E dJ2_init_0 0 rfl rfl ?_
  refine yclJ2_1 E (rmle hR rfl rfl) (Nat.le_of_ble_eq_true rfl) hb dJ2_init_1 h rfl (fun m_1 n_2 s_3 hb h => ?_)
  refine cf_aload_n E dJ2_init_4 0 rfl rfl ?_
  refine xgsJ2_39 E dJ2_init_5 rfl ?_
  refine xdqJ2_9 E dJ2_init_8 h rfl (fun s_5 h => ?_)
  exact hq _ _ _ _ _ (hb0 hb).1 (hb0 hb).2 dJ2_init_11 h
def y17_init (N : Nat) (g : XG) (a0 : Nat)  (ξ : XS) (mc ms : Nat) (K : XS → Prop) : Prop :=
  K ξ
set_option maxHeartbeats 4000000 in
theorem met_y17_init (l : Launch) (g : XG) (N : Nat) (a0 : Nat)   (ξ : XS) (mc ms : Nat) (K : XS → Prop) (h : y17_init N g a0  ξ mc ms K) : MetYv l g yX17_init (ws_ yX17_init cX17_init 1 none) 1 40 [.ref a0] ξ mc ms K := by
  refine met_yv (lv0 := [(0, .ref a0)]) (own := RX17) (by decide) rfl (Nat.le_of_ble_eq_true rfl) rfl ?_
  intro p e s m below meth c A Q E hmn hq
  have hmn : meth.name = "<init>" := hmn
  have hR : 1 ≤ ({ frames := 1, cells := mc, slots := ms, locals := 40 } : Room).frames ∧ 40 ≤ ({ frames := 1, cells := mc, slots := ms, locals := 40 } : Room).locals := ⟨Nat.le_refl _, Nat.le_refl _⟩
  have hb : 0 + mc ≤ ({ frames := 1, cells := mc, slots := ms, locals := 40 } : Room).cells ∧ 0 + ms ≤ ({ frames := 1, cells := mc, slots := ms, locals := 40 } : Room).slots := ⟨Nat.le_of_eq (Nat.zero_add _), Nat.le_of_eq (Nat.zero_add _)⟩
  unfold y17_init at h
  refine cf_aload_n E dX17_init_0 0 rfl rfl ?_
  refine xoi E q921 q144 q145 (rmle hR rfl rfl) (Nat.le_of_ble_eq_true rfl) dX17_init_1 rfl ?_
  exact hq _ _ _ _ _ (hb0 hb).1 (hb0 hb).2 dX17_init_4 h
def y18_init (N : Nat) (g : XG) (a0 : Nat) (x1 : Int32) (ξ : XS) (mc ms : Nat) (K : XS → Prop) : Prop :=
  bnyv (y17_init N g a0 ξ) mc ms fun m_1 n_2 s_3 =>
  mkc s_3 3 (mc - m_1) (ms - n_2) fun q_5 =>
  bnyv (yj2_init N g q_5 (pXd s_3 q_5 (.inr (4, [.int 0, .null, .int 0])))) ((mc - m_1) - 1) ((ms - n_2) - 3) fun m_6 n_7 s_8 =>
  bndp (dO s_8 a0) fun ci_11 fs_12 => if (ci_11 = 18 ∧ 1 < fs_12.length) then nx (sXd s_8 a0 (.inr (ci_11, fs_12.set 1 (.ref q_5)))) (fun s_10 =>
  bndp (dO s_10 a0) fun ci_14 fs_15 => if (ci_14 = 18 ∧ 0 < fs_15.length ∧ (x1 = 0 ∨ x1 = 1)) then nx (sXd s_10 a0 (.inr (ci_14, fs_15.set 0 (.int x1)))) (fun s_13 =>
  K s_13) else False) else False
section XC
variable {p : Program} {l : Launch} {e : Env} {R : Room} {s : State} {m : MethodId} {args : Array Value} {below : List Frame} {meth : Method} {c : Code} {nL cells slots : Nat} {A : Nat → Prop} {g : XG} {ξ : XS} {Q : State → Prop} {pc n : Nat} {lv : List (Nat × Value)} {st : List Value} {cc : ByteArray} {ρ : Type} {res : ρ}
theorem yclX18_1 (E : EV p s m args c cc nL RX18) {N mc ms : Nat} {a0 : Nat}   {kk : Nat → Nat → XS → Prop} (hR : 2 ≤ R.frames ∧ 60 ≤ R.locals) (hcat : (st.map fun v => v.category).sum ≤ 8) (hb : cells + mc ≤ R.cells ∧ slots + ms ≤ R.slots) (d : decode cc pc = .ok (.invokespecial 1, 3)) (h : bnyv (y17_init N g a0  ξ) mc ms kk) (hn : pc + 3 = n) (k : ∀ (m1 n1 : Nat) (ξ1 : XS), (cells + m1 + (mc - m1) ≤ R.cells ∧ slots + n1 + (ms - n1) ≤ R.slots) → kk m1 n1 ξ1 → CF p l e R s m args below meth c nL (cells + m1) (slots + n1) (XB g A s ξ1) Q n lv st) : CF p l e R s m args below meth c nL cells slots (XB g A s ξ) Q pc lv (.ref a0 :: st) := by
  obtain ⟨m1, n1, h1, h2, h⟩ := h
  exact ycallP_v (na := 0) E [] (met_y17_init l g N a0   ξ m1 n1 _ h) (lw_meth q920) q125 q918 q919 (by decide +kernel) hR rfl rfl hcat ⟨by omega, by omega⟩ d hn (fun ξ1 hk => k m1 n1 ξ1 ⟨by omega, by omega⟩ hk)
theorem yclX18_9 (E : EV p s m args c cc nL RX18) {N mc ms : Nat} {a0 : Nat}   {kk : Nat → Nat → XS → Prop} (hR : 4 ≤ R.frames ∧ 100 ≤ R.locals) (hcat : (st.map fun v => v.category).sum ≤ 8) (hb : cells + mc ≤ R.cells ∧ slots + ms ≤ R.slots) (d : decode cc pc = .ok (.invokespecial 9, 3)) (h : bnyv (yj2_init N g a0  ξ) mc ms kk) (hn : pc + 3 = n) (k : ∀ (m1 n1 : Nat) (ξ1 : XS), (cells + m1 + (mc - m1) ≤ R.cells ∧ slots + n1 + (ms - n1) ≤ R.slots) → kk m1 n1 ξ1 → CF p l e R s m args below meth c nL (cells + m1) (slots + n1) (XB g A s ξ1) Q n lv st) : CF p l e R s m args below meth c nL cells slots (XB g A s ξ) Q pc lv (.ref a0 :: st) := by
  obtain ⟨m1, n1, h1, h2, h⟩ := h
  exact ycallI_v (na := 0) E [] (met_yj2_init l g N a0   ξ m1 n1 _ h) (lw_meth q183) q101 q923 q182 (by decide +kernel) hR rfl rfl hcat ⟨by omega, by omega⟩ d hn (fun ξ1 hk => k m1 n1 ξ1 ⟨by omega, by omega⟩ hk)
end XC
set_option maxHeartbeats 4000000 in
theorem met_y18_init (l : Launch) (g : XG) (N : Nat) (a0 : Nat)  (x1 : Int32) (ξ : XS) (mc ms : Nat) (K : XS → Prop) (h : y18_init N g a0 x1 ξ mc ms K) : MetYv l g yX18_init (ws_ yX18_init cX18_init 2 none) 4 100 [.ref a0, .int x1] ξ mc ms K := by
  refine met_yv (lv0 := [(0, .ref a0), (1, .int x1)]) (own := RX18) (by decide) rfl (Nat.le_of_ble_eq_true rfl) rfl ?_
  intro p e s m below meth c A Q E hmn hq
  have hmn : meth.name = "<init>" := hmn
  have hR : 4 ≤ ({ frames := 4, cells := mc, slots := ms, locals := 100 } : Room).frames ∧ 100 ≤ ({ frames := 4, cells := mc, slots := ms, locals := 100 } : Room).locals := ⟨Nat.le_refl _, Nat.le_refl _⟩
  have hb : 0 + mc ≤ ({ frames := 4, cells := mc, slots := ms, locals := 100 } : Room).cells ∧ 0 + ms ≤ ({ frames := 4, cells := mc, slots := ms, locals := 100 } : Room).slots := ⟨Nat.le_of_eq (Nat.zero_add _), Nat.le_of_eq (Nat.zero_add _)⟩
  unfold y18_init at h
  refine cf_aload_n E dX18_init_0 0 rfl rfl ?_
  refine yclX18_1 E (rmle hR rfl rfl) (Nat.le_of_ble_eq_true rfl) hb dX18_init_1 h rfl (fun m_1 n_2 s_3 hb h => ?_)
  refine cf_aload_n E dX18_init_4 0 rfl rfl ?_
  refine xnwX18_7 E hb dX18_init_5 h rfl (fun q_5 hb h => ?_)
  refine cf_dup E dX18_init_8 rfl rfl ?_
  refine yclX18_9 E (rmle hR rfl rfl) (Nat.le_of_ble_eq_true rfl) hb dX18_init_9 h rfl (fun m_6 n_7 s_8 hb h => ?_)
  refine xdqX18_10 E hmn dX18_init_12 h rfl (fun s_10 h => ?_)
  refine cf_aload_n E dX18_init_15 0 rfl rfl ?_
  refine cf_iload_n E dX18_init_16 1 rfl rfl ?_
  refine xdqX18_16 E hmn dX18_init_17 h rfl (fun s_13 h => ?_)
  exact hq _ _ _ _ _ (hb0 hb).1 (hb0 hb).2 dX18_init_20 h
def y19_init (N : Nat) (g : XG) (a0 : Nat) (x1 : Nat) (ξ : XS) (mc ms : Nat) (K : XS → Prop) : Prop :=
  bnyv (y17_init N g a0 ξ) mc ms fun m_1 n_2 s_3 =>
  bndp (dO s_3 a0) fun ci_6 fs_7 => if (ci_6 = 19 ∧ 0 < fs_7.length) then nx (sXd s_3 a0 (.inr (ci_6, fs_7.set 0 (.ref x1)))) (fun s_5 =>
  K s_5) else False
section XC
variable {p : Program} {l : Launch} {e : Env} {R : Room} {s : State} {m : MethodId} {args : Array Value} {below : List Frame} {meth : Method} {c : Code} {nL cells slots : Nat} {A : Nat → Prop} {g : XG} {ξ : XS} {Q : State → Prop} {pc n : Nat} {lv : List (Nat × Value)} {st : List Value} {cc : ByteArray} {ρ : Type} {res : ρ}
theorem yclX19_1 (E : EV p s m args c cc nL RX19) {N mc ms : Nat} {a0 : Nat}   {kk : Nat → Nat → XS → Prop} (hR : 2 ≤ R.frames ∧ 60 ≤ R.locals) (hcat : (st.map fun v => v.category).sum ≤ 8) (hb : cells + mc ≤ R.cells ∧ slots + ms ≤ R.slots) (d : decode cc pc = .ok (.invokespecial 1, 3)) (h : bnyv (y17_init N g a0  ξ) mc ms kk) (hn : pc + 3 = n) (k : ∀ (m1 n1 : Nat) (ξ1 : XS), (cells + m1 + (mc - m1) ≤ R.cells ∧ slots + n1 + (ms - n1) ≤ R.slots) → kk m1 n1 ξ1 → CF p l e R s m args below meth c nL (cells + m1) (slots + n1) (XB g A s ξ1) Q n lv st) : CF p l e R s m args below meth c nL cells slots (XB g A s ξ) Q pc lv (.ref a0 :: st) := by
  obtain ⟨m1, n1, h1, h2, h⟩ := h
  exact ycallP_v (na := 0) E [] (met_y17_init l g N a0   ξ m1 n1 _ h) (lw_meth q920) q125 q949 q919 (by decide +kernel) hR rfl rfl hcat ⟨by omega, by omega⟩ d hn (fun ξ1 hk => k m1 n1 ξ1 ⟨by omega, by omega⟩ hk)
end XC
set_option maxHeartbeats 4000000 in
theorem met_y19_init (l : Launch) (g : XG) (N : Nat) (a0 : Nat)  (x1 : Nat) (ξ : XS) (mc ms : Nat) (K : XS → Prop) (h : y19_init N g a0 x1 ξ mc ms K) : MetYv l g yX19_init (ws_ yX19_init cX19_init 2 none) 2 60 [.ref a0, .ref x1] ξ mc ms K := by
  refine met_yv (lv0 := [(0, .ref a0), (1, .ref x1)]) (own := RX19) (by decide) rfl (Nat.le_of_ble_eq_true rfl) rfl ?_
  intro p e s m below meth c A Q E hmn hq
  have hmn : meth.name = "<init>" := hmn
  have hR : 2 ≤ ({ frames := 2, cells := mc, slots := ms, locals := 60 } : Room).frames ∧ 60 ≤ ({ frames := 2, cells := mc, slots := ms, locals := 60 } : Room).locals := ⟨Nat.le_refl _, Nat.le_refl _⟩
  have hb : 0 + mc ≤ ({ frames := 2, cells := mc, slots := ms, locals := 60 } : Room).cells ∧ 0 + ms ≤ ({ frames := 2, cells := mc, slots := ms, locals := 60 } : Room).slots := ⟨Nat.le_of_eq (Nat.zero_add _), Nat.le_of_eq (Nat.zero_add _)⟩
  unfold y19_init at h
  refine cf_aload_n E dX19_init_0 0 rfl rfl ?_
  refine yclX19_1 E (rmle hR rfl rfl) (Nat.le_of_ble_eq_true rfl) hb dX19_init_1 h rfl (fun m_1 n_2 s_3 hb h => ?_)
  refine cf_aload_n E dX19_init_4 0 rfl rfl ?_
  refine cf_aload_n E dX19_init_5 1 rfl rfl ?_
  refine xdqX19_7 E hmn dX19_init_6 h rfl (fun s_5 h => ?_)
  exact hq _ _ _ _ _ (hb0 hb).1 (hb0 hb).2 dX19_init_9 h
def y20_init (N : Nat) (g : XG) (a0 : Nat) (x1 : Int32) (x2 : Int32) (x3 : Int32) (ξ : XS) (mc ms : Nat) (K : XS → Prop) : Prop :=
  bnyv (y17_init N g a0 ξ) mc ms fun m_1 n_2 s_3 =>
  bndp (dO s_3 a0) fun ci_6 fs_7 => if (ci_6 = 20 ∧ 0 < fs_7.length) then nx (sXd s_3 a0 (.inr (ci_6, fs_7.set 0 (.int x1)))) (fun s_5 =>
  bndp (dO s_5 a0) fun ci_9 fs_10 => if (ci_9 = 20 ∧ 1 < fs_10.length) then nx (sXd s_5 a0 (.inr (ci_9, fs_10.set 1 (.int x2)))) (fun s_8 =>
  bndp (dO s_8 a0) fun ci_12 fs_13 => if (ci_12 = 20 ∧ 2 < fs_13.length) then nx (sXd s_8 a0 (.inr (ci_12, fs_13.set 2 (.int x3)))) (fun s_11 =>
  K s_11) else False) else False) else False
section XC
variable {p : Program} {l : Launch} {e : Env} {R : Room} {s : State} {m : MethodId} {args : Array Value} {below : List Frame} {meth : Method} {c : Code} {nL cells slots : Nat} {A : Nat → Prop} {g : XG} {ξ : XS} {Q : State → Prop} {pc n : Nat} {lv : List (Nat × Value)} {st : List Value} {cc : ByteArray} {ρ : Type} {res : ρ}
theorem yclX20_1 (E : EV p s m args c cc nL RX20) {N mc ms : Nat} {a0 : Nat}   {kk : Nat → Nat → XS → Prop} (hR : 2 ≤ R.frames ∧ 60 ≤ R.locals) (hcat : (st.map fun v => v.category).sum ≤ 8) (hb : cells + mc ≤ R.cells ∧ slots + ms ≤ R.slots) (d : decode cc pc = .ok (.invokespecial 1, 3)) (h : bnyv (y17_init N g a0  ξ) mc ms kk) (hn : pc + 3 = n) (k : ∀ (m1 n1 : Nat) (ξ1 : XS), (cells + m1 + (mc - m1) ≤ R.cells ∧ slots + n1 + (ms - n1) ≤ R.slots) → kk m1 n1 ξ1 → CF p l e R s m args below meth c nL (cells + m1) (slots + n1) (XB g A s ξ1) Q n lv st) : CF p l e R s m args below meth c nL cells slots (XB g A s ξ) Q pc lv (.ref a0 :: st) := by
  obtain ⟨m1, n1, h1, h2, h⟩ := h
  exact ycallP_v (na := 0) E [] (met_y17_init l g N a0   ξ m1 n1 _ h) (lw_meth q920) q125 q959 q919 (by decide +kernel) hR rfl rfl hcat ⟨by omega, by omega⟩ d hn (fun ξ1 hk => k m1 n1 ξ1 ⟨by omega, by omega⟩ hk)
end XC
set_option maxHeartbeats 4000000 in
theorem met_y20_init (l : Launch) (g : XG) (N : Nat) (a0 : Nat)  (x1 : Int32) (x2 : Int32) (x3 : Int32) (ξ : XS) (mc ms : Nat) (K : XS → Prop) (h : y20_init N g a0 x1 x2 x3 ξ mc ms K) : MetYv l g yX20_init (ws_ yX20_init cX20_init 4 none) 2 60 [.ref a0, .int x1, .int x2, .int x3] ξ mc ms K := by
  refine met_yv (lv0 := [(0, .ref a0), (1, .int x1), (2, .int x2), (3, .int x3)]) (own := RX20) (by decide) rfl (Nat.le_of_ble_eq_true rfl) rfl ?_
  intro p e s m below meth c A Q E hmn hq
  have hmn : meth.name = "<init>" := hmn
  have hR : 2 ≤ ({ frames := 2, cells := mc, slots := ms, locals := 60 } : Room).frames ∧ 60 ≤ ({ frames := 2, cells := mc, slots := ms, locals := 60 } : Room).locals := ⟨Nat.le_refl _, Nat.le_refl _⟩
  have hb : 0 + mc ≤ ({ frames := 2, cells := mc, slots := ms, locals := 60 } : Room).cells ∧ 0 + ms ≤ ({ frames := 2, cells := mc, slots := ms, locals := 60 } : Room).slots := ⟨Nat.le_of_eq (Nat.zero_add _), Nat.le_of_eq (Nat.zero_add _)⟩
  unfold y20_init at h
  refine cf_aload_n E dX20_init_0 0 rfl rfl ?_
  refine yclX20_1 E (rmle hR rfl rfl) (Nat.le_of_ble_eq_true rfl) hb dX20_init_1 h rfl (fun m_1 n_2 s_3 hb h => ?_)
  refine cf_aload_n E dX20_init_4 0 rfl rfl ?_
  refine cf_iload_n E dX20_init_5 1 rfl rfl ?_
  refine xdqX20_7 E hmn dX20_init_6 h rfl (fun s_5 h => ?_)
  refine cf_aload_n E dX20_init_9 0 rfl rfl ?_
  refine cf_iload_n E dX20_init_10 2 rfl rfl ?_
  refine xdqX20_13 E hmn dX20_init_11 h rfl (fun s_8 h => ?_)
  refine cf_aload_n E dX20_init_14 0 rfl rfl ?_
  refine cf_iload_n E dX20_init_15 3 rfl rfl ?_
  refine xdqX20_16 E hmn dX20_init_16 h rfl (fun s_11 h => ?_)
  exact hq _ _ _ _ _ (hb0 hb).1 (hb0 hb).2 dX20_init_19 h
def y16_init (N : Nat) (g : XG) (a0 : Nat) (x1 : Int32) (x2 : Nat) (ξ : XS) (mc ms : Nat) (K : XS → Prop) : Prop :=
  bndp (dO ξ a0) fun ci_2 fs_3 => if (ci_2 = 17 ∧ 0 < fs_3.length) then nx (sXd ξ a0 (.inr (ci_2, fs_3.set 0 (.int x1)))) (fun s_1 =>
  bndp (dO s_1 a0) fun ci_5 fs_6 => if (ci_5 = 17 ∧ 1 < fs_6.length) then nx (sXd s_1 a0 (.inr (ci_5, fs_6.set 1 (.ref x2)))) (fun s_4 =>
  K s_4) else False) else False
set_option maxHeartbeats 4000000 in
theorem met_y16_init (l : Launch) (g : XG) (N : Nat) (a0 : Nat)  (x1 : Int32) (x2 : Nat) (ξ : XS) (mc ms : Nat) (K : XS → Prop) (h : y16_init N g a0 x1 x2 ξ mc ms K) : MetYv l g yX16_init (ws_ yX16_init cX16_init 3 none) 1 40 [.ref a0, .int x1, .ref x2] ξ mc ms K := by
  refine met_yv (lv0 := [(0, .ref a0), (1, .int x1), (2, .ref x2)]) (own := RX16) (by decide) rfl (Nat.le_of_ble_eq_true rfl) rfl ?_
  intro p e s m below meth c A Q E hmn hq
  have hmn : meth.name = "<init>" := hmn
  have hR : 1 ≤ ({ frames := 1, cells := mc, slots := ms, locals := 40 } : Room).frames ∧ 40 ≤ ({ frames := 1, cells := mc, slots := ms, locals := 40 } : Room).locals := ⟨Nat.le_refl _, Nat.le_refl _⟩
  have hb : 0 + mc ≤ ({ frames := 1, cells := mc, slots := ms, locals := 40 } : Room).cells ∧ 0 + ms ≤ ({ frames := 1, cells := mc, slots := ms, locals := 40 } : Room).slots := ⟨Nat.le_of_eq (Nat.zero_add _), Nat.le_of_eq (Nat.zero_add _)⟩
  unfold y16_init at h
  refine cf_aload_n E dX16_init_0 0 rfl rfl ?_
  refine xoi E q1044 q144 q145 (rmle hR rfl rfl) (Nat.le_of_ble_eq_true rfl) dX16_init_1 rfl ?_
  refine cf_aload_n E dX16_init_4 0 rfl rfl ?_
  refine cf_iload_n E dX16_init_5 1 rfl rfl ?_
  refine xdqX16_7 E hmn dX16_init_6 h rfl (fun s_1 h => ?_)
  refine cf_aload_n E dX16_init_9 0 rfl rfl ?_
  refine cf_aload_n E dX16_init_10 2 rfl rfl ?_
  refine xdqX16_13 E hmn dX16_init_11 h rfl (fun s_4 h => ?_)
  exact hq _ _ _ _ _ (hb0 hb).1 (hb0 hb).2 dX16_init_14 h
def y2_init (N : Nat) (g : XG) (a0 : Nat)  (ξ : XS) (mc ms : Nat) (K : XS → Prop) : Prop :=
  mkc ξ 3 mc ms fun q_1 =>
  bnyv (yj2_init N g q_1 (pXd ξ q_1 (.inr (4, [.int 0, .null, .int 0])))) (mc - 1) (ms - 3) fun m_2 n_3 s_4 =>
  bndp (dO s_4 a0) fun ci_7 fs_8 => if (ci_7 = 3 ∧ 0 < fs_8.length) then nx (sXd s_4 a0 (.inr (ci_7, fs_8.set 0 (.ref q_1)))) (fun s_6 =>
  if (¬ (5 : Int32) < 0 ∧ (5 : Int32).toNatClampNeg ≤ 10000) then mkc s_6 (5 : Int32).toNatClampNeg ((mc - 1) - m_2) ((ms - 3) - n_3) (fun q_9 =>
  bndp (dA (pXd s_6 q_9 (.inl (xc g 0, (5 : Int32).toNatClampNeg, .inl (fun _ => 0)))) q_9 (xc g 0)) fun n_11 f_12 => if inb (0 : Int32) n_11 = true then nx (sXd (pXd s_6 q_9 (.inl (xc g 0, (5 : Int32).toNatClampNeg, .inl (fun _ => 0)))) q_9 (.inl (xc g 0, n_11, .inl (upd f_12 (0 : Int32).toNatClampNeg (10 : Int32))))) (fun s_10 =>
  bndp (dA s_10 q_9 (xc g 0)) fun n_14 f_15 => if inb (1 : Int32) n_14 = true then nx (sXd s_10 q_9 (.inl (xc g 0, n_14, .inl (upd f_15 (1 : Int32).toNatClampNeg (10 : Int32))))) (fun s_13 =>
  bndp (dA s_13 q_9 (xc g 0)) fun n_17 f_18 => if inb (2 : Int32) n_17 = true then nx (sXd s_13 q_9 (.inl (xc g 0, n_17, .inl (upd f_18 (2 : Int32).toNatClampNeg (10 : Int32))))) (fun s_16 =>
  bndp (dA s_16 q_9 (xc g 0)) fun n_20 f_21 => if inb (3 : Int32) n_20 = true then nx (sXd s_16 q_9 (.inl (xc g 0, n_20, .inl (upd f_21 (3 : Int32).toNatClampNeg (10 : Int32))))) (fun s_19 =>
  bndp (dA s_19 q_9 (xc g 0)) fun n_23 f_24 => if inb (4 : Int32) n_23 = true then nx (sXd s_19 q_9 (.inl (xc g 0, n_23, .inl (upd f_24 (4 : Int32).toNatClampNeg (10 : Int32))))) (fun s_22 =>
  bndp (dO s_22 a0) fun ci_26 fs_27 => if (ci_26 = 3 ∧ 1 < fs_27.length) then nx (sXd s_22 a0 (.inr (ci_26, fs_27.set 1 (.ref q_9)))) (fun s_25 =>
  K s_25) else False) else False) else False) else False) else False) else False) else False) else False
section XC
variable {p : Program} {l : Launch} {e : Env} {R : Room} {s : State} {m : MethodId} {args : Array Value} {below : List Frame} {meth : Method} {c : Code} {nL cells slots : Nat} {A : Nat → Prop} {g : XG} {ξ : XS} {Q : State → Prop} {pc n : Nat} {lv : List (Nat × Value)} {st : List Value} {cc : ByteArray} {ρ : Type} {res : ρ}
theorem yclX2_11 (E : EV p s m args c cc nL RX2) {N mc ms : Nat} {a0 : Nat}   {kk : Nat → Nat → XS → Prop} (hR : 4 ≤ R.frames ∧ 100 ≤ R.locals) (hcat : (st.map fun v => v.category).sum ≤ 8) (hb : cells + mc ≤ R.cells ∧ slots + ms ≤ R.slots) (d : decode cc pc = .ok (.invokespecial 11, 3)) (h : bnyv (yj2_init N g a0  ξ) mc ms kk) (hn : pc + 3 = n) (k : ∀ (m1 n1 : Nat) (ξ1 : XS), (cells + m1 + (mc - m1) ≤ R.cells ∧ slots + n1 + (ms - n1) ≤ R.slots) → kk m1 n1 ξ1 → CF p l e R s m args below meth c nL (cells + m1) (slots + n1) (XB g A s ξ1) Q n lv st) : CF p l e R s m args below meth c nL cells slots (XB g A s ξ) Q pc lv (.ref a0 :: st) := by
  obtain ⟨m1, n1, h1, h2, h⟩ := h
  exact ycallI_v (na := 0) E [] (met_yj2_init l g N a0   ξ m1 n1 _ h) (lw_meth q183) q101 q181 q182 (by decide +kernel) hR rfl rfl hcat ⟨by omega, by omega⟩ d hn (fun ξ1 hk => k m1 n1 ξ1 ⟨by omega, by omega⟩ hk)
end XC
set_option maxHeartbeats 4000000 in
theorem met_y2_init (l : Launch) (g : XG) (N : Nat) (a0 : Nat)   (ξ : XS) (mc ms : Nat) (K : XS → Prop) (h : y2_init N g a0  ξ mc ms K) : MetYv l g yX2_init (ws_ yX2_init cX2_init 1 none) 4 100 [.ref a0] ξ mc ms K := by
  refine met_yv (lv0 := [(0, .ref a0)]) (own := RX2) (by decide) rfl (Nat.le_of_ble_eq_true rfl) rfl ?_
  intro p e s m below meth c A Q E hmn hq
  have hmn : meth.name = "<init>" := hmn
  have hR : 4 ≤ ({ frames := 4, cells := mc, slots := ms, locals := 100 } : Room).frames ∧ 100 ≤ ({ frames := 4, cells := mc, slots := ms, locals := 100 } : Room).locals := ⟨Nat.le_refl _, Nat.le_refl _⟩
  have hb : 0 + mc ≤ ({ frames := 4, cells := mc, slots := ms, locals := 100 } : Room).cells ∧ 0 + ms ≤ ({ frames := 4, cells := mc, slots := ms, locals := 100 } : Room).slots := ⟨Nat.le_of_eq (Nat.zero_add _), Nat.le_of_eq (Nat.zero_add _)⟩
  unfold y2_init at h
  refine cf_aload_n E dX2_init_0 0 rfl rfl ?_
  refine xoi E q178 q144 q145 (rmle hR rfl rfl) (Nat.le_of_ble_eq_true rfl) dX2_init_1 rfl ?_
  refine cf_aload_n E dX2_init_4 0 rfl rfl ?_
  refine xnwX2_9 E hb dX2_init_5 h rfl (fun q_1 hb h => ?_)
  refine cf_dup E dX2_init_8 rfl rfl ?_
  refine yclX2_11 E (rmle hR rfl rfl) (Nat.le_of_ble_eq_true rfl) hb dX2_init_9 h rfl (fun m_2 n_3 s_4 hb h => ?_)
  refine xdqX2_12 E hmn dX2_init_12 h rfl (fun s_6 h => ?_)
  refine cf_aload_n E dX2_init_15 0 rfl rfl ?_
  refine cf_iconst E dX2_init_16 ic_5 rfl ?_
  refine xnewa_0 E hb dX2_init_17 h rfl (fun q_9 hb h => ?_)
  refine cf_dup E dX2_init_19 rfl rfl ?_
  refine cf_iconst E dX2_init_20 ic_0 rfl ?_
  refine cf_bipush E dX2_init_21 bp_10 rfl ?_
  refine xdast_ip E dX2_init_23 h rfl (fun s_10 h => ?_)
  refine cf_dup E dX2_init_24 rfl rfl ?_
  refine cf_iconst E dX2_init_25 ic_1 rfl ?_
  refine cf_bipush E dX2_init_26 bp_10 rfl ?_
  refine xdast_ip E dX2_init_28 h rfl (fun s_13 h => ?_)
  refine cf_dup E dX2_init_29 rfl rfl ?_
  refine cf_iconst E dX2_init_30 ic_2 rfl ?_
  refine cf_bipush E dX2_init_31 bp_10 rfl ?_
  refine xdast_ip E dX2_init_33 h rfl (fun s_16 h => ?_)
  refine cf_dup E dX2_init_34 rfl rfl ?_
  refine cf_iconst E dX2_init_35 ic_3 rfl ?_
  refine cf_bipush E dX2_init_36 bp_10 rfl ?_
  refine xdast_ip E dX2_init_38 h rfl (fun s_19 h => ?_)
  refine cf_dup E dX2_init_39 rfl rfl ?_
  refine cf_iconst E dX2_init_40 ic_4 rfl ?_
  refine cf_bipush E dX2_init_41 bp_10 rfl ?_
  refine xdast_ip E dX2_init_43 h rfl (fun s_22 h => ?_)
  refine xdqX2_18 E hmn dX2_init_44 h rfl (fun s_25 h => ?_)
  exact hq _ _ _ _ _ (hb0 hb).1 (hb0 hb).2 dX2_init_47 h
def y14_init (N : Nat) (g : XG) (a0 : Nat) (x2 : Int32) (ξ : XS) (mc ms : Nat) (K : XS → Prop) : Prop :=
  mkc ξ 4 mc ms fun q_1 =>
  bnyv (y2_init N g q_1 (pXd ξ q_1 (.inr (3, [.null, .null, .int 0, .int 0])))) (mc - 1) (ms - 4) fun m_2 n_3 s_4 =>
  bndp (dO s_4 a0) fun ci_7 fs_8 => if (ci_7 = 15 ∧ 4 < fs_8.length) then nx (sXd s_4 a0 (.inr (ci_7, fs_8.set 4 (.ref q_1)))) (fun s_6 =>
  bndp (dO s_6 a0) fun ci_10 fs_11 => if (ci_10 = 15 ∧ 0 < fs_11.length) then nx (sXd s_6 a0 (.inr (ci_10, fs_11.set 0 (.ref (xa g 108))))) (fun s_9 =>
  bndp (dO s_9 a0) fun ci_13 fs_14 => if (ci_13 = 15 ∧ 1 < fs_14.length) then nx (sXd s_9 a0 (.inr (ci_13, fs_14.set 1 (.int x2)))) (fun s_12 =>
  K s_12) else False) else False) else False
section XC
variable {p : Program} {l : Launch} {e : Env} {R : Room} {s : State} {m : MethodId} {args : Array Value} {below : List Frame} {meth : Method} {c : Code} {nL cells slots : Nat} {A : Nat → Prop} {g : XG} {ξ : XS} {Q : State → Prop} {pc n : Nat} {lv : List (Nat × Value)} {st : List Value} {cc : ByteArray} {ρ : Type} {res : ρ}
theorem yclX14_11 (E : EV p s m args c cc nL RX14) {N mc ms : Nat} {a0 : Nat}   {kk : Nat → Nat → XS → Prop} (hR : 5 ≤ R.frames ∧ 120 ≤ R.locals) (hcat : (st.map fun v => v.category).sum ≤ 8) (hb : cells + mc ≤ R.cells ∧ slots + ms ≤ R.slots) (d : decode cc pc = .ok (.invokespecial 11, 3)) (h : bnyv (y2_init N g a0  ξ) mc ms kk) (hn : pc + 3 = n) (k : ∀ (m1 n1 : Nat) (ξ1 : XS), (cells + m1 + (mc - m1) ≤ R.cells ∧ slots + n1 + (ms - n1) ≤ R.slots) → kk m1 n1 ξ1 → CF p l e R s m args below meth c nL (cells + m1) (slots + n1) (XB g A s ξ1) Q n lv st) : CF p l e R s m args below meth c nL cells slots (XB g A s ξ) Q pc lv (.ref a0 :: st) := by
  obtain ⟨m1, n1, h1, h2, h⟩ := h
  exact ycallP_v (na := 0) E [] (met_y2_init l g N a0   ξ m1 n1 _ h) (lw_meth q177) q98 q726 q176 (by decide +kernel) hR rfl rfl hcat ⟨by omega, by omega⟩ d hn (fun ξ1 hk => k m1 n1 ξ1 ⟨by omega, by omega⟩ hk)
end XC
set_option maxHeartbeats 4000000 in
theorem met_y14_init (l : Launch) (g : XG) (N : Nat) (a0 : Nat)  (x2 : Int32) (ξ : XS) (mc ms : Nat) (K : XS → Prop) (h : y14_init N g a0 x2 ξ mc ms K) : MetYv l g yX14_init (ws_ yX14_init cX14_init 3 none) 5 120 [.ref a0, .ref (xa g 108), .int x2] ξ mc ms K := by
  refine met_yv (lv0 := [(0, .ref a0), (1, .ref (xa g 108)), (2, .int x2)]) (own := RX14) (by decide) rfl (Nat.le_of_ble_eq_true rfl) rfl ?_
  intro p e s m below meth c A Q E hmn hq
  have hmn : meth.name = "<init>" := hmn
  have hR : 5 ≤ ({ frames := 5, cells := mc, slots := ms, locals := 120 } : Room).frames ∧ 120 ≤ ({ frames := 5, cells := mc, slots := ms, locals := 120 } : Room).locals := ⟨Nat.le_refl _, Nat.le_refl _⟩
  have hb : 0 + mc ≤ ({ frames := 5, cells := mc, slots := ms, locals := 120 } : Room).cells ∧ 0 + ms ≤ ({ frames := 5, cells := mc, slots := ms, locals := 120 } : Room).slots := ⟨Nat.le_of_eq (Nat.zero_add _), Nat.le_of_eq (Nat.zero_add _)⟩
  unfold y14_init at h
  refine cf_aload_n E dX14_init_0 0 rfl rfl ?_
  refine xoi E q724 q144 q145 (rmle hR rfl rfl) (Nat.le_of_ble_eq_true rfl) dX14_init_1 rfl ?_
  refine cf_aload_n E dX14_init_4 0 rfl rfl ?_
  refine xnwX14_9 E hb dX14_init_5 h rfl (fun q_1 hb h => ?_)
  refine cf_dup E dX14_init_8 rfl rfl ?_
  refine yclX14_11 E (rmle hR rfl rfl) (Nat.le_of_ble_eq_true rfl) hb dX14_init_9 h rfl (fun m_2 n_3 s_4 hb h => ?_)
  refine xdqX14_12 E hmn dX14_init_12 h rfl (fun s_6 h => ?_)
  refine cf_aload_n E dX14_init_15 0 rfl rfl ?_
  refine cf_aload_n E dX14_init_16 1 rfl rfl ?_
  refine xdqX14_18 E hmn dX14_init_17 h rfl (fun s_9 h => ?_)
  refine cf_aload_n E dX14_init_20 0 rfl rfl ?_
  refine cf_iload_n E dX14_init_21 2 rfl rfl ?_
  refine xdqX14_22 E hmn dX14_init_22 h rfl (fun s_12 h => ?_)
  exact hq _ _ _ _ _ (hb0 hb).1 (hb0 hb).2 dX14_init_25 h
