/-! HatsDecide, group p1: rows, functions, walks -/
set_option maxRecDepth 100000
section XC
variable {p : Program} {l : Launch} {e : Env} {R : Room} {s : State} {m : MethodId} {args : Array Value} {below : List Frame} {meth : Method} {c : Code} {nL cells slots : Nat} {A : Nat → Prop} {g : XG} {ξ : XS} {Q : State → Prop} {pc n : Nat} {lv : List (Nat × Value)} {st : List Value} {cc : ByteArray} {ρ : Type} {res : ρ}
theorem xdpX7_1 (E : EV p s m args c cc nL RX7) {a : Nat}  {kk : XS → Prop} (hmn : meth.name = "<init>") (d : decode cc pc = .ok (.putfield 1, 3)) (h : bndp (dO ξ a) (fun ci fs => if (ci ∈ ([8, 9, 10, 11, 12, 13, 14] : List Nat) ∧ 4 < fs.length) then nx (sXd ξ a (.inr (ci, fs.set 4 (.ref (xa g 0))))) kk else False)) (hn : pc + 3 = n) (k : ∀ ξ1 : XS, kk ξ1 → CF p l e R s m args below meth c nL cells slots (XB g A s ξ1) Q n lv st) : CF p l e R s m args below meth c nL cells slots (XB g A s ξ) Q pc lv (.ref (xa g 0) :: .ref a :: st) := by
  obtain ⟨ci, fs, hO, h⟩ := h
  by_cases hi : ci ∈ ([8, 9, 10, 11, 12, 13, 14] : List Nat) ∧ 4 < fs.length
  · have h : (if (ci ∈ ([8, 9, 10, 11, 12, 13, 14] : List Nat) ∧ 4 < fs.length) then nx (sXd ξ a (.inr (ci, fs.set 4 (.ref (xa g 0))))) kk else False) := h
    rw [if_pos hi] at h
    have he := dO_at hO
    have hci : ci = 8 ∨ ci = 9 ∨ ci = 10 ∨ ci = 11 ∨ ci = 12 ∨ ci = 13 ∨ ci = 14 := by simpa using hi.1
    rcases hci with rfl | rfl | rfl | rfl | rfl | rfl | rfl
    · exact xdpF (C9 := RX7) (T := TX7) (N := 5) (j := 4) (ty := .object "HatsDecide") E in_X7 (fun D9 hK9 => va_apart2 E.2.2.2.2 in_X7 tyX7 tyX7_ok (by decide +kernel) (by decide +kernel) hK9 rfl) rfl he (by decide) q458 (fun _ h9 => h9) rfl hmn rfl (by decide +kernel) rfl rfl hi.2 d hn (k _ h)
    · exact xdpF (C9 := RX8) (T := TX8) (N := 6) (j := 4) (ty := .object "HatsDecide") E in_X8 (fun D9 hK9 => va_apart2 E.2.2.2.2 in_X8 tyX8 tyX8_ok (by decide +kernel) (by decide +kernel) hK9 rfl) rfl he (by decide) q458 (fun _ h9 => h9) rfl hmn rfl (by decide +kernel) rfl rfl hi.2 d hn (k _ h)
    · exact xdpF (C9 := RX9) (T := TX9) (N := 6) (j := 4) (ty := .object "HatsDecide") E in_X9 (fun D9 hK9 => va_apart2 E.2.2.2.2 in_X9 tyX9 tyX9_ok (by decide +kernel) (by decide +kernel) hK9 rfl) rfl he (by decide) q458 (fun _ h9 => h9) rfl hmn rfl (by decide +kernel) rfl rfl hi.2 d hn (k _ h)
    · exact xdpF (C9 := RX10) (T := TX10) (N := 6) (j := 4) (ty := .object "HatsDecide") E in_X10 (fun D9 hK9 => va_apart2 E.2.2.2.2 in_X10 tyX10 tyX10_ok (by decide +kernel) (by decide +kernel) hK9 rfl) rfl he (by decide) q458 (fun _ h9 => h9) rfl hmn rfl (by decide +kernel) rfl rfl hi.2 d hn (k _ h)
    · exact xdpF (C9 := RX11) (T := TX11) (N := 7) (j := 4) (ty := .object "HatsDecide") E in_X11 (fun D9 hK9 => va_apart2 E.2.2.2.2 in_X11 tyX11 tyX11_ok (by decide +kernel) (by decide +kernel) hK9 rfl) rfl he (by decide) q458 (fun _ h9 => h9) rfl hmn rfl (by decide +kernel) rfl rfl hi.2 d hn (k _ h)
    · exact xdpF (C9 := RX12) (T := TX12) (N := 7) (j := 4) (ty := .object "HatsDecide") E in_X12 (fun D9 hK9 => va_apart2 E.2.2.2.2 in_X12 tyX12 tyX12_ok (by decide +kernel) (by decide +kernel) hK9 rfl) rfl he (by decide) q458 (fun _ h9 => h9) rfl hmn rfl (by decide +kernel) rfl rfl hi.2 d hn (k _ h)
    · exact xdpF (C9 := RX13) (T := TX13) (N := 8) (j := 4) (ty := .object "HatsDecide") E in_X13 (fun D9 hK9 => va_apart2 E.2.2.2.2 in_X13 tyX13 tyX13_ok (by decide +kernel) (by decide +kernel) hK9 rfl) rfl he (by decide) q458 (fun _ h9 => h9) rfl hmn rfl (by decide +kernel) rfl rfl hi.2 d hn (k _ h)
  · have h : (if (ci ∈ ([8, 9, 10, 11, 12, 13, 14] : List Nat) ∧ 4 < fs.length) then nx (sXd ξ a (.inr (ci, fs.set 4 (.ref (xa g 0))))) kk else False) := h
    rw [if_neg hi] at h; cases h
theorem xdpX7_13 (E : EV p s m args c cc nL RX7) {a : Nat} {v : Int32} {kk : XS → Prop} (hmn : meth.name = "<init>") (d : decode cc pc = .ok (.putfield 13, 3)) (h : bndp (dO ξ a) (fun ci fs => if (ci ∈ ([8, 9, 10, 11, 12, 13, 14] : List Nat) ∧ 0 < fs.length) then nx (sXd ξ a (.inr (ci, fs.set 0 (.int v)))) kk else False)) (hn : pc + 3 = n) (k : ∀ ξ1 : XS, kk ξ1 → CF p l e R s m args below meth c nL cells slots (XB g A s ξ1) Q n lv st) : CF p l e R s m args below meth c nL cells slots (XB g A s ξ) Q pc lv (.int v :: .ref a :: st) := by
  obtain ⟨ci, fs, hO, h⟩ := h
  by_cases hi : ci ∈ ([8, 9, 10, 11, 12, 13, 14] : List Nat) ∧ 0 < fs.length
  · have h : (if (ci ∈ ([8, 9, 10, 11, 12, 13, 14] : List Nat) ∧ 0 < fs.length) then nx (sXd ξ a (.inr (ci, fs.set 0 (.int v)))) kk else False) := h
    rw [if_pos hi] at h
    have he := dO_at hO
    have hci : ci = 8 ∨ ci = 9 ∨ ci = 10 ∨ ci = 11 ∨ ci = 12 ∨ ci = 13 ∨ ci = 14 := by simpa using hi.1
    rcases hci with rfl | rfl | rfl | rfl | rfl | rfl | rfl
    · exact xdpF (C9 := RX7) (T := TX7) (N := 5) (j := 0) (ty := .int) E in_X7 (fun D9 hK9 => va_apart2 E.2.2.2.2 in_X7 tyX7 tyX7_ok (by decide +kernel) (by decide +kernel) hK9 rfl) rfl he (by decide) q439 (fun _ h9 => h9) rfl hmn rfl (by decide +kernel) rfl rfl hi.2 d hn (k _ h)
    · exact xdpF (C9 := RX8) (T := TX8) (N := 6) (j := 0) (ty := .int) E in_X8 (fun D9 hK9 => va_apart2 E.2.2.2.2 in_X8 tyX8 tyX8_ok (by decide +kernel) (by decide +kernel) hK9 rfl) rfl he (by decide) q439 (fun _ h9 => h9) rfl hmn rfl (by decide +kernel) rfl rfl hi.2 d hn (k _ h)
    · exact xdpF (C9 := RX9) (T := TX9) (N := 6) (j := 0) (ty := .int) E in_X9 (fun D9 hK9 => va_apart2 E.2.2.2.2 in_X9 tyX9 tyX9_ok (by decide +kernel) (by decide +kernel) hK9 rfl) rfl he (by decide) q439 (fun _ h9 => h9) rfl hmn rfl (by decide +kernel) rfl rfl hi.2 d hn (k _ h)
    · exact xdpF (C9 := RX10) (T := TX10) (N := 6) (j := 0) (ty := .int) E in_X10 (fun D9 hK9 => va_apart2 E.2.2.2.2 in_X10 tyX10 tyX10_ok (by decide +kernel) (by decide +kernel) hK9 rfl) rfl he (by decide) q439 (fun _ h9 => h9) rfl hmn rfl (by decide +kernel) rfl rfl hi.2 d hn (k _ h)
    · exact xdpF (C9 := RX11) (T := TX11) (N := 7) (j := 0) (ty := .int) E in_X11 (fun D9 hK9 => va_apart2 E.2.2.2.2 in_X11 tyX11 tyX11_ok (by decide +kernel) (by decide +kernel) hK9 rfl) rfl he (by decide) q439 (fun _ h9 => h9) rfl hmn rfl (by decide +kernel) rfl rfl hi.2 d hn (k _ h)
    · exact xdpF (C9 := RX12) (T := TX12) (N := 7) (j := 0) (ty := .int) E in_X12 (fun D9 hK9 => va_apart2 E.2.2.2.2 in_X12 tyX12 tyX12_ok (by decide +kernel) (by decide +kernel) hK9 rfl) rfl he (by decide) q439 (fun _ h9 => h9) rfl hmn rfl (by decide +kernel) rfl rfl hi.2 d hn (k _ h)
    · exact xdpF (C9 := RX13) (T := TX13) (N := 8) (j := 0) (ty := .int) E in_X13 (fun D9 hK9 => va_apart2 E.2.2.2.2 in_X13 tyX13 tyX13_ok (by decide +kernel) (by decide +kernel) hK9 rfl) rfl he (by decide) q439 (fun _ h9 => h9) rfl hmn rfl (by decide +kernel) rfl rfl hi.2 d hn (k _ h)
  · have h : (if (ci ∈ ([8, 9, 10, 11, 12, 13, 14] : List Nat) ∧ 0 < fs.length) then nx (sXd ξ a (.inr (ci, fs.set 0 (.int v)))) kk else False) := h
    rw [if_neg hi] at h; cases h
theorem xdpX7_17 (E : EV p s m args c cc nL RX7) {a : Nat} {v : Int32} {kk : XS → Prop} (hmn : meth.name = "<init>") (d : decode cc pc = .ok (.putfield 17, 3)) (h : bndp (dO ξ a) (fun ci fs => if (ci ∈ ([8, 9, 10, 11, 12, 13, 14] : List Nat) ∧ 1 < fs.length) then nx (sXd ξ a (.inr (ci, fs.set 1 (.int v)))) kk else False)) (hn : pc + 3 = n) (k : ∀ ξ1 : XS, kk ξ1 → CF p l e R s m args below meth c nL cells slots (XB g A s ξ1) Q n lv st) : CF p l e R s m args below meth c nL cells slots (XB g A s ξ) Q pc lv (.int v :: .ref a :: st) := by
  obtain ⟨ci, fs, hO, h⟩ := h
  by_cases hi : ci ∈ ([8, 9, 10, 11, 12, 13, 14] : List Nat) ∧ 1 < fs.length
  · have h : (if (ci ∈ ([8, 9, 10, 11, 12, 13, 14] : List Nat) ∧ 1 < fs.length) then nx (sXd ξ a (.inr (ci, fs.set 1 (.int v)))) kk else False) := h
    rw [if_pos hi] at h
    have he := dO_at hO
    have hci : ci = 8 ∨ ci = 9 ∨ ci = 10 ∨ ci = 11 ∨ ci = 12 ∨ ci = 13 ∨ ci = 14 := by simpa using hi.1
    rcases hci with rfl | rfl | rfl | rfl | rfl | rfl | rfl
    · exact xdpF (C9 := RX7) (T := TX7) (N := 5) (j := 1) (ty := .int) E in_X7 (fun D9 hK9 => va_apart2 E.2.2.2.2 in_X7 tyX7 tyX7_ok (by decide +kernel) (by decide +kernel) hK9 rfl) rfl he (by decide) q442 (fun _ h9 => h9) rfl hmn rfl (by decide +kernel) rfl rfl hi.2 d hn (k _ h)
    · exact xdpF (C9 := RX8) (T := TX8) (N := 6) (j := 1) (ty := .int) E in_X8 (fun D9 hK9 => va_apart2 E.2.2.2.2 in_X8 tyX8 tyX8_ok (by decide +kernel) (by decide +kernel) hK9 rfl) rfl he (by decide) q442 (fun _ h9 => h9) rfl hmn rfl (by decide +kernel) rfl rfl hi.2 d hn (k _ h)
    · exact xdpF (C9 := RX9) (T := TX9) (N := 6) (j := 1) (ty := .int) E in_X9 (fun D9 hK9 => va_apart2 E.2.2.2.2 in_X9 tyX9 tyX9_ok (by decide +kernel) (by decide +kernel) hK9 rfl) rfl he (by decide) q442 (fun _ h9 => h9) rfl hmn rfl (by decide +kernel) rfl rfl hi.2 d hn (k _ h)
    · exact xdpF (C9 := RX10) (T := TX10) (N := 6) (j := 1) (ty := .int) E in_X10 (fun D9 hK9 => va_apart2 E.2.2.2.2 in_X10 tyX10 tyX10_ok (by decide +kernel) (by decide +kernel) hK9 rfl) rfl he (by decide) q442 (fun _ h9 => h9) rfl hmn rfl (by decide +kernel) rfl rfl hi.2 d hn (k _ h)
    · exact xdpF (C9 := RX11) (T := TX11) (N := 7) (j := 1) (ty := .int) E in_X11 (fun D9 hK9 => va_apart2 E.2.2.2.2 in_X11 tyX11 tyX11_ok (by decide +kernel) (by decide +kernel) hK9 rfl) rfl he (by decide) q442 (fun _ h9 => h9) rfl hmn rfl (by decide +kernel) rfl rfl hi.2 d hn (k _ h)
    · exact xdpF (C9 := RX12) (T := TX12) (N := 7) (j := 1) (ty := .int) E in_X12 (fun D9 hK9 => va_apart2 E.2.2.2.2 in_X12 tyX12 tyX12_ok (by decide +kernel) (by decide +kernel) hK9 rfl) rfl he (by decide) q442 (fun _ h9 => h9) rfl hmn rfl (by decide +kernel) rfl rfl hi.2 d hn (k _ h)
    · exact xdpF (C9 := RX13) (T := TX13) (N := 8) (j := 1) (ty := .int) E in_X13 (fun D9 hK9 => va_apart2 E.2.2.2.2 in_X13 tyX13 tyX13_ok (by decide +kernel) (by decide +kernel) hK9 rfl) rfl he (by decide) q442 (fun _ h9 => h9) rfl hmn rfl (by decide +kernel) rfl rfl hi.2 d hn (k _ h)
  · have h : (if (ci ∈ ([8, 9, 10, 11, 12, 13, 14] : List Nat) ∧ 1 < fs.length) then nx (sXd ξ a (.inr (ci, fs.set 1 (.int v)))) kk else False) := h
    rw [if_neg hi] at h; cases h
theorem xdpX7_20 (E : EV p s m args c cc nL RX7) {a : Nat} {v : Int32} {kk : XS → Prop} (hmn : meth.name = "<init>") (d : decode cc pc = .ok (.putfield 20, 3)) (h : bndp (dO ξ a) (fun ci fs => if (ci ∈ ([8, 9, 10, 11, 12, 13, 14] : List Nat) ∧ 2 < fs.length) then nx (sXd ξ a (.inr (ci, fs.set 2 (.int v)))) kk else False)) (hn : pc + 3 = n) (k : ∀ ξ1 : XS, kk ξ1 → CF p l e R s m args below meth c nL cells slots (XB g A s ξ1) Q n lv st) : CF p l e R s m args below meth c nL cells slots (XB g A s ξ) Q pc lv (.int v :: .ref a :: st) := by
  obtain ⟨ci, fs, hO, h⟩ := h
  by_cases hi : ci ∈ ([8, 9, 10, 11, 12, 13, 14] : List Nat) ∧ 2 < fs.length
  · have h : (if (ci ∈ ([8, 9, 10, 11, 12, 13, 14] : List Nat) ∧ 2 < fs.length) then nx (sXd ξ a (.inr (ci, fs.set 2 (.int v)))) kk else False) := h
    rw [if_pos hi] at h
    have he := dO_at hO
    have hci : ci = 8 ∨ ci = 9 ∨ ci = 10 ∨ ci = 11 ∨ ci = 12 ∨ ci = 13 ∨ ci = 14 := by simpa using hi.1
    rcases hci with rfl | rfl | rfl | rfl | rfl | rfl | rfl
    · exact xdpF (C9 := RX7) (T := TX7) (N := 5) (j := 2) (ty := .int) E in_X7 (fun D9 hK9 => va_apart2 E.2.2.2.2 in_X7 tyX7 tyX7_ok (by decide +kernel) (by decide +kernel) hK9 rfl) rfl he (by decide) q450 (fun _ h9 => h9) rfl hmn rfl (by decide +kernel) rfl rfl hi.2 d hn (k _ h)
    · exact xdpF (C9 := RX8) (T := TX8) (N := 6) (j := 2) (ty := .int) E in_X8 (fun D9 hK9 => va_apart2 E.2.2.2.2 in_X8 tyX8 tyX8_ok (by decide +kernel) (by decide +kernel) hK9 rfl) rfl he (by decide) q450 (fun _ h9 => h9) rfl hmn rfl (by decide +kernel) rfl rfl hi.2 d hn (k _ h)
    · exact xdpF (C9 := RX9) (T := TX9) (N := 6) (j := 2) (ty := .int) E in_X9 (fun D9 hK9 => va_apart2 E.2.2.2.2 in_X9 tyX9 tyX9_ok (by decide +kernel) (by decide +kernel) hK9 rfl) rfl he (by decide) q450 (fun _ h9 => h9) rfl hmn rfl (by decide +kernel) rfl rfl hi.2 d hn (k _ h)
    · exact xdpF (C9 := RX10) (T := TX10) (N := 6) (j := 2) (ty := .int) E in_X10 (fun D9 hK9 => va_apart2 E.2.2.2.2 in_X10 tyX10 tyX10_ok (by decide +kernel) (by decide +kernel) hK9 rfl) rfl he (by decide) q450 (fun _ h9 => h9) rfl hmn rfl (by decide +kernel) rfl rfl hi.2 d hn (k _ h)
    · exact xdpF (C9 := RX11) (T := TX11) (N := 7) (j := 2) (ty := .int) E in_X11 (fun D9 hK9 => va_apart2 E.2.2.2.2 in_X11 tyX11 tyX11_ok (by decide +kernel) (by decide +kernel) hK9 rfl) rfl he (by decide) q450 (fun _ h9 => h9) rfl hmn rfl (by decide +kernel) rfl rfl hi.2 d hn (k _ h)
    · exact xdpF (C9 := RX12) (T := TX12) (N := 7) (j := 2) (ty := .int) E in_X12 (fun D9 hK9 => va_apart2 E.2.2.2.2 in_X12 tyX12 tyX12_ok (by decide +kernel) (by decide +kernel) hK9 rfl) rfl he (by decide) q450 (fun _ h9 => h9) rfl hmn rfl (by decide +kernel) rfl rfl hi.2 d hn (k _ h)
    · exact xdpF (C9 := RX13) (T := TX13) (N := 8) (j := 2) (ty := .int) E in_X13 (fun D9 hK9 => va_apart2 E.2.2.2.2 in_X13 tyX13 tyX13_ok (by decide +kernel) (by decide +kernel) hK9 rfl) rfl he (by decide) q450 (fun _ h9 => h9) rfl hmn rfl (by decide +kernel) rfl rfl hi.2 d hn (k _ h)
  · have h : (if (ci ∈ ([8, 9, 10, 11, 12, 13, 14] : List Nat) ∧ 2 < fs.length) then nx (sXd ξ a (.inr (ci, fs.set 2 (.int v)))) kk else False) := h
    rw [if_neg hi] at h; cases h
theorem xdpX7_23 (E : EV p s m args c cc nL RX7) {a : Nat} {v : Int32} {kk : XS → Prop} (hmn : meth.name = "<init>") (d : decode cc pc = .ok (.putfield 23, 3)) (h : bndp (dO ξ a) (fun ci fs => if (ci ∈ ([8, 9, 10, 11, 12, 13, 14] : List Nat) ∧ 3 < fs.length) then nx (sXd ξ a (.inr (ci, fs.set 3 (.int v)))) kk else False)) (hn : pc + 3 = n) (k : ∀ ξ1 : XS, kk ξ1 → CF p l e R s m args below meth c nL cells slots (XB g A s ξ1) Q n lv st) : CF p l e R s m args below meth c nL cells slots (XB g A s ξ) Q pc lv (.int v :: .ref a :: st) := by
  obtain ⟨ci, fs, hO, h⟩ := h
  by_cases hi : ci ∈ ([8, 9, 10, 11, 12, 13, 14] : List Nat) ∧ 3 < fs.length
  · have h : (if (ci ∈ ([8, 9, 10, 11, 12, 13, 14] : List Nat) ∧ 3 < fs.length) then nx (sXd ξ a (.inr (ci, fs.set 3 (.int v)))) kk else False) := h
    rw [if_pos hi] at h
    have he := dO_at hO
    have hci : ci = 8 ∨ ci = 9 ∨ ci = 10 ∨ ci = 11 ∨ ci = 12 ∨ ci = 13 ∨ ci = 14 := by simpa using hi.1
    rcases hci with rfl | rfl | rfl | rfl | rfl | rfl | rfl
    · exact xdpF (C9 := RX7) (T := TX7) (N := 5) (j := 3) (ty := .int) E in_X7 (fun D9 hK9 => va_apart2 E.2.2.2.2 in_X7 tyX7 tyX7_ok (by decide +kernel) (by decide +kernel) hK9 rfl) rfl he (by decide) q456 (fun _ h9 => h9) rfl hmn rfl (by decide +kernel) rfl rfl hi.2 d hn (k _ h)
    · exact xdpF (C9 := RX8) (T := TX8) (N := 6) (j := 3) (ty := .int) E in_X8 (fun D9 hK9 => va_apart2 E.2.2.2.2 in_X8 tyX8 tyX8_ok (by decide +kernel) (by decide +kernel) hK9 rfl) rfl he (by decide) q456 (fun _ h9 => h9) rfl hmn rfl (by decide +kernel) rfl rfl hi.2 d hn (k _ h)
    · exact xdpF (C9 := RX9) (T := TX9) (N := 6) (j := 3) (ty := .int) E in_X9 (fun D9 hK9 => va_apart2 E.2.2.2.2 in_X9 tyX9 tyX9_ok (by decide +kernel) (by decide +kernel) hK9 rfl) rfl he (by decide) q456 (fun _ h9 => h9) rfl hmn rfl (by decide +kernel) rfl rfl hi.2 d hn (k _ h)
    · exact xdpF (C9 := RX10) (T := TX10) (N := 6) (j := 3) (ty := .int) E in_X10 (fun D9 hK9 => va_apart2 E.2.2.2.2 in_X10 tyX10 tyX10_ok (by decide +kernel) (by decide +kernel) hK9 rfl) rfl he (by decide) q456 (fun _ h9 => h9) rfl hmn rfl (by decide +kernel) rfl rfl hi.2 d hn (k _ h)
    · exact xdpF (C9 := RX11) (T := TX11) (N := 7) (j := 3) (ty := .int) E in_X11 (fun D9 hK9 => va_apart2 E.2.2.2.2 in_X11 tyX11 tyX11_ok (by decide +kernel) (by decide +kernel) hK9 rfl) rfl he (by decide) q456 (fun _ h9 => h9) rfl hmn rfl (by decide +kernel) rfl rfl hi.2 d hn (k _ h)
    · exact xdpF (C9 := RX12) (T := TX12) (N := 7) (j := 3) (ty := .int) E in_X12 (fun D9 hK9 => va_apart2 E.2.2.2.2 in_X12 tyX12 tyX12_ok (by decide +kernel) (by decide +kernel) hK9 rfl) rfl he (by decide) q456 (fun _ h9 => h9) rfl hmn rfl (by decide +kernel) rfl rfl hi.2 d hn (k _ h)
    · exact xdpF (C9 := RX13) (T := TX13) (N := 8) (j := 3) (ty := .int) E in_X13 (fun D9 hK9 => va_apart2 E.2.2.2.2 in_X13 tyX13 tyX13_ok (by decide +kernel) (by decide +kernel) hK9 rfl) rfl he (by decide) q456 (fun _ h9 => h9) rfl hmn rfl (by decide +kernel) rfl rfl hi.2 d hn (k _ h)
  · have h : (if (ci ∈ ([8, 9, 10, 11, 12, 13, 14] : List Nat) ∧ 3 < fs.length) then nx (sXd ξ a (.inr (ci, fs.set 3 (.int v)))) kk else False) := h
    rw [if_neg hi] at h; cases h
theorem xdpX8_3 (E : EV p s m args c cc nL RX8) {a : Nat}  {kk : XS → Prop} (hmn : meth.name = "<init>") (d : decode cc pc = .ok (.putfield 3, 3)) (h : bndp (dO ξ a) (fun ci fs => if (ci ∈ ([9, 12] : List Nat) ∧ 5 < fs.length) then nx (sXd ξ a (.inr (ci, fs.set 5 (.ref (xa g 0))))) kk else False)) (hn : pc + 3 = n) (k : ∀ ξ1 : XS, kk ξ1 → CF p l e R s m args below meth c nL cells slots (XB g A s ξ1) Q n lv st) : CF p l e R s m args below meth c nL cells slots (XB g A s ξ) Q pc lv (.ref (xa g 0) :: .ref a :: st) := by
  obtain ⟨ci, fs, hO, h⟩ := h
  by_cases hi : ci ∈ ([9, 12] : List Nat) ∧ 5 < fs.length
  · have h : (if (ci ∈ ([9, 12] : List Nat) ∧ 5 < fs.length) then nx (sXd ξ a (.inr (ci, fs.set 5 (.ref (xa g 0))))) kk else False) := h
    rw [if_pos hi] at h
    have he := dO_at hO
    have hci : ci = 9 ∨ ci = 12 := by simpa using hi.1
    rcases hci with rfl | rfl
    · exact xdpF (C9 := RX8) (T := TX8) (N := 6) (j := 5) (ty := .object "HatsDecide") E in_X8 (fun D9 hK9 => va_apart2 E.2.2.2.2 in_X8 tyX8 tyX8_ok (by decide +kernel) (by decide +kernel) hK9 rfl) rfl he (by decide) q438 (fun _ h9 => h9) rfl hmn rfl (by decide +kernel) rfl rfl hi.2 d hn (k _ h)
    · exact xdpF (C9 := RX11) (T := TX11) (N := 7) (j := 5) (ty := .object "HatsDecide") E in_X11 (fun D9 hK9 => va_apart2 E.2.2.2.2 in_X11 tyX11 tyX11_ok (by decide +kernel) (by decide +kernel) hK9 rfl) rfl he (by decide) q438 (fun _ h9 => h9) rfl hmn rfl (by decide +kernel) rfl rfl hi.2 d hn (k _ h)
  · have h : (if (ci ∈ ([9, 12] : List Nat) ∧ 5 < fs.length) then nx (sXd ξ a (.inr (ci, fs.set 5 (.ref (xa g 0))))) kk else False) := h
    rw [if_neg hi] at h; cases h
theorem xdpX9_3 (E : EV p s m args c cc nL RX9) {a : Nat}  {kk : XS → Prop} (hmn : meth.name = "<init>") (d : decode cc pc = .ok (.putfield 3, 3)) (h : bndp (dO ξ a) (fun ci fs => if (ci ∈ ([10, 13] : List Nat) ∧ 5 < fs.length) then nx (sXd ξ a (.inr (ci, fs.set 5 (.ref (xa g 0))))) kk else False)) (hn : pc + 3 = n) (k : ∀ ξ1 : XS, kk ξ1 → CF p l e R s m args below meth c nL cells slots (XB g A s ξ1) Q n lv st) : CF p l e R s m args below meth c nL cells slots (XB g A s ξ) Q pc lv (.ref (xa g 0) :: .ref a :: st) := by
  obtain ⟨ci, fs, hO, h⟩ := h
  by_cases hi : ci ∈ ([10, 13] : List Nat) ∧ 5 < fs.length
  · have h : (if (ci ∈ ([10, 13] : List Nat) ∧ 5 < fs.length) then nx (sXd ξ a (.inr (ci, fs.set 5 (.ref (xa g 0))))) kk else False) := h
    rw [if_pos hi] at h
    have he := dO_at hO
    have hci : ci = 10 ∨ ci = 13 := by simpa using hi.1
    rcases hci with rfl | rfl
    · exact xdpF (C9 := RX9) (T := TX9) (N := 6) (j := 5) (ty := .object "HatsDecide") E in_X9 (fun D9 hK9 => va_apart2 E.2.2.2.2 in_X9 tyX9 tyX9_ok (by decide +kernel) (by decide +kernel) hK9 rfl) rfl he (by decide) q478 (fun _ h9 => h9) rfl hmn rfl (by decide +kernel) rfl rfl hi.2 d hn (k _ h)
    · exact xdpF (C9 := RX12) (T := TX12) (N := 7) (j := 5) (ty := .object "HatsDecide") E in_X12 (fun D9 hK9 => va_apart2 E.2.2.2.2 in_X12 tyX12 tyX12_ok (by decide +kernel) (by decide +kernel) hK9 rfl) rfl he (by decide) q478 (fun _ h9 => h9) rfl hmn rfl (by decide +kernel) rfl rfl hi.2 d hn (k _ h)
  · have h : (if (ci ∈ ([10, 13] : List Nat) ∧ 5 < fs.length) then nx (sXd ξ a (.inr (ci, fs.set 5 (.ref (xa g 0))))) kk else False) := h
    rw [if_neg hi] at h; cases h
theorem xdpX10_3 (E : EV p s m args c cc nL RX10) {a : Nat}  {kk : XS → Prop} (hmn : meth.name = "<init>") (d : decode cc pc = .ok (.putfield 3, 3)) (h : bndp (dO ξ a) (fun ci fs => if (ci ∈ ([11, 14] : List Nat) ∧ 5 < fs.length) then nx (sXd ξ a (.inr (ci, fs.set 5 (.ref (xa g 0))))) kk else False)) (hn : pc + 3 = n) (k : ∀ ξ1 : XS, kk ξ1 → CF p l e R s m args below meth c nL cells slots (XB g A s ξ1) Q n lv st) : CF p l e R s m args below meth c nL cells slots (XB g A s ξ) Q pc lv (.ref (xa g 0) :: .ref a :: st) := by
  obtain ⟨ci, fs, hO, h⟩ := h
  by_cases hi : ci ∈ ([11, 14] : List Nat) ∧ 5 < fs.length
  · have h : (if (ci ∈ ([11, 14] : List Nat) ∧ 5 < fs.length) then nx (sXd ξ a (.inr (ci, fs.set 5 (.ref (xa g 0))))) kk else False) := h
    rw [if_pos hi] at h
    have he := dO_at hO
    have hci : ci = 11 ∨ ci = 14 := by simpa using hi.1
    rcases hci with rfl | rfl
    · exact xdpF (C9 := RX10) (T := TX10) (N := 6) (j := 5) (ty := .object "HatsDecide") E in_X10 (fun D9 hK9 => va_apart2 E.2.2.2.2 in_X10 tyX10 tyX10_ok (by decide +kernel) (by decide +kernel) hK9 rfl) rfl he (by decide) q493 (fun _ h9 => h9) rfl hmn rfl (by decide +kernel) rfl rfl hi.2 d hn (k _ h)
    · exact xdpF (C9 := RX13) (T := TX13) (N := 8) (j := 5) (ty := .object "HatsDecide") E in_X13 (fun D9 hK9 => va_apart2 E.2.2.2.2 in_X13 tyX13 tyX13_ok (by decide +kernel) (by decide +kernel) hK9 rfl) rfl he (by decide) q493 (fun _ h9 => h9) rfl hmn rfl (by decide +kernel) rfl rfl hi.2 d hn (k _ h)
  · have h : (if (ci ∈ ([11, 14] : List Nat) ∧ 5 < fs.length) then nx (sXd ξ a (.inr (ci, fs.set 5 (.ref (xa g 0))))) kk else False) := h
    rw [if_neg hi] at h; cases h
theorem xdpX11_3 (E : EV p s m args c cc nL RX11) {a : Nat}  {kk : XS → Prop} (hmn : meth.name = "<init>") (d : decode cc pc = .ok (.putfield 3, 3)) (h : bndp (dO ξ a) (fun ci fs => if (ci ∈ ([12] : List Nat) ∧ 6 < fs.length) then nx (sXd ξ a (.inr (ci, fs.set 6 (.ref (xa g 0))))) kk else False)) (hn : pc + 3 = n) (k : ∀ ξ1 : XS, kk ξ1 → CF p l e R s m args below meth c nL cells slots (XB g A s ξ1) Q n lv st) : CF p l e R s m args below meth c nL cells slots (XB g A s ξ) Q pc lv (.ref (xa g 0) :: .ref a :: st) := by
  obtain ⟨ci, fs, hO, h⟩ := h
  by_cases hi : ci ∈ ([12] : List Nat) ∧ 6 < fs.length
  · have h : (if (ci ∈ ([12] : List Nat) ∧ 6 < fs.length) then nx (sXd ξ a (.inr (ci, fs.set 6 (.ref (xa g 0))))) kk else False) := h
    rw [if_pos hi] at h
    have he := dO_at hO
    have hci : ci = 12 := by simpa using hi.1
    rcases hci with rfl
    · exact xdpF (C9 := RX11) (T := TX11) (N := 7) (j := 6) (ty := .object "HatsDecide") E in_X11 (fun D9 hK9 => va_apart2 E.2.2.2.2 in_X11 tyX11 tyX11_ok (by decide +kernel) (by decide +kernel) hK9 rfl) rfl he (by decide) q508 (fun _ h9 => h9) rfl hmn rfl (by decide +kernel) rfl rfl hi.2 d hn (k _ h)
  · have h : (if (ci ∈ ([12] : List Nat) ∧ 6 < fs.length) then nx (sXd ξ a (.inr (ci, fs.set 6 (.ref (xa g 0))))) kk else False) := h
    rw [if_neg hi] at h; cases h
theorem xdpX12_3 (E : EV p s m args c cc nL RX12) {a : Nat}  {kk : XS → Prop} (hmn : meth.name = "<init>") (d : decode cc pc = .ok (.putfield 3, 3)) (h : bndp (dO ξ a) (fun ci fs => if (ci ∈ ([13] : List Nat) ∧ 6 < fs.length) then nx (sXd ξ a (.inr (ci, fs.set 6 (.ref (xa g 0))))) kk else False)) (hn : pc + 3 = n) (k : ∀ ξ1 : XS, kk ξ1 → CF p l e R s m args below meth c nL cells slots (XB g A s ξ1) Q n lv st) : CF p l e R s m args below meth c nL cells slots (XB g A s ξ) Q pc lv (.ref (xa g 0) :: .ref a :: st) := by
  obtain ⟨ci, fs, hO, h⟩ := h
  by_cases hi : ci ∈ ([13] : List Nat) ∧ 6 < fs.length
  · have h : (if (ci ∈ ([13] : List Nat) ∧ 6 < fs.length) then nx (sXd ξ a (.inr (ci, fs.set 6 (.ref (xa g 0))))) kk else False) := h
    rw [if_pos hi] at h
    have he := dO_at hO
    have hci : ci = 13 := by simpa using hi.1
    rcases hci with rfl
    · exact xdpF (C9 := RX12) (T := TX12) (N := 7) (j := 6) (ty := .object "HatsDecide") E in_X12 (fun D9 hK9 => va_apart2 E.2.2.2.2 in_X12 tyX12 tyX12_ok (by decide +kernel) (by decide +kernel) hK9 rfl) rfl he (by decide) q524 (fun _ h9 => h9) rfl hmn rfl (by decide +kernel) rfl rfl hi.2 d hn (k _ h)
  · have h : (if (ci ∈ ([13] : List Nat) ∧ 6 < fs.length) then nx (sXd ξ a (.inr (ci, fs.set 6 (.ref (xa g 0))))) kk else False) := h
    rw [if_neg hi] at h; cases h
theorem xdpX13_3 (E : EV p s m args c cc nL RX13) {a : Nat}  {kk : XS → Prop} (hmn : meth.name = "<init>") (d : decode cc pc = .ok (.putfield 3, 3)) (h : bndp (dO ξ a) (fun ci fs => if (ci ∈ ([14] : List Nat) ∧ 7 < fs.length) then nx (sXd ξ a (.inr (ci, fs.set 7 (.ref (xa g 0))))) kk else False)) (hn : pc + 3 = n) (k : ∀ ξ1 : XS, kk ξ1 → CF p l e R s m args below meth c nL cells slots (XB g A s ξ1) Q n lv st) : CF p l e R s m args below meth c nL cells slots (XB g A s ξ) Q pc lv (.ref (xa g 0) :: .ref a :: st) := by
  obtain ⟨ci, fs, hO, h⟩ := h
  by_cases hi : ci ∈ ([14] : List Nat) ∧ 7 < fs.length
  · have h : (if (ci ∈ ([14] : List Nat) ∧ 7 < fs.length) then nx (sXd ξ a (.inr (ci, fs.set 7 (.ref (xa g 0))))) kk else False) := h
    rw [if_pos hi] at h
    have he := dO_at hO
    have hci : ci = 14 := by simpa using hi.1
    rcases hci with rfl
    · exact xdpF (C9 := RX13) (T := TX13) (N := 8) (j := 7) (ty := .object "HatsDecide") E in_X13 (fun D9 hK9 => va_apart2 E.2.2.2.2 in_X13 tyX13 tyX13_ok (by decide +kernel) (by decide +kernel) hK9 rfl) rfl he (by decide) q542 (fun _ h9 => h9) rfl hmn rfl (by decide +kernel) rfl rfl hi.2 d hn (k _ h)
  · have h : (if (ci ∈ ([14] : List Nat) ∧ 7 < fs.length) then nx (sXd ξ a (.inr (ci, fs.set 7 (.ref (xa g 0))))) kk else False) := h
    rw [if_neg hi] at h; cases h
theorem xdpX13_15 (E : EV p s m args c cc nL RX13) {a : Nat} {v : Nat} {kk : XS → Prop} (hmn : meth.name = "<init>") (d : decode cc pc = .ok (.putfield 15, 3)) (h : bndp (dO ξ a) (fun ci fs => if (ci ∈ ([14] : List Nat) ∧ 6 < fs.length) then nx (sXd ξ a (.inr (ci, fs.set 6 (.ref v)))) kk else False)) (hn : pc + 3 = n) (k : ∀ ξ1 : XS, kk ξ1 → CF p l e R s m args below meth c nL cells slots (XB g A s ξ1) Q n lv st) : CF p l e R s m args below meth c nL cells slots (XB g A s ξ) Q pc lv (.ref v :: .ref a :: st) := by
  obtain ⟨ci, fs, hO, h⟩ := h
  by_cases hi : ci ∈ ([14] : List Nat) ∧ 6 < fs.length
  · have h : (if (ci ∈ ([14] : List Nat) ∧ 6 < fs.length) then nx (sXd ξ a (.inr (ci, fs.set 6 (.ref v)))) kk else False) := h
    rw [if_pos hi] at h
    have he := dO_at hO
    have hci : ci = 14 := by simpa using hi.1
    rcases hci with rfl
    · exact xdpF (C9 := RX13) (T := TX13) (N := 8) (j := 6) (ty := .array .byte) E in_X13 (fun D9 hK9 => va_apart2 E.2.2.2.2 in_X13 tyX13 tyX13_ok (by decide +kernel) (by decide +kernel) hK9 rfl) rfl he (by decide) q540 (fun _ h9 => h9) rfl hmn rfl (by decide +kernel) rfl rfl hi.2 d hn (k _ h)
  · have h : (if (ci ∈ ([14] : List Nat) ∧ 6 < fs.length) then nx (sXd ξ a (.inr (ci, fs.set 6 (.ref v)))) kk else False) := h
    rw [if_neg hi] at h; cases h
theorem xnwX0_140 (E : EV p s m args c cc nL RX0) {mc ms : Nat} (hb : cells + mc ≤ R.cells ∧ slots + ms ≤ R.slots) {kk : Nat → Prop} (d : decode cc pc = .ok (.new 140, 3)) (h : mkc ξ 6 mc ms kk) (hn : pc + 3 = n) (k : ∀ q, (cells + 1 + (mc - 1) ≤ R.cells ∧ slots + 6 + (ms - 6) ≤ R.slots) → kk q → CF p l e R s m args below meth c nL (cells + 1) (slots + 6) (XB g A s (pXd ξ q (.inr (9, [.int 0, .int 0, .int 0, .int 0, .null, .null])))) Q n lv (.ref q :: st)) : CF p l e R s m args below meth c nL cells slots (XB g A s ξ) Q pc lv st :=
  xnew (C9 := RX8) (T := TX8) E in_X8 tyX8 tyX8_ok q429 q430 q107 rfl (fun j hj => by rcases (show j = 0 ∨ j = 1 ∨ j = 2 ∨ j = 3 ∨ j = 4 ∨ j = 5 by omega) with rfl | rfl | rfl | rfl | rfl | rfl <;> rfl) hb d h hn k
theorem xnwX0_145 (E : EV p s m args c cc nL RX0) {mc ms : Nat} (hb : cells + mc ≤ R.cells ∧ slots + ms ≤ R.slots) {kk : Nat → Prop} (d : decode cc pc = .ok (.new 145, 3)) (h : mkc ξ 6 mc ms kk) (hn : pc + 3 = n) (k : ∀ q, (cells + 1 + (mc - 1) ≤ R.cells ∧ slots + 6 + (ms - 6) ≤ R.slots) → kk q → CF p l e R s m args below meth c nL (cells + 1) (slots + 6) (XB g A s (pXd ξ q (.inr (10, [.int 0, .int 0, .int 0, .int 0, .null, .null])))) Q n lv (.ref q :: st)) : CF p l e R s m args below meth c nL cells slots (XB g A s ξ) Q pc lv st :=
  xnew (C9 := RX9) (T := TX9) E in_X9 tyX9 tyX9_ok q472 q473 q108 rfl (fun j hj => by rcases (show j = 0 ∨ j = 1 ∨ j = 2 ∨ j = 3 ∨ j = 4 ∨ j = 5 by omega) with rfl | rfl | rfl | rfl | rfl | rfl <;> rfl) hb d h hn k
theorem xnwX0_148 (E : EV p s m args c cc nL RX0) {mc ms : Nat} (hb : cells + mc ≤ R.cells ∧ slots + ms ≤ R.slots) {kk : Nat → Prop} (d : decode cc pc = .ok (.new 148, 3)) (h : mkc ξ 6 mc ms kk) (hn : pc + 3 = n) (k : ∀ q, (cells + 1 + (mc - 1) ≤ R.cells ∧ slots + 6 + (ms - 6) ≤ R.slots) → kk q → CF p l e R s m args below meth c nL (cells + 1) (slots + 6) (XB g A s (pXd ξ q (.inr (11, [.int 0, .int 0, .int 0, .int 0, .null, .null])))) Q n lv (.ref q :: st)) : CF p l e R s m args below meth c nL cells slots (XB g A s ξ) Q pc lv st :=
  xnew (C9 := RX10) (T := TX10) E in_X10 tyX10 tyX10_ok q487 q488 q109 rfl (fun j hj => by rcases (show j = 0 ∨ j = 1 ∨ j = 2 ∨ j = 3 ∨ j = 4 ∨ j = 5 by omega) with rfl | rfl | rfl | rfl | rfl | rfl <;> rfl) hb d h hn k
theorem xnwX0_151 (E : EV p s m args c cc nL RX0) {mc ms : Nat} (hb : cells + mc ≤ R.cells ∧ slots + ms ≤ R.slots) {kk : Nat → Prop} (d : decode cc pc = .ok (.new 151, 3)) (h : mkc ξ 7 mc ms kk) (hn : pc + 3 = n) (k : ∀ q, (cells + 1 + (mc - 1) ≤ R.cells ∧ slots + 7 + (ms - 7) ≤ R.slots) → kk q → CF p l e R s m args below meth c nL (cells + 1) (slots + 7) (XB g A s (pXd ξ q (.inr (12, [.int 0, .int 0, .int 0, .int 0, .null, .null, .null])))) Q n lv (.ref q :: st)) : CF p l e R s m args below meth c nL cells slots (XB g A s ξ) Q pc lv st :=
  xnew (C9 := RX11) (T := TX11) E in_X11 tyX11 tyX11_ok q502 q503 q110 rfl (fun j hj => by rcases (show j = 0 ∨ j = 1 ∨ j = 2 ∨ j = 3 ∨ j = 4 ∨ j = 5 ∨ j = 6 by omega) with rfl | rfl | rfl | rfl | rfl | rfl | rfl <;> rfl) hb d h hn k
theorem xnwX0_154 (E : EV p s m args c cc nL RX0) {mc ms : Nat} (hb : cells + mc ≤ R.cells ∧ slots + ms ≤ R.slots) {kk : Nat → Prop} (d : decode cc pc = .ok (.new 154, 3)) (h : mkc ξ 7 mc ms kk) (hn : pc + 3 = n) (k : ∀ q, (cells + 1 + (mc - 1) ≤ R.cells ∧ slots + 7 + (ms - 7) ≤ R.slots) → kk q → CF p l e R s m args below meth c nL (cells + 1) (slots + 7) (XB g A s (pXd ξ q (.inr (13, [.int 0, .int 0, .int 0, .int 0, .null, .null, .null])))) Q n lv (.ref q :: st)) : CF p l e R s m args below meth c nL cells slots (XB g A s ξ) Q pc lv st :=
  xnew (C9 := RX12) (T := TX12) E in_X12 tyX12 tyX12_ok q518 q519 q111 rfl (fun j hj => by rcases (show j = 0 ∨ j = 1 ∨ j = 2 ∨ j = 3 ∨ j = 4 ∨ j = 5 ∨ j = 6 by omega) with rfl | rfl | rfl | rfl | rfl | rfl | rfl <;> rfl) hb d h hn k
theorem xnwX0_157 (E : EV p s m args c cc nL RX0) {mc ms : Nat} (hb : cells + mc ≤ R.cells ∧ slots + ms ≤ R.slots) {kk : Nat → Prop} (d : decode cc pc = .ok (.new 157, 3)) (h : mkc ξ 8 mc ms kk) (hn : pc + 3 = n) (k : ∀ q, (cells + 1 + (mc - 1) ≤ R.cells ∧ slots + 8 + (ms - 8) ≤ R.slots) → kk q → CF p l e R s m args below meth c nL (cells + 1) (slots + 8) (XB g A s (pXd ξ q (.inr (14, [.int 0, .int 0, .int 0, .int 0, .null, .null, .null, .null])))) Q n lv (.ref q :: st)) : CF p l e R s m args below meth c nL cells slots (XB g A s ξ) Q pc lv st :=
  xnew (C9 := RX13) (T := TX13) E in_X13 tyX13 tyX13_ok q534 q535 q112 rfl (fun j hj => by rcases (show j = 0 ∨ j = 1 ∨ j = 2 ∨ j = 3 ∨ j = 4 ∨ j = 5 ∨ j = 6 ∨ j = 7 by omega) with rfl | rfl | rfl | rfl | rfl | rfl | rfl | rfl <;> rfl) hb d h hn k
theorem xnwX0_21 (E : EV p s m args c cc nL RX0) {mc ms : Nat} (hb : cells + mc ≤ R.cells ∧ slots + ms ≤ R.slots) {kk : Nat → Prop} (d : decode cc pc = .ok (.new 21, 3)) (h : mkc ξ 5 mc ms kk) (hn : pc + 3 = n) (k : ∀ q, (cells + 1 + (mc - 1) ≤ R.cells ∧ slots + 5 + (ms - 5) ≤ R.slots) → kk q → CF p l e R s m args below meth c nL (cells + 1) (slots + 5) (XB g A s (pXd ξ q (.inr (8, [.int 0, .int 0, .int 0, .int 0, .null])))) Q n lv (.ref q :: st)) : CF p l e R s m args below meth c nL cells slots (XB g A s ξ) Q pc lv st :=
  xnew (C9 := RX7) (T := TX7) E in_X7 tyX7 tyX7_ok q146 q554 q106 rfl (fun j hj => by rcases (show j = 0 ∨ j = 1 ∨ j = 2 ∨ j = 3 ∨ j = 4 by omega) with rfl | rfl | rfl | rfl | rfl <;> rfl) hb d h hn k
theorem xastq_3 {own : String} (E : EV p s m args c cc nL own) {i : Int32} {a : Nat} {kk : XS → Option ρ} (d : decode cc pc = .ok (.aastore, 1)) (h : (if inb i 6 = true ∧ isC ξ a 8 14 = true then nx (sXQ ξ 3 (va_up (xQ ξ 3) i.toNatClampNeg (some a))) kk else none) = some res) (hn : pc + 1 = n) (k : ∀ ξ1 : XS, kk ξ1 = some res → CF p l e R s m args below meth c nL cells slots (XB g A s ξ1) Q n lv st) : CF p l e R s m args below meth c nL cells slots (XB g A s ξ) Q pc lv (.ref a :: .int i :: .ref (xa g 103) :: st) := by
  subst hn
  by_cases hi : inb i 6 = true ∧ isC ξ a 8 14 = true
  · rw [if_pos hi] at h
    intro H locs ls hB hl
    exact va_astqM E.1 E.2.1 hB.2.2.2.1 hB.1 hB.2.1 hB.2.2.1 4 5 rfl rfl (xanyH hB hi.2) (inb_in hi.1) d (fun H1 locs1 hP hD hS => k _ h H1 locs1 ls ⟨hP, hD, hS, hB.2.2.2⟩ hl)
  · rw [if_neg hi] at h; cases h
theorem xastq_3p {own : String} (E : EV p s m args c cc nL own) {i : Int32} {a : Nat} {kk : XS → Prop} (d : decode cc pc = .ok (.aastore, 1)) (h : (if inb i 6 = true ∧ isC ξ a 8 14 = true then nx (sXQ ξ 3 (va_up (xQ ξ 3) i.toNatClampNeg (some a))) kk else False)) (hn : pc + 1 = n) (k : ∀ ξ1 : XS, kk ξ1 → CF p l e R s m args below meth c nL cells slots (XB g A s ξ1) Q n lv st) : CF p l e R s m args below meth c nL cells slots (XB g A s ξ) Q pc lv (.ref a :: .int i :: .ref (xa g 103) :: st) := by
  subst hn
  by_cases hi : inb i 6 = true ∧ isC ξ a 8 14 = true
  · rw [if_pos hi] at h
    intro H locs ls hB hl
    exact va_astqM E.1 E.2.1 hB.2.2.2.1 hB.1 hB.2.1 hB.2.2.1 4 5 rfl rfl (xanyH hB hi.2) (inb_in hi.1) d (fun H1 locs1 hP hD hS => k _ h H1 locs1 ls ⟨hP, hD, hS, hB.2.2.2⟩ hl)
  · rw [if_neg hi] at h; cases h
theorem xast_2p {own : String} (E : EV p s m args c cc nL own) {i x : Int32} {kk : XS → Prop} (d : decode cc pc = .ok (.iastore, 1)) (h : (if inb i 6 = true then nx (sXR ξ 2 i.toNatClampNeg x) kk else False)) (hn : pc + 1 = n) (k : ∀ ξ1 : XS, kk ξ1 → CF p l e R s m args below meth c nL cells slots (XB g A s ξ1) Q n lv st) : CF p l e R s m args below meth c nL cells slots (XB g A s ξ) Q pc lv (.int x :: .int i :: .ref (xa g 102) :: st) := by
  subst hn
  by_cases hi : inb i 6 = true
  · rw [if_pos hi] at h
    intro H locs ls hB hl
    exact va_iast E.1 E.2.1 hB.2.2.2.1 hB.1 hB.2.1 hB.2.2.1 3 0 rfl rfl (inb_in hi) d (fun H1 locs1 hP hD hS => k _ h H1 locs1 ls ⟨hP, hD, hS, hB.2.2.2⟩ hl)
  · rw [if_neg hi] at h; cases h
theorem xastT_1_0p {own : String} (E : EV p s m args c cc nL own) {i x : Int32} {kk : XS → Prop} (d : decode cc pc = .ok (.iastore, 1)) (h : (if inb i 6 = true then nx (sXR ξ 201 i.toNatClampNeg x) kk else False)) (hn : pc + 1 = n) (k : ∀ ξ1 : XS, kk ξ1 → CF p l e R s m args below meth c nL cells slots (XB g A s ξ1) Q n lv st) : CF p l e R s m args below meth c nL cells slots (XB g A s ξ) Q pc lv (.int x :: .int i :: .ref (xa g 202) :: st) := by
  subst hn
  by_cases hi : inb i 6 = true
  · rw [if_pos hi] at h
    intro H locs ls hB hl
    exact va_iast E.1 E.2.1 hB.2.2.2.1 hB.1 hB.2.1 hB.2.2.1 27 0 rfl rfl (inb_in hi) d (fun H1 locs1 hP hD hS => k _ h H1 locs1 ls ⟨hP, hD, hS, hB.2.2.2⟩ hl)
  · rw [if_neg hi] at h; cases h
theorem xpX0_134p (E : EV p s m args c cc nL RX0) {v : Int32} {kk : XS → Prop} (d : decode cc pc = .ok (.putfield 134, 3)) (h : nx (sXF ξ 4 v) kk) (hn : pc + 3 = n) (k : ∀ ξ1 : XS, kk ξ1 → CF p l e R s m args below meth c nL cells slots (XB g A s ξ1) Q n lv st) : CF p l e R s m args below meth c nL cells slots (XB g A s ξ) Q pc lv (.int v :: .ref (xa g 0) :: st) := by
  subst hn
  intro H locs ls hB hl
  exact va_put (D := g.1) (ci := 1) (v := .int v) (ty := .int) (C := RX0) (T := TX0) (N := 40) E.1 E.2.1 E.2.2.2.2 in_X0 tyX0 tyX0_ok nmX0 E.2.2.2.1 hB.2.2.2.1 hB.1 hB.2.1 hB.2.2.1 0 rfl rfl 4 (Nat.le_of_ble_eq_true rfl) (E.2.2.2.2 _ q286) (fun _ h9 => h9) rfl (by decide +kernel) rfl rfl (Nat.le_of_ble_eq_true rfl) d (fun H1 locs1 hP hD hS => k _ h H1 locs1 ls ⟨hP, hD, hS, hB.2.2.2⟩ hl)
end XC
def y7_init (N : Nat) (g : XG) (a0 : Nat) (x2 : Int32) (x3 : Int32) (x4 : Int32) (x5 : Int32) (ξ : XS) (mc ms : Nat) (K : XS → Prop) : Prop :=
  bndp (dO ξ a0) fun ci_2 fs_3 => if (ci_2 ∈ ([8, 9, 10, 11, 12, 13, 14] : List Nat) ∧ 4 < fs_3.length) then nx (sXd ξ a0 (.inr (ci_2, fs_3.set 4 (.ref (xa g 0))))) (fun s_1 =>
  bndp (dO s_1 a0) fun ci_5 fs_6 => if (ci_5 ∈ ([8, 9, 10, 11, 12, 13, 14] : List Nat) ∧ 0 < fs_6.length) then nx (sXd s_1 a0 (.inr (ci_5, fs_6.set 0 (.int x2)))) (fun s_4 =>
  bndp (dO s_4 a0) fun ci_8 fs_9 => if (ci_8 ∈ ([8, 9, 10, 11, 12, 13, 14] : List Nat) ∧ 1 < fs_9.length) then nx (sXd s_4 a0 (.inr (ci_8, fs_9.set 1 (.int x3)))) (fun s_7 =>
  bndp (dO s_7 a0) fun ci_11 fs_12 => if (ci_11 ∈ ([8, 9, 10, 11, 12, 13, 14] : List Nat) ∧ 2 < fs_12.length) then nx (sXd s_7 a0 (.inr (ci_11, fs_12.set 2 (.int x4)))) (fun s_10 =>
  bndp (dO s_10 a0) fun ci_14 fs_15 => if (ci_14 ∈ ([8, 9, 10, 11, 12, 13, 14] : List Nat) ∧ 3 < fs_15.length) then nx (sXd s_10 a0 (.inr (ci_14, fs_15.set 3 (.int x5)))) (fun s_13 =>
  K s_13) else False) else False) else False) else False) else False
set_option maxHeartbeats 4000000 in
theorem met_y7_init (l : Launch) (g : XG) (N : Nat) (a0 : Nat)  (x2 : Int32) (x3 : Int32) (x4 : Int32) (x5 : Int32) (ξ : XS) (mc ms : Nat) (K : XS → Prop) (h : y7_init N g a0 x2 x3 x4 x5 ξ mc ms K) : MetYv l g yX7_init (ws_ yX7_init cX7_init 6 none) 1 40 [.ref a0, .ref (xa g 0), .int x2, .int x3, .int x4, .int x5] ξ mc ms K := by
  refine met_yv (lv0 := [(0, .ref a0), (1, .ref (xa g 0)), (2, .int x2), (3, .int x3), (4, .int x4), (5, .int x5)]) (own := RX7) (by decide) rfl (Nat.le_of_ble_eq_true rfl) rfl ?_
  intro p e s m below meth c A Q E hmn hq
  have hmn : meth.name = "<init>" := hmn
  have hR : 1 ≤ ({ frames := 1, cells := mc, slots := ms, locals := 40 } : Room).frames ∧ 40 ≤ ({ frames := 1, cells := mc, slots := ms, locals := 40 } : Room).locals := ⟨Nat.le_refl _, Nat.le_refl _⟩
  have hb : 0 + mc ≤ ({ frames := 1, cells := mc, slots := ms, locals := 40 } : Room).cells ∧ 0 + ms ≤ ({ frames := 1, cells := mc, slots := ms, locals := 40 } : Room).slots := ⟨Nat.le_of_eq (Nat.zero_add _), Nat.le_of_eq (Nat.zero_add _)⟩
  unfold y7_init at h
  refine cf_aload_n E dX7_init_0 0 rfl rfl ?_
  refine cf_aload_n E dX7_init_1 1 rfl rfl ?_
  refine xdpX7_1 E hmn dX7_init_2 h rfl (fun s_1 h => ?_)
  refine cf_aload_n E dX7_init_5 0 rfl rfl ?_
  refine xoi E q437 q144 q145 (rmle hR rfl rfl) (Nat.le_of_ble_eq_true rfl) dX7_init_6 rfl ?_
  refine cf_aload_n E dX7_init_9 0 rfl rfl ?_
  refine cf_iload_n E dX7_init_10 2 rfl rfl ?_
  refine xdpX7_13 E hmn dX7_init_11 h rfl (fun s_4 h => ?_)
  refine cf_aload_n E dX7_init_14 0 rfl rfl ?_
  refine cf_iload_n E dX7_init_15 3 rfl rfl ?_
  refine xdpX7_17 E hmn dX7_init_16 h rfl (fun s_7 h => ?_)
  refine cf_aload_n E dX7_init_19 0 rfl rfl ?_
  refine cf_iload E dX7_init_20 4 rfl rfl ?_
  refine xdpX7_20 E hmn dX7_init_22 h rfl (fun s_10 h => ?_)
  refine cf_aload_n E dX7_init_25 0 rfl rfl ?_
  refine cf_iload E dX7_init_26 5 rfl rfl ?_
  refine xdpX7_23 E hmn dX7_init_28 h rfl (fun s_13 h => ?_)
  exact hq _ _ _ _ _ (hb0 hb).1 (hb0 hb).2 dX7_init_31 h
def y8_init (N : Nat) (g : XG) (a0 : Nat) (x2 : Int32) (x3 : Int32) (x4 : Int32) (x5 : Int32) (ξ : XS) (mc ms : Nat) (K : XS → Prop) : Prop :=
  bndp (dO ξ a0) fun ci_2 fs_3 => if (ci_2 ∈ ([9, 12] : List Nat) ∧ 5 < fs_3.length) then nx (sXd ξ a0 (.inr (ci_2, fs_3.set 5 (.ref (xa g 0))))) (fun s_1 =>
  bnyv (y7_init N g a0 x2 x3 x4 x5 s_1) mc ms fun m_4 n_5 s_6 =>
  K s_6) else False
section XC
variable {p : Program} {l : Launch} {e : Env} {R : Room} {s : State} {m : MethodId} {args : Array Value} {below : List Frame} {meth : Method} {c : Code} {nL cells slots : Nat} {A : Nat → Prop} {g : XG} {ξ : XS} {Q : State → Prop} {pc n : Nat} {lv : List (Nat × Value)} {st : List Value} {cc : ByteArray} {ρ : Type} {res : ρ}
theorem yclX8_9 (E : EV p s m args c cc nL RX8) {N mc ms : Nat} {a0 : Nat}  {x2 : Int32} {x3 : Int32} {x4 : Int32} {x5 : Int32} {kk : Nat → Nat → XS → Prop} (hR : 2 ≤ R.frames ∧ 65 ≤ R.locals) (hcat : (st.map fun v => v.category).sum ≤ 8) (hb : cells + mc ≤ R.cells ∧ slots + ms ≤ R.slots) (d : decode cc pc = .ok (.invokespecial 9, 3)) (h : bnyv (y7_init N g a0 x2 x3 x4 x5 ξ) mc ms kk) (hn : pc + 3 = n) (k : ∀ (m1 n1 : Nat) (ξ1 : XS), (cells + m1 + (mc - m1) ≤ R.cells ∧ slots + n1 + (ms - n1) ≤ R.slots) → kk m1 n1 ξ1 → CF p l e R s m args below meth c nL (cells + m1) (slots + n1) (XB g A s ξ1) Q n lv st) : CF p l e R s m args below meth c nL cells slots (XB g A s ξ) Q pc lv (.int x5 :: .int x4 :: .int x3 :: .int x2 :: .ref (xa g 0) :: .ref a0 :: st) := by
  obtain ⟨m1, n1, h1, h2, h⟩ := h
  exact ycallI_v (na := 5) E [.ref (xa g 0), .int x2, .int x3, .int x4, .int x5] (met_y7_init l g N a0  x2 x3 x4 x5 ξ m1 n1 _ h) (lw_meth q436) q106 q434 q435 (by decide +kernel) hR rfl rfl hcat ⟨by omega, by omega⟩ d hn (fun ξ1 hk => k m1 n1 ξ1 ⟨by omega, by omega⟩ hk)
end XC
set_option maxHeartbeats 4000000 in
theorem met_y8_init (l : Launch) (g : XG) (N : Nat) (a0 : Nat)  (x2 : Int32) (x3 : Int32) (x4 : Int32) (x5 : Int32) (ξ : XS) (mc ms : Nat) (K : XS → Prop) (h : y8_init N g a0 x2 x3 x4 x5 ξ mc ms K) : MetYv l g yX8_init (ws_ yX8_init cX8_init 6 none) 2 65 [.ref a0, .ref (xa g 0), .int x2, .int x3, .int x4, .int x5] ξ mc ms K := by
  refine met_yv (lv0 := [(0, .ref a0), (1, .ref (xa g 0)), (2, .int x2), (3, .int x3), (4, .int x4), (5, .int x5)]) (own := RX8) (by decide) rfl (Nat.le_of_ble_eq_true rfl) rfl ?_
  intro p e s m below meth c A Q E hmn hq
  have hmn : meth.name = "<init>" := hmn
  have hR : 2 ≤ ({ frames := 2, cells := mc, slots := ms, locals := 65 } : Room).frames ∧ 65 ≤ ({ frames := 2, cells := mc, slots := ms, locals := 65 } : Room).locals := ⟨Nat.le_refl _, Nat.le_refl _⟩
  have hb : 0 + mc ≤ ({ frames := 2, cells := mc, slots := ms, locals := 65 } : Room).cells ∧ 0 + ms ≤ ({ frames := 2, cells := mc, slots := ms, locals := 65 } : Room).slots := ⟨Nat.le_of_eq (Nat.zero_add _), Nat.le_of_eq (Nat.zero_add _)⟩
  unfold y8_init at h
  refine cf_aload_n E dX8_init_0 0 rfl rfl ?_
  refine cf_aload_n E dX8_init_1 1 rfl rfl ?_
  refine xdpX8_3 E hmn dX8_init_2 h rfl (fun s_1 h => ?_)
  refine cf_aload_n E dX8_init_5 0 rfl rfl ?_
  refine cf_aload_n E dX8_init_6 1 rfl rfl ?_
  refine cf_iload_n E dX8_init_7 2 rfl rfl ?_
  refine cf_iload_n E dX8_init_8 3 rfl rfl ?_
  refine cf_iload E dX8_init_9 4 rfl rfl ?_
  refine cf_iload E dX8_init_11 5 rfl rfl ?_
  refine yclX8_9 E (rmle hR rfl rfl) (Nat.le_of_ble_eq_true rfl) hb dX8_init_13 h rfl (fun m_4 n_5 s_6 hb h => ?_)
  exact hq _ _ _ _ _ (hb0 hb).1 (hb0 hb).2 dX8_init_16 h
def y9_init (N : Nat) (g : XG) (a0 : Nat) (x2 : Int32) (x3 : Int32) (x4 : Int32) (x5 : Int32) (ξ : XS) (mc ms : Nat) (K : XS → Prop) : Prop :=
  bndp (dO ξ a0) fun ci_2 fs_3 => if (ci_2 ∈ ([10, 13] : List Nat) ∧ 5 < fs_3.length) then nx (sXd ξ a0 (.inr (ci_2, fs_3.set 5 (.ref (xa g 0))))) (fun s_1 =>
  bnyv (y7_init N g a0 x2 x3 x4 x5 s_1) mc ms fun m_4 n_5 s_6 =>
  K s_6) else False
section XC
variable {p : Program} {l : Launch} {e : Env} {R : Room} {s : State} {m : MethodId} {args : Array Value} {below : List Frame} {meth : Method} {c : Code} {nL cells slots : Nat} {A : Nat → Prop} {g : XG} {ξ : XS} {Q : State → Prop} {pc n : Nat} {lv : List (Nat × Value)} {st : List Value} {cc : ByteArray} {ρ : Type} {res : ρ}
theorem yclX9_9 (E : EV p s m args c cc nL RX9) {N mc ms : Nat} {a0 : Nat}  {x2 : Int32} {x3 : Int32} {x4 : Int32} {x5 : Int32} {kk : Nat → Nat → XS → Prop} (hR : 2 ≤ R.frames ∧ 65 ≤ R.locals) (hcat : (st.map fun v => v.category).sum ≤ 8) (hb : cells + mc ≤ R.cells ∧ slots + ms ≤ R.slots) (d : decode cc pc = .ok (.invokespecial 9, 3)) (h : bnyv (y7_init N g a0 x2 x3 x4 x5 ξ) mc ms kk) (hn : pc + 3 = n) (k : ∀ (m1 n1 : Nat) (ξ1 : XS), (cells + m1 + (mc - m1) ≤ R.cells ∧ slots + n1 + (ms - n1) ≤ R.slots) → kk m1 n1 ξ1 → CF p l e R s m args below meth c nL (cells + m1) (slots + n1) (XB g A s ξ1) Q n lv st) : CF p l e R s m args below meth c nL cells slots (XB g A s ξ) Q pc lv (.int x5 :: .int x4 :: .int x3 :: .int x2 :: .ref (xa g 0) :: .ref a0 :: st) := by
  obtain ⟨m1, n1, h1, h2, h⟩ := h
  exact ycallI_v (na := 5) E [.ref (xa g 0), .int x2, .int x3, .int x4, .int x5] (met_y7_init l g N a0  x2 x3 x4 x5 ξ m1 n1 _ h) (lw_meth q436) q106 q477 q435 (by decide +kernel) hR rfl rfl hcat ⟨by omega, by omega⟩ d hn (fun ξ1 hk => k m1 n1 ξ1 ⟨by omega, by omega⟩ hk)
end XC
set_option maxHeartbeats 4000000 in
theorem met_y9_init (l : Launch) (g : XG) (N : Nat) (a0 : Nat)  (x2 : Int32) (x3 : Int32) (x4 : Int32) (x5 : Int32) (ξ : XS) (mc ms : Nat) (K : XS → Prop) (h : y9_init N g a0 x2 x3 x4 x5 ξ mc ms K) : MetYv l g yX9_init (ws_ yX9_init cX9_init 6 none) 2 65 [.ref a0, .ref (xa g 0), .int x2, .int x3, .int x4, .int x5] ξ mc ms K := by
  refine met_yv (lv0 := [(0, .ref a0), (1, .ref (xa g 0)), (2, .int x2), (3, .int x3), (4, .int x4), (5, .int x5)]) (own := RX9) (by decide) rfl (Nat.le_of_ble_eq_true rfl) rfl ?_
  intro p e s m below meth c A Q E hmn hq
  have hmn : meth.name = "<init>" := hmn
  have hR : 2 ≤ ({ frames := 2, cells := mc, slots := ms, locals := 65 } : Room).frames ∧ 65 ≤ ({ frames := 2, cells := mc, slots := ms, locals := 65 } : Room).locals := ⟨Nat.le_refl _, Nat.le_refl _⟩
  have hb : 0 + mc ≤ ({ frames := 2, cells := mc, slots := ms, locals := 65 } : Room).cells ∧ 0 + ms ≤ ({ frames := 2, cells := mc, slots := ms, locals := 65 } : Room).slots := ⟨Nat.le_of_eq (Nat.zero_add _), Nat.le_of_eq (Nat.zero_add _)⟩
  unfold y9_init at h
  refine cf_aload_n E dX9_init_0 0 rfl rfl ?_
  refine cf_aload_n E dX9_init_1 1 rfl rfl ?_
  refine xdpX9_3 E hmn dX9_init_2 h rfl (fun s_1 h => ?_)
  refine cf_aload_n E dX9_init_5 0 rfl rfl ?_
  refine cf_aload_n E dX9_init_6 1 rfl rfl ?_
  refine cf_iload_n E dX9_init_7 2 rfl rfl ?_
  refine cf_iload_n E dX9_init_8 3 rfl rfl ?_
  refine cf_iload E dX9_init_9 4 rfl rfl ?_
  refine cf_iload E dX9_init_11 5 rfl rfl ?_
  refine yclX9_9 E (rmle hR rfl rfl) (Nat.le_of_ble_eq_true rfl) hb dX9_init_13 h rfl (fun m_4 n_5 s_6 hb h => ?_)
  exact hq _ _ _ _ _ (hb0 hb).1 (hb0 hb).2 dX9_init_16 h
def y10_init (N : Nat) (g : XG) (a0 : Nat) (x2 : Int32) (x3 : Int32) (x4 : Int32) (x5 : Int32) (ξ : XS) (mc ms : Nat) (K : XS → Prop) : Prop :=
  bndp (dO ξ a0) fun ci_2 fs_3 => if (ci_2 ∈ ([11, 14] : List Nat) ∧ 5 < fs_3.length) then nx (sXd ξ a0 (.inr (ci_2, fs_3.set 5 (.ref (xa g 0))))) (fun s_1 =>
  bnyv (y7_init N g a0 x2 x3 x4 x5 s_1) mc ms fun m_4 n_5 s_6 =>
  K s_6) else False
section XC
variable {p : Program} {l : Launch} {e : Env} {R : Room} {s : State} {m : MethodId} {args : Array Value} {below : List Frame} {meth : Method} {c : Code} {nL cells slots : Nat} {A : Nat → Prop} {g : XG} {ξ : XS} {Q : State → Prop} {pc n : Nat} {lv : List (Nat × Value)} {st : List Value} {cc : ByteArray} {ρ : Type} {res : ρ}
theorem yclX10_9 (E : EV p s m args c cc nL RX10) {N mc ms : Nat} {a0 : Nat}  {x2 : Int32} {x3 : Int32} {x4 : Int32} {x5 : Int32} {kk : Nat → Nat → XS → Prop} (hR : 2 ≤ R.frames ∧ 65 ≤ R.locals) (hcat : (st.map fun v => v.category).sum ≤ 8) (hb : cells + mc ≤ R.cells ∧ slots + ms ≤ R.slots) (d : decode cc pc = .ok (.invokespecial 9, 3)) (h : bnyv (y7_init N g a0 x2 x3 x4 x5 ξ) mc ms kk) (hn : pc + 3 = n) (k : ∀ (m1 n1 : Nat) (ξ1 : XS), (cells + m1 + (mc - m1) ≤ R.cells ∧ slots + n1 + (ms - n1) ≤ R.slots) → kk m1 n1 ξ1 → CF p l e R s m args below meth c nL (cells + m1) (slots + n1) (XB g A s ξ1) Q n lv st) : CF p l e R s m args below meth c nL cells slots (XB g A s ξ) Q pc lv (.int x5 :: .int x4 :: .int x3 :: .int x2 :: .ref (xa g 0) :: .ref a0 :: st) := by
  obtain ⟨m1, n1, h1, h2, h⟩ := h
  exact ycallI_v (na := 5) E [.ref (xa g 0), .int x2, .int x3, .int x4, .int x5] (met_y7_init l g N a0  x2 x3 x4 x5 ξ m1 n1 _ h) (lw_meth q436) q106 q492 q435 (by decide +kernel) hR rfl rfl hcat ⟨by omega, by omega⟩ d hn (fun ξ1 hk => k m1 n1 ξ1 ⟨by omega, by omega⟩ hk)
end XC
set_option maxHeartbeats 4000000 in
theorem met_y10_init (l : Launch) (g : XG) (N : Nat) (a0 : Nat)  (x2 : Int32) (x3 : Int32) (x4 : Int32) (x5 : Int32) (ξ : XS) (mc ms : Nat) (K : XS → Prop) (h : y10_init N g a0 x2 x3 x4 x5 ξ mc ms K) : MetYv l g yX10_init (ws_ yX10_init cX10_init 6 none) 2 65 [.ref a0, .ref (xa g 0), .int x2, .int x3, .int x4, .int x5] ξ mc ms K := by
  refine met_yv (lv0 := [(0, .ref a0), (1, .ref (xa g 0)), (2, .int x2), (3, .int x3), (4, .int x4), (5, .int x5)]) (own := RX10) (by decide) rfl (Nat.le_of_ble_eq_true rfl) rfl ?_
  intro p e s m below meth c A Q E hmn hq
  have hmn : meth.name = "<init>" := hmn
  have hR : 2 ≤ ({ frames := 2, cells := mc, slots := ms, locals := 65 } : Room).frames ∧ 65 ≤ ({ frames := 2, cells := mc, slots := ms, locals := 65 } : Room).locals := ⟨Nat.le_refl _, Nat.le_refl _⟩
  have hb : 0 + mc ≤ ({ frames := 2, cells := mc, slots := ms, locals := 65 } : Room).cells ∧ 0 + ms ≤ ({ frames := 2, cells := mc, slots := ms, locals := 65 } : Room).slots := ⟨Nat.le_of_eq (Nat.zero_add _), Nat.le_of_eq (Nat.zero_add _)⟩
  unfold y10_init at h
  refine cf_aload_n E dX10_init_0 0 rfl rfl ?_
  refine cf_aload_n E dX10_init_1 1 rfl rfl ?_
  refine xdpX10_3 E hmn dX10_init_2 h rfl (fun s_1 h => ?_)
  refine cf_aload_n E dX10_init_5 0 rfl rfl ?_
  refine cf_aload_n E dX10_init_6 1 rfl rfl ?_
  refine cf_iload_n E dX10_init_7 2 rfl rfl ?_
  refine cf_iload_n E dX10_init_8 3 rfl rfl ?_
  refine cf_iload E dX10_init_9 4 rfl rfl ?_
  refine cf_iload E dX10_init_11 5 rfl rfl ?_
  refine yclX10_9 E (rmle hR rfl rfl) (Nat.le_of_ble_eq_true rfl) hb dX10_init_13 h rfl (fun m_4 n_5 s_6 hb h => ?_)
  exact hq _ _ _ _ _ (hb0 hb).1 (hb0 hb).2 dX10_init_16 h
def y11_init (N : Nat) (g : XG) (a0 : Nat) (x2 : Int32) (x3 : Int32) (x4 : Int32) (x5 : Int32) (ξ : XS) (mc ms : Nat) (K : XS → Prop) : Prop :=
  bndp (dO ξ a0) fun ci_2 fs_3 => if (ci_2 ∈ ([12] : List Nat) ∧ 6 < fs_3.length) then nx (sXd ξ a0 (.inr (ci_2, fs_3.set 6 (.ref (xa g 0))))) (fun s_1 =>
  bnyv (y8_init N g a0 x2 x3 x4 x5 s_1) mc ms fun m_4 n_5 s_6 =>
  K s_6) else False
section XC
variable {p : Program} {l : Launch} {e : Env} {R : Room} {s : State} {m : MethodId} {args : Array Value} {below : List Frame} {meth : Method} {c : Code} {nL cells slots : Nat} {A : Nat → Prop} {g : XG} {ξ : XS} {Q : State → Prop} {pc n : Nat} {lv : List (Nat × Value)} {st : List Value} {cc : ByteArray} {ρ : Type} {res : ρ}
theorem yclX11_9 (E : EV p s m args c cc nL RX11) {N mc ms : Nat} {a0 : Nat}  {x2 : Int32} {x3 : Int32} {x4 : Int32} {x5 : Int32} {kk : Nat → Nat → XS → Prop} (hR : 3 ≤ R.frames ∧ 90 ≤ R.locals) (hcat : (st.map fun v => v.category).sum ≤ 8) (hb : cells + mc ≤ R.cells ∧ slots + ms ≤ R.slots) (d : decode cc pc = .ok (.invokespecial 9, 3)) (h : bnyv (y8_init N g a0 x2 x3 x4 x5 ξ) mc ms kk) (hn : pc + 3 = n) (k : ∀ (m1 n1 : Nat) (ξ1 : XS), (cells + m1 + (mc - m1) ≤ R.cells ∧ slots + n1 + (ms - n1) ≤ R.slots) → kk m1 n1 ξ1 → CF p l e R s m args below meth c nL (cells + m1) (slots + n1) (XB g A s ξ1) Q n lv st) : CF p l e R s m args below meth c nL cells slots (XB g A s ξ) Q pc lv (.int x5 :: .int x4 :: .int x3 :: .int x2 :: .ref (xa g 0) :: .ref a0 :: st) := by
  obtain ⟨m1, n1, h1, h2, h⟩ := h
  exact ycallI_v (na := 5) E [.ref (xa g 0), .int x2, .int x3, .int x4, .int x5] (met_y8_init l g N a0  x2 x3 x4 x5 ξ m1 n1 _ h) (lw_meth q433) q107 q507 q432 (by decide +kernel) hR rfl rfl hcat ⟨by omega, by omega⟩ d hn (fun ξ1 hk => k m1 n1 ξ1 ⟨by omega, by omega⟩ hk)
end XC
set_option maxHeartbeats 4000000 in
theorem met_y11_init (l : Launch) (g : XG) (N : Nat) (a0 : Nat)  (x2 : Int32) (x3 : Int32) (x4 : Int32) (x5 : Int32) (ξ : XS) (mc ms : Nat) (K : XS → Prop) (h : y11_init N g a0 x2 x3 x4 x5 ξ mc ms K) : MetYv l g yX11_init (ws_ yX11_init cX11_init 6 none) 3 90 [.ref a0, .ref (xa g 0), .int x2, .int x3, .int x4, .int x5] ξ mc ms K := by
  refine met_yv (lv0 := [(0, .ref a0), (1, .ref (xa g 0)), (2, .int x2), (3, .int x3), (4, .int x4), (5, .int x5)]) (own := RX11) (by decide) rfl (Nat.le_of_ble_eq_true rfl) rfl ?_
  intro p e s m below meth c A Q E hmn hq
  have hmn : meth.name = "<init>" := hmn
  have hR : 3 ≤ ({ frames := 3, cells := mc, slots := ms, locals := 90 } : Room).frames ∧ 90 ≤ ({ frames := 3, cells := mc, slots := ms, locals := 90 } : Room).locals := ⟨Nat.le_refl _, Nat.le_refl _⟩
  have hb : 0 + mc ≤ ({ frames := 3, cells := mc, slots := ms, locals := 90 } : Room).cells ∧ 0 + ms ≤ ({ frames := 3, cells := mc, slots := ms, locals := 90 } : Room).slots := ⟨Nat.le_of_eq (Nat.zero_add _), Nat.le_of_eq (Nat.zero_add _)⟩
  unfold y11_init at h
  refine cf_aload_n E dX11_init_0 0 rfl rfl ?_
  refine cf_aload_n E dX11_init_1 1 rfl rfl ?_
  refine xdpX11_3 E hmn dX11_init_2 h rfl (fun s_1 h => ?_)
  refine cf_aload_n E dX11_init_5 0 rfl rfl ?_
  refine cf_aload_n E dX11_init_6 1 rfl rfl ?_
  refine cf_iload_n E dX11_init_7 2 rfl rfl ?_
  refine cf_iload_n E dX11_init_8 3 rfl rfl ?_
  refine cf_iload E dX11_init_9 4 rfl rfl ?_
  refine cf_iload E dX11_init_11 5 rfl rfl ?_
  refine yclX11_9 E (rmle hR rfl rfl) (Nat.le_of_ble_eq_true rfl) hb dX11_init_13 h rfl (fun m_4 n_5 s_6 hb h => ?_)
  exact hq _ _ _ _ _ (hb0 hb).1 (hb0 hb).2 dX11_init_16 h
def y12_init (N : Nat) (g : XG) (a0 : Nat) (x2 : Int32) (x3 : Int32) (x4 : Int32) (x5 : Int32) (ξ : XS) (mc ms : Nat) (K : XS → Prop) : Prop :=
  bndp (dO ξ a0) fun ci_2 fs_3 => if (ci_2 ∈ ([13] : List Nat) ∧ 6 < fs_3.length) then nx (sXd ξ a0 (.inr (ci_2, fs_3.set 6 (.ref (xa g 0))))) (fun s_1 =>
  bnyv (y9_init N g a0 x2 x3 x4 x5 s_1) mc ms fun m_4 n_5 s_6 =>
  K s_6) else False
section XC
variable {p : Program} {l : Launch} {e : Env} {R : Room} {s : State} {m : MethodId} {args : Array Value} {below : List Frame} {meth : Method} {c : Code} {nL cells slots : Nat} {A : Nat → Prop} {g : XG} {ξ : XS} {Q : State → Prop} {pc n : Nat} {lv : List (Nat × Value)} {st : List Value} {cc : ByteArray} {ρ : Type} {res : ρ}
theorem yclX12_9 (E : EV p s m args c cc nL RX12) {N mc ms : Nat} {a0 : Nat}  {x2 : Int32} {x3 : Int32} {x4 : Int32} {x5 : Int32} {kk : Nat → Nat → XS → Prop} (hR : 3 ≤ R.frames ∧ 90 ≤ R.locals) (hcat : (st.map fun v => v.category).sum ≤ 8) (hb : cells + mc ≤ R.cells ∧ slots + ms ≤ R.slots) (d : decode cc pc = .ok (.invokespecial 9, 3)) (h : bnyv (y9_init N g a0 x2 x3 x4 x5 ξ) mc ms kk) (hn : pc + 3 = n) (k : ∀ (m1 n1 : Nat) (ξ1 : XS), (cells + m1 + (mc - m1) ≤ R.cells ∧ slots + n1 + (ms - n1) ≤ R.slots) → kk m1 n1 ξ1 → CF p l e R s m args below meth c nL (cells + m1) (slots + n1) (XB g A s ξ1) Q n lv st) : CF p l e R s m args below meth c nL cells slots (XB g A s ξ) Q pc lv (.int x5 :: .int x4 :: .int x3 :: .int x2 :: .ref (xa g 0) :: .ref a0 :: st) := by
  obtain ⟨m1, n1, h1, h2, h⟩ := h
  exact ycallI_v (na := 5) E [.ref (xa g 0), .int x2, .int x3, .int x4, .int x5] (met_y9_init l g N a0  x2 x3 x4 x5 ξ m1 n1 _ h) (lw_meth q476) q108 q523 q475 (by decide +kernel) hR rfl rfl hcat ⟨by omega, by omega⟩ d hn (fun ξ1 hk => k m1 n1 ξ1 ⟨by omega, by omega⟩ hk)
end XC
set_option maxHeartbeats 4000000 in
theorem met_y12_init (l : Launch) (g : XG) (N : Nat) (a0 : Nat)  (x2 : Int32) (x3 : Int32) (x4 : Int32) (x5 : Int32) (ξ : XS) (mc ms : Nat) (K : XS → Prop) (h : y12_init N g a0 x2 x3 x4 x5 ξ mc ms K) : MetYv l g yX12_init (ws_ yX12_init cX12_init 6 none) 3 90 [.ref a0, .ref (xa g 0), .int x2, .int x3, .int x4, .int x5] ξ mc ms K := by
  refine met_yv (lv0 := [(0, .ref a0), (1, .ref (xa g 0)), (2, .int x2), (3, .int x3), (4, .int x4), (5, .int x5)]) (own := RX12) (by decide) rfl (Nat.le_of_ble_eq_true rfl) rfl ?_
  intro p e s m below meth c A Q E hmn hq
  have hmn : meth.name = "<init>" := hmn
  have hR : 3 ≤ ({ frames := 3, cells := mc, slots := ms, locals := 90 } : Room).frames ∧ 90 ≤ ({ frames := 3, cells := mc, slots := ms, locals := 90 } : Room).locals := ⟨Nat.le_refl _, Nat.le_refl _⟩
  have hb : 0 + mc ≤ ({ frames := 3, cells := mc, slots := ms, locals := 90 } : Room).cells ∧ 0 + ms ≤ ({ frames := 3, cells := mc, slots := ms, locals := 90 } : Room).slots := ⟨Nat.le_of_eq (Nat.zero_add _), Nat.le_of_eq (Nat.zero_add _)⟩
  unfold y12_init at h
  refine cf_aload_n E dX12_init_0 0 rfl rfl ?_
  refine cf_aload_n E dX12_init_1 1 rfl rfl ?_
  refine xdpX12_3 E hmn dX12_init_2 h rfl (fun s_1 h => ?_)
  refine cf_aload_n E dX12_init_5 0 rfl rfl ?_
  refine cf_aload_n E dX12_init_6 1 rfl rfl ?_
  refine cf_iload_n E dX12_init_7 2 rfl rfl ?_
  refine cf_iload_n E dX12_init_8 3 rfl rfl ?_
  refine cf_iload E dX12_init_9 4 rfl rfl ?_
  refine cf_iload E dX12_init_11 5 rfl rfl ?_
  refine yclX12_9 E (rmle hR rfl rfl) (Nat.le_of_ble_eq_true rfl) hb dX12_init_13 h rfl (fun m_4 n_5 s_6 hb h => ?_)
  exact hq _ _ _ _ _ (hb0 hb).1 (hb0 hb).2 dX12_init_16 h
def y13_init (N : Nat) (g : XG) (a0 : Nat) (x2 : Int32) (x3 : Int32) (x4 : Int32) (x5 : Int32) (ξ : XS) (mc ms : Nat) (K : XS → Prop) : Prop :=
  bndp (dO ξ a0) fun ci_2 fs_3 => if (ci_2 ∈ ([14] : List Nat) ∧ 7 < fs_3.length) then nx (sXd ξ a0 (.inr (ci_2, fs_3.set 7 (.ref (xa g 0))))) (fun s_1 =>
  bnyv (y10_init N g a0 x2 x3 x4 x5 s_1) mc ms fun m_4 n_5 s_6 =>
  if (¬ (4 : Int32) < 0 ∧ (4 : Int32).toNatClampNeg ≤ 10000) then mkc s_6 (4 : Int32).toNatClampNeg (mc - m_4) (ms - n_5) (fun q_8 =>
  bndp (dO (pXd s_6 q_8 (.inl (xc g 1, (4 : Int32).toNatClampNeg, .inl (fun _ => 0)))) a0) fun ci_10 fs_11 => if (ci_10 ∈ ([14] : List Nat) ∧ 6 < fs_11.length) then nx (sXd (pXd s_6 q_8 (.inl (xc g 1, (4 : Int32).toNatClampNeg, .inl (fun _ => 0)))) a0 (.inr (ci_10, fs_11.set 6 (.ref q_8)))) (fun s_9 =>
  K s_9) else False) else False) else False
section XC
variable {p : Program} {l : Launch} {e : Env} {R : Room} {s : State} {m : MethodId} {args : Array Value} {below : List Frame} {meth : Method} {c : Code} {nL cells slots : Nat} {A : Nat → Prop} {g : XG} {ξ : XS} {Q : State → Prop} {pc n : Nat} {lv : List (Nat × Value)} {st : List Value} {cc : ByteArray} {ρ : Type} {res : ρ}
theorem yclX13_9 (E : EV p s m args c cc nL RX13) {N mc ms : Nat} {a0 : Nat}  {x2 : Int32} {x3 : Int32} {x4 : Int32} {x5 : Int32} {kk : Nat → Nat → XS → Prop} (hR : 3 ≤ R.frames ∧ 90 ≤ R.locals) (hcat : (st.map fun v => v.category).sum ≤ 8) (hb : cells + mc ≤ R.cells ∧ slots + ms ≤ R.slots) (d : decode cc pc = .ok (.invokespecial 9, 3)) (h : bnyv (y10_init N g a0 x2 x3 x4 x5 ξ) mc ms kk) (hn : pc + 3 = n) (k : ∀ (m1 n1 : Nat) (ξ1 : XS), (cells + m1 + (mc - m1) ≤ R.cells ∧ slots + n1 + (ms - n1) ≤ R.slots) → kk m1 n1 ξ1 → CF p l e R s m args below meth c nL (cells + m1) (slots + n1) (XB g A s ξ1) Q n lv st) : CF p l e R s m args below meth c nL cells slots (XB g A s ξ) Q pc lv (.int x5 :: .int x4 :: .int x3 :: .int x2 :: .ref (xa g 0) :: .ref a0 :: st) := by
  obtain ⟨m1, n1, h1, h2, h⟩ := h
  exact ycallI_v (na := 5) E [.ref (xa g 0), .int x2, .int x3, .int x4, .int x5] (met_y10_init l g N a0  x2 x3 x4 x5 ξ m1 n1 _ h) (lw_meth q491) q109 q539 q490 (by decide +kernel) hR rfl rfl hcat ⟨by omega, by omega⟩ d hn (fun ξ1 hk => k m1 n1 ξ1 ⟨by omega, by omega⟩ hk)
end XC
set_option maxHeartbeats 4000000 in
theorem met_y13_init (l : Launch) (g : XG) (N : Nat) (a0 : Nat)  (x2 : Int32) (x3 : Int32) (x4 : Int32) (x5 : Int32) (ξ : XS) (mc ms : Nat) (K : XS → Prop) (h : y13_init N g a0 x2 x3 x4 x5 ξ mc ms K) : MetYv l g yX13_init (ws_ yX13_init cX13_init 6 none) 3 90 [.ref a0, .ref (xa g 0), .int x2, .int x3, .int x4, .int x5] ξ mc ms K := by
  refine met_yv (lv0 := [(0, .ref a0), (1, .ref (xa g 0)), (2, .int x2), (3, .int x3), (4, .int x4), (5, .int x5)]) (own := RX13) (by decide) rfl (Nat.le_of_ble_eq_true rfl) rfl ?_
  intro p e s m below meth c A Q E hmn hq
  have hmn : meth.name = "<init>" := hmn
  have hR : 3 ≤ ({ frames := 3, cells := mc, slots := ms, locals := 90 } : Room).frames ∧ 90 ≤ ({ frames := 3, cells := mc, slots := ms, locals := 90 } : Room).locals := ⟨Nat.le_refl _, Nat.le_refl _⟩
  have hb : 0 + mc ≤ ({ frames := 3, cells := mc, slots := ms, locals := 90 } : Room).cells ∧ 0 + ms ≤ ({ frames := 3, cells := mc, slots := ms, locals := 90 } : Room).slots := ⟨Nat.le_of_eq (Nat.zero_add _), Nat.le_of_eq (Nat.zero_add _)⟩
  unfold y13_init at h
  refine cf_aload_n E dX13_init_0 0 rfl rfl ?_
  refine cf_aload_n E dX13_init_1 1 rfl rfl ?_
  refine xdpX13_3 E hmn dX13_init_2 h rfl (fun s_1 h => ?_)
  refine cf_aload_n E dX13_init_5 0 rfl rfl ?_
  refine cf_aload_n E dX13_init_6 1 rfl rfl ?_
  refine cf_iload_n E dX13_init_7 2 rfl rfl ?_
  refine cf_iload_n E dX13_init_8 3 rfl rfl ?_
  refine cf_iload E dX13_init_9 4 rfl rfl ?_
  refine cf_iload E dX13_init_11 5 rfl rfl ?_
  refine yclX13_9 E (rmle hR rfl rfl) (Nat.le_of_ble_eq_true rfl) hb dX13_init_13 h rfl (fun m_4 n_5 s_6 hb h => ?_)
  refine cf_aload_n E dX13_init_16 0 rfl rfl ?_
  refine cf_iconst E dX13_init_17 ic_4 rfl ?_
  refine xnewa_1 E hb dX13_init_18 h rfl (fun q_8 hb h => ?_)
  refine xdpX13_15 E hmn dX13_init_20 h rfl (fun s_9 h => ?_)
  exact hq _ _ _ _ _ (hb0 hb).1 (hb0 hb).2 dX13_init_23 h
def y0_hatOf (N : Nat) (g : XG)  (x1 : Int32) (x2 : Int32) (x3 : Int32) (x4 : Int32) (ξ : XS) (mc ms : Nat) (K : Nat → XS → Prop) : Prop :=
  if x1 = (1 : Int32) then (
    mkc ξ 6 mc ms fun q_2 =>
    bnyv (y8_init N g q_2 (xF (pXd ξ q_2 (.inr (9, [.int 0, .int 0, .int 0, .int 0, .null, .null]))) 4) x2 x3 x4 (pXd ξ q_2 (.inr (9, [.int 0, .int 0, .int 0, .int 0, .null, .null])))) (mc - 1) (ms - 6) fun m_3 n_4 s_5 =>
    K (q_2) s_5)
  else
  if x1 = (2 : Int32) then (
    mkc ξ 6 mc ms fun q_8 =>
    bnyv (y9_init N g q_8 (xF (pXd ξ q_8 (.inr (10, [.int 0, .int 0, .int 0, .int 0, .null, .null]))) 4) x2 x3 x4 (pXd ξ q_8 (.inr (10, [.int 0, .int 0, .int 0, .int 0, .null, .null])))) (mc - 1) (ms - 6) fun m_9 n_10 s_11 =>
    K (q_8) s_11)
  else
  if x1 = (3 : Int32) then (
    mkc ξ 6 mc ms fun q_14 =>
    bnyv (y10_init N g q_14 (xF (pXd ξ q_14 (.inr (11, [.int 0, .int 0, .int 0, .int 0, .null, .null]))) 4) x2 x3 x4 (pXd ξ q_14 (.inr (11, [.int 0, .int 0, .int 0, .int 0, .null, .null])))) (mc - 1) (ms - 6) fun m_15 n_16 s_17 =>
    K (q_14) s_17)
  else
  if x1 = (4 : Int32) then (
    mkc ξ 7 mc ms fun q_20 =>
    bnyv (y11_init N g q_20 (xF (pXd ξ q_20 (.inr (12, [.int 0, .int 0, .int 0, .int 0, .null, .null, .null]))) 4) x2 x3 x4 (pXd ξ q_20 (.inr (12, [.int 0, .int 0, .int 0, .int 0, .null, .null, .null])))) (mc - 1) (ms - 7) fun m_21 n_22 s_23 =>
    K (q_20) s_23)
  else
  if x1 = (5 : Int32) then (
    mkc ξ 7 mc ms fun q_26 =>
    bnyv (y12_init N g q_26 (xF (pXd ξ q_26 (.inr (13, [.int 0, .int 0, .int 0, .int 0, .null, .null, .null]))) 4) x2 x3 x4 (pXd ξ q_26 (.inr (13, [.int 0, .int 0, .int 0, .int 0, .null, .null, .null])))) (mc - 1) (ms - 7) fun m_27 n_28 s_29 =>
    K (q_26) s_29)
  else
  if x1 = (6 : Int32) then (
    mkc ξ 8 mc ms fun q_32 =>
    bnyv (y13_init N g q_32 (xF (pXd ξ q_32 (.inr (14, [.int 0, .int 0, .int 0, .int 0, .null, .null, .null, .null]))) 4) x2 x3 x4 (pXd ξ q_32 (.inr (14, [.int 0, .int 0, .int 0, .int 0, .null, .null, .null, .null])))) (mc - 1) (ms - 8) fun m_33 n_34 s_35 =>
    K (q_32) s_35)
  else
  mkc ξ 5 mc ms fun q_37 =>
  bnyv (y7_init N g q_37 (xF (pXd ξ q_37 (.inr (8, [.int 0, .int 0, .int 0, .int 0, .null]))) 4) x2 x3 x4 (pXd ξ q_37 (.inr (8, [.int 0, .int 0, .int 0, .int 0, .null])))) (mc - 1) (ms - 5) fun m_38 n_39 s_40 =>
  K (q_37) s_40
section XC
variable {p : Program} {l : Launch} {e : Env} {R : Room} {s : State} {m : MethodId} {args : Array Value} {below : List Frame} {meth : Method} {c : Code} {nL cells slots : Nat} {A : Nat → Prop} {g : XG} {ξ : XS} {Q : State → Prop} {pc n : Nat} {lv : List (Nat × Value)} {st : List Value} {cc : ByteArray} {ρ : Type} {res : ρ}
theorem yclX0_142 (E : EV p s m args c cc nL RX0) {N mc ms : Nat} {a0 : Nat}  {x2 : Int32} {x3 : Int32} {x4 : Int32} {x5 : Int32} {kk : Nat → Nat → XS → Prop} (hR : 3 ≤ R.frames ∧ 90 ≤ R.locals) (hcat : (st.map fun v => v.category).sum ≤ 8) (hb : cells + mc ≤ R.cells ∧ slots + ms ≤ R.slots) (d : decode cc pc = .ok (.invokespecial 142, 3)) (h : bnyv (y8_init N g a0 x2 x3 x4 x5 ξ) mc ms kk) (hn : pc + 3 = n) (k : ∀ (m1 n1 : Nat) (ξ1 : XS), (cells + m1 + (mc - m1) ≤ R.cells ∧ slots + n1 + (ms - n1) ≤ R.slots) → kk m1 n1 ξ1 → CF p l e R s m args below meth c nL (cells + m1) (slots + n1) (XB g A s ξ1) Q n lv st) : CF p l e R s m args below meth c nL cells slots (XB g A s ξ) Q pc lv (.int x5 :: .int x4 :: .int x3 :: .int x2 :: .ref (xa g 0) :: .ref a0 :: st) := by
  obtain ⟨m1, n1, h1, h2, h⟩ := h
  exact ycallI_v (na := 5) E [.ref (xa g 0), .int x2, .int x3, .int x4, .int x5] (met_y8_init l g N a0  x2 x3 x4 x5 ξ m1 n1 _ h) (lw_meth q433) q107 q431 q432 (by decide +kernel) hR rfl rfl hcat ⟨by omega, by omega⟩ d hn (fun ξ1 hk => k m1 n1 ξ1 ⟨by omega, by omega⟩ hk)
theorem yclX0_147 (E : EV p s m args c cc nL RX0) {N mc ms : Nat} {a0 : Nat}  {x2 : Int32} {x3 : Int32} {x4 : Int32} {x5 : Int32} {kk : Nat → Nat → XS → Prop} (hR : 3 ≤ R.frames ∧ 90 ≤ R.locals) (hcat : (st.map fun v => v.category).sum ≤ 8) (hb : cells + mc ≤ R.cells ∧ slots + ms ≤ R.slots) (d : decode cc pc = .ok (.invokespecial 147, 3)) (h : bnyv (y9_init N g a0 x2 x3 x4 x5 ξ) mc ms kk) (hn : pc + 3 = n) (k : ∀ (m1 n1 : Nat) (ξ1 : XS), (cells + m1 + (mc - m1) ≤ R.cells ∧ slots + n1 + (ms - n1) ≤ R.slots) → kk m1 n1 ξ1 → CF p l e R s m args below meth c nL (cells + m1) (slots + n1) (XB g A s ξ1) Q n lv st) : CF p l e R s m args below meth c nL cells slots (XB g A s ξ) Q pc lv (.int x5 :: .int x4 :: .int x3 :: .int x2 :: .ref (xa g 0) :: .ref a0 :: st) := by
  obtain ⟨m1, n1, h1, h2, h⟩ := h
  exact ycallI_v (na := 5) E [.ref (xa g 0), .int x2, .int x3, .int x4, .int x5] (met_y9_init l g N a0  x2 x3 x4 x5 ξ m1 n1 _ h) (lw_meth q476) q108 q474 q475 (by decide +kernel) hR rfl rfl hcat ⟨by omega, by omega⟩ d hn (fun ξ1 hk => k m1 n1 ξ1 ⟨by omega, by omega⟩ hk)
theorem yclX0_150 (E : EV p s m args c cc nL RX0) {N mc ms : Nat} {a0 : Nat}  {x2 : Int32} {x3 : Int32} {x4 : Int32} {x5 : Int32} {kk : Nat → Nat → XS → Prop} (hR : 3 ≤ R.frames ∧ 90 ≤ R.locals) (hcat : (st.map fun v => v.category).sum ≤ 8) (hb : cells + mc ≤ R.cells ∧ slots + ms ≤ R.slots) (d : decode cc pc = .ok (.invokespecial 150, 3)) (h : bnyv (y10_init N g a0 x2 x3 x4 x5 ξ) mc ms kk) (hn : pc + 3 = n) (k : ∀ (m1 n1 : Nat) (ξ1 : XS), (cells + m1 + (mc - m1) ≤ R.cells ∧ slots + n1 + (ms - n1) ≤ R.slots) → kk m1 n1 ξ1 → CF p l e R s m args below meth c nL (cells + m1) (slots + n1) (XB g A s ξ1) Q n lv st) : CF p l e R s m args below meth c nL cells slots (XB g A s ξ) Q pc lv (.int x5 :: .int x4 :: .int x3 :: .int x2 :: .ref (xa g 0) :: .ref a0 :: st) := by
  obtain ⟨m1, n1, h1, h2, h⟩ := h
  exact ycallI_v (na := 5) E [.ref (xa g 0), .int x2, .int x3, .int x4, .int x5] (met_y10_init l g N a0  x2 x3 x4 x5 ξ m1 n1 _ h) (lw_meth q491) q109 q489 q490 (by decide +kernel) hR rfl rfl hcat ⟨by omega, by omega⟩ d hn (fun ξ1 hk => k m1 n1 ξ1 ⟨by omega, by omega⟩ hk)
theorem yclX0_153 (E : EV p s m args c cc nL RX0) {N mc ms : Nat} {a0 : Nat}  {x2 : Int32} {x3 : Int32} {x4 : Int32} {x5 : Int32} {kk : Nat → Nat → XS → Prop} (hR : 4 ≤ R.frames ∧ 115 ≤ R.locals) (hcat : (st.map fun v => v.category).sum ≤ 8) (hb : cells + mc ≤ R.cells ∧ slots + ms ≤ R.slots) (d : decode cc pc = .ok (.invokespecial 153, 3)) (h : bnyv (y11_init N g a0 x2 x3 x4 x5 ξ) mc ms kk) (hn : pc + 3 = n) (k : ∀ (m1 n1 : Nat) (ξ1 : XS), (cells + m1 + (mc - m1) ≤ R.cells ∧ slots + n1 + (ms - n1) ≤ R.slots) → kk m1 n1 ξ1 → CF p l e R s m args below meth c nL (cells + m1) (slots + n1) (XB g A s ξ1) Q n lv st) : CF p l e R s m args below meth c nL cells slots (XB g A s ξ) Q pc lv (.int x5 :: .int x4 :: .int x3 :: .int x2 :: .ref (xa g 0) :: .ref a0 :: st) := by
  obtain ⟨m1, n1, h1, h2, h⟩ := h
  exact ycallI_v (na := 5) E [.ref (xa g 0), .int x2, .int x3, .int x4, .int x5] (met_y11_init l g N a0  x2 x3 x4 x5 ξ m1 n1 _ h) (lw_meth q506) q110 q504 q505 (by decide +kernel) hR rfl rfl hcat ⟨by omega, by omega⟩ d hn (fun ξ1 hk => k m1 n1 ξ1 ⟨by omega, by omega⟩ hk)
theorem yclX0_156 (E : EV p s m args c cc nL RX0) {N mc ms : Nat} {a0 : Nat}  {x2 : Int32} {x3 : Int32} {x4 : Int32} {x5 : Int32} {kk : Nat → Nat → XS → Prop} (hR : 4 ≤ R.frames ∧ 115 ≤ R.locals) (hcat : (st.map fun v => v.category).sum ≤ 8) (hb : cells + mc ≤ R.cells ∧ slots + ms ≤ R.slots) (d : decode cc pc = .ok (.invokespecial 156, 3)) (h : bnyv (y12_init N g a0 x2 x3 x4 x5 ξ) mc ms kk) (hn : pc + 3 = n) (k : ∀ (m1 n1 : Nat) (ξ1 : XS), (cells + m1 + (mc - m1) ≤ R.cells ∧ slots + n1 + (ms - n1) ≤ R.slots) → kk m1 n1 ξ1 → CF p l e R s m args below meth c nL (cells + m1) (slots + n1) (XB g A s ξ1) Q n lv st) : CF p l e R s m args below meth c nL cells slots (XB g A s ξ) Q pc lv (.int x5 :: .int x4 :: .int x3 :: .int x2 :: .ref (xa g 0) :: .ref a0 :: st) := by
  obtain ⟨m1, n1, h1, h2, h⟩ := h
  exact ycallI_v (na := 5) E [.ref (xa g 0), .int x2, .int x3, .int x4, .int x5] (met_y12_init l g N a0  x2 x3 x4 x5 ξ m1 n1 _ h) (lw_meth q522) q111 q520 q521 (by decide +kernel) hR rfl rfl hcat ⟨by omega, by omega⟩ d hn (fun ξ1 hk => k m1 n1 ξ1 ⟨by omega, by omega⟩ hk)
theorem yclX0_159 (E : EV p s m args c cc nL RX0) {N mc ms : Nat} {a0 : Nat}  {x2 : Int32} {x3 : Int32} {x4 : Int32} {x5 : Int32} {kk : Nat → Nat → XS → Prop} (hR : 4 ≤ R.frames ∧ 115 ≤ R.locals) (hcat : (st.map fun v => v.category).sum ≤ 8) (hb : cells + mc ≤ R.cells ∧ slots + ms ≤ R.slots) (d : decode cc pc = .ok (.invokespecial 159, 3)) (h : bnyv (y13_init N g a0 x2 x3 x4 x5 ξ) mc ms kk) (hn : pc + 3 = n) (k : ∀ (m1 n1 : Nat) (ξ1 : XS), (cells + m1 + (mc - m1) ≤ R.cells ∧ slots + n1 + (ms - n1) ≤ R.slots) → kk m1 n1 ξ1 → CF p l e R s m args below meth c nL (cells + m1) (slots + n1) (XB g A s ξ1) Q n lv st) : CF p l e R s m args below meth c nL cells slots (XB g A s ξ) Q pc lv (.int x5 :: .int x4 :: .int x3 :: .int x2 :: .ref (xa g 0) :: .ref a0 :: st) := by
  obtain ⟨m1, n1, h1, h2, h⟩ := h
  exact ycallI_v (na := 5) E [.ref (xa g 0), .int x2, .int x3, .int x4, .int x5] (met_y13_init l g N a0  x2 x3 x4 x5 ξ m1 n1 _ h) (lw_meth q538) q112 q536 q537 (by decide +kernel) hR rfl rfl hcat ⟨by omega, by omega⟩ d hn (fun ξ1 hk => k m1 n1 ξ1 ⟨by omega, by omega⟩ hk)
theorem yclX0_160 (E : EV p s m args c cc nL RX0) {N mc ms : Nat} {a0 : Nat}  {x2 : Int32} {x3 : Int32} {x4 : Int32} {x5 : Int32} {kk : Nat → Nat → XS → Prop} (hR : 2 ≤ R.frames ∧ 65 ≤ R.locals) (hcat : (st.map fun v => v.category).sum ≤ 8) (hb : cells + mc ≤ R.cells ∧ slots + ms ≤ R.slots) (d : decode cc pc = .ok (.invokespecial 160, 3)) (h : bnyv (y7_init N g a0 x2 x3 x4 x5 ξ) mc ms kk) (hn : pc + 3 = n) (k : ∀ (m1 n1 : Nat) (ξ1 : XS), (cells + m1 + (mc - m1) ≤ R.cells ∧ slots + n1 + (ms - n1) ≤ R.slots) → kk m1 n1 ξ1 → CF p l e R s m args below meth c nL (cells + m1) (slots + n1) (XB g A s ξ1) Q n lv st) : CF p l e R s m args below meth c nL cells slots (XB g A s ξ) Q pc lv (.int x5 :: .int x4 :: .int x3 :: .int x2 :: .ref (xa g 0) :: .ref a0 :: st) := by
  obtain ⟨m1, n1, h1, h2, h⟩ := h
  exact ycallI_v (na := 5) E [.ref (xa g 0), .int x2, .int x3, .int x4, .int x5] (met_y7_init l g N a0  x2 x3 x4 x5 ξ m1 n1 _ h) (lw_meth q436) q106 q555 q435 (by decide +kernel) hR rfl rfl hcat ⟨by omega, by omega⟩ d hn (fun ξ1 hk => k m1 n1 ξ1 ⟨by omega, by omega⟩ hk)
end XC
set_option maxHeartbeats 4000000 in
theorem met_y0_hatOf (l : Launch) (g : XG) (N : Nat)   (x1 : Int32) (x2 : Int32) (x3 : Int32) (x4 : Int32) (ξ : XS) (mc ms : Nat) (K : Nat → XS → Prop) (h : y0_hatOf N g  x1 x2 x3 x4 ξ mc ms K) : MetYr l g yX0_hatOf (ws_ yX0_hatOf cX0_hatOf 5 (some (.object "HatsDecide$Hat"))) 4 115 [.ref (xa g 0), .int x1, .int x2, .int x3, .int x4] ξ mc ms K := by
  refine met_yr (Or.inl ⟨_, rfl⟩) (lv0 := [(0, .ref (xa g 0)), (1, .int x1), (2, .int x2), (3, .int x3), (4, .int x4)]) (own := RX0) (by decide) rfl (Nat.le_of_ble_eq_true rfl) rfl ?_
  intro p e s m below meth c A Q E hmn hq
  have hR : 4 ≤ ({ frames := 4, cells := mc, slots := ms, locals := 115 } : Room).frames ∧ 115 ≤ ({ frames := 4, cells := mc, slots := ms, locals := 115 } : Room).locals := ⟨Nat.le_refl _, Nat.le_refl _⟩
  have hb : 0 + mc ≤ ({ frames := 4, cells := mc, slots := ms, locals := 115 } : Room).cells ∧ 0 + ms ≤ ({ frames := 4, cells := mc, slots := ms, locals := 115 } : Room).slots := ⟨Nat.le_of_eq (Nat.zero_add _), Nat.le_of_eq (Nat.zero_add _)⟩
  unfold y0_hatOf at h
  refine cf_iload_n E dX0_hatOf_0 1 rfl rfl ?_
  by_cases hx_1 : x1 = (1 : Int32)
  · rw [if_pos hx_1] at h
    refine cf_tabIn E 1 dX0_hatOf_1 (i32_eqZ hx_1 (by decide)) (by decide) (by decide) rfl rfl ?_
    refine xnwX0_140 E hb dX0_hatOf_40 h rfl (fun q_2 hb h => ?_)
    refine cf_dup E dX0_hatOf_43 rfl rfl ?_
    refine cf_aload_n E dX0_hatOf_44 0 rfl rfl ?_
    refine cf_aload_n E dX0_hatOf_45 0 rfl rfl ?_
    refine xgX0_134 E dX0_hatOf_46 rfl ?_
    refine cf_iload_n E dX0_hatOf_49 2 rfl rfl ?_
    refine cf_iload_n E dX0_hatOf_50 3 rfl rfl ?_
    refine cf_iload E dX0_hatOf_51 4 rfl rfl ?_
    refine yclX0_142 E (rmle hR rfl rfl) (Nat.le_of_ble_eq_true rfl) hb dX0_hatOf_53 h rfl (fun m_3 n_4 s_5 hb h => ?_)
    exact hq _ _ _ _ _ _ (hb0 hb).1 (hb0 hb).2 dX0_hatOf_56 h
  rw [if_neg hx_1] at h
  by_cases hx_7 : x1 = (2 : Int32)
  · rw [if_pos hx_7] at h
    refine cf_tabIn E 2 dX0_hatOf_1 (i32_eqZ hx_7 (by decide)) (by decide) (by decide) rfl rfl ?_
    refine xnwX0_145 E hb dX0_hatOf_57 h rfl (fun q_8 hb h => ?_)
    refine cf_dup E dX0_hatOf_60 rfl rfl ?_
    refine cf_aload_n E dX0_hatOf_61 0 rfl rfl ?_
    refine cf_aload_n E dX0_hatOf_62 0 rfl rfl ?_
    refine xgX0_134 E dX0_hatOf_63 rfl ?_
    refine cf_iload_n E dX0_hatOf_66 2 rfl rfl ?_
    refine cf_iload_n E dX0_hatOf_67 3 rfl rfl ?_
    refine cf_iload E dX0_hatOf_68 4 rfl rfl ?_
    refine yclX0_147 E (rmle hR rfl rfl) (Nat.le_of_ble_eq_true rfl) hb dX0_hatOf_70 h rfl (fun m_9 n_10 s_11 hb h => ?_)
    exact hq _ _ _ _ _ _ (hb0 hb).1 (hb0 hb).2 dX0_hatOf_73 h
  rw [if_neg hx_7] at h
  by_cases hx_13 : x1 = (3 : Int32)
  · rw [if_pos hx_13] at h
    refine cf_tabIn E 3 dX0_hatOf_1 (i32_eqZ hx_13 (by decide)) (by decide) (by decide) rfl rfl ?_
    refine xnwX0_148 E hb dX0_hatOf_74 h rfl (fun q_14 hb h => ?_)
    refine cf_dup E dX0_hatOf_77 rfl rfl ?_
    refine cf_aload_n E dX0_hatOf_78 0 rfl rfl ?_
    refine cf_aload_n E dX0_hatOf_79 0 rfl rfl ?_
    refine xgX0_134 E dX0_hatOf_80 rfl ?_
    refine cf_iload_n E dX0_hatOf_83 2 rfl rfl ?_
    refine cf_iload_n E dX0_hatOf_84 3 rfl rfl ?_
    refine cf_iload E dX0_hatOf_85 4 rfl rfl ?_
    refine yclX0_150 E (rmle hR rfl rfl) (Nat.le_of_ble_eq_true rfl) hb dX0_hatOf_87 h rfl (fun m_15 n_16 s_17 hb h => ?_)
    exact hq _ _ _ _ _ _ (hb0 hb).1 (hb0 hb).2 dX0_hatOf_90 h
  rw [if_neg hx_13] at h
  by_cases hx_19 : x1 = (4 : Int32)
  · rw [if_pos hx_19] at h
    refine cf_tabIn E 4 dX0_hatOf_1 (i32_eqZ hx_19 (by decide)) (by decide) (by decide) rfl rfl ?_
    refine xnwX0_151 E hb dX0_hatOf_91 h rfl (fun q_20 hb h => ?_)
    refine cf_dup E dX0_hatOf_94 rfl rfl ?_
    refine cf_aload_n E dX0_hatOf_95 0 rfl rfl ?_
    refine cf_aload_n E dX0_hatOf_96 0 rfl rfl ?_
    refine xgX0_134 E dX0_hatOf_97 rfl ?_
    refine cf_iload_n E dX0_hatOf_100 2 rfl rfl ?_
    refine cf_iload_n E dX0_hatOf_101 3 rfl rfl ?_
    refine cf_iload E dX0_hatOf_102 4 rfl rfl ?_
    refine yclX0_153 E (rmle hR rfl rfl) (Nat.le_of_ble_eq_true rfl) hb dX0_hatOf_104 h rfl (fun m_21 n_22 s_23 hb h => ?_)
    exact hq _ _ _ _ _ _ (hb0 hb).1 (hb0 hb).2 dX0_hatOf_107 h
  rw [if_neg hx_19] at h
  by_cases hx_25 : x1 = (5 : Int32)
  · rw [if_pos hx_25] at h
    refine cf_tabIn E 5 dX0_hatOf_1 (i32_eqZ hx_25 (by decide)) (by decide) (by decide) rfl rfl ?_
    refine xnwX0_154 E hb dX0_hatOf_108 h rfl (fun q_26 hb h => ?_)
    refine cf_dup E dX0_hatOf_111 rfl rfl ?_
    refine cf_aload_n E dX0_hatOf_112 0 rfl rfl ?_
    refine cf_aload_n E dX0_hatOf_113 0 rfl rfl ?_
    refine xgX0_134 E dX0_hatOf_114 rfl ?_
    refine cf_iload_n E dX0_hatOf_117 2 rfl rfl ?_
    refine cf_iload_n E dX0_hatOf_118 3 rfl rfl ?_
    refine cf_iload E dX0_hatOf_119 4 rfl rfl ?_
    refine yclX0_156 E (rmle hR rfl rfl) (Nat.le_of_ble_eq_true rfl) hb dX0_hatOf_121 h rfl (fun m_27 n_28 s_29 hb h => ?_)
    exact hq _ _ _ _ _ _ (hb0 hb).1 (hb0 hb).2 dX0_hatOf_124 h
  rw [if_neg hx_25] at h
  by_cases hx_31 : x1 = (6 : Int32)
  · rw [if_pos hx_31] at h
    refine cf_tabIn E 6 dX0_hatOf_1 (i32_eqZ hx_31 (by decide)) (by decide) (by decide) rfl rfl ?_
    refine xnwX0_157 E hb dX0_hatOf_125 h rfl (fun q_32 hb h => ?_)
    refine cf_dup E dX0_hatOf_128 rfl rfl ?_
    refine cf_aload_n E dX0_hatOf_129 0 rfl rfl ?_
    refine cf_aload_n E dX0_hatOf_130 0 rfl rfl ?_
    refine xgX0_134 E dX0_hatOf_131 rfl ?_
    refine cf_iload_n E dX0_hatOf_134 2 rfl rfl ?_
    refine cf_iload_n E dX0_hatOf_135 3 rfl rfl ?_
    refine cf_iload E dX0_hatOf_136 4 rfl rfl ?_
    refine yclX0_159 E (rmle hR rfl rfl) (Nat.le_of_ble_eq_true rfl) hb dX0_hatOf_138 h rfl (fun m_33 n_34 s_35 hb h => ?_)
    exact hq _ _ _ _ _ _ (hb0 hb).1 (hb0 hb).2 dX0_hatOf_141 h
  rw [if_neg hx_31] at h
  have hx_1 := i32_neZ (z := 1) hx_1 (by decide)
  have hx_7 := i32_neZ (z := 2) hx_7 (by decide)
  have hx_13 := i32_neZ (z := 3) hx_13 (by decide)
  have hx_19 := i32_neZ (z := 4) hx_19 (by decide)
  have hx_25 := i32_neZ (z := 5) hx_25 (by decide)
  have hx_31 := i32_neZ (z := 6) hx_31 (by decide)
  refine cf_tabOut E dX0_hatOf_1 (by omega) rfl ?_
  refine xnwX0_21 E hb dX0_hatOf_142 h rfl (fun q_37 hb h => ?_)
  refine cf_dup E dX0_hatOf_145 rfl rfl ?_
  refine cf_aload_n E dX0_hatOf_146 0 rfl rfl ?_
  refine cf_aload_n E dX0_hatOf_147 0 rfl rfl ?_
  refine xgX0_134 E dX0_hatOf_148 rfl ?_
  refine cf_iload_n E dX0_hatOf_151 2 rfl rfl ?_
  refine cf_iload_n E dX0_hatOf_152 3 rfl rfl ?_
  refine cf_iload E dX0_hatOf_153 4 rfl rfl ?_
  refine yclX0_160 E (rmle hR rfl rfl) (Nat.le_of_ble_eq_true rfl) hb dX0_hatOf_155 h rfl (fun m_38 n_39 s_40 hb h => ?_)
  exact hq _ _ _ _ _ _ (hb0 hb).1 (hb0 hb).2 dX0_hatOf_158 h
def y0_hat (N : Nat) (g : XG)  (x1 : Int32) (x2 : Int32) (x3 : Int32) (x4 : Int32) (x5 : Int32) (ξ : XS) (mc ms : Nat) (K : Int32 → XS → Prop) : Prop :=
  bndp (x0_in N g x1 (0 : Int32) (6 : Int32) ξ) fun v_2 s_1 =>
  if v_2 = 0 then (
    K (-1 : Int32) s_1)
  else (
    bndp (x0_isTrade N g x5 s_1) fun v_4 s_3 =>
    if v_4 = 0 then (
      K (-1 : Int32) s_3)
    else (
      bndp (x0_in N g x2 (0 : Int32) (9 : Int32) s_3) fun v_6 s_5 =>
      if v_6 = 0 then (
        K (-2 : Int32) s_5)
      else (
        bndp (x0_in N g x3 (0 : Int32) (9 : Int32) s_5) fun v_8 s_7 =>
        if v_8 = 0 then (
          K (-2 : Int32) s_7)
        else (
          bndp (x0_in N g x4 (0 : Int32) (50 : Int32) s_7) fun v_10 s_9 =>
          if v_10 = 0 then (
            K (-2 : Int32) s_9)
          else (
            if (xF s_9 4) = (6 : Int32) then (
              K (-4 : Int32) s_9)
            else (
              bny (y0_hatOf N g x1 x2 x3 x5 s_9) mc ms fun m_11 n_12 v_14 s_13 =>
              if inb (xF s_9 4) 6 = true ∧ isC s_13 v_14 8 14 = true then nx (sXQ s_13 3 (va_up (xQ s_13 3) (xF s_9 4).toNatClampNeg (some v_14))) (fun s_15 =>
              if inb (xF s_15 4) 6 = true then nx (sXR s_15 2 (xF s_15 4).toNatClampNeg x4) (fun s_16 =>
              if inb (xF s_16 4) 6 = true then nx (sXR s_16 201 (xF s_16 4).toNatClampNeg (0 : Int32)) (fun s_17 =>
              nx (sXF s_17 4 ((xF s_17 4) + (1 : Int32))) fun s_18 =>
              K (xF s_17 4) s_18) else False) else False) else False))))))
section XC
variable {p : Program} {l : Launch} {e : Env} {R : Room} {s : State} {m : MethodId} {args : Array Value} {below : List Frame} {meth : Method} {c : Code} {nL cells slots : Nat} {A : Nat → Prop} {g : XG} {ξ : XS} {Q : State → Prop} {pc n : Nat} {lv : List (Nat × Value)} {st : List Value} {cc : ByteArray} {ρ : Type} {res : ρ}
theorem yclX0_165 (E : EV p s m args c cc nL RX0) {N mc ms : Nat}   {x1 : Int32} {x2 : Int32} {x3 : Int32} {x4 : Int32} {kk : Nat → Nat → Nat → XS → Prop} (hR : 5 ≤ R.frames ∧ 139 ≤ R.locals) (hcat : (st.map fun v => v.category).sum ≤ 8) (hb : cells + mc ≤ R.cells ∧ slots + ms ≤ R.slots) (d : decode cc pc = .ok (.invokevirtual 165, 3)) (h : bny (y0_hatOf N g  x1 x2 x3 x4 ξ) mc ms kk) (hn : pc + 3 = n) (k : ∀ (m1 n1 : Nat) (v : Nat) (ξ1 : XS), (cells + m1 + (mc - m1) ≤ R.cells ∧ slots + n1 + (ms - n1) ≤ R.slots) → kk m1 n1 v ξ1 → CF p l e R s m args below meth c nL (cells + m1) (slots + n1) (XB g A s ξ1) Q n lv (.ref v :: st)) : CF p l e R s m args below meth c nL cells slots (XB g A s ξ) Q pc lv (.int x4 :: .int x3 :: .int x2 :: .int x1 :: .ref (xa g 0) :: st) := by
  obtain ⟨m1, n1, h1, h2, h⟩ := h
  exact ycallV_r (na := 4) E [.int x1, .int x2, .int x3, .int x4] (met_y0_hatOf l g N   x1 x2 x3 x4 ξ m1 n1 _ h) (C9 := RX0) (lw_V q425 q427 qs0 q96 q428) (by decide +kernel) ⟨0, 1, _, _, rfl, rfl, rfl⟩ hR rfl rfl hcat ⟨by omega, by omega⟩ d hn (fun v ξ1 hk => k m1 n1 v ξ1 ⟨by omega, by omega⟩ hk)
theorem xclX0_130p (E : EV p s m args c cc nL RX0) {N : Nat}   {x0 : Int32} {x1 : Int32} {x2 : Int32} {kk : Int32 → XS → Prop} (hR : 1 ≤ R.frames ∧ 22 ≤ R.locals) (hcat : (st.map fun v => v.category).sum ≤ 8) (hf : cells ≤ R.cells ∧ slots ≤ R.slots) (d : decode cc pc = .ok (.invokestatic 130, 3)) (h : bndp (x0_in N g  x0 x1 x2 ξ) kk) (hn : pc + 3 = n) (k : ∀ (v : Int32) (ξ1 : XS), kk v ξ1 → CF p l e R s m args below meth c nL cells slots (XB g A s ξ1) Q n lv (.int v :: st)) : CF p l e R s m args below meth c nL cells slots (XB g A s ξ) Q pc lv (.int x2 :: .int x1 :: .int x0 :: st) :=
  xcallS0_ip (na := 3) E [.int x0, .int x1, .int x2] (fun v ξ1 ho => met_x0_in l g N   x0 x1 x2 ξ ho) (lw_S q415 q416 q96 q417) (by decide +kernel) rfl rfl hR rfl rfl hcat hf d h hn k
theorem xclX0_161p (E : EV p s m args c cc nL RX0) {N : Nat}   {x0 : Int32} {kk : Int32 → XS → Prop} (hR : 2 ≤ R.frames ∧ 42 ≤ R.locals) (hcat : (st.map fun v => v.category).sum ≤ 8) (hf : cells ≤ R.cells ∧ slots ≤ R.slots) (d : decode cc pc = .ok (.invokestatic 161, 3)) (h : bndp (x0_isTrade N g  x0 ξ) kk) (hn : pc + 3 = n) (k : ∀ (v : Int32) (ξ1 : XS), kk v ξ1 → CF p l e R s m args below meth c nL cells slots (XB g A s ξ1) Q n lv (.int v :: st)) : CF p l e R s m args below meth c nL cells slots (XB g A s ξ) Q pc lv (.int x0 :: st) :=
  xcallS0_ip (na := 1) E [.int x0] (fun v ξ1 ho => met_x0_isTrade l g N   x0 ξ ho) (lw_S q422 q423 q96 q424) (by decide +kernel) rfl rfl hR rfl rfl hcat hf d h hn k
end XC
set_option maxHeartbeats 4000000 in
theorem met_y0_hat (l : Launch) (g : XG) (N : Nat)   (x1 : Int32) (x2 : Int32) (x3 : Int32) (x4 : Int32) (x5 : Int32) (ξ : XS) (mc ms : Nat) (K : Int32 → XS → Prop) (h : y0_hat N g  x1 x2 x3 x4 x5 ξ mc ms K) : MetYi l g yX0_hat (ws_ yX0_hat cX0_hat 6 (some .int)) 5 139 [.ref (xa g 0), .int x1, .int x2, .int x3, .int x4, .int x5] ξ mc ms K := by
  refine met_yi (lv0 := [(0, .ref (xa g 0)), (1, .int x1), (2, .int x2), (3, .int x3), (4, .int x4), (5, .int x5)]) (own := RX0) (by decide) rfl (Nat.le_of_ble_eq_true rfl) rfl ?_
  intro p e s m below meth c A Q E hmn hq
  have hR : 5 ≤ ({ frames := 5, cells := mc, slots := ms, locals := 139 } : Room).frames ∧ 139 ≤ ({ frames := 5, cells := mc, slots := ms, locals := 139 } : Room).locals := ⟨Nat.le_refl _, Nat.le_refl _⟩
  have hb : 0 + mc ≤ ({ frames := 5, cells := mc, slots := ms, locals := 139 } : Room).cells ∧ 0 + ms ≤ ({ frames := 5, cells := mc, slots := ms, locals := 139 } : Room).slots := ⟨Nat.le_of_eq (Nat.zero_add _), Nat.le_of_eq (Nat.zero_add _)⟩
  unfold y0_hat at h
  refine cf_iload_n E dX0_hat_0 1 rfl rfl ?_
  refine cf_iconst E dX0_hat_1 ic_0 rfl ?_
  refine cf_bipush E dX0_hat_2 bp_6 rfl ?_
  refine xclX0_130p E (rmle hR rfl rfl) (Nat.le_of_ble_eq_true rfl) (hb0 hb) dX0_hat_4 h rfl (fun v_2 s_1 h => ?_)
  refine cf_if_eqp E dX0_hat_7 h rfl rfl (fun h => ?_) (fun h => ?_)
  · refine cf_iconst E dX0_hat_18 ic_m1 rfl ?_
    exact hq _ _ _ _ _ _ (hb0 hb).1 (hb0 hb).2 dX0_hat_19 rfl h
  · refine cf_iload E dX0_hat_10 5 rfl rfl ?_
    refine xclX0_161p E (rmle hR rfl rfl) (Nat.le_of_ble_eq_true rfl) (hb0 hb) dX0_hat_12 h rfl (fun v_4 s_3 h => ?_)
    refine cf_if_nep E dX0_hat_15 h rfl rfl (fun h => ?_) (fun h => ?_)
    · refine cf_iload_n E dX0_hat_20 2 rfl rfl ?_
      refine cf_iconst E dX0_hat_21 ic_0 rfl ?_
      refine cf_bipush E dX0_hat_22 bp_9 rfl ?_
      refine xclX0_130p E (rmle hR rfl rfl) (Nat.le_of_ble_eq_true rfl) (hb0 hb) dX0_hat_24 h rfl (fun v_6 s_5 h => ?_)
      refine cf_if_eqp E dX0_hat_27 h rfl rfl (fun h => ?_) (fun h => ?_)
      · refine cf_bipush E dX0_hat_51 bp_m2 rfl ?_
        exact hq _ _ _ _ _ _ (hb0 hb).1 (hb0 hb).2 dX0_hat_53 rfl h
      · refine cf_iload_n E dX0_hat_30 3 rfl rfl ?_
        refine cf_iconst E dX0_hat_31 ic_0 rfl ?_
        refine cf_bipush E dX0_hat_32 bp_9 rfl ?_
        refine xclX0_130p E (rmle hR rfl rfl) (Nat.le_of_ble_eq_true rfl) (hb0 hb) dX0_hat_34 h rfl (fun v_8 s_7 h => ?_)
        refine cf_if_eqp E dX0_hat_37 h rfl rfl (fun h => ?_) (fun h => ?_)
        · refine cf_bipush E dX0_hat_51 bp_m2 rfl ?_
          exact hq _ _ _ _ _ _ (hb0 hb).1 (hb0 hb).2 dX0_hat_53 rfl h
        · refine cf_iload E dX0_hat_40 4 rfl rfl ?_
          refine cf_iconst E dX0_hat_42 ic_0 rfl ?_
          refine cf_bipush E dX0_hat_43 bp_50 rfl ?_
          refine xclX0_130p E (rmle hR rfl rfl) (Nat.le_of_ble_eq_true rfl) (hb0 hb) dX0_hat_45 h rfl (fun v_10 s_9 h => ?_)
          refine cf_if_nep E dX0_hat_48 h rfl rfl (fun h => ?_) (fun h => ?_)
          · refine cf_aload_n E dX0_hat_54 0 rfl rfl ?_
            refine xgX0_134 E dX0_hat_55 rfl ?_
            refine cf_bipush E dX0_hat_58 bp_6 rfl ?_
            refine cf_icmp_nep E dX0_hat_60 h rfl rfl (fun h => ?_) (fun h => ?_)
            · refine cf_aload_n E dX0_hat_66 0 rfl rfl ?_
              refine xgX0_23 E dX0_hat_67 rfl ?_
              refine cf_aload_n E dX0_hat_70 0 rfl rfl ?_
              refine xgX0_134 E dX0_hat_71 rfl ?_
              refine cf_aload_n E dX0_hat_74 0 rfl rfl ?_
              refine cf_iload_n E dX0_hat_75 1 rfl rfl ?_
              refine cf_iload_n E dX0_hat_76 2 rfl rfl ?_
              refine cf_iload_n E dX0_hat_77 3 rfl rfl ?_
              refine cf_iload E dX0_hat_78 5 rfl rfl ?_
              refine yclX0_165 E (rmle hR rfl rfl) (Nat.le_of_ble_eq_true rfl) hb dX0_hat_80 h rfl (fun m_11 n_12 v_14 s_13 hb h => ?_)
              refine xastq_3p E dX0_hat_83 h rfl (fun s_15 h => ?_)
              refine cf_aload_n E dX0_hat_84 0 rfl rfl ?_
              refine xgX0_18 E dX0_hat_85 rfl ?_
              refine cf_aload_n E dX0_hat_88 0 rfl rfl ?_
              refine xgX0_134 E dX0_hat_89 rfl ?_
              refine cf_iload E dX0_hat_92 4 rfl rfl ?_
              refine xast_2p E dX0_hat_94 h rfl (fun s_16 h => ?_)
              refine cf_aload_n E dX0_hat_95 0 rfl rfl ?_
              refine xgX0_30 E dX0_hat_96 rfl ?_
              refine xgX0_169_0 E dX0_hat_99 rfl ?_
              refine cf_aload_n E dX0_hat_102 0 rfl rfl ?_
              refine xgX0_134 E dX0_hat_103 rfl ?_
              refine cf_iconst E dX0_hat_106 ic_0 rfl ?_
              refine xastT_1_0p E dX0_hat_107 h rfl (fun s_17 h => ?_)
              refine cf_aload_n E dX0_hat_108 0 rfl rfl ?_
              refine cf_dup E dX0_hat_109 rfl rfl ?_
              refine xgX0_134 E dX0_hat_110 rfl ?_
              refine cf_dup_x1 E dX0_hat_113 rfl rfl rfl ?_
              refine cf_iconst E dX0_hat_114 ic_1 rfl ?_
              refine cf_iadd E dX0_hat_115 rfl ?_
              refine xpX0_134p E dX0_hat_116 h rfl (fun s_18 h => ?_)
              exact hq _ _ _ _ _ _ (hb0 hb).1 (hb0 hb).2 dX0_hat_119 rfl h
            · refine cf_bipush E dX0_hat_63 bp_m4 rfl ?_
              exact hq _ _ _ _ _ _ (hb0 hb).1 (hb0 hb).2 dX0_hat_65 rfl h
          · refine cf_bipush E dX0_hat_51 bp_m2 rfl ?_
            exact hq _ _ _ _ _ _ (hb0 hb).1 (hb0 hb).2 dX0_hat_53 rfl h
    · refine cf_iconst E dX0_hat_18 ic_m1 rfl ?_
      exact hq _ _ _ _ _ _ (hb0 hb).1 (hb0 hb).2 dX0_hat_19 rfl h
