/-! ROWS for row, image, undo: printed by gen/xrows3.py -/
set_option maxRecDepth 100000
def allH (ξ : XS) (f : Nat → Option Nat) (sp n : Nat) : Bool := (List.range n).all (fun i => match f (sp + i) with | none => true | some y => isC ξ y 8 14)
theorem allH_at {ξ : XS} {f : Nat → Option Nat} {sp n : Nat} (h : allH ξ f sp n = true) : ∀ i, i < n → ∀ y, f (sp + i) = some y → isC ξ y 8 14 = true := by
  intro i hi y hy
  have h1 := List.all_eq_true.mp h i (List.mem_range.mpr hi)
  simpa [hy] using h1
theorem narq {n : String} (o : Option Nat) : narrow (.object n) (va_rf o) = va_rf o := by cases o <;> rfl
theorem fitq {n : String} (o : Option Nat) : fits (.object n) (va_rf o) = true := by cases o <;> rfl
section XC
variable {p : Program} {l : Launch} {e : Env} {R : Room} {s : State} {m : MethodId} {args : Array Value} {below : List Frame} {meth : Method} {c : Code} {nL cells slots : Nat} {A : Nat → Prop} {g : XG} {ξ : XS} {Q : State → Prop} {pc n : Nat} {lv : List (Nat × Value)} {st : List Value} {cc : ByteArray} {ρ : Type} {res : ρ}
theorem xdast_b {own : String} (E : EV p s m args c cc nL own) {i x : Int32} {a : Nat} {kk : XS → Option ρ} (d : decode cc pc = .ok (.bastore, 1)) (h : bnd (dA ξ a (xc g 1)) (fun n f => if inb i n = true then nx (sXd ξ a (.inl (xc g 1, n, .inl (upd f i.toNatClampNeg (vp_nar .byte x))))) kk else none) = some res) (hn : pc + 1 = n) (k : ∀ ξ1 : XS, kk ξ1 = some res → CF p l e R s m args below meth c nL cells slots (XB g A s ξ1) Q n lv st) : CF p l e R s m args below meth c nL cells slots (XB g A s ξ) Q pc lv (.int x :: .int i :: .ref a :: st) := by
  subst hn
  obtain ⟨n9, f, hd, h⟩ := bnd_some h
  by_cases hi : inb i n9 = true
  · have h : (if inb i n9 = true then nx (sXd ξ a (.inl (xc g 1, n9, .inl (upd f i.toNatClampNeg (vp_nar .byte x))))) kk else none) = some res := h
    rw [if_pos hi] at h
    have he := dA_at hd
    obtain ⟨q0, hq⟩ := dE_at (g := g) he
    intro H locs ls hB hl
    refine va_bast E.1 E.2.1 hB.2.2.2.1 hB.1 hB.2.1 hB.2.2.1 q0 1 hq rfl (inb_in hi) d (fun H1 locs1 hP hD hS => ?_)
    rw [xcs_set hB.2.1 he hq] at hP hD
    exact k _ h H1 locs1 ls ⟨hP, hD, hS, hB.2.2.2⟩ hl
  · have h : (if inb i n9 = true then nx (sXd ξ a (.inl (xc g 1, n9, .inl (upd f i.toNatClampNeg (vp_nar .byte x))))) kk else none) = some res := h
    rw [if_neg hi] at h; cases h
theorem xnn {own : String} (E : EV p s m args c cc nL own) {o : Option Nat} {off : Int} {tgt : Nat} {At Bf : Option ρ} (d : decode cc pc = .ok (.ifnonnull off, 3)) (h : (if o.isSome = true then At else Bf) = some res) (ht : (pc : Int) + off = (tgt : Int)) (hn : pc + 3 = n) (kt : At = some res → CF p l e R s m args below meth c nL cells slots (XB g A s ξ) Q tgt lv st) (kf : Bf = some res → CF p l e R s m args below meth c nL cells slots (XB g A s ξ) Q n lv st) : CF p l e R s m args below meth c nL cells slots (XB g A s ξ) Q pc lv (va_rf o :: st) := by
  subst hn
  intro H locs ls hB hl
  cases o with
  | none => exact lv_ifnonnullN E.1 E.2.1 d (kf (by simpa using h) H locs ls hB hl)
  | some a => exact lv_ifnonnull E.1 E.2.1 d ht (kt (by simpa using h) H locs ls hB hl)
theorem xnul {own : String} (E : EV p s m args c cc nL own) {o : Option Nat} {off : Int} {tgt : Nat} {At Bf : Option ρ} (d : decode cc pc = .ok (.ifnull off, 3)) (h : (if o.isSome = true then Bf else At) = some res) (ht : (pc : Int) + off = (tgt : Int)) (hn : pc + 3 = n) (kt : At = some res → CF p l e R s m args below meth c nL cells slots (XB g A s ξ) Q tgt lv st) (kf : Bf = some res → CF p l e R s m args below meth c nL cells slots (XB g A s ξ) Q n lv st) : CF p l e R s m args below meth c nL cells slots (XB g A s ξ) Q pc lv (va_rf o :: st) := by
  subst hn
  intro H locs ls hB hl
  cases o with
  | none => exact lv_ifnullN E.1 E.2.1 d ht (kt (by simpa using h) H locs ls hB hl)
  | some a => exact lv_ifnull E.1 E.2.1 d (kf (by simpa using h) H locs ls hB hl)
theorem xinT (E : EV p s m args c cc nL RX0) {a : Nat} {A9 : Option ρ} (d : decode cc pc = .ok (.instanceof 157, 3)) (h : (if isC ξ a 8 14 = true then A9 else none) = some res) (hn : pc + 3 = n) (k : A9 = some res → CF p l e R s m args below meth c nL cells slots (XB g A s ξ) Q n lv (.int (if isC ξ a 14 14 = true then 1 else 0) :: st)) : CF p l e R s m args below meth c nL cells slots (XB g A s ξ) Q pc lv (.ref a :: st) := by
  subst hn
  by_cases hi : isC ξ a 8 14 = true
  · rw [if_pos hi] at h
    obtain ⟨ci, hci, h1, h2⟩ := isC_at hi
    intro H locs ls hB hl
    have kk := k h H locs ls hB hl
    by_cases e14 : ci = 14
    · subst e14
      rw [if_pos (show isC ξ a 14 14 = true by simp [isC, hci])] at kk
      exact va_instS E.1 E.2.1 E.2.2.2.1 (E.2.2.2.2 _ q534) (hB.2.2.2.1.1 14 _ rfl).2 (xrecv_cell hB (xrecv_d (q := (RX13, TX13, 8)) hci rfl)) d kk
    · rw [if_neg (show ¬ isC ξ a 14 14 = true by simp only [isC, hci, decide_eq_true_eq]; omega)] at kk
      have hcc : ci = 8 ∨ ci = 9 ∨ ci = 10 ∨ ci = 11 ∨ ci = 12 ∨ ci = 13 := by omega
      rcases hcc with rfl | rfl | rfl | rfl | rfl | rfl
      · exact va_instNo E.1 E.2.1 E.2.2.2.1 (E.2.2.2.2 _ q534) (hB.2.2.2.2.2.2.1 _ (List.mem_of_getElem? (i := 5) rfl)) (xrecv_cell hB (xrecv_d (q := (RX7, TX7, 5)) hci rfl)) d kk
      · exact va_instNo E.1 E.2.1 E.2.2.2.1 (E.2.2.2.2 _ q534) (hB.2.2.2.2.2.2.1 _ (List.mem_of_getElem? (i := 10) rfl)) (xrecv_cell hB (xrecv_d (q := (RX8, TX8, 6)) hci rfl)) d kk
      · exact va_instNo E.1 E.2.1 E.2.2.2.1 (E.2.2.2.2 _ q534) (hB.2.2.2.2.2.2.1 _ (List.mem_of_getElem? (i := 15) rfl)) (xrecv_cell hB (xrecv_d (q := (RX9, TX9, 6)) hci rfl)) d kk
      · exact va_instNo E.1 E.2.1 E.2.2.2.1 (E.2.2.2.2 _ q534) (hB.2.2.2.2.2.2.1 _ (List.mem_of_getElem? (i := 20) rfl)) (xrecv_cell hB (xrecv_d (q := (RX10, TX10, 6)) hci rfl)) d kk
      · exact va_instNo E.1 E.2.1 E.2.2.2.1 (E.2.2.2.2 _ q534) (hB.2.2.2.2.2.2.1 _ (List.mem_of_getElem? (i := 24) rfl)) (xrecv_cell hB (xrecv_d (q := (RX11, TX11, 7)) hci rfl)) d kk
      · exact va_instNo E.1 E.2.1 E.2.2.2.1 (E.2.2.2.2 _ q534) (hB.2.2.2.2.2.2.1 _ (List.mem_of_getElem? (i := 28) rfl)) (xrecv_cell hB (xrecv_d (q := (RX12, TX12, 7)) hci rfl)) d kk
  · rw [if_neg hi] at h; cases h
theorem xcpq_3_26 (E : EV p s m args c cc nL RX0) {sp dp nn : Int32} {kk : XS → Option ρ} (hR : 1 ≤ R.frames ∧ 40 ≤ R.locals) (hcat : (st.map fun v => v.category).sum ≤ 8) (d : decode cc pc = .ok (.invokestatic 286, 3)) (h : (if cpk sp dp nn 6 6 = true ∧ allH ξ (xQ ξ 3) sp.toNatClampNeg nn.toNatClampNeg = true then nx (sXQ ξ 26 (va_cpy (xQ ξ 3) (xQ ξ 26) sp.toNatClampNeg dp.toNatClampNeg nn.toNatClampNeg)) kk else none) = some res) (hn : pc + 3 = n) (k : ∀ ξ1 : XS, kk ξ1 = some res → CF p l e R s m args below meth c nL cells slots (XB g A s ξ1) Q n lv st) : CF p l e R s m args below meth c nL cells slots (XB g A s ξ) Q pc lv (.int nn :: .int dp :: .ref (xa g 126) :: .int sp :: .ref (xa g 103) :: st) := by
  subst hn
  by_cases hi : cpk sp dp nn 6 6 = true ∧ allH ξ (xQ ξ 3) sp.toNatClampNeg nn.toNatClampNeg = true
  · rw [if_pos hi] at h
    have hc := cpk_at hi.1
    intro H locs ls hB hl
    exact va_copyM E.1 E.2.1 (E.2.2.1.trans hl.1.symm) E.2.2.2.1 (E.2.2.2.2 _ q1143) (E.2.2.2.2 _ q1038) (E.2.2.2.2 _ q1037) (E.2.2.2.2 _ q131) hB.2.2.2.1 hB.1 hB.2.1 hB.2.2.1 4 15 5 5 (E0 := "HatsDecide$Hat") (E1 := "HatsDecide$Hat") rfl rfl rfl rfl hc.1 hc.2.1 hc.2.2.1 hc.2.2.2.1 hc.2.2.2.2 (fun i hi9 y hy => xanyH hB (allH_at hi.2 i hi9 y hy)) hR.1 (Nat.le_trans (Nat.add_le_add hcat (Nat.le_of_ble_eq_true (m := 32) rfl)) hR.2) d (fun H1 locs1 hP hD hS => k _ h H1 locs1 ls ⟨hP, hD, hS, hB.2.2.2⟩ hl)
  · rw [if_neg hi] at h; cases h
theorem xcpq_26_3 (E : EV p s m args c cc nL RX0) {sp dp nn : Int32} {kk : XS → Option ρ} (hR : 1 ≤ R.frames ∧ 40 ≤ R.locals) (hcat : (st.map fun v => v.category).sum ≤ 8) (d : decode cc pc = .ok (.invokestatic 286, 3)) (h : (if cpk sp dp nn 6 6 = true ∧ allH ξ (xQ ξ 26) sp.toNatClampNeg nn.toNatClampNeg = true then nx (sXQ ξ 3 (va_cpy (xQ ξ 26) (xQ ξ 3) sp.toNatClampNeg dp.toNatClampNeg nn.toNatClampNeg)) kk else none) = some res) (hn : pc + 3 = n) (k : ∀ ξ1 : XS, kk ξ1 = some res → CF p l e R s m args below meth c nL cells slots (XB g A s ξ1) Q n lv st) : CF p l e R s m args below meth c nL cells slots (XB g A s ξ) Q pc lv (.int nn :: .int dp :: .ref (xa g 103) :: .int sp :: .ref (xa g 126) :: st) := by
  subst hn
  by_cases hi : cpk sp dp nn 6 6 = true ∧ allH ξ (xQ ξ 26) sp.toNatClampNeg nn.toNatClampNeg = true
  · rw [if_pos hi] at h
    have hc := cpk_at hi.1
    intro H locs ls hB hl
    exact va_copyM E.1 E.2.1 (E.2.2.1.trans hl.1.symm) E.2.2.2.1 (E.2.2.2.2 _ q1143) (E.2.2.2.2 _ q1038) (E.2.2.2.2 _ q1037) (E.2.2.2.2 _ q131) hB.2.2.2.1 hB.1 hB.2.1 hB.2.2.1 15 4 5 5 (E0 := "HatsDecide$Hat") (E1 := "HatsDecide$Hat") rfl rfl rfl rfl hc.1 hc.2.1 hc.2.2.1 hc.2.2.2.1 hc.2.2.2.2 (fun i hi9 y hy => xanyH hB (allH_at hi.2 i hi9 y hy)) hR.1 (Nat.le_trans (Nat.add_le_add hcat (Nat.le_of_ble_eq_true (m := 32) rfl)) hR.2) d (fun H1 locs1 hP hD hS => k _ h H1 locs1 ls ⟨hP, hD, hS, hB.2.2.2⟩ hl)
  · rw [if_neg hi] at h; cases h
theorem xcpDS (E : EV p s m args c cc nL RX0) {sp dp nn : Int32} {a : Nat} {kk : XS → Option ρ} (hR : 1 ≤ R.frames ∧ 40 ≤ R.locals) (hcat : (st.map fun v => v.category).sum ≤ 8) (d : decode cc pc = .ok (.invokestatic 286, 3)) (h : bnd (dA ξ a (xc g 1)) (fun n9 f => if cpk sp dp nn n9 24 = true ∧ fitB f sp.toNatClampNeg nn.toNatClampNeg = true then nx (sXC ξ 27 (va_cpy f (xR ξ 27) sp.toNatClampNeg dp.toNatClampNeg nn.toNatClampNeg)) kk else none) = some res) (hn : pc + 3 = n) (k : ∀ ξ1 : XS, kk ξ1 = some res → CF p l e R s m args below meth c nL cells slots (XB g A s ξ1) Q n lv st) : CF p l e R s m args below meth c nL cells slots (XB g A s ξ) Q pc lv (.int nn :: .int dp :: .ref (xa g 127) :: .int sp :: .ref a :: st) := by
  subst hn
  obtain ⟨n9, f, hd, h⟩ := bnd_some h
  have h : (if cpk sp dp nn n9 24 = true ∧ fitB f sp.toNatClampNeg nn.toNatClampNeg = true then nx (sXC ξ 27 (va_cpy f (xR ξ 27) sp.toNatClampNeg dp.toNatClampNeg nn.toNatClampNeg)) kk else none) = some res := h
  by_cases hi : cpk sp dp nn n9 24 = true ∧ fitB f sp.toNatClampNeg nn.toNatClampNeg = true
  · rw [if_pos hi] at h
    have hc := cpk_at hi.1
    obtain ⟨q0, hq⟩ := dE_at (g := g) (dA_at hd)
    intro H locs ls hB hl
    exact va_copyi E.1 E.2.1 (E.2.2.1.trans hl.1.symm) E.2.2.2.1 (E.2.2.2.2 _ q1143) (E.2.2.2.2 _ q1038) (E.2.2.2.2 _ q1037) (E.2.2.2.2 _ q131) hB.2.2.2.1 hB.1 hB.2.1 hB.2.2.1 q0 16 1 1 (ty := .byte) hq rfl rfl rfl rfl hc.1 hc.2.1 hc.2.2.1 hc.2.2.2.1 hc.2.2.2.2 (fitB_at hi.2) hR.1 (Nat.le_trans (Nat.add_le_add hcat (Nat.le_of_ble_eq_true (m := 32) rfl)) hR.2) d (fun H1 locs1 hP hD hS => k _ h H1 locs1 ls ⟨hP, hD, hS, hB.2.2.2⟩ hl)
  · rw [if_neg hi] at h; cases h
theorem xcpSD (E : EV p s m args c cc nL RX0) {sp dp nn : Int32} {a : Nat} {kk : XS → Option ρ} (hR : 1 ≤ R.frames ∧ 40 ≤ R.locals) (hcat : (st.map fun v => v.category).sum ≤ 8) (d : decode cc pc = .ok (.invokestatic 286, 3)) (h : bnd (dA ξ a (xc g 1)) (fun n9 f => if cpk sp dp nn 24 n9 = true ∧ fitB (xR ξ 27) sp.toNatClampNeg nn.toNatClampNeg = true then nx (sXd ξ a (.inl (xc g 1, n9, .inl (va_cpy (xR ξ 27) f sp.toNatClampNeg dp.toNatClampNeg nn.toNatClampNeg)))) kk else none) = some res) (hn : pc + 3 = n) (k : ∀ ξ1 : XS, kk ξ1 = some res → CF p l e R s m args below meth c nL cells slots (XB g A s ξ1) Q n lv st) : CF p l e R s m args below meth c nL cells slots (XB g A s ξ) Q pc lv (.int nn :: .int dp :: .ref a :: .int sp :: .ref (xa g 127) :: st) := by
  subst hn
  obtain ⟨n9, f, hd, h⟩ := bnd_some h
  have h : (if cpk sp dp nn 24 n9 = true ∧ fitB (xR ξ 27) sp.toNatClampNeg nn.toNatClampNeg = true then nx (sXd ξ a (.inl (xc g 1, n9, .inl (va_cpy (xR ξ 27) f sp.toNatClampNeg dp.toNatClampNeg nn.toNatClampNeg)))) kk else none) = some res := h
  by_cases hi : cpk sp dp nn 24 n9 = true ∧ fitB (xR ξ 27) sp.toNatClampNeg nn.toNatClampNeg = true
  · rw [if_pos hi] at h
    have hc := cpk_at hi.1
    have he := dA_at hd
    obtain ⟨q0, hq⟩ := dE_at (g := g) he
    intro H locs ls hB hl
    refine va_copyi E.1 E.2.1 (E.2.2.1.trans hl.1.symm) E.2.2.2.1 (E.2.2.2.2 _ q1143) (E.2.2.2.2 _ q1038) (E.2.2.2.2 _ q1037) (E.2.2.2.2 _ q131) hB.2.2.2.1 hB.1 hB.2.1 hB.2.2.1 16 q0 1 1 (ty := .byte) rfl hq rfl rfl rfl hc.1 hc.2.1 hc.2.2.1 hc.2.2.2.1 hc.2.2.2.2 (fitB_at hi.2) hR.1 (Nat.le_trans (Nat.add_le_add hcat (Nat.le_of_ble_eq_true (m := 32) rfl)) hR.2) d (fun H1 locs1 hP hD hS => ?_)
    rw [xcs_set hB.2.1 he hq] at hP hD
    exact k _ h H1 locs1 ls ⟨hP, hD, hS, hB.2.2.2⟩ hl
  · rw [if_neg hi] at h; cases h
end XC
