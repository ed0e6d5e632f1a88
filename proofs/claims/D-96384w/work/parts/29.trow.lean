/-! ROWS FOR TAPES: printed by gen/trow.py -/
set_option maxRecDepth 100000
def bnul {α : Type} (v : Option Nat) (k : Nat → α) (z : α) : α := match v with
  | some b => k b
  | none => z
def dLen (ξ : XS) (b : Nat) (c : ClassId) : Option Nat := match dE ξ b with
  | some (.inl (cA, n, _)) => if cA = c then some n else none
  | _ => none
theorem dLen_at {ξ : XS} {b : Nat} {c : ClassId} {n : Nat} (h : dLen ξ b c = some n) : ∃ x, dE ξ b = some (.inl (c, n, x)) := by
  unfold dLen at h
  split at h
  · rename_i cA n' x he
    split at h
    · rename_i hc
      cases h
      exact ⟨x, by rw [he, hc]⟩
    · cases h
  · cases h
def dAl (ξ : XS) (a : Nat) (c : ClassId) : Option (Nat × (Nat → Int64)) := match dE ξ a with
  | some (.inl (cA, n, .inr (.inl f))) => if cA = c then some (n, f) else none
  | _ => none
theorem dAl_at {ξ : XS} {a : Nat} {c : ClassId} {n : Nat} {f : Nat → Int64} (h : dAl ξ a c = some (n, f)) : dE ξ a = some (.inl (c, n, .inr (.inl f))) := by
  unfold dAl at h
  split at h
  · rename_i cA n' f' he
    split at h
    · rename_i hc
      cases h
      rw [he, hc]
    · cases h
  · cases h
/-- a tape's row: null, or a made array of one of the five sorts -/
def okRow (g : XG) (ξ : XS) (v : Option Nat) : Bool := match v with
  | none => true
  | some b => match dE ξ b with
    | some (.inl (cA, _, _)) => decide (cA = xc g 0) || (decide (cA = xc g 1) || (decide (cA = xc g 2) || (decide (cA = xc g 3) || decide (cA = xc g 4))))
    | _ => false
def inA (g : XG) (ξ : XS) (v : Option Nat) (j : Nat) : Int32 := match v with
  | none => 0
  | some b => match dE ξ b with
    | some (.inl (cA, _, _)) => if cA = xc g j then 1 else 0
    | _ => 0
theorem okRow_at {g : XG} {ξ : XS} {b : Nat} (h : okRow g ξ (some b) = true) : ∃ cA n x, dE ξ b = some (.inl (cA, n, x)) ∧ (cA = xc g 0 ∨ cA = xc g 1 ∨ cA = xc g 2 ∨ cA = xc g 3 ∨ cA = xc g 4) := by
  unfold okRow at h
  split at h
  · cases ‹some b = none›
  · rename_i b' hb
    cases hb
    split at h
    · rename_i cA n x he
      simp only [Bool.or_eq_true, decide_eq_true_eq] at h
      exact ⟨cA, n, x, he, h⟩
    · cases h
theorem vpvm {cA : ClassId} {x : vp_A} : (vp_cell cA x).vm.isStatics = false := by
  obtain ⟨n, f | f | f | f | f⟩ := x <;> rfl
theorem vpcls {cA : ClassId} {x : vp_A} : (vp_cell cA x).cls = cA := by
  obtain ⟨n, f | f | f | f | f⟩ := x <;> rfl
theorem inb_lt {i : Int32} {n : Nat} (h : inb i n = true) : i.toNatClampNeg < n := by
  have h1 := inb_in h
  exact Nat.not_le.mp (fun q => h1 (Or.inr q))
theorem t6 {τ : Nat} (h : τ < 6) : τ = 0 ∨ τ = 1 ∨ τ = 2 ∨ τ = 3 ∨ τ = 4 ∨ τ = 5 := by omega
section XC
variable {p : Program} {l : Launch} {e : Env} {R : Room} {s : State} {m : MethodId} {args : Array Value} {below : List Frame} {meth : Method} {c : Code} {nL cells slots : Nat} {A : Nat → Prop} {g : XG} {ξ : XS} {Q : State → Prop} {pc n : Nat} {lv : List (Nat × Value)} {st : List Value} {cc : ByteArray} {ρ : Type} {res : ρ}
theorem xdast_bp {own : String} (E : EV p s m args c cc nL own) {i x : Int32} {a : Nat} {kk : XS → Prop} (d : decode cc pc = .ok (.bastore, 1)) (h : bndp (dA ξ a (xc g 1)) (fun n f => if inb i n = true then nx (sXd ξ a (.inl (xc g 1, n, .inl (upd f i.toNatClampNeg (vp_nar .byte x))))) kk else False)) (hn : pc + 1 = n) (k : ∀ ξ1 : XS, kk ξ1 → CF p l e R s m args below meth c nL cells slots (XB g A s ξ1) Q n lv st) : CF p l e R s m args below meth c nL cells slots (XB g A s ξ) Q pc lv (.int x :: .int i :: .ref a :: st) := by
  subst hn
  obtain ⟨n9, f, hd, h⟩ := h
  by_cases hi : inb i n9 = true
  · have h : (if inb i n9 = true then nx (sXd ξ a (.inl (xc g 1, n9, .inl (upd f i.toNatClampNeg (vp_nar .byte x))))) kk else False) := h
    rw [if_pos hi] at h
    have he := dA_at hd
    obtain ⟨q0, hq⟩ := dE_at (g := g) he
    intro H locs ls hB hl
    refine va_bast E.1 E.2.1 hB.2.2.2.1 hB.1 hB.2.1 hB.2.2.1 q0 1 hq rfl (inb_in hi) d (fun H1 locs1 hP hD hS => ?_)
    rw [xcs_set hB.2.1 he hq] at hP hD
    exact k _ h H1 locs1 ls ⟨hP, hD, hS, hB.2.2.2⟩ hl
  · have h : (if inb i n9 = true then nx (sXd ξ a (.inl (xc g 1, n9, .inl (upd f i.toNatClampNeg (vp_nar .byte x))))) kk else False) := h
    rw [if_neg hi] at h; cases h
theorem xnnp {own : String} (E : EV p s m args c cc nL own) {o : Option Nat} {off : Int} {tgt : Nat} {At Bf : Prop} (d : decode cc pc = .ok (.ifnonnull off, 3)) (h : (if o.isSome = true then At else Bf)) (ht : (pc : Int) + off = (tgt : Int)) (hn : pc + 3 = n) (kt : At → CF p l e R s m args below meth c nL cells slots (XB g A s ξ) Q tgt lv st) (kf : Bf → CF p l e R s m args below meth c nL cells slots (XB g A s ξ) Q n lv st) : CF p l e R s m args below meth c nL cells slots (XB g A s ξ) Q pc lv (va_rf o :: st) := by
  subst hn
  intro H locs ls hB hl
  cases o with
  | none => exact lv_ifnonnullN E.1 E.2.1 d (kf (by simpa using h) H locs ls hB hl)
  | some a => exact lv_ifnonnull E.1 E.2.1 d ht (kt (by simpa using h) H locs ls hB hl)
theorem xnulp {own : String} (E : EV p s m args c cc nL own) {o : Option Nat} {off : Int} {tgt : Nat} {At Bf : Prop} (d : decode cc pc = .ok (.ifnull off, 3)) (h : (if o.isSome = true then Bf else At)) (ht : (pc : Int) + off = (tgt : Int)) (hn : pc + 3 = n) (kt : At → CF p l e R s m args below meth c nL cells slots (XB g A s ξ) Q tgt lv st) (kf : Bf → CF p l e R s m args below meth c nL cells slots (XB g A s ξ) Q n lv st) : CF p l e R s m args below meth c nL cells slots (XB g A s ξ) Q pc lv (va_rf o :: st) := by
  subst hn
  intro H locs ls hB hl
  cases o with
  | none => exact lv_ifnullN E.1 E.2.1 d ht (kt (by simpa using h) H locs ls hB hl)
  | some a => exact lv_ifnull E.1 E.2.1 d (kf (by simpa using h) H locs ls hB hl)
theorem xinTp (E : EV p s m args c cc nL RX0) {a : Nat} {A9 : Prop} (d : decode cc pc = .ok (.instanceof 157, 3)) (h : (if isC ξ a 8 14 = true then A9 else False)) (hn : pc + 3 = n) (k : A9 → CF p l e R s m args below meth c nL cells slots (XB g A s ξ) Q n lv (.int (if isC ξ a 14 14 = true then 1 else 0) :: st)) : CF p l e R s m args below meth c nL cells slots (XB g A s ξ) Q pc lv (.ref a :: st) := by
  subst hn
  by_cases hi : isC ξ a 8 14 = true
  · rw [if_pos hi] at h
    obtain ⟨ci, hci, h1, h2⟩ := isC_at hi
    intro H locs ls hB hl
    have kk := k h H locs ls hB hl
    by_cases e14 : ci = 14
    · subst e14
      rw [if_pos (show isC ξ a 14 14 = true by simp [isC, hci])] at kk
      exact va_instS E.1 E.2.1 E.2.2.2.1 (E.2.2.2.2 _ q534) (hB.2.2.2.1.1 14 _ rfl).2 (xrecv_cell hB (xrecv_d (q := (RX13, TX13, 8)) hci rfl)) d kk
    · rw [if_neg (show ¬ isC ξ a 14 14 = true by simp only [isC, hci, decide_eq_true_eq]; omega)] at kk
      have hcc : ci = 8 ∨ ci = 9 ∨ ci = 10 ∨ ci = 11 ∨ ci = 12 ∨ ci = 13 := by omega
      rcases hcc with rfl | rfl | rfl | rfl | rfl | rfl
      · exact va_instNo E.1 E.2.1 E.2.2.2.1 (E.2.2.2.2 _ q534) (hB.2.2.2.2.2.2.1 _ (List.mem_of_getElem? (i := 5) rfl)) (xrecv_cell hB (xrecv_d (q := (RX7, TX7, 5)) hci rfl)) d kk
      · exact va_instNo E.1 E.2.1 E.2.2.2.1 (E.2.2.2.2 _ q534) (hB.2.2.2.2.2.2.1 _ (List.mem_of_getElem? (i := 10) rfl)) (xrecv_cell hB (xrecv_d (q := (RX8, TX8, 6)) hci rfl)) d kk
      · exact va_instNo E.1 E.2.1 E.2.2.2.1 (E.2.2.2.2 _ q534) (hB.2.2.2.2.2.2.1 _ (List.mem_of_getElem? (i := 15) rfl)) (xrecv_cell hB (xrecv_d (q := (RX9, TX9, 6)) hci rfl)) d kk
      · exact va_instNo E.1 E.2.1 E.2.2.2.1 (E.2.2.2.2 _ q534) (hB.2.2.2.2.2.2.1 _ (List.mem_of_getElem? (i := 20) rfl)) (xrecv_cell hB (xrecv_d (q := (RX10, TX10, 6)) hci rfl)) d kk
      · exact va_instNo E.1 E.2.1 E.2.2.2.1 (E.2.2.2.2 _ q534) (hB.2.2.2.2.2.2.1 _ (List.mem_of_getElem? (i := 24) rfl)) (xrecv_cell hB (xrecv_d (q := (RX11, TX11, 7)) hci rfl)) d kk
      · exact va_instNo E.1 E.2.1 E.2.2.2.1 (E.2.2.2.2 _ q534) (hB.2.2.2.2.2.2.1 _ (List.mem_of_getElem? (i := 28) rfl)) (xrecv_cell hB (xrecv_d (q := (RX12, TX12, 7)) hci rfl)) d kk
  · rw [if_neg hi] at h; cases h
theorem xcpq_3_26p (E : EV p s m args c cc nL RX0) {sp dp nn : Int32} {kk : XS → Prop} (hR : 1 ≤ R.frames ∧ 40 ≤ R.locals) (hcat : (st.map fun v => v.category).sum ≤ 8) (d : decode cc pc = .ok (.invokestatic 286, 3)) (h : (if cpk sp dp nn 6 6 = true ∧ allH ξ (xQ ξ 3) sp.toNatClampNeg nn.toNatClampNeg = true then nx (sXQ ξ 26 (va_cpy (xQ ξ 3) (xQ ξ 26) sp.toNatClampNeg dp.toNatClampNeg nn.toNatClampNeg)) kk else False)) (hn : pc + 3 = n) (k : ∀ ξ1 : XS, kk ξ1 → CF p l e R s m args below meth c nL cells slots (XB g A s ξ1) Q n lv st) : CF p l e R s m args below meth c nL cells slots (XB g A s ξ) Q pc lv (.int nn :: .int dp :: .ref (xa g 126) :: .int sp :: .ref (xa g 103) :: st) := by
  subst hn
  by_cases hi : cpk sp dp nn 6 6 = true ∧ allH ξ (xQ ξ 3) sp.toNatClampNeg nn.toNatClampNeg = true
  · rw [if_pos hi] at h
    have hc := cpk_at hi.1
    intro H locs ls hB hl
    exact va_copyM E.1 E.2.1 (E.2.2.1.trans hl.1.symm) E.2.2.2.1 (E.2.2.2.2 _ q1143) (E.2.2.2.2 _ q1038) (E.2.2.2.2 _ q1037) (E.2.2.2.2 _ q131) hB.2.2.2.1 hB.1 hB.2.1 hB.2.2.1 4 15 5 5 (E0 := "HatsDecide$Hat") (E1 := "HatsDecide$Hat") rfl rfl rfl rfl hc.1 hc.2.1 hc.2.2.1 hc.2.2.2.1 hc.2.2.2.2 (fun i hi9 y hy => xanyH hB (allH_at hi.2 i hi9 y hy)) hR.1 (Nat.le_trans (Nat.add_le_add hcat (Nat.le_of_ble_eq_true (m := 32) rfl)) hR.2) d (fun H1 locs1 hP hD hS => k _ h H1 locs1 ls ⟨hP, hD, hS, hB.2.2.2⟩ hl)
  · rw [if_neg hi] at h; cases h
theorem xcpq_26_3p (E : EV p s m args c cc nL RX0) {sp dp nn : Int32} {kk : XS → Prop} (hR : 1 ≤ R.frames ∧ 40 ≤ R.locals) (hcat : (st.map fun v => v.category).sum ≤ 8) (d : decode cc pc = .ok (.invokestatic 286, 3)) (h : (if cpk sp dp nn 6 6 = true ∧ allH ξ (xQ ξ 26) sp.toNatClampNeg nn.toNatClampNeg = true then nx (sXQ ξ 3 (va_cpy (xQ ξ 26) (xQ ξ 3) sp.toNatClampNeg dp.toNatClampNeg nn.toNatClampNeg)) kk else False)) (hn : pc + 3 = n) (k : ∀ ξ1 : XS, kk ξ1 → CF p l e R s m args below meth c nL cells slots (XB g A s ξ1) Q n lv st) : CF p l e R s m args below meth c nL cells slots (XB g A s ξ) Q pc lv (.int nn :: .int dp :: .ref (xa g 103) :: .int sp :: .ref (xa g 126) :: st) := by
  subst hn
  by_cases hi : cpk sp dp nn 6 6 = true ∧ allH ξ (xQ ξ 26) sp.toNatClampNeg nn.toNatClampNeg = true
  · rw [if_pos hi] at h
    have hc := cpk_at hi.1
    intro H locs ls hB hl
    exact va_copyM E.1 E.2.1 (E.2.2.1.trans hl.1.symm) E.2.2.2.1 (E.2.2.2.2 _ q1143) (E.2.2.2.2 _ q1038) (E.2.2.2.2 _ q1037) (E.2.2.2.2 _ q131) hB.2.2.2.1 hB.1 hB.2.1 hB.2.2.1 15 4 5 5 (E0 := "HatsDecide$Hat") (E1 := "HatsDecide$Hat") rfl rfl rfl rfl hc.1 hc.2.1 hc.2.2.1 hc.2.2.2.1 hc.2.2.2.2 (fun i hi9 y hy => xanyH hB (allH_at hi.2 i hi9 y hy)) hR.1 (Nat.le_trans (Nat.add_le_add hcat (Nat.le_of_ble_eq_true (m := 32) rfl)) hR.2) d (fun H1 locs1 hP hD hS => k _ h H1 locs1 ls ⟨hP, hD, hS, hB.2.2.2⟩ hl)
  · rw [if_neg hi] at h; cases h
theorem xcpDSp (E : EV p s m args c cc nL RX0) {sp dp nn : Int32} {a : Nat} {kk : XS → Prop} (hR : 1 ≤ R.frames ∧ 40 ≤ R.locals) (hcat : (st.map fun v => v.category).sum ≤ 8) (d : decode cc pc = .ok (.invokestatic 286, 3)) (h : bndp (dA ξ a (xc g 1)) (fun n9 f => if cpk sp dp nn n9 24 = true ∧ fitB f sp.toNatClampNeg nn.toNatClampNeg = true then nx (sXC ξ 27 (va_cpy f (xR ξ 27) sp.toNatClampNeg dp.toNatClampNeg nn.toNatClampNeg)) kk else False)) (hn : pc + 3 = n) (k : ∀ ξ1 : XS, kk ξ1 → CF p l e R s m args below meth c nL cells slots (XB g A s ξ1) Q n lv st) : CF p l e R s m args below meth c nL cells slots (XB g A s ξ) Q pc lv (.int nn :: .int dp :: .ref (xa g 127) :: .int sp :: .ref a :: st) := by
  subst hn
  obtain ⟨n9, f, hd, h⟩ := h
  have h : (if cpk sp dp nn n9 24 = true ∧ fitB f sp.toNatClampNeg nn.toNatClampNeg = true then nx (sXC ξ 27 (va_cpy f (xR ξ 27) sp.toNatClampNeg dp.toNatClampNeg nn.toNatClampNeg)) kk else False) := h
  by_cases hi : cpk sp dp nn n9 24 = true ∧ fitB f sp.toNatClampNeg nn.toNatClampNeg = true
  · rw [if_pos hi] at h
    have hc := cpk_at hi.1
    obtain ⟨q0, hq⟩ := dE_at (g := g) (dA_at hd)
    intro H locs ls hB hl
    exact va_copyi E.1 E.2.1 (E.2.2.1.trans hl.1.symm) E.2.2.2.1 (E.2.2.2.2 _ q1143) (E.2.2.2.2 _ q1038) (E.2.2.2.2 _ q1037) (E.2.2.2.2 _ q131) hB.2.2.2.1 hB.1 hB.2.1 hB.2.2.1 q0 16 1 1 (ty := .byte) hq rfl rfl rfl rfl hc.1 hc.2.1 hc.2.2.1 hc.2.2.2.1 hc.2.2.2.2 (fitB_at hi.2) hR.1 (Nat.le_trans (Nat.add_le_add hcat (Nat.le_of_ble_eq_true (m := 32) rfl)) hR.2) d (fun H1 locs1 hP hD hS => k _ h H1 locs1 ls ⟨hP, hD, hS, hB.2.2.2⟩ hl)
  · rw [if_neg hi] at h; cases h
theorem xcpSDp (E : EV p s m args c cc nL RX0) {sp dp nn : Int32} {a : Nat} {kk : XS → Prop} (hR : 1 ≤ R.frames ∧ 40 ≤ R.locals) (hcat : (st.map fun v => v.category).sum ≤ 8) (d : decode cc pc = .ok (.invokestatic 286, 3)) (h : bndp (dA ξ a (xc g 1)) (fun n9 f => if cpk sp dp nn 24 n9 = true ∧ fitB (xR ξ 27) sp.toNatClampNeg nn.toNatClampNeg = true then nx (sXd ξ a (.inl (xc g 1, n9, .inl (va_cpy (xR ξ 27) f sp.toNatClampNeg dp.toNatClampNeg nn.toNatClampNeg)))) kk else False)) (hn : pc + 3 = n) (k : ∀ ξ1 : XS, kk ξ1 → CF p l e R s m args below meth c nL cells slots (XB g A s ξ1) Q n lv st) : CF p l e R s m args below meth c nL cells slots (XB g A s ξ) Q pc lv (.int nn :: .int dp :: .ref a :: .int sp :: .ref (xa g 127) :: st) := by
  subst hn
  obtain ⟨n9, f, hd, h⟩ := h
  have h : (if cpk sp dp nn 24 n9 = true ∧ fitB (xR ξ 27) sp.toNatClampNeg nn.toNatClampNeg = true then nx (sXd ξ a (.inl (xc g 1, n9, .inl (va_cpy (xR ξ 27) f sp.toNatClampNeg dp.toNatClampNeg nn.toNatClampNeg)))) kk else False) := h
  by_cases hi : cpk sp dp nn 24 n9 = true ∧ fitB (xR ξ 27) sp.toNatClampNeg nn.toNatClampNeg = true
  · rw [if_pos hi] at h
    have hc := cpk_at hi.1
    have he := dA_at hd
    obtain ⟨q0, hq⟩ := dE_at (g := g) he
    intro H locs ls hB hl
    refine va_copyi E.1 E.2.1 (E.2.2.1.trans hl.1.symm) E.2.2.2.1 (E.2.2.2.2 _ q1143) (E.2.2.2.2 _ q1038) (E.2.2.2.2 _ q1037) (E.2.2.2.2 _ q131) hB.2.2.2.1 hB.1 hB.2.1 hB.2.2.1 16 q0 1 1 (ty := .byte) rfl hq rfl rfl rfl hc.1 hc.2.1 hc.2.2.1 hc.2.2.2.1 hc.2.2.2.2 (fitB_at hi.2) hR.1 (Nat.le_trans (Nat.add_le_add hcat (Nat.le_of_ble_eq_true (m := 32) rfl)) hR.2) d (fun H1 locs1 hP hD hS => ?_)
    rw [xcs_set hB.2.1 he hq] at hP hD
    exact k _ h H1 locs1 ls ⟨hP, hD, hS, hB.2.2.2⟩ hl
  · rw [if_neg hi] at h; cases h
theorem xlenA_0 {own : String} (E : EV p s m args c cc nL own) {a : Nat} {kk : Nat → Option ρ} (d : decode cc pc = .ok (.arraylength, 1)) (h : bno (dLen ξ a (xc g 0)) kk = some res) (hn : pc + 1 = n) (k : ∀ n9 : Nat, kk n9 = some res → CF p l e R s m args below meth c nL cells slots (XB g A s ξ) Q n lv (.int (Int32.ofNat n9) :: st)) : CF p l e R s m args below meth c nL cells slots (XB g A s ξ) Q pc lv (.ref a :: st) := by
  subst hn
  obtain ⟨n9, hd, h⟩ := bno_some h
  obtain ⟨x, hx⟩ := dLen_at hd
  obtain ⟨q0, hq⟩ := dE_at (g := g) hx
  exact fun H locs ls hB hl => va_alen E.1 E.2.1 hB.2.2.2.1 hB.1 q0 0 hq rfl rfl d (k n9 h H locs ls hB hl)
theorem xlenA_0p {own : String} (E : EV p s m args c cc nL own) {a : Nat} {kk : Nat → Prop} (d : decode cc pc = .ok (.arraylength, 1)) (h : bnop (dLen ξ a (xc g 0)) kk) (hn : pc + 1 = n) (k : ∀ n9 : Nat, kk n9 → CF p l e R s m args below meth c nL cells slots (XB g A s ξ) Q n lv (.int (Int32.ofNat n9) :: st)) : CF p l e R s m args below meth c nL cells slots (XB g A s ξ) Q pc lv (.ref a :: st) := by
  subst hn
  obtain ⟨n9, hd, h⟩ := h
  obtain ⟨x, hx⟩ := dLen_at hd
  obtain ⟨q0, hq⟩ := dE_at (g := g) hx
  exact fun H locs ls hB hl => va_alen E.1 E.2.1 hB.2.2.2.1 hB.1 q0 0 hq rfl rfl d (k n9 h H locs ls hB hl)
theorem xlenA_1 {own : String} (E : EV p s m args c cc nL own) {a : Nat} {kk : Nat → Option ρ} (d : decode cc pc = .ok (.arraylength, 1)) (h : bno (dLen ξ a (xc g 1)) kk = some res) (hn : pc + 1 = n) (k : ∀ n9 : Nat, kk n9 = some res → CF p l e R s m args below meth c nL cells slots (XB g A s ξ) Q n lv (.int (Int32.ofNat n9) :: st)) : CF p l e R s m args below meth c nL cells slots (XB g A s ξ) Q pc lv (.ref a :: st) := by
  subst hn
  obtain ⟨n9, hd, h⟩ := bno_some h
  obtain ⟨x, hx⟩ := dLen_at hd
  obtain ⟨q0, hq⟩ := dE_at (g := g) hx
  exact fun H locs ls hB hl => va_alen E.1 E.2.1 hB.2.2.2.1 hB.1 q0 1 hq rfl rfl d (k n9 h H locs ls hB hl)
theorem xlenA_1p {own : String} (E : EV p s m args c cc nL own) {a : Nat} {kk : Nat → Prop} (d : decode cc pc = .ok (.arraylength, 1)) (h : bnop (dLen ξ a (xc g 1)) kk) (hn : pc + 1 = n) (k : ∀ n9 : Nat, kk n9 → CF p l e R s m args below meth c nL cells slots (XB g A s ξ) Q n lv (.int (Int32.ofNat n9) :: st)) : CF p l e R s m args below meth c nL cells slots (XB g A s ξ) Q pc lv (.ref a :: st) := by
  subst hn
  obtain ⟨n9, hd, h⟩ := h
  obtain ⟨x, hx⟩ := dLen_at hd
  obtain ⟨q0, hq⟩ := dE_at (g := g) hx
  exact fun H locs ls hB hl => va_alen E.1 E.2.1 hB.2.2.2.1 hB.1 q0 1 hq rfl rfl d (k n9 h H locs ls hB hl)
theorem xlenA_2 {own : String} (E : EV p s m args c cc nL own) {a : Nat} {kk : Nat → Option ρ} (d : decode cc pc = .ok (.arraylength, 1)) (h : bno (dLen ξ a (xc g 2)) kk = some res) (hn : pc + 1 = n) (k : ∀ n9 : Nat, kk n9 = some res → CF p l e R s m args below meth c nL cells slots (XB g A s ξ) Q n lv (.int (Int32.ofNat n9) :: st)) : CF p l e R s m args below meth c nL cells slots (XB g A s ξ) Q pc lv (.ref a :: st) := by
  subst hn
  obtain ⟨n9, hd, h⟩ := bno_some h
  obtain ⟨x, hx⟩ := dLen_at hd
  obtain ⟨q0, hq⟩ := dE_at (g := g) hx
  exact fun H locs ls hB hl => va_alen E.1 E.2.1 hB.2.2.2.1 hB.1 q0 2 hq rfl rfl d (k n9 h H locs ls hB hl)
theorem xlenA_2p {own : String} (E : EV p s m args c cc nL own) {a : Nat} {kk : Nat → Prop} (d : decode cc pc = .ok (.arraylength, 1)) (h : bnop (dLen ξ a (xc g 2)) kk) (hn : pc + 1 = n) (k : ∀ n9 : Nat, kk n9 → CF p l e R s m args below meth c nL cells slots (XB g A s ξ) Q n lv (.int (Int32.ofNat n9) :: st)) : CF p l e R s m args below meth c nL cells slots (XB g A s ξ) Q pc lv (.ref a :: st) := by
  subst hn
  obtain ⟨n9, hd, h⟩ := h
  obtain ⟨x, hx⟩ := dLen_at hd
  obtain ⟨q0, hq⟩ := dE_at (g := g) hx
  exact fun H locs ls hB hl => va_alen E.1 E.2.1 hB.2.2.2.1 hB.1 q0 2 hq rfl rfl d (k n9 h H locs ls hB hl)
theorem xlenA_3 {own : String} (E : EV p s m args c cc nL own) {a : Nat} {kk : Nat → Option ρ} (d : decode cc pc = .ok (.arraylength, 1)) (h : bno (dLen ξ a (xc g 3)) kk = some res) (hn : pc + 1 = n) (k : ∀ n9 : Nat, kk n9 = some res → CF p l e R s m args below meth c nL cells slots (XB g A s ξ) Q n lv (.int (Int32.ofNat n9) :: st)) : CF p l e R s m args below meth c nL cells slots (XB g A s ξ) Q pc lv (.ref a :: st) := by
  subst hn
  obtain ⟨n9, hd, h⟩ := bno_some h
  obtain ⟨x, hx⟩ := dLen_at hd
  obtain ⟨q0, hq⟩ := dE_at (g := g) hx
  exact fun H locs ls hB hl => va_alen E.1 E.2.1 hB.2.2.2.1 hB.1 q0 3 hq rfl rfl d (k n9 h H locs ls hB hl)
theorem xlenA_3p {own : String} (E : EV p s m args c cc nL own) {a : Nat} {kk : Nat → Prop} (d : decode cc pc = .ok (.arraylength, 1)) (h : bnop (dLen ξ a (xc g 3)) kk) (hn : pc + 1 = n) (k : ∀ n9 : Nat, kk n9 → CF p l e R s m args below meth c nL cells slots (XB g A s ξ) Q n lv (.int (Int32.ofNat n9) :: st)) : CF p l e R s m args below meth c nL cells slots (XB g A s ξ) Q pc lv (.ref a :: st) := by
  subst hn
  obtain ⟨n9, hd, h⟩ := h
  obtain ⟨x, hx⟩ := dLen_at hd
  obtain ⟨q0, hq⟩ := dE_at (g := g) hx
  exact fun H locs ls hB hl => va_alen E.1 E.2.1 hB.2.2.2.1 hB.1 q0 3 hq rfl rfl d (k n9 h H locs ls hB hl)
theorem xlenA_4 {own : String} (E : EV p s m args c cc nL own) {a : Nat} {kk : Nat → Option ρ} (d : decode cc pc = .ok (.arraylength, 1)) (h : bno (dLen ξ a (xc g 4)) kk = some res) (hn : pc + 1 = n) (k : ∀ n9 : Nat, kk n9 = some res → CF p l e R s m args below meth c nL cells slots (XB g A s ξ) Q n lv (.int (Int32.ofNat n9) :: st)) : CF p l e R s m args below meth c nL cells slots (XB g A s ξ) Q pc lv (.ref a :: st) := by
  subst hn
  obtain ⟨n9, hd, h⟩ := bno_some h
  obtain ⟨x, hx⟩ := dLen_at hd
  obtain ⟨q0, hq⟩ := dE_at (g := g) hx
  exact fun H locs ls hB hl => va_alen E.1 E.2.1 hB.2.2.2.1 hB.1 q0 4 hq rfl rfl d (k n9 h H locs ls hB hl)
theorem xlenA_4p {own : String} (E : EV p s m args c cc nL own) {a : Nat} {kk : Nat → Prop} (d : decode cc pc = .ok (.arraylength, 1)) (h : bnop (dLen ξ a (xc g 4)) kk) (hn : pc + 1 = n) (k : ∀ n9 : Nat, kk n9 → CF p l e R s m args below meth c nL cells slots (XB g A s ξ) Q n lv (.int (Int32.ofNat n9) :: st)) : CF p l e R s m args below meth c nL cells slots (XB g A s ξ) Q pc lv (.ref a :: st) := by
  subst hn
  obtain ⟨n9, hd, h⟩ := h
  obtain ⟨x, hx⟩ := dLen_at hd
  obtain ⟨q0, hq⟩ := dE_at (g := g) hx
  exact fun H locs ls hB hl => va_alen E.1 E.2.1 hB.2.2.2.1 hB.1 q0 4 hq rfl rfl d (k n9 h H locs ls hB hl)
theorem xdald_z {own : String} (E : EV p s m args c cc nL own) {i : Int32} {a : Nat} {kk : Nat → (Nat → Int32) → Option ρ} (d : decode cc pc = .ok (.baload, 1)) (h : bnd (dA ξ a (xc g 2)) (fun n f => if inb i n = true then kk n f else none) = some res) (hn : pc + 1 = n) (k : ∀ n9 f, kk n9 f = some res → CF p l e R s m args below meth c nL cells slots (XB g A s ξ) Q n lv (.int (f i.toNatClampNeg) :: st)) : CF p l e R s m args below meth c nL cells slots (XB g A s ξ) Q pc lv (.int i :: .ref a :: st) := by
  subst hn
  obtain ⟨n9, f, hd, h⟩ := bnd_some h
  by_cases hi : inb i n9 = true
  · have h : (if inb i n9 = true then kk n9 f else none) = some res := h
    rw [if_pos hi] at h
    obtain ⟨q0, hq⟩ := dE_at (g := g) (dA_at hd)
    exact fun H locs ls hB hl => va_zald E.1 E.2.1 hB.2.2.2.1 hB.1 q0 2 hq rfl (inb_in hi) d (k n9 f h H locs ls hB hl)
  · have h : (if inb i n9 = true then kk n9 f else none) = some res := h
    rw [if_neg hi] at h; cases h
theorem xdald_zp {own : String} (E : EV p s m args c cc nL own) {i : Int32} {a : Nat} {kk : Nat → (Nat → Int32) → Prop} (d : decode cc pc = .ok (.baload, 1)) (h : bndp (dA ξ a (xc g 2)) (fun n f => if inb i n = true then kk n f else False)) (hn : pc + 1 = n) (k : ∀ n9 f, kk n9 f → CF p l e R s m args below meth c nL cells slots (XB g A s ξ) Q n lv (.int (f i.toNatClampNeg) :: st)) : CF p l e R s m args below meth c nL cells slots (XB g A s ξ) Q pc lv (.int i :: .ref a :: st) := by
  subst hn
  obtain ⟨n9, f, hd, h⟩ := h
  by_cases hi : inb i n9 = true
  · have h : (if inb i n9 = true then kk n9 f else False) := h
    rw [if_pos hi] at h
    obtain ⟨q0, hq⟩ := dE_at (g := g) (dA_at hd)
    exact fun H locs ls hB hl => va_zald E.1 E.2.1 hB.2.2.2.1 hB.1 q0 2 hq rfl (inb_in hi) d (k n9 f h H locs ls hB hl)
  · have h : (if inb i n9 = true then kk n9 f else False) := h
    rw [if_neg hi] at h; cases h
theorem xdald_s {own : String} (E : EV p s m args c cc nL own) {i : Int32} {a : Nat} {kk : Nat → (Nat → Int32) → Option ρ} (d : decode cc pc = .ok (.saload, 1)) (h : bnd (dA ξ a (xc g 4)) (fun n f => if inb i n = true then kk n f else none) = some res) (hn : pc + 1 = n) (k : ∀ n9 f, kk n9 f = some res → CF p l e R s m args below meth c nL cells slots (XB g A s ξ) Q n lv (.int (f i.toNatClampNeg) :: st)) : CF p l e R s m args below meth c nL cells slots (XB g A s ξ) Q pc lv (.int i :: .ref a :: st) := by
  subst hn
  obtain ⟨n9, f, hd, h⟩ := bnd_some h
  by_cases hi : inb i n9 = true
  · have h : (if inb i n9 = true then kk n9 f else none) = some res := h
    rw [if_pos hi] at h
    obtain ⟨q0, hq⟩ := dE_at (g := g) (dA_at hd)
    exact fun H locs ls hB hl => va_sald E.1 E.2.1 hB.2.2.2.1 hB.1 q0 4 hq rfl (inb_in hi) d (k n9 f h H locs ls hB hl)
  · have h : (if inb i n9 = true then kk n9 f else none) = some res := h
    rw [if_neg hi] at h; cases h
theorem xdald_sp {own : String} (E : EV p s m args c cc nL own) {i : Int32} {a : Nat} {kk : Nat → (Nat → Int32) → Prop} (d : decode cc pc = .ok (.saload, 1)) (h : bndp (dA ξ a (xc g 4)) (fun n f => if inb i n = true then kk n f else False)) (hn : pc + 1 = n) (k : ∀ n9 f, kk n9 f → CF p l e R s m args below meth c nL cells slots (XB g A s ξ) Q n lv (.int (f i.toNatClampNeg) :: st)) : CF p l e R s m args below meth c nL cells slots (XB g A s ξ) Q pc lv (.int i :: .ref a :: st) := by
  subst hn
  obtain ⟨n9, f, hd, h⟩ := h
  by_cases hi : inb i n9 = true
  · have h : (if inb i n9 = true then kk n9 f else False) := h
    rw [if_pos hi] at h
    obtain ⟨q0, hq⟩ := dE_at (g := g) (dA_at hd)
    exact fun H locs ls hB hl => va_sald E.1 E.2.1 hB.2.2.2.1 hB.1 q0 4 hq rfl (inb_in hi) d (k n9 f h H locs ls hB hl)
  · have h : (if inb i n9 = true then kk n9 f else False) := h
    rw [if_neg hi] at h; cases h
theorem xdald_l {own : String} (E : EV p s m args c cc nL own) {i : Int32} {a : Nat} {kk : Nat → (Nat → Int64) → Option ρ} (d : decode cc pc = .ok (.laload, 1)) (h : bnd (dAl ξ a (xc g 3)) (fun n f => if inb i n = true then kk n f else none) = some res) (hn : pc + 1 = n) (k : ∀ n9 f, kk n9 f = some res → CF p l e R s m args below meth c nL cells slots (XB g A s ξ) Q n lv (.long (f i.toNatClampNeg) :: st)) : CF p l e R s m args below meth c nL cells slots (XB g A s ξ) Q pc lv (.int i :: .ref a :: st) := by
  subst hn
  obtain ⟨n9, f, hd, h⟩ := bnd_some h
  by_cases hi : inb i n9 = true
  · have h : (if inb i n9 = true then kk n9 f else none) = some res := h
    rw [if_pos hi] at h
    obtain ⟨q0, hq⟩ := dE_at (g := g) (dAl_at hd)
    exact fun H locs ls hB hl => va_lald E.1 E.2.1 hB.2.2.2.1 hB.1 q0 3 hq rfl (inb_in hi) d (k n9 f h H locs ls hB hl)
  · have h : (if inb i n9 = true then kk n9 f else none) = some res := h
    rw [if_neg hi] at h; cases h
theorem xdald_lp {own : String} (E : EV p s m args c cc nL own) {i : Int32} {a : Nat} {kk : Nat → (Nat → Int64) → Prop} (d : decode cc pc = .ok (.laload, 1)) (h : bndp (dAl ξ a (xc g 3)) (fun n f => if inb i n = true then kk n f else False)) (hn : pc + 1 = n) (k : ∀ n9 f, kk n9 f → CF p l e R s m args below meth c nL cells slots (XB g A s ξ) Q n lv (.long (f i.toNatClampNeg) :: st)) : CF p l e R s m args below meth c nL cells slots (XB g A s ξ) Q pc lv (.int i :: .ref a :: st) := by
  subst hn
  obtain ⟨n9, f, hd, h⟩ := h
  by_cases hi : inb i n9 = true
  · have h : (if inb i n9 = true then kk n9 f else False) := h
    rw [if_pos hi] at h
    obtain ⟨q0, hq⟩ := dE_at (g := g) (dAl_at hd)
    exact fun H locs ls hB hl => va_lald E.1 E.2.1 hB.2.2.2.1 hB.1 q0 3 hq rfl (inb_in hi) d (k n9 f h H locs ls hB hl)
  · have h : (if inb i n9 = true then kk n9 f else False) := h
    rw [if_neg hi] at h; cases h
theorem xdast_i {own : String} (E : EV p s m args c cc nL own) {i : Int32} {x : Int32} {a : Nat} {kk : XS → Option ρ} (d : decode cc pc = .ok (.iastore, 1)) (h : bnd (dA ξ a (xc g 0)) (fun n f => if inb i n = true then nx (sXd ξ a (.inl (xc g 0, n, .inl (upd f i.toNatClampNeg x)))) kk else none) = some res) (hn : pc + 1 = n) (k : ∀ ξ1 : XS, kk ξ1 = some res → CF p l e R s m args below meth c nL cells slots (XB g A s ξ1) Q n lv st) : CF p l e R s m args below meth c nL cells slots (XB g A s ξ) Q pc lv (.int x :: .int i :: .ref a :: st) := by
  subst hn
  obtain ⟨n9, f, hd, h⟩ := bnd_some h
  by_cases hi : inb i n9 = true
  · have h : (if inb i n9 = true then nx (sXd ξ a (.inl (xc g 0, n9, .inl (upd f i.toNatClampNeg x)))) kk else none) = some res := h
    rw [if_pos hi] at h
    have he := dA_at hd
    obtain ⟨q0, hq⟩ := dE_at (g := g) he
    intro H locs ls hB hl
    refine va_iast E.1 E.2.1 hB.2.2.2.1 hB.1 hB.2.1 hB.2.2.1 q0 0 hq rfl (inb_in hi) d (fun H1 locs1 hP hD hS => ?_)
    rw [xcs_set hB.2.1 he hq] at hP hD
    exact k _ h H1 locs1 ls ⟨hP, hD, hS, hB.2.2.2⟩ hl
  · have h : (if inb i n9 = true then nx (sXd ξ a (.inl (xc g 0, n9, .inl (upd f i.toNatClampNeg x)))) kk else none) = some res := h
    rw [if_neg hi] at h; cases h
theorem xdast_ip {own : String} (E : EV p s m args c cc nL own) {i : Int32} {x : Int32} {a : Nat} {kk : XS → Prop} (d : decode cc pc = .ok (.iastore, 1)) (h : bndp (dA ξ a (xc g 0)) (fun n f => if inb i n = true then nx (sXd ξ a (.inl (xc g 0, n, .inl (upd f i.toNatClampNeg x)))) kk else False)) (hn : pc + 1 = n) (k : ∀ ξ1 : XS, kk ξ1 → CF p l e R s m args below meth c nL cells slots (XB g A s ξ1) Q n lv st) : CF p l e R s m args below meth c nL cells slots (XB g A s ξ) Q pc lv (.int x :: .int i :: .ref a :: st) := by
  subst hn
  obtain ⟨n9, f, hd, h⟩ := h
  by_cases hi : inb i n9 = true
  · have h : (if inb i n9 = true then nx (sXd ξ a (.inl (xc g 0, n9, .inl (upd f i.toNatClampNeg x)))) kk else False) := h
    rw [if_pos hi] at h
    have he := dA_at hd
    obtain ⟨q0, hq⟩ := dE_at (g := g) he
    intro H locs ls hB hl
    refine va_iast E.1 E.2.1 hB.2.2.2.1 hB.1 hB.2.1 hB.2.2.1 q0 0 hq rfl (inb_in hi) d (fun H1 locs1 hP hD hS => ?_)
    rw [xcs_set hB.2.1 he hq] at hP hD
    exact k _ h H1 locs1 ls ⟨hP, hD, hS, hB.2.2.2⟩ hl
  · have h : (if inb i n9 = true then nx (sXd ξ a (.inl (xc g 0, n9, .inl (upd f i.toNatClampNeg x)))) kk else False) := h
    rw [if_neg hi] at h; cases h
theorem xdast_z {own : String} (E : EV p s m args c cc nL own) {i : Int32} {x : Int32} {a : Nat} {kk : XS → Option ρ} (d : decode cc pc = .ok (.bastore, 1)) (h : bnd (dA ξ a (xc g 2)) (fun n f => if inb i n = true then nx (sXd ξ a (.inl (xc g 2, n, .inl (upd f i.toNatClampNeg (vp_nar .boolean x))))) kk else none) = some res) (hn : pc + 1 = n) (k : ∀ ξ1 : XS, kk ξ1 = some res → CF p l e R s m args below meth c nL cells slots (XB g A s ξ1) Q n lv st) : CF p l e R s m args below meth c nL cells slots (XB g A s ξ) Q pc lv (.int x :: .int i :: .ref a :: st) := by
  subst hn
  obtain ⟨n9, f, hd, h⟩ := bnd_some h
  by_cases hi : inb i n9 = true
  · have h : (if inb i n9 = true then nx (sXd ξ a (.inl (xc g 2, n9, .inl (upd f i.toNatClampNeg (vp_nar .boolean x))))) kk else none) = some res := h
    rw [if_pos hi] at h
    have he := dA_at hd
    obtain ⟨q0, hq⟩ := dE_at (g := g) he
    intro H locs ls hB hl
    refine va_zast E.1 E.2.1 hB.2.2.2.1 hB.1 hB.2.1 hB.2.2.1 q0 2 hq rfl (inb_in hi) d (fun H1 locs1 hP hD hS => ?_)
    rw [xcs_set hB.2.1 he hq] at hP hD
    exact k _ h H1 locs1 ls ⟨hP, hD, hS, hB.2.2.2⟩ hl
  · have h : (if inb i n9 = true then nx (sXd ξ a (.inl (xc g 2, n9, .inl (upd f i.toNatClampNeg (vp_nar .boolean x))))) kk else none) = some res := h
    rw [if_neg hi] at h; cases h
theorem xdast_zp {own : String} (E : EV p s m args c cc nL own) {i : Int32} {x : Int32} {a : Nat} {kk : XS → Prop} (d : decode cc pc = .ok (.bastore, 1)) (h : bndp (dA ξ a (xc g 2)) (fun n f => if inb i n = true then nx (sXd ξ a (.inl (xc g 2, n, .inl (upd f i.toNatClampNeg (vp_nar .boolean x))))) kk else False)) (hn : pc + 1 = n) (k : ∀ ξ1 : XS, kk ξ1 → CF p l e R s m args below meth c nL cells slots (XB g A s ξ1) Q n lv st) : CF p l e R s m args below meth c nL cells slots (XB g A s ξ) Q pc lv (.int x :: .int i :: .ref a :: st) := by
  subst hn
  obtain ⟨n9, f, hd, h⟩ := h
  by_cases hi : inb i n9 = true
  · have h : (if inb i n9 = true then nx (sXd ξ a (.inl (xc g 2, n9, .inl (upd f i.toNatClampNeg (vp_nar .boolean x))))) kk else False) := h
    rw [if_pos hi] at h
    have he := dA_at hd
    obtain ⟨q0, hq⟩ := dE_at (g := g) he
    intro H locs ls hB hl
    refine va_zast E.1 E.2.1 hB.2.2.2.1 hB.1 hB.2.1 hB.2.2.1 q0 2 hq rfl (inb_in hi) d (fun H1 locs1 hP hD hS => ?_)
    rw [xcs_set hB.2.1 he hq] at hP hD
    exact k _ h H1 locs1 ls ⟨hP, hD, hS, hB.2.2.2⟩ hl
  · have h : (if inb i n9 = true then nx (sXd ξ a (.inl (xc g 2, n9, .inl (upd f i.toNatClampNeg (vp_nar .boolean x))))) kk else False) := h
    rw [if_neg hi] at h; cases h
theorem xdast_s {own : String} (E : EV p s m args c cc nL own) {i : Int32} {x : Int32} {a : Nat} {kk : XS → Option ρ} (d : decode cc pc = .ok (.sastore, 1)) (h : bnd (dA ξ a (xc g 4)) (fun n f => if inb i n = true then nx (sXd ξ a (.inl (xc g 4, n, .inl (upd f i.toNatClampNeg (vp_nar .short x))))) kk else none) = some res) (hn : pc + 1 = n) (k : ∀ ξ1 : XS, kk ξ1 = some res → CF p l e R s m args below meth c nL cells slots (XB g A s ξ1) Q n lv st) : CF p l e R s m args below meth c nL cells slots (XB g A s ξ) Q pc lv (.int x :: .int i :: .ref a :: st) := by
  subst hn
  obtain ⟨n9, f, hd, h⟩ := bnd_some h
  by_cases hi : inb i n9 = true
  · have h : (if inb i n9 = true then nx (sXd ξ a (.inl (xc g 4, n9, .inl (upd f i.toNatClampNeg (vp_nar .short x))))) kk else none) = some res := h
    rw [if_pos hi] at h
    have he := dA_at hd
    obtain ⟨q0, hq⟩ := dE_at (g := g) he
    intro H locs ls hB hl
    refine va_sast E.1 E.2.1 hB.2.2.2.1 hB.1 hB.2.1 hB.2.2.1 q0 4 hq rfl (inb_in hi) d (fun H1 locs1 hP hD hS => ?_)
    rw [xcs_set hB.2.1 he hq] at hP hD
    exact k _ h H1 locs1 ls ⟨hP, hD, hS, hB.2.2.2⟩ hl
  · have h : (if inb i n9 = true then nx (sXd ξ a (.inl (xc g 4, n9, .inl (upd f i.toNatClampNeg (vp_nar .short x))))) kk else none) = some res := h
    rw [if_neg hi] at h; cases h
theorem xdast_sp {own : String} (E : EV p s m args c cc nL own) {i : Int32} {x : Int32} {a : Nat} {kk : XS → Prop} (d : decode cc pc = .ok (.sastore, 1)) (h : bndp (dA ξ a (xc g 4)) (fun n f => if inb i n = true then nx (sXd ξ a (.inl (xc g 4, n, .inl (upd f i.toNatClampNeg (vp_nar .short x))))) kk else False)) (hn : pc + 1 = n) (k : ∀ ξ1 : XS, kk ξ1 → CF p l e R s m args below meth c nL cells slots (XB g A s ξ1) Q n lv st) : CF p l e R s m args below meth c nL cells slots (XB g A s ξ) Q pc lv (.int x :: .int i :: .ref a :: st) := by
  subst hn
  obtain ⟨n9, f, hd, h⟩ := h
  by_cases hi : inb i n9 = true
  · have h : (if inb i n9 = true then nx (sXd ξ a (.inl (xc g 4, n9, .inl (upd f i.toNatClampNeg (vp_nar .short x))))) kk else False) := h
    rw [if_pos hi] at h
    have he := dA_at hd
    obtain ⟨q0, hq⟩ := dE_at (g := g) he
    intro H locs ls hB hl
    refine va_sast E.1 E.2.1 hB.2.2.2.1 hB.1 hB.2.1 hB.2.2.1 q0 4 hq rfl (inb_in hi) d (fun H1 locs1 hP hD hS => ?_)
    rw [xcs_set hB.2.1 he hq] at hP hD
    exact k _ h H1 locs1 ls ⟨hP, hD, hS, hB.2.2.2⟩ hl
  · have h : (if inb i n9 = true then nx (sXd ξ a (.inl (xc g 4, n9, .inl (upd f i.toNatClampNeg (vp_nar .short x))))) kk else False) := h
    rw [if_neg hi] at h; cases h
theorem xdast_l {own : String} (E : EV p s m args c cc nL own) {i : Int32} {x : Int64} {a : Nat} {kk : XS → Option ρ} (d : decode cc pc = .ok (.lastore, 1)) (h : bnd (dAl ξ a (xc g 3)) (fun n f => if inb i n = true then nx (sXd ξ a (.inl (xc g 3, n, .inr (.inl (vp_updL f i.toNatClampNeg x))))) kk else none) = some res) (hn : pc + 1 = n) (k : ∀ ξ1 : XS, kk ξ1 = some res → CF p l e R s m args below meth c nL cells slots (XB g A s ξ1) Q n lv st) : CF p l e R s m args below meth c nL cells slots (XB g A s ξ) Q pc lv (.long x :: .int i :: .ref a :: st) := by
  subst hn
  obtain ⟨n9, f, hd, h⟩ := bnd_some h
  by_cases hi : inb i n9 = true
  · have h : (if inb i n9 = true then nx (sXd ξ a (.inl (xc g 3, n9, .inr (.inl (vp_updL f i.toNatClampNeg x))))) kk else none) = some res := h
    rw [if_pos hi] at h
    have he := dAl_at hd
    obtain ⟨q0, hq⟩ := dE_at (g := g) he
    intro H locs ls hB hl
    refine va_last E.1 E.2.1 hB.2.2.2.1 hB.1 hB.2.1 hB.2.2.1 q0 3 hq rfl (inb_in hi) d (fun H1 locs1 hP hD hS => ?_)
    rw [xcs_set hB.2.1 he hq] at hP hD
    exact k _ h H1 locs1 ls ⟨hP, hD, hS, hB.2.2.2⟩ hl
  · have h : (if inb i n9 = true then nx (sXd ξ a (.inl (xc g 3, n9, .inr (.inl (vp_updL f i.toNatClampNeg x))))) kk else none) = some res := h
    rw [if_neg hi] at h; cases h
theorem xdast_lp {own : String} (E : EV p s m args c cc nL own) {i : Int32} {x : Int64} {a : Nat} {kk : XS → Prop} (d : decode cc pc = .ok (.lastore, 1)) (h : bndp (dAl ξ a (xc g 3)) (fun n f => if inb i n = true then nx (sXd ξ a (.inl (xc g 3, n, .inr (.inl (vp_updL f i.toNatClampNeg x))))) kk else False)) (hn : pc + 1 = n) (k : ∀ ξ1 : XS, kk ξ1 → CF p l e R s m args below meth c nL cells slots (XB g A s ξ1) Q n lv st) : CF p l e R s m args below meth c nL cells slots (XB g A s ξ) Q pc lv (.long x :: .int i :: .ref a :: st) := by
  subst hn
  obtain ⟨n9, f, hd, h⟩ := h
  by_cases hi : inb i n9 = true
  · have h : (if inb i n9 = true then nx (sXd ξ a (.inl (xc g 3, n9, .inr (.inl (vp_updL f i.toNatClampNeg x))))) kk else False) := h
    rw [if_pos hi] at h
    have he := dAl_at hd
    obtain ⟨q0, hq⟩ := dE_at (g := g) he
    intro H locs ls hB hl
    refine va_last E.1 E.2.1 hB.2.2.2.1 hB.1 hB.2.1 hB.2.2.1 q0 3 hq rfl (inb_in hi) d (fun H1 locs1 hP hD hS => ?_)
    rw [xcs_set hB.2.1 he hq] at hP hD
    exact k _ h H1 locs1 ls ⟨hP, hD, hS, hB.2.2.2⟩ hl
  · have h : (if inb i n9 = true then nx (sXd ξ a (.inl (xc g 3, n9, .inr (.inl (vp_updL f i.toNatClampNeg x))))) kk else False) := h
    rw [if_neg hi] at h; cases h
theorem xalt {own : String} (E : EV p s m args c cc nL own) {i : Int32} {A9 : Option ρ} (d : decode cc pc = .ok (.aaload, 1)) (h : (if inb i 6 = true then A9 else none) = some res) (hn : pc + 1 = n) (k : i.toNatClampNeg < 6 → A9 = some res → CF p l e R s m args below meth c nL cells slots (XB g A s ξ) Q n lv (.ref (xa g (320 + i.toNatClampNeg)) :: st)) : CF p l e R s m args below meth c nL cells slots (XB g A s ξ) Q pc lv (.int i :: .ref (xa g 120) :: st) := by
  subst hn
  by_cases hi : inb i 6 = true
  · rw [if_pos hi] at h
    intro H locs ls hB hl
    refine va_aldq E.1 E.2.1 hB.2.2.2.1 hB.1 11 6 rfl rfl (inb_in hi) d ?_
    exact k (inb_lt hi) h H locs ls hB hl
  · rw [if_neg hi] at h; cases h
theorem xaltp {own : String} (E : EV p s m args c cc nL own) {i : Int32} {A9 : Prop} (d : decode cc pc = .ok (.aaload, 1)) (h : (if inb i 6 = true then A9 else False)) (hn : pc + 1 = n) (k : i.toNatClampNeg < 6 → A9 → CF p l e R s m args below meth c nL cells slots (XB g A s ξ) Q n lv (.ref (xa g (320 + i.toNatClampNeg)) :: st)) : CF p l e R s m args below meth c nL cells slots (XB g A s ξ) Q pc lv (.int i :: .ref (xa g 120) :: st) := by
  subst hn
  by_cases hi : inb i 6 = true
  · rw [if_pos hi] at h
    intro H locs ls hB hl
    refine va_aldq E.1 E.2.1 hB.2.2.2.1 hB.1 11 6 rfl rfl (inb_in hi) d ?_
    exact k (inb_lt hi) h H locs ls hB hl
  · rw [if_neg hi] at h; cases h
theorem xinA_0 {own : String} (E : EV p s m args c cc nL own) {idx : Nat} {v : Option Nat} {A9 : Option ρ} (hlk : Cond.classLink own idx "[I" ∈ lw_all) (d : decode cc pc = .ok (.instanceof idx, 3)) (h : (if okRow g ξ v = true then A9 else none) = some res) (hn : pc + 3 = n) (k : A9 = some res → CF p l e R s m args below meth c nL cells slots (XB g A s ξ) Q n lv (.int (inA g ξ v 0) :: st)) : CF p l e R s m args below meth c nL cells slots (XB g A s ξ) Q pc lv (va_rf v :: st) := by
  subst hn
  by_cases hi : okRow g ξ v = true
  · rw [if_pos hi] at h
    intro H locs ls hB hl
    have kk := k h H locs ls hB hl
    cases v with
    | none => exact lv_instN E.1 E.2.1 d kk
    | some b =>
      obtain ⟨cA, n9, x, he, hc9⟩ := okRow_at hi
      have e1 : inA g ξ (some b) 0 = (if cA = xc g 0 then 1 else 0) := by unfold inA; simp only [he]
      rw [e1] at kk
      obtain ⟨q0, hq⟩ := dE_at (g := g) he
      have hc : H[b]? = some (vp_cell cA (n9, x)) := hB.1 q0 _ hq
      rcases hc9 with rfl | rfl | rfl | rfl | rfl
      · by_cases hj : xc g 0 = xc g 0
        · refine va_instE E.1 E.2.1 E.2.2.2.1 (E.2.2.2.2 _ hlk) ⟨_, hc, vpvm, by rw [vpcls, hj]; exact arrCls hB.2.2.2.1 0 rfl (fun _ h9 => by cases h9)⟩ d ?_
          rw [if_pos hj] at kk
          exact kk
        · refine va_instNo (C := "[I") E.1 E.2.1 E.2.2.2.1 (E.2.2.2.2 _ hlk) (hB.2.2.2.2.2.2.1 ("[I", "[I") (absurd rfl hj)) ⟨_, hc, vpvm, by rw [vpcls]; exact arrCls hB.2.2.2.1 0 rfl (fun _ h9 => by cases h9)⟩ d ?_
          rw [if_neg hj] at kk
          exact kk
      · by_cases hj : xc g 1 = xc g 0
        · refine va_instE E.1 E.2.1 E.2.2.2.1 (E.2.2.2.2 _ hlk) ⟨_, hc, vpvm, by rw [vpcls, hj]; exact arrCls hB.2.2.2.1 0 rfl (fun _ h9 => by cases h9)⟩ d ?_
          rw [if_pos hj] at kk
          exact kk
        · refine va_instNo (C := "[B") E.1 E.2.1 E.2.2.2.1 (E.2.2.2.2 _ hlk) (hB.2.2.2.2.2.2.1 ("[B", "[I") (by decide +kernel)) ⟨_, hc, vpvm, by rw [vpcls]; exact arrCls hB.2.2.2.1 1 rfl (fun _ h9 => by cases h9)⟩ d ?_
          rw [if_neg hj] at kk
          exact kk
      · by_cases hj : xc g 2 = xc g 0
        · refine va_instE E.1 E.2.1 E.2.2.2.1 (E.2.2.2.2 _ hlk) ⟨_, hc, vpvm, by rw [vpcls, hj]; exact arrCls hB.2.2.2.1 0 rfl (fun _ h9 => by cases h9)⟩ d ?_
          rw [if_pos hj] at kk
          exact kk
        · refine va_instNo (C := "[Z") E.1 E.2.1 E.2.2.2.1 (E.2.2.2.2 _ hlk) (hB.2.2.2.2.2.2.1 ("[Z", "[I") (by decide +kernel)) ⟨_, hc, vpvm, by rw [vpcls]; exact arrCls hB.2.2.2.1 2 rfl (fun _ h9 => by cases h9)⟩ d ?_
          rw [if_neg hj] at kk
          exact kk
      · by_cases hj : xc g 3 = xc g 0
        · refine va_instE E.1 E.2.1 E.2.2.2.1 (E.2.2.2.2 _ hlk) ⟨_, hc, vpvm, by rw [vpcls, hj]; exact arrCls hB.2.2.2.1 0 rfl (fun _ h9 => by cases h9)⟩ d ?_
          rw [if_pos hj] at kk
          exact kk
        · refine va_instNo (C := "[J") E.1 E.2.1 E.2.2.2.1 (E.2.2.2.2 _ hlk) (hB.2.2.2.2.2.2.1 ("[J", "[I") (by decide +kernel)) ⟨_, hc, vpvm, by rw [vpcls]; exact arrCls hB.2.2.2.1 3 rfl (fun _ h9 => by cases h9)⟩ d ?_
          rw [if_neg hj] at kk
          exact kk
      · by_cases hj : xc g 4 = xc g 0
        · refine va_instE E.1 E.2.1 E.2.2.2.1 (E.2.2.2.2 _ hlk) ⟨_, hc, vpvm, by rw [vpcls, hj]; exact arrCls hB.2.2.2.1 0 rfl (fun _ h9 => by cases h9)⟩ d ?_
          rw [if_pos hj] at kk
          exact kk
        · refine va_instNo (C := "[S") E.1 E.2.1 E.2.2.2.1 (E.2.2.2.2 _ hlk) (hB.2.2.2.2.2.2.1 ("[S", "[I") (by decide +kernel)) ⟨_, hc, vpvm, by rw [vpcls]; exact arrCls hB.2.2.2.1 4 rfl (fun _ h9 => by cases h9)⟩ d ?_
          rw [if_neg hj] at kk
          exact kk
  · rw [if_neg hi] at h; cases h
theorem xinA_0p {own : String} (E : EV p s m args c cc nL own) {idx : Nat} {v : Option Nat} {A9 : Prop} (hlk : Cond.classLink own idx "[I" ∈ lw_all) (d : decode cc pc = .ok (.instanceof idx, 3)) (h : (if okRow g ξ v = true then A9 else False)) (hn : pc + 3 = n) (k : A9 → CF p l e R s m args below meth c nL cells slots (XB g A s ξ) Q n lv (.int (inA g ξ v 0) :: st)) : CF p l e R s m args below meth c nL cells slots (XB g A s ξ) Q pc lv (va_rf v :: st) := by
  subst hn
  by_cases hi : okRow g ξ v = true
  · rw [if_pos hi] at h
    intro H locs ls hB hl
    have kk := k h H locs ls hB hl
    cases v with
    | none => exact lv_instN E.1 E.2.1 d kk
    | some b =>
      obtain ⟨cA, n9, x, he, hc9⟩ := okRow_at hi
      have e1 : inA g ξ (some b) 0 = (if cA = xc g 0 then 1 else 0) := by unfold inA; simp only [he]
      rw [e1] at kk
      obtain ⟨q0, hq⟩ := dE_at (g := g) he
      have hc : H[b]? = some (vp_cell cA (n9, x)) := hB.1 q0 _ hq
      rcases hc9 with rfl | rfl | rfl | rfl | rfl
      · by_cases hj : xc g 0 = xc g 0
        · refine va_instE E.1 E.2.1 E.2.2.2.1 (E.2.2.2.2 _ hlk) ⟨_, hc, vpvm, by rw [vpcls, hj]; exact arrCls hB.2.2.2.1 0 rfl (fun _ h9 => by cases h9)⟩ d ?_
          rw [if_pos hj] at kk
          exact kk
        · refine va_instNo (C := "[I") E.1 E.2.1 E.2.2.2.1 (E.2.2.2.2 _ hlk) (hB.2.2.2.2.2.2.1 ("[I", "[I") (absurd rfl hj)) ⟨_, hc, vpvm, by rw [vpcls]; exact arrCls hB.2.2.2.1 0 rfl (fun _ h9 => by cases h9)⟩ d ?_
          rw [if_neg hj] at kk
          exact kk
      · by_cases hj : xc g 1 = xc g 0
        · refine va_instE E.1 E.2.1 E.2.2.2.1 (E.2.2.2.2 _ hlk) ⟨_, hc, vpvm, by rw [vpcls, hj]; exact arrCls hB.2.2.2.1 0 rfl (fun _ h9 => by cases h9)⟩ d ?_
          rw [if_pos hj] at kk
          exact kk
        · refine va_instNo (C := "[B") E.1 E.2.1 E.2.2.2.1 (E.2.2.2.2 _ hlk) (hB.2.2.2.2.2.2.1 ("[B", "[I") (by decide +kernel)) ⟨_, hc, vpvm, by rw [vpcls]; exact arrCls hB.2.2.2.1 1 rfl (fun _ h9 => by cases h9)⟩ d ?_
          rw [if_neg hj] at kk
          exact kk
      · by_cases hj : xc g 2 = xc g 0
        · refine va_instE E.1 E.2.1 E.2.2.2.1 (E.2.2.2.2 _ hlk) ⟨_, hc, vpvm, by rw [vpcls, hj]; exact arrCls hB.2.2.2.1 0 rfl (fun _ h9 => by cases h9)⟩ d ?_
          rw [if_pos hj] at kk
          exact kk
        · refine va_instNo (C := "[Z") E.1 E.2.1 E.2.2.2.1 (E.2.2.2.2 _ hlk) (hB.2.2.2.2.2.2.1 ("[Z", "[I") (by decide +kernel)) ⟨_, hc, vpvm, by rw [vpcls]; exact arrCls hB.2.2.2.1 2 rfl (fun _ h9 => by cases h9)⟩ d ?_
          rw [if_neg hj] at kk
          exact kk
      · by_cases hj : xc g 3 = xc g 0
        · refine va_instE E.1 E.2.1 E.2.2.2.1 (E.2.2.2.2 _ hlk) ⟨_, hc, vpvm, by rw [vpcls, hj]; exact arrCls hB.2.2.2.1 0 rfl (fun _ h9 => by cases h9)⟩ d ?_
          rw [if_pos hj] at kk
          exact kk
        · refine va_instNo (C := "[J") E.1 E.2.1 E.2.2.2.1 (E.2.2.2.2 _ hlk) (hB.2.2.2.2.2.2.1 ("[J", "[I") (by decide +kernel)) ⟨_, hc, vpvm, by rw [vpcls]; exact arrCls hB.2.2.2.1 3 rfl (fun _ h9 => by cases h9)⟩ d ?_
          rw [if_neg hj] at kk
          exact kk
      · by_cases hj : xc g 4 = xc g 0
        · refine va_instE E.1 E.2.1 E.2.2.2.1 (E.2.2.2.2 _ hlk) ⟨_, hc, vpvm, by rw [vpcls, hj]; exact arrCls hB.2.2.2.1 0 rfl (fun _ h9 => by cases h9)⟩ d ?_
          rw [if_pos hj] at kk
          exact kk
        · refine va_instNo (C := "[S") E.1 E.2.1 E.2.2.2.1 (E.2.2.2.2 _ hlk) (hB.2.2.2.2.2.2.1 ("[S", "[I") (by decide +kernel)) ⟨_, hc, vpvm, by rw [vpcls]; exact arrCls hB.2.2.2.1 4 rfl (fun _ h9 => by cases h9)⟩ d ?_
          rw [if_neg hj] at kk
          exact kk
  · rw [if_neg hi] at h; cases h
theorem xka_0 {own : String} (E : EV p s m args c cc nL own) {idx : Nat} {v : Option Nat} {kk : Nat → Option ρ} (hlk : Cond.classLink own idx "[I" ∈ lw_all) (d : decode cc pc = .ok (.checkcast idx, 3)) (h : bno v (fun b => if (dLen ξ b (xc g 0)).isSome = true then kk b else none) = some res) (hn : pc + 3 = n) (k : ∀ b, kk b = some res → CF p l e R s m args below meth c nL cells slots (XB g A s ξ) Q n lv (.ref b :: st)) : CF p l e R s m args below meth c nL cells slots (XB g A s ξ) Q pc lv (va_rf v :: st) := by
  subst hn
  obtain ⟨b, rfl, h⟩ := bno_some h
  by_cases hi : (dLen ξ b (xc g 0)).isSome = true
  · have h : (if (dLen ξ b (xc g 0)).isSome = true then kk b else none) = some res := h
    rw [if_pos hi] at h
    obtain ⟨n9, hd⟩ := Option.isSome_iff_exists.mp hi
    obtain ⟨x, hx⟩ := dLen_at hd
    obtain ⟨q0, hq⟩ := dE_at (g := g) hx
    intro H locs ls hB hl
    exact va_castA E.1 E.2.1 E.2.2.2.1 (E.2.2.2.2 _ hlk) hB.1 q0 hq (arrCls hB.2.2.2.1 0 rfl (fun _ h9 => by cases h9)) d (k b h H locs ls hB hl)
  · have h : (if (dLen ξ b (xc g 0)).isSome = true then kk b else none) = some res := h
    rw [if_neg hi] at h; cases h
theorem xka_0p {own : String} (E : EV p s m args c cc nL own) {idx : Nat} {v : Option Nat} {kk : Nat → Prop} (hlk : Cond.classLink own idx "[I" ∈ lw_all) (d : decode cc pc = .ok (.checkcast idx, 3)) (h : bnop v (fun b => if (dLen ξ b (xc g 0)).isSome = true then kk b else False)) (hn : pc + 3 = n) (k : ∀ b, kk b → CF p l e R s m args below meth c nL cells slots (XB g A s ξ) Q n lv (.ref b :: st)) : CF p l e R s m args below meth c nL cells slots (XB g A s ξ) Q pc lv (va_rf v :: st) := by
  subst hn
  obtain ⟨b, rfl, h⟩ := h
  by_cases hi : (dLen ξ b (xc g 0)).isSome = true
  · have h : (if (dLen ξ b (xc g 0)).isSome = true then kk b else False) := h
    rw [if_pos hi] at h
    obtain ⟨n9, hd⟩ := Option.isSome_iff_exists.mp hi
    obtain ⟨x, hx⟩ := dLen_at hd
    obtain ⟨q0, hq⟩ := dE_at (g := g) hx
    intro H locs ls hB hl
    exact va_castA E.1 E.2.1 E.2.2.2.1 (E.2.2.2.2 _ hlk) hB.1 q0 hq (arrCls hB.2.2.2.1 0 rfl (fun _ h9 => by cases h9)) d (k b h H locs ls hB hl)
  · have h : (if (dLen ξ b (xc g 0)).isSome = true then kk b else False) := h
    rw [if_neg hi] at h; cases h
theorem xinA_1 {own : String} (E : EV p s m args c cc nL own) {idx : Nat} {v : Option Nat} {A9 : Option ρ} (hlk : Cond.classLink own idx "[B" ∈ lw_all) (d : decode cc pc = .ok (.instanceof idx, 3)) (h : (if okRow g ξ v = true then A9 else none) = some res) (hn : pc + 3 = n) (k : A9 = some res → CF p l e R s m args below meth c nL cells slots (XB g A s ξ) Q n lv (.int (inA g ξ v 1) :: st)) : CF p l e R s m args below meth c nL cells slots (XB g A s ξ) Q pc lv (va_rf v :: st) := by
  subst hn
  by_cases hi : okRow g ξ v = true
  · rw [if_pos hi] at h
    intro H locs ls hB hl
    have kk := k h H locs ls hB hl
    cases v with
    | none => exact lv_instN E.1 E.2.1 d kk
    | some b =>
      obtain ⟨cA, n9, x, he, hc9⟩ := okRow_at hi
      have e1 : inA g ξ (some b) 1 = (if cA = xc g 1 then 1 else 0) := by unfold inA; simp only [he]
      rw [e1] at kk
      obtain ⟨q0, hq⟩ := dE_at (g := g) he
      have hc : H[b]? = some (vp_cell cA (n9, x)) := hB.1 q0 _ hq
      rcases hc9 with rfl | rfl | rfl | rfl | rfl
      · by_cases hj : xc g 0 = xc g 1
        · refine va_instE E.1 E.2.1 E.2.2.2.1 (E.2.2.2.2 _ hlk) ⟨_, hc, vpvm, by rw [vpcls, hj]; exact arrCls hB.2.2.2.1 1 rfl (fun _ h9 => by cases h9)⟩ d ?_
          rw [if_pos hj] at kk
          exact kk
        · refine va_instNo (C := "[I") E.1 E.2.1 E.2.2.2.1 (E.2.2.2.2 _ hlk) (hB.2.2.2.2.2.2.1 ("[I", "[B") (by decide +kernel)) ⟨_, hc, vpvm, by rw [vpcls]; exact arrCls hB.2.2.2.1 0 rfl (fun _ h9 => by cases h9)⟩ d ?_
          rw [if_neg hj] at kk
          exact kk
      · by_cases hj : xc g 1 = xc g 1
        · refine va_instE E.1 E.2.1 E.2.2.2.1 (E.2.2.2.2 _ hlk) ⟨_, hc, vpvm, by rw [vpcls, hj]; exact arrCls hB.2.2.2.1 1 rfl (fun _ h9 => by cases h9)⟩ d ?_
          rw [if_pos hj] at kk
          exact kk
        · refine va_instNo (C := "[B") E.1 E.2.1 E.2.2.2.1 (E.2.2.2.2 _ hlk) (hB.2.2.2.2.2.2.1 ("[B", "[B") (absurd rfl hj)) ⟨_, hc, vpvm, by rw [vpcls]; exact arrCls hB.2.2.2.1 1 rfl (fun _ h9 => by cases h9)⟩ d ?_
          rw [if_neg hj] at kk
          exact kk
      · by_cases hj : xc g 2 = xc g 1
        · refine va_instE E.1 E.2.1 E.2.2.2.1 (E.2.2.2.2 _ hlk) ⟨_, hc, vpvm, by rw [vpcls, hj]; exact arrCls hB.2.2.2.1 1 rfl (fun _ h9 => by cases h9)⟩ d ?_
          rw [if_pos hj] at kk
          exact kk
        · refine va_instNo (C := "[Z") E.1 E.2.1 E.2.2.2.1 (E.2.2.2.2 _ hlk) (hB.2.2.2.2.2.2.1 ("[Z", "[B") (by decide +kernel)) ⟨_, hc, vpvm, by rw [vpcls]; exact arrCls hB.2.2.2.1 2 rfl (fun _ h9 => by cases h9)⟩ d ?_
          rw [if_neg hj] at kk
          exact kk
      · by_cases hj : xc g 3 = xc g 1
        · refine va_instE E.1 E.2.1 E.2.2.2.1 (E.2.2.2.2 _ hlk) ⟨_, hc, vpvm, by rw [vpcls, hj]; exact arrCls hB.2.2.2.1 1 rfl (fun _ h9 => by cases h9)⟩ d ?_
          rw [if_pos hj] at kk
          exact kk
        · refine va_instNo (C := "[J") E.1 E.2.1 E.2.2.2.1 (E.2.2.2.2 _ hlk) (hB.2.2.2.2.2.2.1 ("[J", "[B") (by decide +kernel)) ⟨_, hc, vpvm, by rw [vpcls]; exact arrCls hB.2.2.2.1 3 rfl (fun _ h9 => by cases h9)⟩ d ?_
          rw [if_neg hj] at kk
          exact kk
      · by_cases hj : xc g 4 = xc g 1
        · refine va_instE E.1 E.2.1 E.2.2.2.1 (E.2.2.2.2 _ hlk) ⟨_, hc, vpvm, by rw [vpcls, hj]; exact arrCls hB.2.2.2.1 1 rfl (fun _ h9 => by cases h9)⟩ d ?_
          rw [if_pos hj] at kk
          exact kk
        · refine va_instNo (C := "[S") E.1 E.2.1 E.2.2.2.1 (E.2.2.2.2 _ hlk) (hB.2.2.2.2.2.2.1 ("[S", "[B") (by decide +kernel)) ⟨_, hc, vpvm, by rw [vpcls]; exact arrCls hB.2.2.2.1 4 rfl (fun _ h9 => by cases h9)⟩ d ?_
          rw [if_neg hj] at kk
          exact kk
  · rw [if_neg hi] at h; cases h
theorem xinA_1p {own : String} (E : EV p s m args c cc nL own) {idx : Nat} {v : Option Nat} {A9 : Prop} (hlk : Cond.classLink own idx "[B" ∈ lw_all) (d : decode cc pc = .ok (.instanceof idx, 3)) (h : (if okRow g ξ v = true then A9 else False)) (hn : pc + 3 = n) (k : A9 → CF p l e R s m args below meth c nL cells slots (XB g A s ξ) Q n lv (.int (inA g ξ v 1) :: st)) : CF p l e R s m args below meth c nL cells slots (XB g A s ξ) Q pc lv (va_rf v :: st) := by
  subst hn
  by_cases hi : okRow g ξ v = true
  · rw [if_pos hi] at h
    intro H locs ls hB hl
    have kk := k h H locs ls hB hl
    cases v with
    | none => exact lv_instN E.1 E.2.1 d kk
    | some b =>
      obtain ⟨cA, n9, x, he, hc9⟩ := okRow_at hi
      have e1 : inA g ξ (some b) 1 = (if cA = xc g 1 then 1 else 0) := by unfold inA; simp only [he]
      rw [e1] at kk
      obtain ⟨q0, hq⟩ := dE_at (g := g) he
      have hc : H[b]? = some (vp_cell cA (n9, x)) := hB.1 q0 _ hq
      rcases hc9 with rfl | rfl | rfl | rfl | rfl
      · by_cases hj : xc g 0 = xc g 1
        · refine va_instE E.1 E.2.1 E.2.2.2.1 (E.2.2.2.2 _ hlk) ⟨_, hc, vpvm, by rw [vpcls, hj]; exact arrCls hB.2.2.2.1 1 rfl (fun _ h9 => by cases h9)⟩ d ?_
          rw [if_pos hj] at kk
          exact kk
        · refine va_instNo (C := "[I") E.1 E.2.1 E.2.2.2.1 (E.2.2.2.2 _ hlk) (hB.2.2.2.2.2.2.1 ("[I", "[B") (by decide +kernel)) ⟨_, hc, vpvm, by rw [vpcls]; exact arrCls hB.2.2.2.1 0 rfl (fun _ h9 => by cases h9)⟩ d ?_
          rw [if_neg hj] at kk
          exact kk
      · by_cases hj : xc g 1 = xc g 1
        · refine va_instE E.1 E.2.1 E.2.2.2.1 (E.2.2.2.2 _ hlk) ⟨_, hc, vpvm, by rw [vpcls, hj]; exact arrCls hB.2.2.2.1 1 rfl (fun _ h9 => by cases h9)⟩ d ?_
          rw [if_pos hj] at kk
          exact kk
        · refine va_instNo (C := "[B") E.1 E.2.1 E.2.2.2.1 (E.2.2.2.2 _ hlk) (hB.2.2.2.2.2.2.1 ("[B", "[B") (absurd rfl hj)) ⟨_, hc, vpvm, by rw [vpcls]; exact arrCls hB.2.2.2.1 1 rfl (fun _ h9 => by cases h9)⟩ d ?_
          rw [if_neg hj] at kk
          exact kk
      · by_cases hj : xc g 2 = xc g 1
        · refine va_instE E.1 E.2.1 E.2.2.2.1 (E.2.2.2.2 _ hlk) ⟨_, hc, vpvm, by rw [vpcls, hj]; exact arrCls hB.2.2.2.1 1 rfl (fun _ h9 => by cases h9)⟩ d ?_
          rw [if_pos hj] at kk
          exact kk
        · refine va_instNo (C := "[Z") E.1 E.2.1 E.2.2.2.1 (E.2.2.2.2 _ hlk) (hB.2.2.2.2.2.2.1 ("[Z", "[B") (by decide +kernel)) ⟨_, hc, vpvm, by rw [vpcls]; exact arrCls hB.2.2.2.1 2 rfl (fun _ h9 => by cases h9)⟩ d ?_
          rw [if_neg hj] at kk
          exact kk
      · by_cases hj : xc g 3 = xc g 1
        · refine va_instE E.1 E.2.1 E.2.2.2.1 (E.2.2.2.2 _ hlk) ⟨_, hc, vpvm, by rw [vpcls, hj]; exact arrCls hB.2.2.2.1 1 rfl (fun _ h9 => by cases h9)⟩ d ?_
          rw [if_pos hj] at kk
          exact kk
        · refine va_instNo (C := "[J") E.1 E.2.1 E.2.2.2.1 (E.2.2.2.2 _ hlk) (hB.2.2.2.2.2.2.1 ("[J", "[B") (by decide +kernel)) ⟨_, hc, vpvm, by rw [vpcls]; exact arrCls hB.2.2.2.1 3 rfl (fun _ h9 => by cases h9)⟩ d ?_
          rw [if_neg hj] at kk
          exact kk
      · by_cases hj : xc g 4 = xc g 1
        · refine va_instE E.1 E.2.1 E.2.2.2.1 (E.2.2.2.2 _ hlk) ⟨_, hc, vpvm, by rw [vpcls, hj]; exact arrCls hB.2.2.2.1 1 rfl (fun _ h9 => by cases h9)⟩ d ?_
          rw [if_pos hj] at kk
          exact kk
        · refine va_instNo (C := "[S") E.1 E.2.1 E.2.2.2.1 (E.2.2.2.2 _ hlk) (hB.2.2.2.2.2.2.1 ("[S", "[B") (by decide +kernel)) ⟨_, hc, vpvm, by rw [vpcls]; exact arrCls hB.2.2.2.1 4 rfl (fun _ h9 => by cases h9)⟩ d ?_
          rw [if_neg hj] at kk
          exact kk
  · rw [if_neg hi] at h; cases h
theorem xka_1 {own : String} (E : EV p s m args c cc nL own) {idx : Nat} {v : Option Nat} {kk : Nat → Option ρ} (hlk : Cond.classLink own idx "[B" ∈ lw_all) (d : decode cc pc = .ok (.checkcast idx, 3)) (h : bno v (fun b => if (dLen ξ b (xc g 1)).isSome = true then kk b else none) = some res) (hn : pc + 3 = n) (k : ∀ b, kk b = some res → CF p l e R s m args below meth c nL cells slots (XB g A s ξ) Q n lv (.ref b :: st)) : CF p l e R s m args below meth c nL cells slots (XB g A s ξ) Q pc lv (va_rf v :: st) := by
  subst hn
  obtain ⟨b, rfl, h⟩ := bno_some h
  by_cases hi : (dLen ξ b (xc g 1)).isSome = true
  · have h : (if (dLen ξ b (xc g 1)).isSome = true then kk b else none) = some res := h
    rw [if_pos hi] at h
    obtain ⟨n9, hd⟩ := Option.isSome_iff_exists.mp hi
    obtain ⟨x, hx⟩ := dLen_at hd
    obtain ⟨q0, hq⟩ := dE_at (g := g) hx
    intro H locs ls hB hl
    exact va_castA E.1 E.2.1 E.2.2.2.1 (E.2.2.2.2 _ hlk) hB.1 q0 hq (arrCls hB.2.2.2.1 1 rfl (fun _ h9 => by cases h9)) d (k b h H locs ls hB hl)
  · have h : (if (dLen ξ b (xc g 1)).isSome = true then kk b else none) = some res := h
    rw [if_neg hi] at h; cases h
theorem xka_1p {own : String} (E : EV p s m args c cc nL own) {idx : Nat} {v : Option Nat} {kk : Nat → Prop} (hlk : Cond.classLink own idx "[B" ∈ lw_all) (d : decode cc pc = .ok (.checkcast idx, 3)) (h : bnop v (fun b => if (dLen ξ b (xc g 1)).isSome = true then kk b else False)) (hn : pc + 3 = n) (k : ∀ b, kk b → CF p l e R s m args below meth c nL cells slots (XB g A s ξ) Q n lv (.ref b :: st)) : CF p l e R s m args below meth c nL cells slots (XB g A s ξ) Q pc lv (va_rf v :: st) := by
  subst hn
  obtain ⟨b, rfl, h⟩ := h
  by_cases hi : (dLen ξ b (xc g 1)).isSome = true
  · have h : (if (dLen ξ b (xc g 1)).isSome = true then kk b else False) := h
    rw [if_pos hi] at h
    obtain ⟨n9, hd⟩ := Option.isSome_iff_exists.mp hi
    obtain ⟨x, hx⟩ := dLen_at hd
    obtain ⟨q0, hq⟩ := dE_at (g := g) hx
    intro H locs ls hB hl
    exact va_castA E.1 E.2.1 E.2.2.2.1 (E.2.2.2.2 _ hlk) hB.1 q0 hq (arrCls hB.2.2.2.1 1 rfl (fun _ h9 => by cases h9)) d (k b h H locs ls hB hl)
  · have h : (if (dLen ξ b (xc g 1)).isSome = true then kk b else False) := h
    rw [if_neg hi] at h; cases h
theorem xinA_2 {own : String} (E : EV p s m args c cc nL own) {idx : Nat} {v : Option Nat} {A9 : Option ρ} (hlk : Cond.classLink own idx "[Z" ∈ lw_all) (d : decode cc pc = .ok (.instanceof idx, 3)) (h : (if okRow g ξ v = true then A9 else none) = some res) (hn : pc + 3 = n) (k : A9 = some res → CF p l e R s m args below meth c nL cells slots (XB g A s ξ) Q n lv (.int (inA g ξ v 2) :: st)) : CF p l e R s m args below meth c nL cells slots (XB g A s ξ) Q pc lv (va_rf v :: st) := by
  subst hn
  by_cases hi : okRow g ξ v = true
  · rw [if_pos hi] at h
    intro H locs ls hB hl
    have kk := k h H locs ls hB hl
    cases v with
    | none => exact lv_instN E.1 E.2.1 d kk
    | some b =>
      obtain ⟨cA, n9, x, he, hc9⟩ := okRow_at hi
      have e1 : inA g ξ (some b) 2 = (if cA = xc g 2 then 1 else 0) := by unfold inA; simp only [he]
      rw [e1] at kk
      obtain ⟨q0, hq⟩ := dE_at (g := g) he
      have hc : H[b]? = some (vp_cell cA (n9, x)) := hB.1 q0 _ hq
      rcases hc9 with rfl | rfl | rfl | rfl | rfl
      · by_cases hj : xc g 0 = xc g 2
        · refine va_instE E.1 E.2.1 E.2.2.2.1 (E.2.2.2.2 _ hlk) ⟨_, hc, vpvm, by rw [vpcls, hj]; exact arrCls hB.2.2.2.1 2 rfl (fun _ h9 => by cases h9)⟩ d ?_
          rw [if_pos hj] at kk
          exact kk
        · refine va_instNo (C := "[I") E.1 E.2.1 E.2.2.2.1 (E.2.2.2.2 _ hlk) (hB.2.2.2.2.2.2.1 ("[I", "[Z") (by decide +kernel)) ⟨_, hc, vpvm, by rw [vpcls]; exact arrCls hB.2.2.2.1 0 rfl (fun _ h9 => by cases h9)⟩ d ?_
          rw [if_neg hj] at kk
          exact kk
      · by_cases hj : xc g 1 = xc g 2
        · refine va_instE E.1 E.2.1 E.2.2.2.1 (E.2.2.2.2 _ hlk) ⟨_, hc, vpvm, by rw [vpcls, hj]; exact arrCls hB.2.2.2.1 2 rfl (fun _ h9 => by cases h9)⟩ d ?_
          rw [if_pos hj] at kk
          exact kk
        · refine va_instNo (C := "[B") E.1 E.2.1 E.2.2.2.1 (E.2.2.2.2 _ hlk) (hB.2.2.2.2.2.2.1 ("[B", "[Z") (by decide +kernel)) ⟨_, hc, vpvm, by rw [vpcls]; exact arrCls hB.2.2.2.1 1 rfl (fun _ h9 => by cases h9)⟩ d ?_
          rw [if_neg hj] at kk
          exact kk
      · by_cases hj : xc g 2 = xc g 2
        · refine va_instE E.1 E.2.1 E.2.2.2.1 (E.2.2.2.2 _ hlk) ⟨_, hc, vpvm, by rw [vpcls, hj]; exact arrCls hB.2.2.2.1 2 rfl (fun _ h9 => by cases h9)⟩ d ?_
          rw [if_pos hj] at kk
          exact kk
        · refine va_instNo (C := "[Z") E.1 E.2.1 E.2.2.2.1 (E.2.2.2.2 _ hlk) (hB.2.2.2.2.2.2.1 ("[Z", "[Z") (absurd rfl hj)) ⟨_, hc, vpvm, by rw [vpcls]; exact arrCls hB.2.2.2.1 2 rfl (fun _ h9 => by cases h9)⟩ d ?_
          rw [if_neg hj] at kk
          exact kk
      · by_cases hj : xc g 3 = xc g 2
        · refine va_instE E.1 E.2.1 E.2.2.2.1 (E.2.2.2.2 _ hlk) ⟨_, hc, vpvm, by rw [vpcls, hj]; exact arrCls hB.2.2.2.1 2 rfl (fun _ h9 => by cases h9)⟩ d ?_
          rw [if_pos hj] at kk
          exact kk
        · refine va_instNo (C := "[J") E.1 E.2.1 E.2.2.2.1 (E.2.2.2.2 _ hlk) (hB.2.2.2.2.2.2.1 ("[J", "[Z") (by decide +kernel)) ⟨_, hc, vpvm, by rw [vpcls]; exact arrCls hB.2.2.2.1 3 rfl (fun _ h9 => by cases h9)⟩ d ?_
          rw [if_neg hj] at kk
          exact kk
      · by_cases hj : xc g 4 = xc g 2
        · refine va_instE E.1 E.2.1 E.2.2.2.1 (E.2.2.2.2 _ hlk) ⟨_, hc, vpvm, by rw [vpcls, hj]; exact arrCls hB.2.2.2.1 2 rfl (fun _ h9 => by cases h9)⟩ d ?_
          rw [if_pos hj] at kk
          exact kk
        · refine va_instNo (C := "[S") E.1 E.2.1 E.2.2.2.1 (E.2.2.2.2 _ hlk) (hB.2.2.2.2.2.2.1 ("[S", "[Z") (by decide +kernel)) ⟨_, hc, vpvm, by rw [vpcls]; exact arrCls hB.2.2.2.1 4 rfl (fun _ h9 => by cases h9)⟩ d ?_
          rw [if_neg hj] at kk
          exact kk
  · rw [if_neg hi] at h; cases h
theorem xinA_2p {own : String} (E : EV p s m args c cc nL own) {idx : Nat} {v : Option Nat} {A9 : Prop} (hlk : Cond.classLink own idx "[Z" ∈ lw_all) (d : decode cc pc = .ok (.instanceof idx, 3)) (h : (if okRow g ξ v = true then A9 else False)) (hn : pc + 3 = n) (k : A9 → CF p l e R s m args below meth c nL cells slots (XB g A s ξ) Q n lv (.int (inA g ξ v 2) :: st)) : CF p l e R s m args below meth c nL cells slots (XB g A s ξ) Q pc lv (va_rf v :: st) := by
  subst hn
  by_cases hi : okRow g ξ v = true
  · rw [if_pos hi] at h
    intro H locs ls hB hl
    have kk := k h H locs ls hB hl
    cases v with
    | none => exact lv_instN E.1 E.2.1 d kk
    | some b =>
      obtain ⟨cA, n9, x, he, hc9⟩ := okRow_at hi
      have e1 : inA g ξ (some b) 2 = (if cA = xc g 2 then 1 else 0) := by unfold inA; simp only [he]
      rw [e1] at kk
      obtain ⟨q0, hq⟩ := dE_at (g := g) he
      have hc : H[b]? = some (vp_cell cA (n9, x)) := hB.1 q0 _ hq
      rcases hc9 with rfl | rfl | rfl | rfl | rfl
      · by_cases hj : xc g 0 = xc g 2
        · refine va_instE E.1 E.2.1 E.2.2.2.1 (E.2.2.2.2 _ hlk) ⟨_, hc, vpvm, by rw [vpcls, hj]; exact arrCls hB.2.2.2.1 2 rfl (fun _ h9 => by cases h9)⟩ d ?_
          rw [if_pos hj] at kk
          exact kk
        · refine va_instNo (C := "[I") E.1 E.2.1 E.2.2.2.1 (E.2.2.2.2 _ hlk) (hB.2.2.2.2.2.2.1 ("[I", "[Z") (by decide +kernel)) ⟨_, hc, vpvm, by rw [vpcls]; exact arrCls hB.2.2.2.1 0 rfl (fun _ h9 => by cases h9)⟩ d ?_
          rw [if_neg hj] at kk
          exact kk
      · by_cases hj : xc g 1 = xc g 2
        · refine va_instE E.1 E.2.1 E.2.2.2.1 (E.2.2.2.2 _ hlk) ⟨_, hc, vpvm, by rw [vpcls, hj]; exact arrCls hB.2.2.2.1 2 rfl (fun _ h9 => by cases h9)⟩ d ?_
          rw [if_pos hj] at kk
          exact kk
        · refine va_instNo (C := "[B") E.1 E.2.1 E.2.2.2.1 (E.2.2.2.2 _ hlk) (hB.2.2.2.2.2.2.1 ("[B", "[Z") (by decide +kernel)) ⟨_, hc, vpvm, by rw [vpcls]; exact arrCls hB.2.2.2.1 1 rfl (fun _ h9 => by cases h9)⟩ d ?_
          rw [if_neg hj] at kk
          exact kk
      · by_cases hj : xc g 2 = xc g 2
        · refine va_instE E.1 E.2.1 E.2.2.2.1 (E.2.2.2.2 _ hlk) ⟨_, hc, vpvm, by rw [vpcls, hj]; exact arrCls hB.2.2.2.1 2 rfl (fun _ h9 => by cases h9)⟩ d ?_
          rw [if_pos hj] at kk
          exact kk
        · refine va_instNo (C := "[Z") E.1 E.2.1 E.2.2.2.1 (E.2.2.2.2 _ hlk) (hB.2.2.2.2.2.2.1 ("[Z", "[Z") (absurd rfl hj)) ⟨_, hc, vpvm, by rw [vpcls]; exact arrCls hB.2.2.2.1 2 rfl (fun _ h9 => by cases h9)⟩ d ?_
          rw [if_neg hj] at kk
          exact kk
      · by_cases hj : xc g 3 = xc g 2
        · refine va_instE E.1 E.2.1 E.2.2.2.1 (E.2.2.2.2 _ hlk) ⟨_, hc, vpvm, by rw [vpcls, hj]; exact arrCls hB.2.2.2.1 2 rfl (fun _ h9 => by cases h9)⟩ d ?_
          rw [if_pos hj] at kk
          exact kk
        · refine va_instNo (C := "[J") E.1 E.2.1 E.2.2.2.1 (E.2.2.2.2 _ hlk) (hB.2.2.2.2.2.2.1 ("[J", "[Z") (by decide +kernel)) ⟨_, hc, vpvm, by rw [vpcls]; exact arrCls hB.2.2.2.1 3 rfl (fun _ h9 => by cases h9)⟩ d ?_
          rw [if_neg hj] at kk
          exact kk
      · by_cases hj : xc g 4 = xc g 2
        · refine va_instE E.1 E.2.1 E.2.2.2.1 (E.2.2.2.2 _ hlk) ⟨_, hc, vpvm, by rw [vpcls, hj]; exact arrCls hB.2.2.2.1 2 rfl (fun _ h9 => by cases h9)⟩ d ?_
          rw [if_pos hj] at kk
          exact kk
        · refine va_instNo (C := "[S") E.1 E.2.1 E.2.2.2.1 (E.2.2.2.2 _ hlk) (hB.2.2.2.2.2.2.1 ("[S", "[Z") (by decide +kernel)) ⟨_, hc, vpvm, by rw [vpcls]; exact arrCls hB.2.2.2.1 4 rfl (fun _ h9 => by cases h9)⟩ d ?_
          rw [if_neg hj] at kk
          exact kk
  · rw [if_neg hi] at h; cases h
theorem xka_2 {own : String} (E : EV p s m args c cc nL own) {idx : Nat} {v : Option Nat} {kk : Nat → Option ρ} (hlk : Cond.classLink own idx "[Z" ∈ lw_all) (d : decode cc pc = .ok (.checkcast idx, 3)) (h : bno v (fun b => if (dLen ξ b (xc g 2)).isSome = true then kk b else none) = some res) (hn : pc + 3 = n) (k : ∀ b, kk b = some res → CF p l e R s m args below meth c nL cells slots (XB g A s ξ) Q n lv (.ref b :: st)) : CF p l e R s m args below meth c nL cells slots (XB g A s ξ) Q pc lv (va_rf v :: st) := by
  subst hn
  obtain ⟨b, rfl, h⟩ := bno_some h
  by_cases hi : (dLen ξ b (xc g 2)).isSome = true
  · have h : (if (dLen ξ b (xc g 2)).isSome = true then kk b else none) = some res := h
    rw [if_pos hi] at h
    obtain ⟨n9, hd⟩ := Option.isSome_iff_exists.mp hi
    obtain ⟨x, hx⟩ := dLen_at hd
    obtain ⟨q0, hq⟩ := dE_at (g := g) hx
    intro H locs ls hB hl
    exact va_castA E.1 E.2.1 E.2.2.2.1 (E.2.2.2.2 _ hlk) hB.1 q0 hq (arrCls hB.2.2.2.1 2 rfl (fun _ h9 => by cases h9)) d (k b h H locs ls hB hl)
  · have h : (if (dLen ξ b (xc g 2)).isSome = true then kk b else none) = some res := h
    rw [if_neg hi] at h; cases h
theorem xka_2p {own : String} (E : EV p s m args c cc nL own) {idx : Nat} {v : Option Nat} {kk : Nat → Prop} (hlk : Cond.classLink own idx "[Z" ∈ lw_all) (d : decode cc pc = .ok (.checkcast idx, 3)) (h : bnop v (fun b => if (dLen ξ b (xc g 2)).isSome = true then kk b else False)) (hn : pc + 3 = n) (k : ∀ b, kk b → CF p l e R s m args below meth c nL cells slots (XB g A s ξ) Q n lv (.ref b :: st)) : CF p l e R s m args below meth c nL cells slots (XB g A s ξ) Q pc lv (va_rf v :: st) := by
  subst hn
  obtain ⟨b, rfl, h⟩ := h
  by_cases hi : (dLen ξ b (xc g 2)).isSome = true
  · have h : (if (dLen ξ b (xc g 2)).isSome = true then kk b else False) := h
    rw [if_pos hi] at h
    obtain ⟨n9, hd⟩ := Option.isSome_iff_exists.mp hi
    obtain ⟨x, hx⟩ := dLen_at hd
    obtain ⟨q0, hq⟩ := dE_at (g := g) hx
    intro H locs ls hB hl
    exact va_castA E.1 E.2.1 E.2.2.2.1 (E.2.2.2.2 _ hlk) hB.1 q0 hq (arrCls hB.2.2.2.1 2 rfl (fun _ h9 => by cases h9)) d (k b h H locs ls hB hl)
  · have h : (if (dLen ξ b (xc g 2)).isSome = true then kk b else False) := h
    rw [if_neg hi] at h; cases h
theorem xinA_3 {own : String} (E : EV p s m args c cc nL own) {idx : Nat} {v : Option Nat} {A9 : Option ρ} (hlk : Cond.classLink own idx "[J" ∈ lw_all) (d : decode cc pc = .ok (.instanceof idx, 3)) (h : (if okRow g ξ v = true then A9 else none) = some res) (hn : pc + 3 = n) (k : A9 = some res → CF p l e R s m args below meth c nL cells slots (XB g A s ξ) Q n lv (.int (inA g ξ v 3) :: st)) : CF p l e R s m args below meth c nL cells slots (XB g A s ξ) Q pc lv (va_rf v :: st) := by
  subst hn
  by_cases hi : okRow g ξ v = true
  · rw [if_pos hi] at h
    intro H locs ls hB hl
    have kk := k h H locs ls hB hl
    cases v with
    | none => exact lv_instN E.1 E.2.1 d kk
    | some b =>
      obtain ⟨cA, n9, x, he, hc9⟩ := okRow_at hi
      have e1 : inA g ξ (some b) 3 = (if cA = xc g 3 then 1 else 0) := by unfold inA; simp only [he]
      rw [e1] at kk
      obtain ⟨q0, hq⟩ := dE_at (g := g) he
      have hc : H[b]? = some (vp_cell cA (n9, x)) := hB.1 q0 _ hq
      rcases hc9 with rfl | rfl | rfl | rfl | rfl
      · by_cases hj : xc g 0 = xc g 3
        · refine va_instE E.1 E.2.1 E.2.2.2.1 (E.2.2.2.2 _ hlk) ⟨_, hc, vpvm, by rw [vpcls, hj]; exact arrCls hB.2.2.2.1 3 rfl (fun _ h9 => by cases h9)⟩ d ?_
          rw [if_pos hj] at kk
          exact kk
        · refine va_instNo (C := "[I") E.1 E.2.1 E.2.2.2.1 (E.2.2.2.2 _ hlk) (hB.2.2.2.2.2.2.1 ("[I", "[J") (by decide +kernel)) ⟨_, hc, vpvm, by rw [vpcls]; exact arrCls hB.2.2.2.1 0 rfl (fun _ h9 => by cases h9)⟩ d ?_
          rw [if_neg hj] at kk
          exact kk
      · by_cases hj : xc g 1 = xc g 3
        · refine va_instE E.1 E.2.1 E.2.2.2.1 (E.2.2.2.2 _ hlk) ⟨_, hc, vpvm, by rw [vpcls, hj]; exact arrCls hB.2.2.2.1 3 rfl (fun _ h9 => by cases h9)⟩ d ?_
          rw [if_pos hj] at kk
          exact kk
        · refine va_instNo (C := "[B") E.1 E.2.1 E.2.2.2.1 (E.2.2.2.2 _ hlk) (hB.2.2.2.2.2.2.1 ("[B", "[J") (by decide +kernel)) ⟨_, hc, vpvm, by rw [vpcls]; exact arrCls hB.2.2.2.1 1 rfl (fun _ h9 => by cases h9)⟩ d ?_
          rw [if_neg hj] at kk
          exact kk
      · by_cases hj : xc g 2 = xc g 3
        · refine va_instE E.1 E.2.1 E.2.2.2.1 (E.2.2.2.2 _ hlk) ⟨_, hc, vpvm, by rw [vpcls, hj]; exact arrCls hB.2.2.2.1 3 rfl (fun _ h9 => by cases h9)⟩ d ?_
          rw [if_pos hj] at kk
          exact kk
        · refine va_instNo (C := "[Z") E.1 E.2.1 E.2.2.2.1 (E.2.2.2.2 _ hlk) (hB.2.2.2.2.2.2.1 ("[Z", "[J") (by decide +kernel)) ⟨_, hc, vpvm, by rw [vpcls]; exact arrCls hB.2.2.2.1 2 rfl (fun _ h9 => by cases h9)⟩ d ?_
          rw [if_neg hj] at kk
          exact kk
      · by_cases hj : xc g 3 = xc g 3
        · refine va_instE E.1 E.2.1 E.2.2.2.1 (E.2.2.2.2 _ hlk) ⟨_, hc, vpvm, by rw [vpcls, hj]; exact arrCls hB.2.2.2.1 3 rfl (fun _ h9 => by cases h9)⟩ d ?_
          rw [if_pos hj] at kk
          exact kk
        · refine va_instNo (C := "[J") E.1 E.2.1 E.2.2.2.1 (E.2.2.2.2 _ hlk) (hB.2.2.2.2.2.2.1 ("[J", "[J") (absurd rfl hj)) ⟨_, hc, vpvm, by rw [vpcls]; exact arrCls hB.2.2.2.1 3 rfl (fun _ h9 => by cases h9)⟩ d ?_
          rw [if_neg hj] at kk
          exact kk
      · by_cases hj : xc g 4 = xc g 3
        · refine va_instE E.1 E.2.1 E.2.2.2.1 (E.2.2.2.2 _ hlk) ⟨_, hc, vpvm, by rw [vpcls, hj]; exact arrCls hB.2.2.2.1 3 rfl (fun _ h9 => by cases h9)⟩ d ?_
          rw [if_pos hj] at kk
          exact kk
        · refine va_instNo (C := "[S") E.1 E.2.1 E.2.2.2.1 (E.2.2.2.2 _ hlk) (hB.2.2.2.2.2.2.1 ("[S", "[J") (by decide +kernel)) ⟨_, hc, vpvm, by rw [vpcls]; exact arrCls hB.2.2.2.1 4 rfl (fun _ h9 => by cases h9)⟩ d ?_
          rw [if_neg hj] at kk
          exact kk
  · rw [if_neg hi] at h; cases h
theorem xinA_3p {own : String} (E : EV p s m args c cc nL own) {idx : Nat} {v : Option Nat} {A9 : Prop} (hlk : Cond.classLink own idx "[J" ∈ lw_all) (d : decode cc pc = .ok (.instanceof idx, 3)) (h : (if okRow g ξ v = true then A9 else False)) (hn : pc + 3 = n) (k : A9 → CF p l e R s m args below meth c nL cells slots (XB g A s ξ) Q n lv (.int (inA g ξ v 3) :: st)) : CF p l e R s m args below meth c nL cells slots (XB g A s ξ) Q pc lv (va_rf v :: st) := by
  subst hn
  by_cases hi : okRow g ξ v = true
  · rw [if_pos hi] at h
    intro H locs ls hB hl
    have kk := k h H locs ls hB hl
    cases v with
    | none => exact lv_instN E.1 E.2.1 d kk
    | some b =>
      obtain ⟨cA, n9, x, he, hc9⟩ := okRow_at hi
      have e1 : inA g ξ (some b) 3 = (if cA = xc g 3 then 1 else 0) := by unfold inA; simp only [he]
      rw [e1] at kk
      obtain ⟨q0, hq⟩ := dE_at (g := g) he
      have hc : H[b]? = some (vp_cell cA (n9, x)) := hB.1 q0 _ hq
      rcases hc9 with rfl | rfl | rfl | rfl | rfl
      · by_cases hj : xc g 0 = xc g 3
        · refine va_instE E.1 E.2.1 E.2.2.2.1 (E.2.2.2.2 _ hlk) ⟨_, hc, vpvm, by rw [vpcls, hj]; exact arrCls hB.2.2.2.1 3 rfl (fun _ h9 => by cases h9)⟩ d ?_
          rw [if_pos hj] at kk
          exact kk
        · refine va_instNo (C := "[I") E.1 E.2.1 E.2.2.2.1 (E.2.2.2.2 _ hlk) (hB.2.2.2.2.2.2.1 ("[I", "[J") (by decide +kernel)) ⟨_, hc, vpvm, by rw [vpcls]; exact arrCls hB.2.2.2.1 0 rfl (fun _ h9 => by cases h9)⟩ d ?_
          rw [if_neg hj] at kk
          exact kk
      · by_cases hj : xc g 1 = xc g 3
        · refine va_instE E.1 E.2.1 E.2.2.2.1 (E.2.2.2.2 _ hlk) ⟨_, hc, vpvm, by rw [vpcls, hj]; exact arrCls hB.2.2.2.1 3 rfl (fun _ h9 => by cases h9)⟩ d ?_
          rw [if_pos hj] at kk
          exact kk
        · refine va_instNo (C := "[B") E.1 E.2.1 E.2.2.2.1 (E.2.2.2.2 _ hlk) (hB.2.2.2.2.2.2.1 ("[B", "[J") (by decide +kernel)) ⟨_, hc, vpvm, by rw [vpcls]; exact arrCls hB.2.2.2.1 1 rfl (fun _ h9 => by cases h9)⟩ d ?_
          rw [if_neg hj] at kk
          exact kk
      · by_cases hj : xc g 2 = xc g 3
        · refine va_instE E.1 E.2.1 E.2.2.2.1 (E.2.2.2.2 _ hlk) ⟨_, hc, vpvm, by rw [vpcls, hj]; exact arrCls hB.2.2.2.1 3 rfl (fun _ h9 => by cases h9)⟩ d ?_
          rw [if_pos hj] at kk
          exact kk
        · refine va_instNo (C := "[Z") E.1 E.2.1 E.2.2.2.1 (E.2.2.2.2 _ hlk) (hB.2.2.2.2.2.2.1 ("[Z", "[J") (by decide +kernel)) ⟨_, hc, vpvm, by rw [vpcls]; exact arrCls hB.2.2.2.1 2 rfl (fun _ h9 => by cases h9)⟩ d ?_
          rw [if_neg hj] at kk
          exact kk
      · by_cases hj : xc g 3 = xc g 3
        · refine va_instE E.1 E.2.1 E.2.2.2.1 (E.2.2.2.2 _ hlk) ⟨_, hc, vpvm, by rw [vpcls, hj]; exact arrCls hB.2.2.2.1 3 rfl (fun _ h9 => by cases h9)⟩ d ?_
          rw [if_pos hj] at kk
          exact kk
        · refine va_instNo (C := "[J") E.1 E.2.1 E.2.2.2.1 (E.2.2.2.2 _ hlk) (hB.2.2.2.2.2.2.1 ("[J", "[J") (absurd rfl hj)) ⟨_, hc, vpvm, by rw [vpcls]; exact arrCls hB.2.2.2.1 3 rfl (fun _ h9 => by cases h9)⟩ d ?_
          rw [if_neg hj] at kk
          exact kk
      · by_cases hj : xc g 4 = xc g 3
        · refine va_instE E.1 E.2.1 E.2.2.2.1 (E.2.2.2.2 _ hlk) ⟨_, hc, vpvm, by rw [vpcls, hj]; exact arrCls hB.2.2.2.1 3 rfl (fun _ h9 => by cases h9)⟩ d ?_
          rw [if_pos hj] at kk
          exact kk
        · refine va_instNo (C := "[S") E.1 E.2.1 E.2.2.2.1 (E.2.2.2.2 _ hlk) (hB.2.2.2.2.2.2.1 ("[S", "[J") (by decide +kernel)) ⟨_, hc, vpvm, by rw [vpcls]; exact arrCls hB.2.2.2.1 4 rfl (fun _ h9 => by cases h9)⟩ d ?_
          rw [if_neg hj] at kk
          exact kk
  · rw [if_neg hi] at h; cases h
theorem xka_3 {own : String} (E : EV p s m args c cc nL own) {idx : Nat} {v : Option Nat} {kk : Nat → Option ρ} (hlk : Cond.classLink own idx "[J" ∈ lw_all) (d : decode cc pc = .ok (.checkcast idx, 3)) (h : bno v (fun b => if (dLen ξ b (xc g 3)).isSome = true then kk b else none) = some res) (hn : pc + 3 = n) (k : ∀ b, kk b = some res → CF p l e R s m args below meth c nL cells slots (XB g A s ξ) Q n lv (.ref b :: st)) : CF p l e R s m args below meth c nL cells slots (XB g A s ξ) Q pc lv (va_rf v :: st) := by
  subst hn
  obtain ⟨b, rfl, h⟩ := bno_some h
  by_cases hi : (dLen ξ b (xc g 3)).isSome = true
  · have h : (if (dLen ξ b (xc g 3)).isSome = true then kk b else none) = some res := h
    rw [if_pos hi] at h
    obtain ⟨n9, hd⟩ := Option.isSome_iff_exists.mp hi
    obtain ⟨x, hx⟩ := dLen_at hd
    obtain ⟨q0, hq⟩ := dE_at (g := g) hx
    intro H locs ls hB hl
    exact va_castA E.1 E.2.1 E.2.2.2.1 (E.2.2.2.2 _ hlk) hB.1 q0 hq (arrCls hB.2.2.2.1 3 rfl (fun _ h9 => by cases h9)) d (k b h H locs ls hB hl)
  · have h : (if (dLen ξ b (xc g 3)).isSome = true then kk b else none) = some res := h
    rw [if_neg hi] at h; cases h
theorem xka_3p {own : String} (E : EV p s m args c cc nL own) {idx : Nat} {v : Option Nat} {kk : Nat → Prop} (hlk : Cond.classLink own idx "[J" ∈ lw_all) (d : decode cc pc = .ok (.checkcast idx, 3)) (h : bnop v (fun b => if (dLen ξ b (xc g 3)).isSome = true then kk b else False)) (hn : pc + 3 = n) (k : ∀ b, kk b → CF p l e R s m args below meth c nL cells slots (XB g A s ξ) Q n lv (.ref b :: st)) : CF p l e R s m args below meth c nL cells slots (XB g A s ξ) Q pc lv (va_rf v :: st) := by
  subst hn
  obtain ⟨b, rfl, h⟩ := h
  by_cases hi : (dLen ξ b (xc g 3)).isSome = true
  · have h : (if (dLen ξ b (xc g 3)).isSome = true then kk b else False) := h
    rw [if_pos hi] at h
    obtain ⟨n9, hd⟩ := Option.isSome_iff_exists.mp hi
    obtain ⟨x, hx⟩ := dLen_at hd
    obtain ⟨q0, hq⟩ := dE_at (g := g) hx
    intro H locs ls hB hl
    exact va_castA E.1 E.2.1 E.2.2.2.1 (E.2.2.2.2 _ hlk) hB.1 q0 hq (arrCls hB.2.2.2.1 3 rfl (fun _ h9 => by cases h9)) d (k b h H locs ls hB hl)
  · have h : (if (dLen ξ b (xc g 3)).isSome = true then kk b else False) := h
    rw [if_neg hi] at h; cases h
theorem xinA_4 {own : String} (E : EV p s m args c cc nL own) {idx : Nat} {v : Option Nat} {A9 : Option ρ} (hlk : Cond.classLink own idx "[S" ∈ lw_all) (d : decode cc pc = .ok (.instanceof idx, 3)) (h : (if okRow g ξ v = true then A9 else none) = some res) (hn : pc + 3 = n) (k : A9 = some res → CF p l e R s m args below meth c nL cells slots (XB g A s ξ) Q n lv (.int (inA g ξ v 4) :: st)) : CF p l e R s m args below meth c nL cells slots (XB g A s ξ) Q pc lv (va_rf v :: st) := by
  subst hn
  by_cases hi : okRow g ξ v = true
  · rw [if_pos hi] at h
    intro H locs ls hB hl
    have kk := k h H locs ls hB hl
    cases v with
    | none => exact lv_instN E.1 E.2.1 d kk
    | some b =>
      obtain ⟨cA, n9, x, he, hc9⟩ := okRow_at hi
      have e1 : inA g ξ (some b) 4 = (if cA = xc g 4 then 1 else 0) := by unfold inA; simp only [he]
      rw [e1] at kk
      obtain ⟨q0, hq⟩ := dE_at (g := g) he
      have hc : H[b]? = some (vp_cell cA (n9, x)) := hB.1 q0 _ hq
      rcases hc9 with rfl | rfl | rfl | rfl | rfl
      · by_cases hj : xc g 0 = xc g 4
        · refine va_instE E.1 E.2.1 E.2.2.2.1 (E.2.2.2.2 _ hlk) ⟨_, hc, vpvm, by rw [vpcls, hj]; exact arrCls hB.2.2.2.1 4 rfl (fun _ h9 => by cases h9)⟩ d ?_
          rw [if_pos hj] at kk
          exact kk
        · refine va_instNo (C := "[I") E.1 E.2.1 E.2.2.2.1 (E.2.2.2.2 _ hlk) (hB.2.2.2.2.2.2.1 ("[I", "[S") (by decide +kernel)) ⟨_, hc, vpvm, by rw [vpcls]; exact arrCls hB.2.2.2.1 0 rfl (fun _ h9 => by cases h9)⟩ d ?_
          rw [if_neg hj] at kk
          exact kk
      · by_cases hj : xc g 1 = xc g 4
        · refine va_instE E.1 E.2.1 E.2.2.2.1 (E.2.2.2.2 _ hlk) ⟨_, hc, vpvm, by rw [vpcls, hj]; exact arrCls hB.2.2.2.1 4 rfl (fun _ h9 => by cases h9)⟩ d ?_
          rw [if_pos hj] at kk
          exact kk
        · refine va_instNo (C := "[B") E.1 E.2.1 E.2.2.2.1 (E.2.2.2.2 _ hlk) (hB.2.2.2.2.2.2.1 ("[B", "[S") (by decide +kernel)) ⟨_, hc, vpvm, by rw [vpcls]; exact arrCls hB.2.2.2.1 1 rfl (fun _ h9 => by cases h9)⟩ d ?_
          rw [if_neg hj] at kk
          exact kk
      · by_cases hj : xc g 2 = xc g 4
        · refine va_instE E.1 E.2.1 E.2.2.2.1 (E.2.2.2.2 _ hlk) ⟨_, hc, vpvm, by rw [vpcls, hj]; exact arrCls hB.2.2.2.1 4 rfl (fun _ h9 => by cases h9)⟩ d ?_
          rw [if_pos hj] at kk
          exact kk
        · refine va_instNo (C := "[Z") E.1 E.2.1 E.2.2.2.1 (E.2.2.2.2 _ hlk) (hB.2.2.2.2.2.2.1 ("[Z", "[S") (by decide +kernel)) ⟨_, hc, vpvm, by rw [vpcls]; exact arrCls hB.2.2.2.1 2 rfl (fun _ h9 => by cases h9)⟩ d ?_
          rw [if_neg hj] at kk
          exact kk
      · by_cases hj : xc g 3 = xc g 4
        · refine va_instE E.1 E.2.1 E.2.2.2.1 (E.2.2.2.2 _ hlk) ⟨_, hc, vpvm, by rw [vpcls, hj]; exact arrCls hB.2.2.2.1 4 rfl (fun _ h9 => by cases h9)⟩ d ?_
          rw [if_pos hj] at kk
          exact kk
        · refine va_instNo (C := "[J") E.1 E.2.1 E.2.2.2.1 (E.2.2.2.2 _ hlk) (hB.2.2.2.2.2.2.1 ("[J", "[S") (by decide +kernel)) ⟨_, hc, vpvm, by rw [vpcls]; exact arrCls hB.2.2.2.1 3 rfl (fun _ h9 => by cases h9)⟩ d ?_
          rw [if_neg hj] at kk
          exact kk
      · by_cases hj : xc g 4 = xc g 4
        · refine va_instE E.1 E.2.1 E.2.2.2.1 (E.2.2.2.2 _ hlk) ⟨_, hc, vpvm, by rw [vpcls, hj]; exact arrCls hB.2.2.2.1 4 rfl (fun _ h9 => by cases h9)⟩ d ?_
          rw [if_pos hj] at kk
          exact kk
        · refine va_instNo (C := "[S") E.1 E.2.1 E.2.2.2.1 (E.2.2.2.2 _ hlk) (hB.2.2.2.2.2.2.1 ("[S", "[S") (absurd rfl hj)) ⟨_, hc, vpvm, by rw [vpcls]; exact arrCls hB.2.2.2.1 4 rfl (fun _ h9 => by cases h9)⟩ d ?_
          rw [if_neg hj] at kk
          exact kk
  · rw [if_neg hi] at h; cases h
theorem xinA_4p {own : String} (E : EV p s m args c cc nL own) {idx : Nat} {v : Option Nat} {A9 : Prop} (hlk : Cond.classLink own idx "[S" ∈ lw_all) (d : decode cc pc = .ok (.instanceof idx, 3)) (h : (if okRow g ξ v = true then A9 else False)) (hn : pc + 3 = n) (k : A9 → CF p l e R s m args below meth c nL cells slots (XB g A s ξ) Q n lv (.int (inA g ξ v 4) :: st)) : CF p l e R s m args below meth c nL cells slots (XB g A s ξ) Q pc lv (va_rf v :: st) := by
  subst hn
  by_cases hi : okRow g ξ v = true
  · rw [if_pos hi] at h
    intro H locs ls hB hl
    have kk := k h H locs ls hB hl
    cases v with
    | none => exact lv_instN E.1 E.2.1 d kk
    | some b =>
      obtain ⟨cA, n9, x, he, hc9⟩ := okRow_at hi
      have e1 : inA g ξ (some b) 4 = (if cA = xc g 4 then 1 else 0) := by unfold inA; simp only [he]
      rw [e1] at kk
      obtain ⟨q0, hq⟩ := dE_at (g := g) he
      have hc : H[b]? = some (vp_cell cA (n9, x)) := hB.1 q0 _ hq
      rcases hc9 with rfl | rfl | rfl | rfl | rfl
      · by_cases hj : xc g 0 = xc g 4
        · refine va_instE E.1 E.2.1 E.2.2.2.1 (E.2.2.2.2 _ hlk) ⟨_, hc, vpvm, by rw [vpcls, hj]; exact arrCls hB.2.2.2.1 4 rfl (fun _ h9 => by cases h9)⟩ d ?_
          rw [if_pos hj] at kk
          exact kk
        · refine va_instNo (C := "[I") E.1 E.2.1 E.2.2.2.1 (E.2.2.2.2 _ hlk) (hB.2.2.2.2.2.2.1 ("[I", "[S") (by decide +kernel)) ⟨_, hc, vpvm, by rw [vpcls]; exact arrCls hB.2.2.2.1 0 rfl (fun _ h9 => by cases h9)⟩ d ?_
          rw [if_neg hj] at kk
          exact kk
      · by_cases hj : xc g 1 = xc g 4
        · refine va_instE E.1 E.2.1 E.2.2.2.1 (E.2.2.2.2 _ hlk) ⟨_, hc, vpvm, by rw [vpcls, hj]; exact arrCls hB.2.2.2.1 4 rfl (fun _ h9 => by cases h9)⟩ d ?_
          rw [if_pos hj] at kk
          exact kk
        · refine va_instNo (C := "[B") E.1 E.2.1 E.2.2.2.1 (E.2.2.2.2 _ hlk) (hB.2.2.2.2.2.2.1 ("[B", "[S") (by decide +kernel)) ⟨_, hc, vpvm, by rw [vpcls]; exact arrCls hB.2.2.2.1 1 rfl (fun _ h9 => by cases h9)⟩ d ?_
          rw [if_neg hj] at kk
          exact kk
      · by_cases hj : xc g 2 = xc g 4
        · refine va_instE E.1 E.2.1 E.2.2.2.1 (E.2.2.2.2 _ hlk) ⟨_, hc, vpvm, by rw [vpcls, hj]; exact arrCls hB.2.2.2.1 4 rfl (fun _ h9 => by cases h9)⟩ d ?_
          rw [if_pos hj] at kk
          exact kk
        · refine va_instNo (C := "[Z") E.1 E.2.1 E.2.2.2.1 (E.2.2.2.2 _ hlk) (hB.2.2.2.2.2.2.1 ("[Z", "[S") (by decide +kernel)) ⟨_, hc, vpvm, by rw [vpcls]; exact arrCls hB.2.2.2.1 2 rfl (fun _ h9 => by cases h9)⟩ d ?_
          rw [if_neg hj] at kk
          exact kk
      · by_cases hj : xc g 3 = xc g 4
        · refine va_instE E.1 E.2.1 E.2.2.2.1 (E.2.2.2.2 _ hlk) ⟨_, hc, vpvm, by rw [vpcls, hj]; exact arrCls hB.2.2.2.1 4 rfl (fun _ h9 => by cases h9)⟩ d ?_
          rw [if_pos hj] at kk
          exact kk
        · refine va_instNo (C := "[J") E.1 E.2.1 E.2.2.2.1 (E.2.2.2.2 _ hlk) (hB.2.2.2.2.2.2.1 ("[J", "[S") (by decide +kernel)) ⟨_, hc, vpvm, by rw [vpcls]; exact arrCls hB.2.2.2.1 3 rfl (fun _ h9 => by cases h9)⟩ d ?_
          rw [if_neg hj] at kk
          exact kk
      · by_cases hj : xc g 4 = xc g 4
        · refine va_instE E.1 E.2.1 E.2.2.2.1 (E.2.2.2.2 _ hlk) ⟨_, hc, vpvm, by rw [vpcls, hj]; exact arrCls hB.2.2.2.1 4 rfl (fun _ h9 => by cases h9)⟩ d ?_
          rw [if_pos hj] at kk
          exact kk
        · refine va_instNo (C := "[S") E.1 E.2.1 E.2.2.2.1 (E.2.2.2.2 _ hlk) (hB.2.2.2.2.2.2.1 ("[S", "[S") (absurd rfl hj)) ⟨_, hc, vpvm, by rw [vpcls]; exact arrCls hB.2.2.2.1 4 rfl (fun _ h9 => by cases h9)⟩ d ?_
          rw [if_neg hj] at kk
          exact kk
  · rw [if_neg hi] at h; cases h
theorem xka_4 {own : String} (E : EV p s m args c cc nL own) {idx : Nat} {v : Option Nat} {kk : Nat → Option ρ} (hlk : Cond.classLink own idx "[S" ∈ lw_all) (d : decode cc pc = .ok (.checkcast idx, 3)) (h : bno v (fun b => if (dLen ξ b (xc g 4)).isSome = true then kk b else none) = some res) (hn : pc + 3 = n) (k : ∀ b, kk b = some res → CF p l e R s m args below meth c nL cells slots (XB g A s ξ) Q n lv (.ref b :: st)) : CF p l e R s m args below meth c nL cells slots (XB g A s ξ) Q pc lv (va_rf v :: st) := by
  subst hn
  obtain ⟨b, rfl, h⟩ := bno_some h
  by_cases hi : (dLen ξ b (xc g 4)).isSome = true
  · have h : (if (dLen ξ b (xc g 4)).isSome = true then kk b else none) = some res := h
    rw [if_pos hi] at h
    obtain ⟨n9, hd⟩ := Option.isSome_iff_exists.mp hi
    obtain ⟨x, hx⟩ := dLen_at hd
    obtain ⟨q0, hq⟩ := dE_at (g := g) hx
    intro H locs ls hB hl
    exact va_castA E.1 E.2.1 E.2.2.2.1 (E.2.2.2.2 _ hlk) hB.1 q0 hq (arrCls hB.2.2.2.1 4 rfl (fun _ h9 => by cases h9)) d (k b h H locs ls hB hl)
  · have h : (if (dLen ξ b (xc g 4)).isSome = true then kk b else none) = some res := h
    rw [if_neg hi] at h; cases h
theorem xka_4p {own : String} (E : EV p s m args c cc nL own) {idx : Nat} {v : Option Nat} {kk : Nat → Prop} (hlk : Cond.classLink own idx "[S" ∈ lw_all) (d : decode cc pc = .ok (.checkcast idx, 3)) (h : bnop v (fun b => if (dLen ξ b (xc g 4)).isSome = true then kk b else False)) (hn : pc + 3 = n) (k : ∀ b, kk b → CF p l e R s m args below meth c nL cells slots (XB g A s ξ) Q n lv (.ref b :: st)) : CF p l e R s m args below meth c nL cells slots (XB g A s ξ) Q pc lv (va_rf v :: st) := by
  subst hn
  obtain ⟨b, rfl, h⟩ := h
  by_cases hi : (dLen ξ b (xc g 4)).isSome = true
  · have h : (if (dLen ξ b (xc g 4)).isSome = true then kk b else False) := h
    rw [if_pos hi] at h
    obtain ⟨n9, hd⟩ := Option.isSome_iff_exists.mp hi
    obtain ⟨x, hx⟩ := dLen_at hd
    obtain ⟨q0, hq⟩ := dE_at (g := g) hx
    intro H locs ls hB hl
    exact va_castA E.1 E.2.1 E.2.2.2.1 (E.2.2.2.2 _ hlk) hB.1 q0 hq (arrCls hB.2.2.2.1 4 rfl (fun _ h9 => by cases h9)) d (k b h H locs ls hB hl)
  · have h : (if (dLen ξ b (xc g 4)).isSome = true then kk b else False) := h
    rw [if_neg hi] at h; cases h
theorem cf_aload_nQ {own : String} {B : Heap → List Loc → Prop} (E : EV p s m args c cc nL own) {i : Fin 4} {v : Option Nat} (d : decode cc pc = .ok (.aload_n i, 1)) (j : Nat) (hj : lv[j]? = some ((i : Nat), va_rf v)) (hn : pc + 1 = n) (k : CF p l e R s m args below meth c nL cells slots B Q n lv (va_rf v :: st)) : CF p l e R s m args below meth c nL cells slots B Q pc lv st := by
  subst hn
  cases v with
  | none => exact fun H locs ls hB hl => lv_aload_nN E.1 E.2.1 d rfl (lv_at hl j hj) (k H locs ls hB hl)
  | some x => exact fun H locs ls hB hl => lv_aload_n E.1 E.2.1 d rfl (lv_at hl j hj) (k H locs ls hB hl)
theorem cf_astore_nQ {own : String} {B : Heap → List Loc → Prop} (E : EV p s m args c cc nL own) {i : Fin 4} {v : Option Nat} (d : decode cc pc = .ok (.astore_n i, 1)) (lv' : List (Nat × Value)) (hb : (i : Nat) < nL) (hl : ((i : Nat), va_rf v) :: lv.filter (fun q => !(q.1 == (i : Nat)) && !(q.1 + 1 == (i : Nat) && q.2.category == 2)) = lv') (hn : pc + 1 = n) (k : CF p l e R s m args below meth c nL cells slots B Q n lv' st) : CF p l e R s m args below meth c nL cells slots B Q pc lv (va_rf v :: st) := by
  subst hn
  cases v with
  | none => exact fun H locs ls hB h9 => lv_astore_nN E.1 E.2.1 d rfl h9 hb hl (fun ls' hl' => k H locs ls' hB hl')
  | some x => exact fun H locs ls hB h9 => lv_astore_n E.1 E.2.1 d rfl h9 hb hl (fun ls' hl' => k H locs ls' hB hl')
theorem cf_aloadQ {own : String} {B : Heap → List Loc → Prop} (E : EV p s m args c cc nL own) {i : Nat} {v : Option Nat} (d : decode cc pc = .ok (.aload i, 2)) (j : Nat) (hj : lv[j]? = some ((i : Nat), va_rf v)) (hn : pc + 2 = n) (k : CF p l e R s m args below meth c nL cells slots B Q n lv (va_rf v :: st)) : CF p l e R s m args below meth c nL cells slots B Q pc lv st := by
  subst hn
  cases v with
  | none => exact fun H locs ls hB hl => lv_aloadN E.1 E.2.1 d (lv_at hl j hj) (k H locs ls hB hl)
  | some x => exact fun H locs ls hB hl => lv_aload E.1 E.2.1 d (lv_at hl j hj) (k H locs ls hB hl)
theorem cf_astoreQ {own : String} {B : Heap → List Loc → Prop} (E : EV p s m args c cc nL own) {i : Nat} {v : Option Nat} (d : decode cc pc = .ok (.astore i, 2)) (lv' : List (Nat × Value)) (hb : (i : Nat) < nL) (hl : ((i : Nat), va_rf v) :: lv.filter (fun q => !(q.1 == (i : Nat)) && !(q.1 + 1 == (i : Nat) && q.2.category == 2)) = lv') (hn : pc + 2 = n) (k : CF p l e R s m args below meth c nL cells slots B Q n lv' st) : CF p l e R s m args below meth c nL cells slots B Q pc lv (va_rf v :: st) := by
  subst hn
  cases v with
  | none => exact fun H locs ls hB h9 => lv_astoreN E.1 E.2.1 d h9 hb hl (fun ls' hl' => k H locs ls' hB hl')
  | some x => exact fun H locs ls hB h9 => lv_astore E.1 E.2.1 d h9 hb hl (fun ls' hl' => k H locs ls' hB hl')
theorem xrecvP {g : XG} {ξ : XS} {τ : Nat} (hτ : τ < 6) : xrecv g ξ RX5 (xa g (320 + τ)) := by
  rcases t6 hτ with rfl | rfl | rfl | rfl | rfl | rfl
  · exact ⟨37, 7, _, _, rfl, rfl, rfl⟩
  · exact ⟨38, 7, _, _, rfl, rfl, rfl⟩
  · exact ⟨39, 7, _, _, rfl, rfl, rfl⟩
  · exact ⟨40, 7, _, _, rfl, rfl, rfl⟩
  · exact ⟨41, 7, _, _, rfl, rfl, rfl⟩
  · exact ⟨42, 7, _, _, rfl, rfl, rfl⟩
end XC
