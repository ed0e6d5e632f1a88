/-! ROWS FOR ArrayList: printed by gen/lrow.py -/
set_option maxRecDepth 100000
def lenO (g : XG) (ξ : XS) (a : Nat) : Option Nat := if a = xa g 400 then some 0 else dLen ξ a (xc g 7)
def mkcq (g : XG) (ξ : XS) (n mc ms : Nat) (kk : Nat → Prop) : Prop := 1 ≤ mc ∧ n ≤ ms ∧ ∀ q, q ∉ xL ξ → q ≠ xa g 400 → kk q
def allO (ξ : XS) (f : Nat → Option Nat) (sp n : Nat) : Bool := (List.range n).all (fun i => match f (sp + i) with | none => true | some y => isC ξ y 17 20)
theorem vp_cell_vm9 (cA : ClassId) (x : vp_A) : (vp_cell cA x).vm.isStatics = false := by
  obtain ⟨n, f | f | f | f | f⟩ := x <;> rfl
theorem vp_cell_cls9 (cA : ClassId) (x : vp_A) : (vp_cell cA x).cls = cA := by
  obtain ⟨n, f | f | f | f | f⟩ := x <;> rfl
theorem allO_at {ξ : XS} {f : Nat → Option Nat} {sp n : Nat} (h : allO ξ f sp n = true) : ∀ i, i < n → ∀ y, f (sp + i) = some y → isC ξ y 17 20 = true := by
  intro i hi y hy
  have h1 := List.all_eq_true.mp h i (List.mem_range.mpr hi)
  simp only [hy] at h1
  exact h1
theorem xanyO {g : XG} {A : Nat → Prop} {s : State} {ξ : XS} {H : Heap} {locs : List Loc} {a : Nat} (hB : XB g A s ξ H locs) (h : isC ξ a 17 20 = true) : va_Any "java/lang/Object" s H a := by
  obtain ⟨ci, hci, h1, h2⟩ := isC_at h
  obtain ⟨fs, he⟩ := dCi_at hci
  obtain ⟨q0, hq⟩ := dE_at (g := g) he
  have hcc : ci = 17 ∨ ci = 18 ∨ ci = 19 ∨ ci = 20 := by omega
  rcases hcc with rfl | rfl | rfl | rfl
  · refine va_rAny hB.2.2.2.1 hB.1 hq rfl (fun comp c0 e1 e2 => ?_)
    obtain ⟨c9, t9, g1, g2, g3⟩ := Cond.castable_spec (hB.2.2.2.2.2.1 _ q2191 rfl)
    cases e1.symm.trans g2
    cases e2.symm.trans g1
    exact g3
  · refine va_rAny hB.2.2.2.1 hB.1 hq rfl (fun comp c0 e1 e2 => ?_)
    obtain ⟨c9, t9, g1, g2, g3⟩ := Cond.castable_spec (hB.2.2.2.2.2.1 _ q2192 rfl)
    cases e1.symm.trans g2
    cases e2.symm.trans g1
    exact g3
  · refine va_rAny hB.2.2.2.1 hB.1 hq rfl (fun comp c0 e1 e2 => ?_)
    obtain ⟨c9, t9, g1, g2, g3⟩ := Cond.castable_spec (hB.2.2.2.2.2.1 _ q2193 rfl)
    cases e1.symm.trans g2
    cases e2.symm.trans g1
    exact g3
  · refine va_rAny hB.2.2.2.1 hB.1 hq rfl (fun comp c0 e1 e2 => ?_)
    obtain ⟨c9, t9, g1, g2, g3⟩ := Cond.castable_spec (hB.2.2.2.2.2.1 _ q2194 rfl)
    cases e1.symm.trans g2
    cases e2.symm.trans g1
    exact g3
section XC
variable {p : Program} {l : Launch} {e : Env} {R : Room} {s : State} {m : MethodId} {args : Array Value} {below : List Frame} {meth : Method} {c : Code} {nL cells slots : Nat} {A : Nat → Prop} {g : XG} {ξ : XS} {Q : State → Prop} {pc n : Nat} {lv : List (Nat × Value)} {st : List Value} {cc : ByteArray} {ρ : Type} {res : ρ}
theorem xlenO {own : String} (E : EV p s m args c cc nL own) {a : Nat} {kk : Nat → Option ρ} (d : decode cc pc = .ok (.arraylength, 1)) (h : bno (lenO g ξ a) kk = some res) (hn : pc + 1 = n) (k : ∀ n9 : Nat, kk n9 = some res → CF p l e R s m args below meth c nL cells slots (XB g A s ξ) Q n lv (.int (Int32.ofNat n9) :: st)) : CF p l e R s m args below meth c nL cells slots (XB g A s ξ) Q pc lv (.ref a :: st) := by
  subst hn
  obtain ⟨n9, hd, h9⟩ := bno_some h
  unfold lenO at hd
  by_cases ha : a = xa g 400
  · rw [if_pos ha] at hd
    subst ha
    have e9 : 0 = n9 := Option.some.inj hd
    subst e9
    exact fun H locs ls hB hl => va_tlen E.1 E.2.1 hB.2.2.2.2.2.2.2.2.2.2.1 hB.2.2.1 rfl d (k _ h9 H locs ls hB hl)
  · rw [if_neg ha] at hd
    obtain ⟨x, hx⟩ := dLen_at hd
    obtain ⟨q0, hq⟩ := dE_at (g := g) hx
    exact fun H locs ls hB hl => va_alen E.1 E.2.1 hB.2.2.2.1 hB.1 q0 7 hq rfl rfl d (k n9 h9 H locs ls hB hl)
theorem xlenOp {own : String} (E : EV p s m args c cc nL own) {a : Nat} {kk : Nat → Prop} (d : decode cc pc = .ok (.arraylength, 1)) (h : bnop (lenO g ξ a) kk) (hn : pc + 1 = n) (k : ∀ n9 : Nat, kk n9 → CF p l e R s m args below meth c nL cells slots (XB g A s ξ) Q n lv (.int (Int32.ofNat n9) :: st)) : CF p l e R s m args below meth c nL cells slots (XB g A s ξ) Q pc lv (.ref a :: st) := by
  subst hn
  obtain ⟨n9, hd, h9⟩ := h
  unfold lenO at hd
  by_cases ha : a = xa g 400
  · rw [if_pos ha] at hd
    subst ha
    have e9 : 0 = n9 := Option.some.inj hd
    subst e9
    exact fun H locs ls hB hl => va_tlen E.1 E.2.1 hB.2.2.2.2.2.2.2.2.2.2.1 hB.2.2.1 rfl d (k _ h9 H locs ls hB hl)
  · rw [if_neg ha] at hd
    obtain ⟨x, hx⟩ := dLen_at hd
    obtain ⟨q0, hq⟩ := dE_at (g := g) hx
    exact fun H locs ls hB hl => va_alen E.1 E.2.1 hB.2.2.2.1 hB.1 q0 7 hq rfl rfl d (k n9 h9 H locs ls hB hl)
theorem xacmp_eq {own : String} (E : EV p s m args c cc nL own) {x y : Nat} {off : Int} {tgt : Nat} {At Bf : Option ρ} (d : decode cc pc = .ok (.if_acmp .eq off, 3)) (h : (if x = y then At else Bf) = some res) (ht : (pc : Int) + off = (tgt : Int)) (hn : pc + 3 = n) (kt : At = some res → CF p l e R s m args below meth c nL cells slots (XB g A s ξ) Q tgt lv st) (kf : Bf = some res → CF p l e R s m args below meth c nL cells slots (XB g A s ξ) Q n lv st) : CF p l e R s m args below meth c nL cells slots (XB g A s ξ) Q pc lv (.ref y :: .ref x :: st) := by
  subst hn
  intro H locs ls hB hl
  refine lv_acmp_eq (rx := some x) (ry := some y) E.1 E.2.1 d ht (fun hc => ?_) (fun hc => ?_)
  · exact kt (by rw [if_pos (Option.some.inj hc)] at h; exact h) H locs ls hB hl
  · exact kf (by rw [if_neg (fun e9 => hc (congrArg some e9))] at h; exact h) H locs ls hB hl
theorem xacmp_eqp {own : String} (E : EV p s m args c cc nL own) {x y : Nat} {off : Int} {tgt : Nat} {At Bf : Prop} (d : decode cc pc = .ok (.if_acmp .eq off, 3)) (h : (if x = y then At else Bf)) (ht : (pc : Int) + off = (tgt : Int)) (hn : pc + 3 = n) (kt : At → CF p l e R s m args below meth c nL cells slots (XB g A s ξ) Q tgt lv st) (kf : Bf → CF p l e R s m args below meth c nL cells slots (XB g A s ξ) Q n lv st) : CF p l e R s m args below meth c nL cells slots (XB g A s ξ) Q pc lv (.ref y :: .ref x :: st) := by
  subst hn
  intro H locs ls hB hl
  refine lv_acmp_eq (rx := some x) (ry := some y) E.1 E.2.1 d ht (fun hc => ?_) (fun hc => ?_)
  · exact kt (by rw [if_pos (Option.some.inj hc)] at h; exact h) H locs ls hB hl
  · exact kf (by rw [if_neg (fun e9 => hc (congrArg some e9))] at h; exact h) H locs ls hB hl
theorem xacmp_ne {own : String} (E : EV p s m args c cc nL own) {x y : Nat} {off : Int} {tgt : Nat} {At Bf : Option ρ} (d : decode cc pc = .ok (.if_acmp .ne off, 3)) (h : (if x = y then Bf else At) = some res) (ht : (pc : Int) + off = (tgt : Int)) (hn : pc + 3 = n) (kt : At = some res → CF p l e R s m args below meth c nL cells slots (XB g A s ξ) Q tgt lv st) (kf : Bf = some res → CF p l e R s m args below meth c nL cells slots (XB g A s ξ) Q n lv st) : CF p l e R s m args below meth c nL cells slots (XB g A s ξ) Q pc lv (.ref y :: .ref x :: st) := by
  subst hn
  intro H locs ls hB hl
  refine lv_acmp_ne (rx := some x) (ry := some y) E.1 E.2.1 d ht (fun hc => ?_) (fun hc => ?_)
  · exact kt (by rw [if_neg (fun e9 => hc (congrArg some e9))] at h; exact h) H locs ls hB hl
  · exact kf (by rw [if_pos (Option.some.inj hc)] at h; exact h) H locs ls hB hl
theorem xacmp_nep {own : String} (E : EV p s m args c cc nL own) {x y : Nat} {off : Int} {tgt : Nat} {At Bf : Prop} (d : decode cc pc = .ok (.if_acmp .ne off, 3)) (h : (if x = y then Bf else At)) (ht : (pc : Int) + off = (tgt : Int)) (hn : pc + 3 = n) (kt : At → CF p l e R s m args below meth c nL cells slots (XB g A s ξ) Q tgt lv st) (kf : Bf → CF p l e R s m args below meth c nL cells slots (XB g A s ξ) Q n lv st) : CF p l e R s m args below meth c nL cells slots (XB g A s ξ) Q pc lv (.ref y :: .ref x :: st) := by
  subst hn
  intro H locs ls hB hl
  refine lv_acmp_ne (rx := some x) (ry := some y) E.1 E.2.1 d ht (fun hc => ?_) (fun hc => ?_)
  · exact kt (by rw [if_neg (fun e9 => hc (congrArg some e9))] at h; exact h) H locs ls hB hl
  · exact kf (by rw [if_pos (Option.some.inj hc)] at h; exact h) H locs ls hB hl
theorem xnewq {own : String} (E : EV p s m args c cc nL own) {i : Int32} {mc ms idx : Nat} {kk : Nat → Prop} (hq9 : Cond.classLink own idx "java/lang/Object" ∈ lw_all) (hb : cells + mc ≤ R.cells ∧ slots + ms ≤ R.slots) (d : decode cc pc = .ok (.anewarray idx, 3)) (h : if (¬ i < 0 ∧ i.toNatClampNeg ≤ 10000) then mkcq g ξ i.toNatClampNeg mc ms kk else False) (hn : pc + 3 = n) (k : ∀ q, (cells + 1 + (mc - 1) ≤ R.cells ∧ slots + i.toNatClampNeg + (ms - i.toNatClampNeg) ≤ R.slots) → kk q → CF p l e R s m args below meth c nL (cells + 1) (slots + i.toNatClampNeg) (XB g A s (pXd ξ q (.inl (xc g 7, i.toNatClampNeg, .inr (.inr (.inr (.inr (fun _ => none)))))))) Q n lv (.ref q :: st)) : CF p l e R s m args below meth c nL cells slots (XB g A s ξ) Q pc lv (.int i :: st) := by
  subst hn
  by_cases hi : (¬ i < 0 ∧ i.toNatClampNeg ≤ 10000)
  · rw [if_pos hi] at h
    obtain ⟨h1, h2, h3⟩ := h
    intro H locs ls hB hl
    refine va_newq E.1 E.2.1 E.2.2.2.1 (E.2.2.2.2 _ hq9) hB.2.2.2.2.2.2.2.2.2.2.2.2.2.2.2.1 hB.2.2.2.1 hB.1 hB.2.1 hB.2.2.1 hB.2.2.2.2.1 hi.1 rfl (by omega) (by omega) (by omega) d (fun q cA H1 hK hP hD hS => ?_)
    have hcA : cA = xc g 7 := by
      obtain ⟨_, _, -, -, -, e1⟩ := (hK.2 8 (cA, .object "java/lang/Object") rfl).2
      obtain ⟨_, _, -, -, -, e2⟩ := (hB.2.2.2.1.2 7 (xc g 7, .object "java/lang/Object") rfl).2
      exact Option.some.inj (e1.symm.trans e2)
    subst hcA
    have hq := xpush hD
    rw [xcs_push hq] at hP hD
    have hne : q ≠ xa g 400 := by
      intro e9
      have hAq : A q := hD.2 (xcs g ξ).length (q, _) (by rw [← xcs_push hq]; simp; rfl)
      obtain ⟨ce, -, -, -, -, -, -, hnA⟩ := hB.2.2.2.2.2.2.2.2.2.2.1
      exact hnA (e9 ▸ hAq)
    exact k q ⟨by omega, by omega⟩ (h3 q hq hne) H1 locs ls ⟨hP, hD, hS, hB.2.2.2⟩ hl
  · rw [if_neg hi] at h; cases h
theorem xgetC (E : EV p s m args c cc nL RJ13) {a : Nat} {A9 : Option ρ} (hR : 1 ≤ R.frames ∧ 40 ≤ R.locals) (hcat : (st.map fun v => v.category).sum ≤ 8) (d : decode cc pc = .ok (.invokevirtual 86, 3)) (h : (if (dLen ξ a (xc g 7)).isSome = true then A9 else none) = some res) (hn : pc + 3 = n) (k : A9 = some res → CF p l e R s m args below meth c nL cells slots (XB g A s ξ) Q n lv (.ref (xa g 401) :: st)) : CF p l e R s m args below meth c nL cells slots (XB g A s ξ) Q pc lv (.ref a :: st) := by
  subst hn
  by_cases hi : (dLen ξ a (xc g 7)).isSome = true
  · rw [if_pos hi] at h
    obtain ⟨n9, h9⟩ := Option.isSome_iff_exists.mp hi
    obtain ⟨x, hx⟩ := dLen_at h9
    obtain ⟨q0, hq⟩ := dE_at (g := g) hx
    intro H locs ls hB hl
    exact va_getC E.1 E.2.1 (E.2.2.1.trans hl.1.symm) E.2.2.2.1 (E.2.2.2.2 _ q997) (va_Nw.use rfl (hB.2.2.2.2.2.1 _ q2204 rfl)) (E.2.2.2.2 _ q2203) (E.2.2.2.2 _ q998) (E.2.2.2.2 _ q1026) hB.2.2.2.2.2.2.2.2.2.2.2.2.2.2.2.2.1 ⟨_, hB.1 q0 _ hq, vp_cell_vm9 _ _, by rw [vp_cell_cls9]; exact va_nmO (hB.2.2.2.1.2 7 (xc g 7, .object "java/lang/Object") rfl).2 (by decide +kernel)⟩ hR.1 (by have := hR.2; omega) d (k h H locs ls hB hl)
  · rw [if_neg hi] at h; cases h
theorem xgetCp (E : EV p s m args c cc nL RJ13) {a : Nat} {A9 : Prop} (hR : 1 ≤ R.frames ∧ 40 ≤ R.locals) (hcat : (st.map fun v => v.category).sum ≤ 8) (d : decode cc pc = .ok (.invokevirtual 86, 3)) (h : (if (dLen ξ a (xc g 7)).isSome = true then A9 else False)) (hn : pc + 3 = n) (k : A9 → CF p l e R s m args below meth c nL cells slots (XB g A s ξ) Q n lv (.ref (xa g 401) :: st)) : CF p l e R s m args below meth c nL cells slots (XB g A s ξ) Q pc lv (.ref a :: st) := by
  subst hn
  by_cases hi : (dLen ξ a (xc g 7)).isSome = true
  · rw [if_pos hi] at h
    obtain ⟨n9, h9⟩ := Option.isSome_iff_exists.mp hi
    obtain ⟨x, hx⟩ := dLen_at h9
    obtain ⟨q0, hq⟩ := dE_at (g := g) hx
    intro H locs ls hB hl
    exact va_getC E.1 E.2.1 (E.2.2.1.trans hl.1.symm) E.2.2.2.1 (E.2.2.2.2 _ q997) (va_Nw.use rfl (hB.2.2.2.2.2.1 _ q2204 rfl)) (E.2.2.2.2 _ q2203) (E.2.2.2.2 _ q998) (E.2.2.2.2 _ q1026) hB.2.2.2.2.2.2.2.2.2.2.2.2.2.2.2.2.1 ⟨_, hB.1 q0 _ hq, vp_cell_vm9 _ _, by rw [vp_cell_cls9]; exact va_nmO (hB.2.2.2.1.2 7 (xc g 7, .object "java/lang/Object") rfl).2 (by decide +kernel)⟩ hR.1 (by have := hR.2; omega) d (k h H locs ls hB hl)
  · rw [if_neg hi] at h; cases h
theorem xastO {own : String} (E : EV p s m args c cc nL own) {i : Int32} {a b : Nat} {kk : XS → Option ρ} (d : decode cc pc = .ok (.aastore, 1)) (h : bnd (dAq ξ b (xc g 7)) (fun n f => if inb i n = true ∧ isC ξ a 17 20 = true then nx (sXd ξ b (.inl (xc g 7, n, .inr (.inr (.inr (.inr (va_up f i.toNatClampNeg (some a)))))))) kk else none) = some res) (hn : pc + 1 = n) (k : ∀ ξ1 : XS, kk ξ1 = some res → CF p l e R s m args below meth c nL cells slots (XB g A s ξ1) Q n lv st) : CF p l e R s m args below meth c nL cells slots (XB g A s ξ) Q pc lv (.ref a :: .int i :: .ref b :: st) := by
  subst hn
  obtain ⟨n9, f9, hd, h⟩ := bnd_some h
  by_cases hi : inb i n9 = true ∧ isC ξ a 17 20 = true
  · rw [if_pos hi] at h
    have hx := dAq_at hd
    intro H locs ls hB hl
    obtain ⟨q0, hq⟩ := dE_at (g := g) hx
    refine va_astqM E.1 E.2.1 hB.2.2.2.1 hB.1 hB.2.1 hB.2.2.1 q0 7 hq rfl (xanyO hB hi.2) (inb_in hi.1) d (fun H1 locs1 hP hD hS => ?_)
    rw [xcs_set hB.2.1 hx hq] at hP hD
    exact k _ h H1 locs1 ls ⟨hP, hD, hS, hB.2.2.2⟩ hl
  · rw [if_neg hi] at h; cases h
theorem xastOp {own : String} (E : EV p s m args c cc nL own) {i : Int32} {a b : Nat} {kk : XS → Prop} (d : decode cc pc = .ok (.aastore, 1)) (h : bndp (dAq ξ b (xc g 7)) (fun n f => if inb i n = true ∧ isC ξ a 17 20 = true then nx (sXd ξ b (.inl (xc g 7, n, .inr (.inr (.inr (.inr (va_up f i.toNatClampNeg (some a)))))))) kk else False)) (hn : pc + 1 = n) (k : ∀ ξ1 : XS, kk ξ1 → CF p l e R s m args below meth c nL cells slots (XB g A s ξ1) Q n lv st) : CF p l e R s m args below meth c nL cells slots (XB g A s ξ) Q pc lv (.ref a :: .int i :: .ref b :: st) := by
  subst hn
  obtain ⟨n9, f9, hd, h⟩ := h
  by_cases hi : inb i n9 = true ∧ isC ξ a 17 20 = true
  · rw [if_pos hi] at h
    have hx := dAq_at hd
    intro H locs ls hB hl
    obtain ⟨q0, hq⟩ := dE_at (g := g) hx
    refine va_astqM E.1 E.2.1 hB.2.2.2.1 hB.1 hB.2.1 hB.2.2.1 q0 7 hq rfl (xanyO hB hi.2) (inb_in hi.1) d (fun H1 locs1 hP hD hS => ?_)
    rw [xcs_set hB.2.1 hx hq] at hP hD
    exact k _ h H1 locs1 ls ⟨hP, hD, hS, hB.2.2.2⟩ hl
  · rw [if_neg hi] at h; cases h
theorem xcpO (E : EV p s m args c cc nL RJ13) {sp dp nn : Int32} {a b : Nat} {kk : XS → Option ρ} (hR : 1 ≤ R.frames ∧ 40 ≤ R.locals) (hcat : (st.map fun v => v.category).sum ≤ 8) (d : decode cc pc = .ok (.invokestatic 150, 3)) (h : bnd (dAq ξ a (xc g 7)) (fun n0 f0 => bnd (dAq ξ b (xc g 7)) (fun n1 f1 => if cpk sp dp nn n0 n1 = true ∧ allO ξ f0 sp.toNatClampNeg nn.toNatClampNeg = true then nx (sXd ξ b (.inl (xc g 7, n1, .inr (.inr (.inr (.inr (va_cpy f0 f1 sp.toNatClampNeg dp.toNatClampNeg nn.toNatClampNeg))))))) kk else none)) = some res) (hn : pc + 3 = n) (k : ∀ ξ1 : XS, kk ξ1 = some res → CF p l e R s m args below meth c nL cells slots (XB g A s ξ1) Q n lv st) : CF p l e R s m args below meth c nL cells slots (XB g A s ξ) Q pc lv (.int nn :: .int dp :: .ref b :: .int sp :: .ref a :: st) := by
  subst hn
  obtain ⟨n0, f0, hd, h⟩ := bnd_some h
  obtain ⟨n1, f1, hd1, h⟩ := bnd_some h
  by_cases hi : cpk sp dp nn n0 n1 = true ∧ allO ξ f0 sp.toNatClampNeg nn.toNatClampNeg = true
  · rw [if_pos hi] at h
    have hc := cpk_at hi.1
    intro H locs ls hB hl
    obtain ⟨q0, hq⟩ := dE_at (g := g) (dAq_at hd)
    obtain ⟨q1, hq1⟩ := dE_at (g := g) (dAq_at hd1)
    refine va_copyM E.1 E.2.1 (E.2.2.1.trans hl.1.symm) E.2.2.2.1 (E.2.2.2.2 _ q1036) (E.2.2.2.2 _ q1038) (E.2.2.2.2 _ q1037) (E.2.2.2.2 _ q131) hB.2.2.2.1 hB.1 hB.2.1 hB.2.2.1 q0 q1 7 7 (E0 := "java/lang/Object") (E1 := "java/lang/Object") hq hq1 rfl rfl hc.1 hc.2.1 hc.2.2.1 hc.2.2.2.1 hc.2.2.2.2 (fun i hi9 y hy => xanyO hB (allO_at hi.2 i hi9 y hy)) hR.1 (Nat.le_trans (Nat.add_le_add hcat (Nat.le_of_ble_eq_true (m := 32) rfl)) hR.2) d (fun H1 locs1 hP hD hS => ?_)
    rw [xcs_set hB.2.1 (dAq_at hd1) hq1] at hP hD
    exact k _ h H1 locs1 ls ⟨hP, hD, hS, hB.2.2.2⟩ hl
  · rw [if_neg hi] at h; cases h
theorem xcpOp (E : EV p s m args c cc nL RJ13) {sp dp nn : Int32} {a b : Nat} {kk : XS → Prop} (hR : 1 ≤ R.frames ∧ 40 ≤ R.locals) (hcat : (st.map fun v => v.category).sum ≤ 8) (d : decode cc pc = .ok (.invokestatic 150, 3)) (h : bndp (dAq ξ a (xc g 7)) (fun n0 f0 => bndp (dAq ξ b (xc g 7)) (fun n1 f1 => if cpk sp dp nn n0 n1 = true ∧ allO ξ f0 sp.toNatClampNeg nn.toNatClampNeg = true then nx (sXd ξ b (.inl (xc g 7, n1, .inr (.inr (.inr (.inr (va_cpy f0 f1 sp.toNatClampNeg dp.toNatClampNeg nn.toNatClampNeg))))))) kk else False))) (hn : pc + 3 = n) (k : ∀ ξ1 : XS, kk ξ1 → CF p l e R s m args below meth c nL cells slots (XB g A s ξ1) Q n lv st) : CF p l e R s m args below meth c nL cells slots (XB g A s ξ) Q pc lv (.int nn :: .int dp :: .ref b :: .int sp :: .ref a :: st) := by
  subst hn
  obtain ⟨n0, f0, hd, h⟩ := h
  obtain ⟨n1, f1, hd1, h⟩ := h
  by_cases hi : cpk sp dp nn n0 n1 = true ∧ allO ξ f0 sp.toNatClampNeg nn.toNatClampNeg = true
  · rw [if_pos hi] at h
    have hc := cpk_at hi.1
    intro H locs ls hB hl
    obtain ⟨q0, hq⟩ := dE_at (g := g) (dAq_at hd)
    obtain ⟨q1, hq1⟩ := dE_at (g := g) (dAq_at hd1)
    refine va_copyM E.1 E.2.1 (E.2.2.1.trans hl.1.symm) E.2.2.2.1 (E.2.2.2.2 _ q1036) (E.2.2.2.2 _ q1038) (E.2.2.2.2 _ q1037) (E.2.2.2.2 _ q131) hB.2.2.2.1 hB.1 hB.2.1 hB.2.2.1 q0 q1 7 7 (E0 := "java/lang/Object") (E1 := "java/lang/Object") hq hq1 rfl rfl hc.1 hc.2.1 hc.2.2.1 hc.2.2.2.1 hc.2.2.2.2 (fun i hi9 y hy => xanyO hB (allO_at hi.2 i hi9 y hy)) hR.1 (Nat.le_trans (Nat.add_le_add hcat (Nat.le_of_ble_eq_true (m := 32) rfl)) hR.2) d (fun H1 locs1 hP hD hS => ?_)
    rw [xcs_set hB.2.1 (dAq_at hd1) hq1] at hP hD
    exact k _ h H1 locs1 ls ⟨hP, hD, hS, hB.2.2.2⟩ hl
  · rw [if_neg hi] at h; cases h
theorem xldcM (E : EV p s m args c cc nL RJ13) (d : decode cc pc = .ok (.ldc 110, 2)) (hn : pc + 2 = n) (k : CF p l e R s m args below meth c nL cells slots (XB g A s ξ) Q n lv (.ref (xa g 401) :: st)) : CF p l e R s m args below meth c nL cells slots (XB g A s ξ) Q pc lv st := by
  subst hn
  exact fun H locs ls hB hl => va_ldcM E.1 E.2.1 E.2.2.2.1 (E.2.2.2.2 _ q1030) hB.2.2.2.2.2.2.2.2.2.2.2.2.2.2.2.2.1 d (k H locs ls hB hl)
theorem xacmpS {own : String} (E : EV p s m args c cc nL own) {x : Nat} {off : Int} {tgt : Nat} (d : decode cc pc = .ok (.if_acmp .ne off, 3)) (ht : (pc : Int) + off = (tgt : Int)) (hn : pc + 3 = n) (k : CF p l e R s m args below meth c nL cells slots (XB g A s ξ) Q n lv st) : CF p l e R s m args below meth c nL cells slots (XB g A s ξ) Q pc lv (.ref x :: .ref x :: st) := by
  subst hn
  intro H locs ls hB hl
  exact lv_acmp_ne (rx := some x) (ry := some x) E.1 E.2.1 d ht (fun hc => absurd rfl hc) (fun hc => k H locs ls hB hl)
theorem xldcS_120 (E : EV p s m args c cc nL RX14) (d : decode cc pc = .ok (.ldc 120, 2)) (hn : pc + 2 = n) (k : CF p l e R s m args below meth c nL cells slots (XB g A s ξ) Q n lv (.ref (xa g (410 + 0)) :: st)) : CF p l e R s m args below meth c nL cells slots (XB g A s ξ) Q pc lv st := by
  subst hn
  exact fun H locs ls hB hl => va_ldcS E.1 E.2.1 E.2.2.2.1 hB.2.2.2.2.2.2.2.2.2.2.2.2.2.1.1 d (k H locs ls hB hl)
theorem xldcS_126 (E : EV p s m args c cc nL RX14) (d : decode cc pc = .ok (.ldc 126, 2)) (hn : pc + 2 = n) (k : CF p l e R s m args below meth c nL cells slots (XB g A s ξ) Q n lv (.ref (xa g (410 + 1)) :: st)) : CF p l e R s m args below meth c nL cells slots (XB g A s ξ) Q pc lv st := by
  subst hn
  exact fun H locs ls hB hl => va_ldcS E.1 E.2.1 E.2.2.2.1 hB.2.2.2.2.2.2.2.2.2.2.2.2.2.1.2.1 d (k H locs ls hB hl)
theorem xldcS_128 (E : EV p s m args c cc nL RX14) (d : decode cc pc = .ok (.ldc 128, 2)) (hn : pc + 2 = n) (k : CF p l e R s m args below meth c nL cells slots (XB g A s ξ) Q n lv (.ref (xa g (410 + 2)) :: st)) : CF p l e R s m args below meth c nL cells slots (XB g A s ξ) Q pc lv st := by
  subst hn
  exact fun H locs ls hB hl => va_ldcS E.1 E.2.1 E.2.2.2.1 hB.2.2.2.2.2.2.2.2.2.2.2.2.2.1.2.2.1 d (k H locs ls hB hl)
theorem xldcS_114 (E : EV p s m args c cc nL RX14) (d : decode cc pc = .ok (.ldc 114, 2)) (hn : pc + 2 = n) (k : CF p l e R s m args below meth c nL cells slots (XB g A s ξ) Q n lv (.ref (xa g (410 + 3)) :: st)) : CF p l e R s m args below meth c nL cells slots (XB g A s ξ) Q pc lv st := by
  subst hn
  exact fun H locs ls hB hl => va_ldcS E.1 E.2.1 E.2.2.2.1 hB.2.2.2.2.2.2.2.2.2.2.2.2.2.1.2.2.2 d (k H locs ls hB hl)
theorem xgSV (E : EV p s m args c cc nL RJ6) {τ : Nat} (hτ : τ < 4) (d : decode cc pc = .ok (.getfield 9, 3)) (hn : pc + 3 = n) (k : CF p l e R s m args below meth c nL cells slots (XB g A s ξ) Q n lv (.ref (xa g (420 + τ)) :: st)) : CF p l e R s m args below meth c nL cells slots (XB g A s ξ) Q pc lv (.ref (xa g (410 + τ)) :: st) := by
  subst hn
  exact fun H locs ls hB hl => vk_getf E.1 E.2.1 (hB.2.2.2.2.2.2.2.2.2.2.2.2.1.1 τ hτ).2.2.1 hB.2.2.1 E.2.2.2.1 (E.2.2.2.2 _ q2213) (fun _ h9 => h9) d (k H locs ls hB hl)
theorem xgSC (E : EV p s m args c cc nL RJ6) {τ : Nat} (hτ : τ < 4) (d : decode cc pc = .ok (.getfield 15, 3)) (hn : pc + 3 = n) (k : CF p l e R s m args below meth c nL cells slots (XB g A s ξ) Q n lv (.int (0 : Int32) :: st)) : CF p l e R s m args below meth c nL cells slots (XB g A s ξ) Q pc lv (.ref (xa g (410 + τ)) :: st) := by
  subst hn
  exact fun H locs ls hB hl => vk_getf E.1 E.2.1 (hB.2.2.2.2.2.2.2.2.2.2.2.2.1.1 τ hτ).2.1 hB.2.2.1 E.2.2.2.1 (E.2.2.2.2 _ q2214) (fun _ h9 => h9) d (k H locs ls hB hl)
theorem xlenS {own : String} (E : EV p s m args c cc nL own) {τ : Nat} (hτ : τ < 4) (d : decode cc pc = .ok (.arraylength, 1)) (hn : pc + 1 = n) (k : CF p l e R s m args below meth c nL cells slots (XB g A s ξ) Q n lv (.int (Int32.ofNat (strL.getD τ 0)) :: st)) : CF p l e R s m args below meth c nL cells slots (XB g A s ξ) Q pc lv (.ref (xa g (420 + τ)) :: st) := by
  subst hn
  exact fun H locs ls hB hl => va_tlen E.1 E.2.1 (hB.2.2.2.2.2.2.2.2.2.2.2.2.1.1 τ hτ).2.2.2 hB.2.2.1 rfl d (k H locs ls hB hl)
theorem xgsC (E : EV p s m args c cc nL RJ6) (d : decode cc pc = .ok (.getstatic 38, 3)) (hn : pc + 3 = n) (k : CF p l e R s m args below meth c nL cells slots (XB g A s ξ) Q n lv (.int (1 : Int32) :: st)) : CF p l e R s m args below meth c nL cells slots (XB g A s ξ) Q pc lv st := by
  subst hn
  exact fun H locs ls hB hl => va_gets E.1 E.2.1 hB.2.2.2.2.2.2.2.2.2.2.2.1 hB.2.2.1 E.2.2.2.1 (E.2.2.2.2 _ q772) (fun _ h9 => h9) d (k H locs ls hB hl)
theorem xgsQ (E : EV p s m args c cc nL RJ6) (d : decode cc pc = .ok (.getstatic 1053, 3)) (hn : pc + 3 = n) (k : ∀ v : Option Nat, CF p l e R s m args below meth c nL cells slots (XB g A s ξ) Q n lv (va_rf v :: st)) : CF p l e R s m args below meth c nL cells slots (XB g A s ξ) Q pc lv st := by
  subst hn
  intro H locs ls hB hl
  rcases hB.2.2.2.2.2.2.2.2.2.2.2.2.2.2.2.2.2.1 with hZ | ⟨t9, hZ⟩
  · exact va_gets E.1 E.2.1 hZ hB.2.2.1 E.2.2.2.1 (E.2.2.2.2 _ q788) (fun _ h9 => h9) d (k none H locs ls hB hl)
  · exact va_gets E.1 E.2.1 hZ hB.2.2.1 E.2.2.2.1 (E.2.2.2.2 _ q788) (fun _ h9 => h9) d (k (some t9) H locs ls hB hl)
theorem xi2c {own : String} (E : EV p s m args c cc nL own) {x : Int32} (d : decode cc pc = .ok (.i2c, 1)) (hn : pc + 1 = n) (k : CF p l e R s m args below meth c nL cells slots (XB g A s ξ) Q n lv (.int (x.toUInt32 % 65536).toInt32 :: st)) : CF p l e R s m args below meth c nL cells slots (XB g A s ξ) Q pc lv (.int x :: st) := by
  subst hn
  exact fun H locs ls hB hl => lv_i2c E.1 E.2.1 d rfl (k H locs ls hB hl)
theorem xaldS {own : String} (E : EV p s m args c cc nL own) {τ : Nat} (hτ : τ < 4) {i : Int32} {A9 : Option ρ} (d : decode cc pc = .ok (.baload, 1)) (h : (if inb i (strL.getD τ 0) = true then A9 else none) = some res) (hn : pc + 1 = n) (k : A9 = some res → CF p l e R s m args below meth c nL cells slots (XB g A s ξ) Q n lv (.int ((strB.getD τ []).getD i.toNatClampNeg 0) :: st)) : CF p l e R s m args below meth c nL cells slots (XB g A s ξ) Q pc lv (.int i :: .ref (xa g (420 + τ)) :: st) := by
  subst hn
  by_cases hi : inb i (strL.getD τ 0) = true
  · rw [if_pos hi] at h
    exact fun H locs ls hB hl => va_tb E.1 E.2.1 (hB.2.2.2.2.2.2.2.2.2.2.2.2.1.1 τ hτ).2.2.2 hB.2.2.1 (inb_in hi) rfl d (k h H locs ls hB hl)
  · rw [if_neg hi] at h; cases h
theorem xaldSp {own : String} (E : EV p s m args c cc nL own) {τ : Nat} (hτ : τ < 4) {i : Int32} {A9 : Prop} (d : decode cc pc = .ok (.baload, 1)) (h : (if inb i (strL.getD τ 0) = true then A9 else False)) (hn : pc + 1 = n) (k : A9 → CF p l e R s m args below meth c nL cells slots (XB g A s ξ) Q n lv (.int ((strB.getD τ []).getD i.toNatClampNeg 0) :: st)) : CF p l e R s m args below meth c nL cells slots (XB g A s ξ) Q pc lv (.int i :: .ref (xa g (420 + τ)) :: st) := by
  subst hn
  by_cases hi : inb i (strL.getD τ 0) = true
  · rw [if_pos hi] at h
    exact fun H locs ls hB hl => va_tb E.1 E.2.1 (hB.2.2.2.2.2.2.2.2.2.2.2.2.1.1 τ hτ).2.2.2 hB.2.2.1 (inb_in hi) rfl d (k h H locs ls hB hl)
  · rw [if_neg hi] at h; cases h
theorem xcallW0_i {own : String} (E : EV p s m args c cc nL own) {y : MethodName} {bytes : ByteArray} {maxL idx na : Nat} {ret : Option FieldType} {rm : Room} {stk : List Value} {C : String} {b : Nat} {o : Option (Int32 × XS)} {kk : Int32 → XS → Option ρ} (As : List Value) (hM : ∀ v ξ1, o = some (v, ξ1) → MetXi l g y (ws_ y bytes maxL ret) rm (.ref b :: As) ξ v ξ1 0 0)
    (hG : GoodIn lw_all (wsV own idx C y (ws_ y bytes maxL ret))) (hd : y.cls = C ∧ y.cls ≠ "java/lang/invoke/MethodHandle" ∧ y.cls ≠ "java/lang/invoke/VarHandle" ∧ (parseMethodDescriptor y.desc).map (fun d => d.parameters.length) = some na) (hrv : ∀ (H : Heap) (locs : List Loc), XB g A s ξ H locs → ∃ cell : Cell, H[b]? = some cell ∧ cell.vm.isStatics = false ∧ s.vm.findClass C = some cell.cls) (hrc : rm.cells = 0) (hrs : rm.slots = 0) (hR : rm.frames + 1 ≤ R.frames ∧ 8 + (maxL + 11) + rm.locals ≤ R.locals) (hna : As.length = na) (hstk : stk = As.reverse ++ .ref b :: st) (hcat : (st.map fun v => v.category).sum ≤ 8) (hf : cells ≤ R.cells ∧ slots ≤ R.slots) (d : decode cc pc = .ok (.invokevirtual idx, 3)) (h : bnd o kk = some res) (hn : pc + 3 = n) (k : ∀ (v : Int32) (ξ1 : XS), kk v ξ1 = some res → CF p l e R s m args below meth c nL cells slots (XB g A s ξ1) Q n lv (.int v :: st)) : CF p l e R s m args below meth c nL cells slots (XB g A s ξ) Q pc lv stk := by
  subst hn
  subst hstk
  obtain ⟨v, ξ1, ho, hk⟩ := bnd_some h
  intro H locs ls hB hl
  refine va_calli (va_runV (As := As) (rest := st) E (hM v ξ1 ho H.size) (cwV na E.2.2.2.2 hG rfl hrc hrs hd hR) ⟨xblind, hrv H locs hB, xpre hB⟩ rfl hna (hl.1) rfl (lv_room hcat) d hf) hB.2.2.1 (fun q _ h => xfree hB q h) (xfree hB) (fun r u t H1 locs1 ht hvm hw1 hB1 hz1 hk1 hS => ?_)
  obtain ⟨rfl, rfl⟩ := hw1
  exact k _ _ hk H1 locs1 ls (xbehind hB ht hB1 hS) hl
theorem xcallW0_ip {own : String} (E : EV p s m args c cc nL own) {y : MethodName} {bytes : ByteArray} {maxL idx na : Nat} {ret : Option FieldType} {rm : Room} {stk : List Value} {C : String} {b : Nat} {o : Option (Int32 × XS)} {kk : Int32 → XS → Prop} (As : List Value) (hM : ∀ v ξ1, o = some (v, ξ1) → MetXi l g y (ws_ y bytes maxL ret) rm (.ref b :: As) ξ v ξ1 0 0)
    (hG : GoodIn lw_all (wsV own idx C y (ws_ y bytes maxL ret))) (hd : y.cls = C ∧ y.cls ≠ "java/lang/invoke/MethodHandle" ∧ y.cls ≠ "java/lang/invoke/VarHandle" ∧ (parseMethodDescriptor y.desc).map (fun d => d.parameters.length) = some na) (hrv : ∀ (H : Heap) (locs : List Loc), XB g A s ξ H locs → ∃ cell : Cell, H[b]? = some cell ∧ cell.vm.isStatics = false ∧ s.vm.findClass C = some cell.cls) (hrc : rm.cells = 0) (hrs : rm.slots = 0) (hR : rm.frames + 1 ≤ R.frames ∧ 8 + (maxL + 11) + rm.locals ≤ R.locals) (hna : As.length = na) (hstk : stk = As.reverse ++ .ref b :: st) (hcat : (st.map fun v => v.category).sum ≤ 8) (hf : cells ≤ R.cells ∧ slots ≤ R.slots) (d : decode cc pc = .ok (.invokevirtual idx, 3)) (h : bndp o kk) (hn : pc + 3 = n) (k : ∀ (v : Int32) (ξ1 : XS), kk v ξ1 → CF p l e R s m args below meth c nL cells slots (XB g A s ξ1) Q n lv (.int v :: st)) : CF p l e R s m args below meth c nL cells slots (XB g A s ξ) Q pc lv stk := by
  subst hn
  subst hstk
  obtain ⟨v, ξ1, ho, hk⟩ := h
  intro H locs ls hB hl
  refine va_calli (va_runV (As := As) (rest := st) E (hM v ξ1 ho H.size) (cwV na E.2.2.2.2 hG rfl hrc hrs hd hR) ⟨xblind, hrv H locs hB, xpre hB⟩ rfl hna (hl.1) rfl (lv_room hcat) d hf) hB.2.2.1 (fun q _ h => xfree hB q h) (xfree hB) (fun r u t H1 locs1 ht hvm hw1 hB1 hz1 hk1 hS => ?_)
  obtain ⟨rfl, rfl⟩ := hw1
  exact k _ _ hk H1 locs1 ls (xbehind hB ht hB1 hS) hl
theorem dE_pXn {ξ : XS} {a q : Nat} {e1 e2 : va_E} (hq : q ∉ xL ξ) (h : dE ξ a = some e1) : dE (pXd ξ q e2) a = some e1 := by
  have ha : a ∈ xL ξ := dE_in h
  have hne : ¬ a = q := fun e9 => hq (e9 ▸ ha)
  unfold dE at h ⊢
  rw [if_pos ha] at h
  rw [if_pos (show a ∈ xL (pXd ξ q e2) from List.mem_append_left _ ha)]
  show some (va_up ξ.2.2.2.2.2 q e2 a) = _
  unfold va_up
  rw [if_neg hne]
  exact h
theorem xgAt9 (E : EV p s m args c cc nL RX14) {a q : Nat} {e9 : va_E} {v : Int32} (hq : q ∉ xL ξ) (hv : dI ξ a 15 15 2 = some v) (d : decode cc pc = .ok (.getfield 26, 3)) (hn : pc + 3 = n) (k : CF p l e R s m args below meth c nL cells slots (XB9 g A s (pXd ξ q e9) q) Q n lv (.int v :: st)) : CF p l e R s m args below meth c nL cells slots (XB9 g A s (pXd ξ q e9) q) Q pc lv (.ref a :: st) := by
  subst hn
  obtain ⟨ci, fs, he, h1, h2, hv⟩ := dI_at hv
  obtain ⟨q0, hq0⟩ := dE_at (g := g) (dE_pXn (e2 := e9) hq he)
  have hci : ci = 15 := by omega
  subst hci
  exact fun H locs ls hB hl => va_get (D := g.1) (ci := 15) (C := RX14) (T := TX14) (N := 5) E.1 E.2.1 E.2.2.2.2 in_X14 E.2.2.2.1 hB.1.2.2.2.1 hB.1.1 q0 hq0 rfl 2 (Nat.le_of_ble_eq_true rfl) (E.2.2.2.2 _ q729) (fun _ h9 => h9) hv d (k H locs ls hB hl)
theorem xret_c {v : Int32} {res : Int32 × XS} (d : decode cc pc = .ok (.ireturn, 1)) (h : (if vp_nar .char v = v then some (v, ξ) else none) = some res) (hq : XTi p l e R s m args below meth c cc nL cells slots A g .char Q res) : CF p l e R s m args below meth c nL cells slots (XB g A s ξ) Q pc lv [.int v] := by
  by_cases hv : vp_nar .char v = v
  · rw [if_pos hv] at h
    exact xret_i d h (show narrow .char (.int v) = .int v from (show narrow .char (.int v) = .int (vp_nar .char v) from rfl).trans (by rw [hv])) hq
  · rw [if_neg hv] at h; cases h
end XC
