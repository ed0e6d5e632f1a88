/-! HatsDecide, group l1: rows, functions, walks -/
set_option maxRecDepth 100000
section XC
variable {p : Program} {l : Launch} {e : Env} {R : Room} {s : State} {m : MethodId} {args : Array Value} {below : List Frame} {meth : Method} {c : Code} {nL cells slots : Nat} {A : Nat → Prop} {g : XG} {ξ : XS} {Q : State → Prop} {pc n : Nat} {lv : List (Nat × Value)} {st : List Value} {cc : ByteArray} {ρ : Type} {res : ρ}
theorem xmJ12_max (E : EV p s m args c cc nL RJ12) {x y : Int32} (hR : 1 ≤ R.frames ∧ 40 ≤ R.locals) (hcat : (st.map fun v => v.category).sum ≤ 8) (hf : cells ≤ R.cells ∧ slots ≤ R.slots) (d : decode cc pc = .ok (.invokestatic 194, 3)) (hn : pc + 3 = n) (k : CF p l e R s m args below meth c nL cells slots (XB g A s ξ) Q n lv (.int (if x < y then y else x) :: st)) : CF p l e R s m args below meth c nL cells slots (XB g A s ξ) Q pc lv (.int y :: .int x :: st) := by
  subst hn
  intro H locs ls hB hl
  exact va_mmax E.1 E.2.1 (E.2.2.1.trans hl.1.symm) E.2.2.2.1 (E.2.2.2.2 _ q989) (E.2.2.2.2 _ q668) (E.2.2.2.2 _ q115) (E.2.2.2.2 _ q669) hR.1 (by have := hR.2; omega) hf.1 hf.2 d (k H locs ls hB hl)
theorem xmJ13_min (E : EV p s m args c cc nL RJ13) {x y : Int32} (hR : 1 ≤ R.frames ∧ 40 ≤ R.locals) (hcat : (st.map fun v => v.category).sum ≤ 8) (hf : cells ≤ R.cells ∧ slots ≤ R.slots) (d : decode cc pc = .ok (.invokestatic 304, 3)) (hn : pc + 3 = n) (k : CF p l e R s m args below meth c nL cells slots (XB g A s ξ) Q n lv (.int (if y < x then y else x) :: st)) : CF p l e R s m args below meth c nL cells slots (XB g A s ξ) Q pc lv (.int y :: .int x :: st) := by
  subst hn
  intro H locs ls hB hl
  exact va_mmin E.1 E.2.1 (E.2.2.1.trans hl.1.symm) E.2.2.2.1 (E.2.2.2.2 _ q1033) (E.2.2.2.2 _ q1034) (E.2.2.2.2 _ q115) (E.2.2.2.2 _ q1035) hR.1 (by have := hR.2; omega) hf.1 hf.2 d (k H locs ls hB hl)
theorem xdgJ2_9p (E : EV p s m args c cc nL RJ2) {a : Nat} {kk : Nat → Prop} (d : decode cc pc = .ok (.getfield 9, 3)) (h : bnop (dR ξ a 4 4 1) kk) (hn : pc + 3 = n) (k : ∀ v : Nat, kk v → CF p l e R s m args below meth c nL cells slots (XB g A s ξ) Q n lv (.ref v :: st)) : CF p l e R s m args below meth c nL cells slots (XB g A s ξ) Q pc lv (.ref a :: st) := by
  subst hn
  obtain ⟨v, hi, h⟩ := h
  obtain ⟨ci, fs, he, h1, h2, hv⟩ := dR_at hi
  obtain ⟨q0, hq⟩ := dE_at (g := g) he
  intro H locs ls hB hl
  have hci : ci = 4 := by omega
  subst hci
  exact va_get (D := g.1) (ci := 4) (C := RJ2) (T := TJ2) (N := 3) E.1 E.2.1 E.2.2.2.2 in_J2 E.2.2.2.1 hB.2.2.2.1 hB.1 q0 hq rfl 1 (Nat.le_of_ble_eq_true rfl) (E.2.2.2.2 _ q193) (fun _ h9 => h9) hv d (k v h H locs ls hB hl)
theorem xmJ2_max (E : EV p s m args c cc nL RJ2) {x y : Int32} (hR : 1 ≤ R.frames ∧ 40 ≤ R.locals) (hcat : (st.map fun v => v.category).sum ≤ 8) (hf : cells ≤ R.cells ∧ slots ≤ R.slots) (d : decode cc pc = .ok (.invokestatic 79, 3)) (hn : pc + 3 = n) (k : CF p l e R s m args below meth c nL cells slots (XB g A s ξ) Q n lv (.int (if x < y then y else x) :: st)) : CF p l e R s m args below meth c nL cells slots (XB g A s ξ) Q pc lv (.int y :: .int x :: st) := by
  subst hn
  intro H locs ls hB hl
  exact va_mmax E.1 E.2.1 (E.2.2.1.trans hl.1.symm) E.2.2.2.1 (E.2.2.2.2 _ q1039) (E.2.2.2.2 _ q668) (E.2.2.2.2 _ q115) (E.2.2.2.2 _ q669) hR.1 (by have := hR.2; omega) hf.1 hf.2 d (k H locs ls hB hl)
theorem xdgJ2_48p (E : EV p s m args c cc nL RJ2) {a : Nat} {kk : Int32 → Prop} (d : decode cc pc = .ok (.getfield 48, 3)) (h : bnop (dI ξ a 4 4 2) kk) (hn : pc + 3 = n) (k : ∀ v : Int32, kk v → CF p l e R s m args below meth c nL cells slots (XB g A s ξ) Q n lv (.int v :: st)) : CF p l e R s m args below meth c nL cells slots (XB g A s ξ) Q pc lv (.ref a :: st) := by
  subst hn
  obtain ⟨v, hi, h⟩ := h
  obtain ⟨ci, fs, he, h1, h2, hv⟩ := dI_at hi
  obtain ⟨q0, hq⟩ := dE_at (g := g) he
  intro H locs ls hB hl
  have hci : ci = 4 := by omega
  subst hci
  exact va_get (D := g.1) (ci := 4) (C := RJ2) (T := TJ2) (N := 3) E.1 E.2.1 E.2.2.2.2 in_J2 E.2.2.2.1 hB.2.2.2.1 hB.1 q0 hq rfl 2 (Nat.le_of_ble_eq_true rfl) (E.2.2.2.2 _ q194) (fun _ h9 => h9) hv d (k v h H locs ls hB hl)
theorem xdqJ2_48 (E : EV p s m args c cc nL RJ2) {a : Nat} {v : Int32} {kk : XS → Prop} (d : decode cc pc = .ok (.putfield 48, 3)) (h : bndp (dO ξ a) (fun ci fs => (if (ci = 4 ∧ 2 < fs.length) then nx (sXd ξ a (.inr (ci, fs.set 2 (.int v)))) kk else False))) (hn : pc + 3 = n) (k : ∀ ξ1 : XS, kk ξ1 → CF p l e R s m args below meth c nL cells slots (XB g A s ξ1) Q n lv st) : CF p l e R s m args below meth c nL cells slots (XB g A s ξ) Q pc lv (.int v :: .ref a :: st) := by
  obtain ⟨ci, fs, hO, h⟩ := h
  by_cases hi : (ci = 4 ∧ 2 < fs.length)
  · have h : (if (ci = 4 ∧ 2 < fs.length) then nx (sXd ξ a (.inr (ci, fs.set 2 (.int v)))) kk else False) := h
    rw [if_pos hi] at h
    have he := dO_at hO
    obtain ⟨rfl, hi⟩ : ci = 4 ∧ _ := hi
    have hi : True ∧ _ := ⟨trivial, hi⟩
    exact xdp (C9 := RJ2) (T := TJ2) (N := 3) (ci := 4) (j := 2) (ty := .int) E in_J2 tyJ2 tyJ2_ok nmJ2 rfl he (by decide) q194 (fun _ h9 => h9) rfl (by decide +kernel) rfl rfl hi.2 d hn (k _ h)
  · have h : (if (ci = 4 ∧ 2 < fs.length) then nx (sXd ξ a (.inr (ci, fs.set 2 (.int v)))) kk else False) := h
    rw [if_neg hi] at h; cases h
theorem xdgJ2_63 (E : EV p s m args c cc nL RJ2) {a : Nat} {kk : Int32 → Option ρ} (d : decode cc pc = .ok (.getfield 63, 3)) (h : bno (dI ξ a 4 4 0) kk = some res) (hn : pc + 3 = n) (k : ∀ v : Int32, kk v = some res → CF p l e R s m args below meth c nL cells slots (XB g A s ξ) Q n lv (.int v :: st)) : CF p l e R s m args below meth c nL cells slots (XB g A s ξ) Q pc lv (.ref a :: st) := by
  subst hn
  obtain ⟨v, hi, h⟩ := bno_some h
  obtain ⟨ci, fs, he, h1, h2, hv⟩ := dI_at hi
  obtain ⟨q0, hq⟩ := dE_at (g := g) he
  intro H locs ls hB hl
  have hci : ci = 4 := by omega
  subst hci
  exact va_get (D := g.1) (ci := 4) (C := RJ2) (T := TJ2) (N := 3) E.1 E.2.1 E.2.2.2.2 in_J2 E.2.2.2.1 hB.2.2.2.1 hB.1 q0 hq rfl 0 (Nat.le_of_ble_eq_true rfl) (E.2.2.2.2 _ q196) (u_same (E.2.2.2.2 _ q197)) hv d (k v h H locs ls hB hl)
theorem xdqJ2_63 (E : EV p s m args c cc nL RJ2) {a : Nat} {v : Int32} {kk : XS → Prop} (d : decode cc pc = .ok (.putfield 63, 3)) (h : bndp (dO ξ a) (fun ci fs => (if (ci = 4 ∧ 0 < fs.length) then nx (sXd ξ a (.inr (ci, fs.set 0 (.int v)))) kk else False))) (hn : pc + 3 = n) (k : ∀ ξ1 : XS, kk ξ1 → CF p l e R s m args below meth c nL cells slots (XB g A s ξ1) Q n lv st) : CF p l e R s m args below meth c nL cells slots (XB g A s ξ) Q pc lv (.int v :: .ref a :: st) := by
  obtain ⟨ci, fs, hO, h⟩ := h
  by_cases hi : (ci = 4 ∧ 0 < fs.length)
  · have h : (if (ci = 4 ∧ 0 < fs.length) then nx (sXd ξ a (.inr (ci, fs.set 0 (.int v)))) kk else False) := h
    rw [if_pos hi] at h
    have he := dO_at hO
    obtain ⟨rfl, hi⟩ : ci = 4 ∧ _ := hi
    have hi : True ∧ _ := ⟨trivial, hi⟩
    exact xdp (C9 := RJ2) (T := TJ2) (N := 3) (ci := 4) (j := 0) (ty := .int) E in_J2 tyJ2 tyJ2_ok nmJ2 rfl he (by decide) q196 (u_same (E.2.2.2.2 _ q197)) rfl (by decide +kernel) rfl rfl hi.2 d hn (k _ h)
  · have h : (if (ci = 4 ∧ 0 < fs.length) then nx (sXd ξ a (.inr (ci, fs.set 0 (.int v)))) kk else False) := h
    rw [if_neg hi] at h; cases h
theorem xdgJ2_63p (E : EV p s m args c cc nL RJ2) {a : Nat} {kk : Int32 → Prop} (d : decode cc pc = .ok (.getfield 63, 3)) (h : bnop (dI ξ a 4 4 0) kk) (hn : pc + 3 = n) (k : ∀ v : Int32, kk v → CF p l e R s m args below meth c nL cells slots (XB g A s ξ) Q n lv (.int v :: st)) : CF p l e R s m args below meth c nL cells slots (XB g A s ξ) Q pc lv (.ref a :: st) := by
  subst hn
  obtain ⟨v, hi, h⟩ := h
  obtain ⟨ci, fs, he, h1, h2, hv⟩ := dI_at hi
  obtain ⟨q0, hq⟩ := dE_at (g := g) he
  intro H locs ls hB hl
  have hci : ci = 4 := by omega
  subst hci
  exact va_get (D := g.1) (ci := 4) (C := RJ2) (T := TJ2) (N := 3) E.1 E.2.1 E.2.2.2.2 in_J2 E.2.2.2.1 hB.2.2.2.1 hB.1 q0 hq rfl 0 (Nat.le_of_ble_eq_true rfl) (E.2.2.2.2 _ q196) (u_same (E.2.2.2.2 _ q197)) hv d (k v h H locs ls hB hl)
end XC
def x12_newLength (N : Nat) (g : XG)   (x0 : Int32) (x1 : Int32) (x2 : Int32) (ξ : XS) : Option (Int32 × XS) :=
  nx ((x0 + (if x1 < x2 then x2 else x1)) : Int32) fun x3_1 =>
  if x3_1 ≤ (0 : Int32) then (
    none)
  else (
    if (2147483639 : Int32) < x3_1 then (
      none)
    else (
      some (x3_1, ξ)))
set_option maxHeartbeats 4000000 in
theorem met_x12_newLength (l : Launch) (g : XG) (N : Nat)   (x0 : Int32) (x1 : Int32) (x2 : Int32) (ξ : XS) {v : Int32} {ξ1 : XS} (h : x12_newLength N g  x0 x1 x2 ξ = some (v, ξ1)) : MetXi l g yJ12_newLength (ws_ yJ12_newLength cJ12_newLength 4 (some .int)) { frames := 1, cells := 0, slots := 0, locals := 40 } [.int x0, .int x1, .int x2] ξ v ξ1 0 0 := by
  refine met_xi (lv0 := [(0, .int x0), (1, .int x1), (2, .int x2)]) (own := RJ12) (by decide) rfl (Nat.le_of_ble_eq_true rfl) rfl ?_
  intro p e s m below meth c A Q E hq
  have hR : 1 ≤ ({ frames := 1, cells := 0, slots := 0, locals := 40 } : Room).frames ∧ 40 ≤ ({ frames := 1, cells := 0, slots := 0, locals := 40 } : Room).locals := ⟨Nat.le_refl _, Nat.le_refl _⟩
  unfold x12_newLength at h
  refine cf_iload_n E dJ12_newLength_0 0 rfl rfl ?_
  refine cf_iload_n E dJ12_newLength_1 1 rfl rfl ?_
  refine cf_iload_n E dJ12_newLength_2 2 rfl rfl ?_
  refine xmJ12_max E (rmle hR rfl rfl) (by first | exact Nat.le_of_ble_eq_true rfl | decide) ⟨Nat.zero_le _, Nat.zero_le _⟩ dJ12_newLength_3 rfl ?_
  refine cf_iadd E dJ12_newLength_6 rfl ?_
  refine cf_istore_n E dJ12_newLength_7 h (fun x3_1 => [(3, .int x3_1), (0, .int x0), (1, .int x1), (2, .int x2)]) (Nat.le_of_ble_eq_true rfl) (fun _ => rfl) rfl (fun x3_1 h => ?_)
  refine cf_iconst E dJ12_newLength_8 ic_0 rfl ?_
  refine cf_iload_n E dJ12_newLength_9 0 rfl rfl ?_
  refine cf_icmp_ge E dJ12_newLength_10 h rfl rfl (fun h => ?_) (fun h => ?_)
  · cases h
  · refine cf_iload_n E dJ12_newLength_13 0 rfl rfl ?_
    refine cf_ldc E dJ12_newLength_14 q990 rfl ?_
    refine cf_icmp_gt E dJ12_newLength_16 h rfl rfl (fun h => ?_) (fun h => ?_)
    · cases h
    · refine cf_iload_n E dJ12_newLength_19 0 rfl rfl ?_
      exact xret_i dJ12_newLength_20 h rfl hq
def yj13_copyOf_2 (N : Nat) (g : XG)  (x0 : Nat) (x1 : Int32) (ξ : XS) (mc ms : Nat) (K : Nat → XS → Prop) : Prop :=
  if (¬ x1 < 0 ∧ x1.toNatClampNeg ≤ 10000) then mkcq g ξ x1.toNatClampNeg mc ms (fun q_1 =>
  bnop (lenO g (pXd ξ q_1 (.inl (xc g 7, x1.toNatClampNeg, .inr (.inr (.inr (.inr (fun _ => none))))))) x0) fun n_2 =>
  bndp (dAq (pXd ξ q_1 (.inl (xc g 7, x1.toNatClampNeg, .inr (.inr (.inr (.inr (fun _ => none))))))) x0 (xc g 7)) fun n_4 f_5 => bndp (dAq (pXd ξ q_1 (.inl (xc g 7, x1.toNatClampNeg, .inr (.inr (.inr (.inr (fun _ => none))))))) q_1 (xc g 7)) fun n_6 f_7 => if cpk (0 : Int32) (0 : Int32) (if x1 < (Int32.ofNat n_2) then x1 else (Int32.ofNat n_2)) n_4 n_6 = true ∧ allO (pXd ξ q_1 (.inl (xc g 7, x1.toNatClampNeg, .inr (.inr (.inr (.inr (fun _ => none))))))) f_5 (0 : Int32).toNatClampNeg (if x1 < (Int32.ofNat n_2) then x1 else (Int32.ofNat n_2)).toNatClampNeg = true then nx (sXd (pXd ξ q_1 (.inl (xc g 7, x1.toNatClampNeg, .inr (.inr (.inr (.inr (fun _ => none))))))) q_1 (.inl (xc g 7, n_6, .inr (.inr (.inr (.inr (va_cpy f_5 f_7 (0 : Int32).toNatClampNeg (0 : Int32).toNatClampNeg (if x1 < (Int32.ofNat n_2) then x1 else (Int32.ofNat n_2)).toNatClampNeg))))))) (fun s_3 =>
  K (q_1) s_3) else False) else False
set_option maxHeartbeats 4000000 in
theorem met_yj13_copyOf_2 (l : Launch) (g : XG) (N : Nat)   (x0 : Nat) (x1 : Int32) (ξ : XS) (mc ms : Nat) (K : Nat → XS → Prop) (h : yj13_copyOf_2 N g  x0 x1 ξ mc ms K) : MetYr l g yJ13_copyOf_2 (ws_ yJ13_copyOf_2 cJ13_copyOf_2 4 (some (.array (.object "java/lang/Object")))) 1 40 [.ref x0, .int x1, .ref (xa g 401)] ξ mc ms K := by
  refine met_yr (Or.inr ⟨_, rfl⟩) (lv0 := [(0, .ref x0), (1, .int x1), (2, .ref (xa g 401))]) (own := RJ13) (by decide) rfl (Nat.le_of_ble_eq_true rfl) rfl ?_
  intro p e s m below meth c A Q E hmn hq
  have hR : 1 ≤ ({ frames := 1, cells := mc, slots := ms, locals := 40 } : Room).frames ∧ 40 ≤ ({ frames := 1, cells := mc, slots := ms, locals := 40 } : Room).locals := ⟨Nat.le_refl _, Nat.le_refl _⟩
  have hb : 0 + mc ≤ ({ frames := 1, cells := mc, slots := ms, locals := 40 } : Room).cells ∧ 0 + ms ≤ ({ frames := 1, cells := mc, slots := ms, locals := 40 } : Room).slots := ⟨Nat.le_of_eq (Nat.zero_add _), Nat.le_of_eq (Nat.zero_add _)⟩
  unfold yj13_copyOf_2 at h
  refine cf_aload_n E dJ13_copyOf_2_0 2 rfl rfl ?_
  refine xldcM E dJ13_copyOf_2_1 rfl ?_
  refine xacmpS E dJ13_copyOf_2_3 rfl rfl ?_
  refine cf_iload_n E dJ13_copyOf_2_6 1 rfl rfl ?_
  refine xnewq E q1032 hb dJ13_copyOf_2_7 h rfl (fun q_1 hb h => ?_)
  refine cf_goto E dJ13_copyOf_2_10 rfl ?_
  refine cf_astore_n E dJ13_copyOf_2_24 [(3, .ref q_1), (0, .ref x0), (1, .int x1), (2, .ref (xa g 401))] (Nat.le_of_ble_eq_true rfl) rfl rfl ?_
  refine cf_aload_n E dJ13_copyOf_2_25 1 rfl rfl ?_
  refine cf_iconst E dJ13_copyOf_2_26 ic_0 rfl ?_
  refine cf_aload_n E dJ13_copyOf_2_27 0 rfl rfl ?_
  refine cf_iconst E dJ13_copyOf_2_28 ic_0 rfl ?_
  refine cf_aload_n E dJ13_copyOf_2_29 1 rfl rfl ?_
  refine xlenOp E dJ13_copyOf_2_30 h rfl (fun n_2 h => ?_)
  refine cf_iload_n E dJ13_copyOf_2_31 2 rfl rfl ?_
  refine xmJ13_min E (rmle hR rfl rfl) (by first | exact Nat.le_of_ble_eq_true rfl | decide) (hb0 hb) dJ13_copyOf_2_32 rfl ?_
  refine xcpOp E (rmle hR rfl rfl) (Nat.le_of_ble_eq_true rfl) dJ13_copyOf_2_35 h rfl (fun s_3 h => ?_)
  refine cf_aload_n E dJ13_copyOf_2_38 0 rfl rfl ?_
  exact hq _ _ _ _ _ _ (hb0 hb).1 (hb0 hb).2 dJ13_copyOf_2_39 h
def yj13_copyOf (N : Nat) (g : XG)  (x0 : Nat) (x1 : Int32) (ξ : XS) (mc ms : Nat) (K : Nat → XS → Prop) : Prop :=
  if (dLen ξ x0 (xc g 7)).isSome = true then (
  bny (yj13_copyOf_2 N g x0 x1 ξ) mc ms fun m_1 n_2 v_4 s_3 =>
  K (v_4) s_3) else False
section XC
variable {p : Program} {l : Launch} {e : Env} {R : Room} {s : State} {m : MethodId} {args : Array Value} {below : List Frame} {meth : Method} {c : Code} {nL cells slots : Nat} {A : Nat → Prop} {g : XG} {ξ : XS} {Q : State → Prop} {pc n : Nat} {lv : List (Nat × Value)} {st : List Value} {cc : ByteArray} {ρ : Type} {res : ρ}
theorem yclJ13_300 (E : EV p s m args c cc nL RJ13) {N mc ms : Nat}   {x0 : Nat} {x1 : Int32} {kk : Nat → Nat → Nat → XS → Prop} (hR : 2 ≤ R.frames ∧ 63 ≤ R.locals) (hcat : (st.map fun v => v.category).sum ≤ 8) (hb : cells + mc ≤ R.cells ∧ slots + ms ≤ R.slots) (d : decode cc pc = .ok (.invokestatic 300, 3)) (h : bny (yj13_copyOf_2 N g  x0 x1 ξ) mc ms kk) (hn : pc + 3 = n) (k : ∀ (m1 n1 : Nat) (v : Nat) (ξ1 : XS), (cells + m1 + (mc - m1) ≤ R.cells ∧ slots + n1 + (ms - n1) ≤ R.slots) → kk m1 n1 v ξ1 → CF p l e R s m args below meth c nL (cells + m1) (slots + n1) (XB g A s ξ1) Q n lv (.ref v :: st)) : CF p l e R s m args below meth c nL cells slots (XB g A s ξ) Q pc lv (.ref (xa g 401) :: .int x1 :: .ref x0 :: st) := by
  obtain ⟨m1, n1, h1, h2, h⟩ := h
  exact ycallS_r (na := 3) E [.ref x0, .int x1, .ref (xa g 401)] (met_yj13_copyOf_2 l g N   x0 x1 ξ m1 n1 _ h) (lw_S q1027 q1028 q130 q1029) (by decide +kernel) hR rfl rfl hcat ⟨by omega, by omega⟩ d hn (fun v ξ1 hk => k m1 n1 v ξ1 ⟨by omega, by omega⟩ hk)
end XC
set_option maxHeartbeats 4000000 in
theorem met_yj13_copyOf (l : Launch) (g : XG) (N : Nat)   (x0 : Nat) (x1 : Int32) (ξ : XS) (mc ms : Nat) (K : Nat → XS → Prop) (h : yj13_copyOf N g  x0 x1 ξ mc ms K) : MetYr l g yJ13_copyOf (ws_ yJ13_copyOf cJ13_copyOf 2 (some (.array (.object "java/lang/Object")))) 2 63 [.ref x0, .int x1] ξ mc ms K := by
  refine met_yr (Or.inr ⟨_, rfl⟩) (lv0 := [(0, .ref x0), (1, .int x1)]) (own := RJ13) (by decide) rfl (Nat.le_of_ble_eq_true rfl) rfl ?_
  intro p e s m below meth c A Q E hmn hq
  have hR : 2 ≤ ({ frames := 2, cells := mc, slots := ms, locals := 63 } : Room).frames ∧ 63 ≤ ({ frames := 2, cells := mc, slots := ms, locals := 63 } : Room).locals := ⟨Nat.le_refl _, Nat.le_refl _⟩
  have hb : 0 + mc ≤ ({ frames := 2, cells := mc, slots := ms, locals := 63 } : Room).cells ∧ 0 + ms ≤ ({ frames := 2, cells := mc, slots := ms, locals := 63 } : Room).slots := ⟨Nat.le_of_eq (Nat.zero_add _), Nat.le_of_eq (Nat.zero_add _)⟩
  unfold yj13_copyOf at h
  refine cf_aload_n E dJ13_copyOf_0 0 rfl rfl ?_
  refine cf_iload_n E dJ13_copyOf_1 1 rfl rfl ?_
  refine cf_aload_n E dJ13_copyOf_2 0 rfl rfl ?_
  refine xgetCp E (rmle hR rfl rfl) (Nat.le_of_ble_eq_true rfl) dJ13_copyOf_3 h rfl (fun h => ?_)
  refine yclJ13_300 E (rmle hR rfl rfl) (Nat.le_of_ble_eq_true rfl) hb dJ13_copyOf_6 h rfl (fun m_1 n_2 v_4 s_3 hb h => ?_)
  exact hq _ _ _ _ _ _ (hb0 hb).1 (hb0 hb).2 dJ13_copyOf_9 h
def yj2_grow_2_20 (N : Nat) (g : XG) (a0 : Nat) (K : Nat → XS → Prop)  (x1 : Int32) (x2 : Int32) (ξ : XS) (mc ms : Nat) : Prop :=
  bndp (x12_newLength N g x2 (x1 - x2) (x2 >>> ((1 : Int32) &&& 31)) ξ) fun v_2 s_1 =>
  nx (v_2 : Int32) fun x3_3 =>
  bnop (dR s_1 a0 4 4 1) fun b_4 =>
  bny (yj13_copyOf N g b_4 x3_3 s_1) mc ms fun m_5 n_6 v_8 s_7 =>
  bndp (dO s_7 a0) fun ci_10 fs_11 => if (ci_10 = 4 ∧ 1 < fs_11.length) then nx (sXd s_7 a0 (.inr (ci_10, fs_11.set 1 (.ref v_8)))) (fun s_9 =>
  K (v_8) s_9) else False
def yj2_grow_2 (N : Nat) (g : XG) (a0 : Nat) (x1 : Int32) (ξ : XS) (mc ms : Nat) (K : Nat → XS → Prop) : Prop :=
  bnop (dR ξ a0 4 4 1) fun b_1 =>
  bnop (lenO g ξ b_1) fun n_2 =>
  nx ((Int32.ofNat n_2) : Int32) fun x2_3 =>
  if 0 < x2_3 then (
    yj2_grow_2_20 N g a0 K x1 x2_3 ξ mc ms)
  else (
    bnop (dR ξ a0 4 4 1) fun b_4 =>
    if b_4 = xa g 400 then (
      if (¬ (if (10 : Int32) < x1 then x1 else (10 : Int32)) < 0 ∧ (if (10 : Int32) < x1 then x1 else (10 : Int32)).toNatClampNeg ≤ 10000) then mkcq g ξ (if (10 : Int32) < x1 then x1 else (10 : Int32)).toNatClampNeg mc ms (fun q_5 =>
      bndp (dO (pXd ξ q_5 (.inl (xc g 7, (if (10 : Int32) < x1 then x1 else (10 : Int32)).toNatClampNeg, .inr (.inr (.inr (.inr (fun _ => none))))))) a0) fun ci_7 fs_8 => if (ci_7 = 4 ∧ 1 < fs_8.length) then nx (sXd (pXd ξ q_5 (.inl (xc g 7, (if (10 : Int32) < x1 then x1 else (10 : Int32)).toNatClampNeg, .inr (.inr (.inr (.inr (fun _ => none))))))) a0 (.inr (ci_7, fs_8.set 1 (.ref q_5)))) (fun s_6 =>
      K (q_5) s_6) else False) else False)
    else (
      yj2_grow_2_20 N g a0 K x1 x2_3 ξ mc ms))
section XC
variable {p : Program} {l : Launch} {e : Env} {R : Room} {s : State} {m : MethodId} {args : Array Value} {below : List Frame} {meth : Method} {c : Code} {nL cells slots : Nat} {A : Nat → Prop} {g : XG} {ξ : XS} {Q : State → Prop} {pc n : Nat} {lv : List (Nat × Value)} {st : List Value} {cc : ByteArray} {ρ : Type} {res : ρ}
theorem xclJ2_73 (E : EV p s m args c cc nL RJ2) {N : Nat}   {x0 : Int32} {x1 : Int32} {x2 : Int32} {kk : Int32 → XS → Option ρ} (hR : 2 ≤ R.frames ∧ 63 ≤ R.locals) (hcat : (st.map fun v => v.category).sum ≤ 8) (hf : cells ≤ R.cells ∧ slots ≤ R.slots) (d : decode cc pc = .ok (.invokestatic 73, 3)) (h : bnd (x12_newLength N g  x0 x1 x2 ξ) kk = some res) (hn : pc + 3 = n) (k : ∀ (v : Int32) (ξ1 : XS), kk v ξ1 = some res → CF p l e R s m args below meth c nL cells slots (XB g A s ξ1) Q n lv (.int v :: st)) : CF p l e R s m args below meth c nL cells slots (XB g A s ξ) Q pc lv (.int x2 :: .int x1 :: .int x0 :: st) :=
  xcallS0_i (na := 3) E [.int x0, .int x1, .int x2] (fun v ξ1 ho => met_x12_newLength l g N   x0 x1 x2 ξ ho) (lw_S q986 q987 q129 q988) (by decide +kernel) rfl rfl hR rfl rfl hcat hf d h hn k
theorem yclJ2_66 (E : EV p s m args c cc nL RJ2) {N mc ms : Nat}   {x0 : Nat} {x1 : Int32} {kk : Nat → Nat → Nat → XS → Prop} (hR : 3 ≤ R.frames ∧ 84 ≤ R.locals) (hcat : (st.map fun v => v.category).sum ≤ 8) (hb : cells + mc ≤ R.cells ∧ slots + ms ≤ R.slots) (d : decode cc pc = .ok (.invokestatic 66, 3)) (h : bny (yj13_copyOf N g  x0 x1 ξ) mc ms kk) (hn : pc + 3 = n) (k : ∀ (m1 n1 : Nat) (v : Nat) (ξ1 : XS), (cells + m1 + (mc - m1) ≤ R.cells ∧ slots + n1 + (ms - n1) ≤ R.slots) → kk m1 n1 v ξ1 → CF p l e R s m args below meth c nL (cells + m1) (slots + n1) (XB g A s ξ1) Q n lv (.ref v :: st)) : CF p l e R s m args below meth c nL cells slots (XB g A s ξ) Q pc lv (.int x1 :: .ref x0 :: st) := by
  obtain ⟨m1, n1, h1, h2, h⟩ := h
  exact ycallS_r (na := 2) E [.ref x0, .int x1] (met_yj13_copyOf l g N   x0 x1 ξ m1 n1 _ h) (lw_S q994 q995 q130 q996) (by decide +kernel) hR rfl rfl hcat ⟨by omega, by omega⟩ d hn (fun v ξ1 hk => k m1 n1 v ξ1 ⟨by omega, by omega⟩ hk)
theorem xclJ2_73p (E : EV p s m args c cc nL RJ2) {N : Nat}   {x0 : Int32} {x1 : Int32} {x2 : Int32} {kk : Int32 → XS → Prop} (hR : 2 ≤ R.frames ∧ 63 ≤ R.locals) (hcat : (st.map fun v => v.category).sum ≤ 8) (hf : cells ≤ R.cells ∧ slots ≤ R.slots) (d : decode cc pc = .ok (.invokestatic 73, 3)) (h : bndp (x12_newLength N g  x0 x1 x2 ξ) kk) (hn : pc + 3 = n) (k : ∀ (v : Int32) (ξ1 : XS), kk v ξ1 → CF p l e R s m args below meth c nL cells slots (XB g A s ξ1) Q n lv (.int v :: st)) : CF p l e R s m args below meth c nL cells slots (XB g A s ξ) Q pc lv (.int x2 :: .int x1 :: .int x0 :: st) :=
  xcallS0_ip (na := 3) E [.int x0, .int x1, .int x2] (fun v ξ1 ho => met_x12_newLength l g N   x0 x1 x2 ξ ho) (lw_S q986 q987 q129 q988) (by decide +kernel) rfl rfl hR rfl rfl hcat hf d h hn k
end XC
set_option maxHeartbeats 4000000 in
theorem wyj2_grow_2_20 {p : Program} {l : Launch} {e : Env} {R : Room} {s : State} {m : MethodId} {args : Array Value} {below : List Frame} {meth : Method} {c : Code} {A : Nat → Prop} {g : XG} {Q : State → Prop} {K : Nat → XS → Prop} (E : EV p s m args c cJ2_grow_2 4 RJ2) (hR : 3 ≤ R.frames ∧ 84 ≤ R.locals) (hq : YTr p l e R s m args below meth c cJ2_grow_2 4 A g Q K) (N : Nat) (a0 : Nat)   (x1 : Int32) (x2 : Int32) (ξ : XS) (mc ms cells slots : Nat) (hb : cells + mc ≤ R.cells ∧ slots + ms ≤ R.slots) (h : yj2_grow_2_20 N g a0 K  x1 x2 ξ mc ms) : CF p l e R s m args below meth c 4 cells slots (XB g A s ξ) Q 20 [(0, .ref a0), (1, .int x1), (2, .int x2)] [] := by
  unfold yj2_grow_2_20 at h
  refine cf_iload_n E dJ2_grow_2_20 2 rfl rfl ?_
  refine cf_iload_n E dJ2_grow_2_21 1 rfl rfl ?_
  refine cf_iload_n E dJ2_grow_2_22 2 rfl rfl ?_
  refine cf_isub E dJ2_grow_2_23 rfl ?_
  refine cf_iload_n E dJ2_grow_2_24 2 rfl rfl ?_
  refine cf_iconst E dJ2_grow_2_25 ic_1 rfl ?_
  refine cf_ishr E dJ2_grow_2_26 rfl ?_
  refine xclJ2_73p E (rmle hR rfl rfl) (Nat.le_of_ble_eq_true rfl) (hb0 hb) dJ2_grow_2_27 h rfl (fun v_2 s_1 h => ?_)
  refine cf_istore_np E dJ2_grow_2_30 h (fun x3_3 => [(3, .int x3_3), (0, .ref a0), (1, .int x1), (2, .int x2)]) (Nat.le_of_ble_eq_true rfl) (fun _ => rfl) rfl (fun x3_3 h => ?_)
  refine cf_aload_n E dJ2_grow_2_31 1 rfl rfl ?_
  refine cf_aload_n E dJ2_grow_2_32 1 rfl rfl ?_
  refine xdgJ2_9p E dJ2_grow_2_33 h rfl (fun b_4 h => ?_)
  refine cf_iload_n E dJ2_grow_2_36 0 rfl rfl ?_
  refine yclJ2_66 E (rmle hR rfl rfl) (Nat.le_of_ble_eq_true rfl) hb dJ2_grow_2_37 h rfl (fun m_5 n_6 v_8 s_7 hb h => ?_)
  refine cf_dup_x1 E dJ2_grow_2_40 rfl rfl rfl ?_
  refine xdqJ2_9 E dJ2_grow_2_41 h rfl (fun s_9 h => ?_)
  exact hq _ _ _ _ _ _ (hb0 hb).1 (hb0 hb).2 dJ2_grow_2_44 h
set_option maxHeartbeats 4000000 in
theorem met_yj2_grow_2 (l : Launch) (g : XG) (N : Nat) (a0 : Nat)  (x1 : Int32) (ξ : XS) (mc ms : Nat) (K : Nat → XS → Prop) (h : yj2_grow_2 N g a0 x1 ξ mc ms K) : MetYr l g yJ2_grow_2 (ws_ yJ2_grow_2 cJ2_grow_2 4 (some (.array (.object "java/lang/Object")))) 3 84 [.ref a0, .int x1] ξ mc ms K := by
  refine met_yr (Or.inr ⟨_, rfl⟩) (lv0 := [(0, .ref a0), (1, .int x1)]) (own := RJ2) (by decide) rfl (Nat.le_of_ble_eq_true rfl) rfl ?_
  intro p e s m below meth c A Q E hmn hq
  have hR : 3 ≤ ({ frames := 3, cells := mc, slots := ms, locals := 84 } : Room).frames ∧ 84 ≤ ({ frames := 3, cells := mc, slots := ms, locals := 84 } : Room).locals := ⟨Nat.le_refl _, Nat.le_refl _⟩
  have hb : 0 + mc ≤ ({ frames := 3, cells := mc, slots := ms, locals := 84 } : Room).cells ∧ 0 + ms ≤ ({ frames := 3, cells := mc, slots := ms, locals := 84 } : Room).slots := ⟨Nat.le_of_eq (Nat.zero_add _), Nat.le_of_eq (Nat.zero_add _)⟩
  unfold yj2_grow_2 at h
  refine cf_aload_n E dJ2_grow_2_0 0 rfl rfl ?_
  refine xdgJ2_9p E dJ2_grow_2_1 h rfl (fun b_1 h => ?_)
  refine xlenOp E dJ2_grow_2_4 h rfl (fun n_2 h => ?_)
  refine cf_istore_np E dJ2_grow_2_5 h (fun x2_3 => [(2, .int x2_3), (0, .ref a0), (1, .int x1)]) (Nat.le_of_ble_eq_true rfl) (fun _ => rfl) rfl (fun x2_3 h => ?_)
  refine cf_iload_n E dJ2_grow_2_6 0 rfl rfl ?_
  refine cf_if_gtp E dJ2_grow_2_7 h rfl rfl (fun h => ?_) (fun h => ?_)
  · exact CF.sub [1, 2, 0] rfl (wyj2_grow_2_20 E hR hq N a0 x1 x2_3 ξ mc ms _ _ hb h)
  · refine cf_aload_n E dJ2_grow_2_10 1 rfl rfl ?_
    refine xdgJ2_9p E dJ2_grow_2_11 h rfl (fun b_4 h => ?_)
    refine xgsJ2_39 E dJ2_grow_2_14 rfl ?_
    refine xacmp_eqp E dJ2_grow_2_17 h rfl rfl (fun h => ?_) (fun h => ?_)
    · refine cf_aload_n E dJ2_grow_2_45 1 rfl rfl ?_
      refine cf_bipush E dJ2_grow_2_46 bp_10 rfl ?_
      refine cf_iload_n E dJ2_grow_2_48 2 rfl rfl ?_
      refine xmJ2_max E (rmle hR rfl rfl) (by first | exact Nat.le_of_ble_eq_true rfl | decide) (hb0 hb) dJ2_grow_2_49 rfl ?_
      refine xnewq E q1040 hb dJ2_grow_2_52 h rfl (fun q_5 hb h => ?_)
      refine cf_dup_x1 E dJ2_grow_2_55 rfl rfl rfl ?_
      refine xdqJ2_9 E dJ2_grow_2_56 h rfl (fun s_6 h => ?_)
      exact hq _ _ _ _ _ _ (hb0 hb).1 (hb0 hb).2 dJ2_grow_2_59 h
    · exact CF.sub [1, 2, 0] rfl (wyj2_grow_2_20 E hR hq N a0 x1 x2_3 ξ mc ms _ _ hb h)
def yj2_grow (N : Nat) (g : XG) (a0 : Nat)  (ξ : XS) (mc ms : Nat) (K : Nat → XS → Prop) : Prop :=
  bnop (dI ξ a0 4 4 2) fun v_1 =>
  if isC ξ a0 4 4 = true then (
  bny (yj2_grow_2 N g a0 (v_1 + (1 : Int32)) ξ) mc ms fun m_2 n_3 v_5 s_4 =>
  K (v_5) s_4) else False
section XC
variable {p : Program} {l : Launch} {e : Env} {R : Room} {s : State} {m : MethodId} {args : Array Value} {below : List Frame} {meth : Method} {c : Code} {nL cells slots : Nat} {A : Nat → Prop} {g : XG} {ξ : XS} {Q : State → Prop} {pc n : Nat} {lv : List (Nat × Value)} {st : List Value} {cc : ByteArray} {ρ : Type} {res : ρ}
theorem yclJ2_69 (E : EV p s m args c cc nL RJ2) {N mc ms : Nat} {a0 : Nat}  {x1 : Int32} {kk : Nat → Nat → Nat → XS → Prop} (hR : 4 ≤ R.frames ∧ 107 ≤ R.locals) (hcat : (st.map fun v => v.category).sum ≤ 8) (hb : cells + mc ≤ R.cells ∧ slots + ms ≤ R.slots) (d : decode cc pc = .ok (.invokevirtual 69, 3)) (h : if isC ξ a0 4 4 = true then bny (yj2_grow_2 N g a0 x1 ξ) mc ms kk else False) (hn : pc + 3 = n) (k : ∀ (m1 n1 : Nat) (v : Nat) (ξ1 : XS), (cells + m1 + (mc - m1) ≤ R.cells ∧ slots + n1 + (ms - n1) ≤ R.slots) → kk m1 n1 v ξ1 → CF p l e R s m args below meth c nL (cells + m1) (slots + n1) (XB g A s ξ1) Q n lv (.ref v :: st)) : CF p l e R s m args below meth c nL cells slots (XB g A s ξ) Q pc lv (.int x1 :: .ref a0 :: st) := by
  by_cases hi : ¬ isC ξ a0 4 4 = true
  · rw [if_neg hi] at h; cases h
  have hi : isC ξ a0 4 4 = true := Decidable.not_not.mp hi
  rw [if_pos hi] at h
  obtain ⟨ci, hci, h8, h9⟩ := isC_at hi
  have e9 : ci = 4 := by omega
  subst e9
  obtain ⟨m1, n1, h1, h2, h⟩ := h
  exact ycallV_r (na := 1) E [.int x1] (met_yj2_grow_2 l g N a0  x1 ξ m1 n1 _ h) (C9 := RJ2) (lw_V q982 q984 qs19 q101 q985) (by decide +kernel) (xrecv_d (q := (RJ2, TJ2, 3)) hci rfl) hR rfl rfl hcat ⟨by omega, by omega⟩ d hn (fun v ξ1 hk => k m1 n1 v ξ1 ⟨by omega, by omega⟩ hk)
end XC
set_option maxHeartbeats 4000000 in
theorem met_yj2_grow (l : Launch) (g : XG) (N : Nat) (a0 : Nat)   (ξ : XS) (mc ms : Nat) (K : Nat → XS → Prop) (h : yj2_grow N g a0  ξ mc ms K) : MetYr l g yJ2_grow (ws_ yJ2_grow cJ2_grow 1 (some (.array (.object "java/lang/Object")))) 4 107 [.ref a0] ξ mc ms K := by
  refine met_yr (Or.inr ⟨_, rfl⟩) (lv0 := [(0, .ref a0)]) (own := RJ2) (by decide) rfl (Nat.le_of_ble_eq_true rfl) rfl ?_
  intro p e s m below meth c A Q E hmn hq
  have hR : 4 ≤ ({ frames := 4, cells := mc, slots := ms, locals := 107 } : Room).frames ∧ 107 ≤ ({ frames := 4, cells := mc, slots := ms, locals := 107 } : Room).locals := ⟨Nat.le_refl _, Nat.le_refl _⟩
  have hb : 0 + mc ≤ ({ frames := 4, cells := mc, slots := ms, locals := 107 } : Room).cells ∧ 0 + ms ≤ ({ frames := 4, cells := mc, slots := ms, locals := 107 } : Room).slots := ⟨Nat.le_of_eq (Nat.zero_add _), Nat.le_of_eq (Nat.zero_add _)⟩
  unfold yj2_grow at h
  refine cf_aload_n E dJ2_grow_0 0 rfl rfl ?_
  refine cf_aload_n E dJ2_grow_1 0 rfl rfl ?_
  refine xdgJ2_48p E dJ2_grow_2 h rfl (fun v_1 h => ?_)
  refine cf_iconst E dJ2_grow_5 ic_1 rfl ?_
  refine cf_iadd E dJ2_grow_6 rfl ?_
  refine yclJ2_69 E (rmle hR rfl rfl) (Nat.le_of_ble_eq_true rfl) hb dJ2_grow_7 h rfl (fun m_2 n_3 v_5 s_4 hb h => ?_)
  exact hq _ _ _ _ _ _ (hb0 hb).1 (hb0 hb).2 dJ2_grow_10 h
def yj2_add_2_11 (N : Nat) (g : XG) (a0 : Nat) (K : XS → Prop)  (a1 : Nat) (a2 : Nat) (x3 : Int32) (ξ : XS) (mc ms : Nat) : Prop :=
  bndp (dAq ξ a2 (xc g 7)) fun n_2 f_3 => if inb x3 n_2 = true ∧ isC ξ a1 17 20 = true then nx (sXd ξ a2 (.inl (xc g 7, n_2, .inr (.inr (.inr (.inr (va_up f_3 x3.toNatClampNeg (some a1)))))))) (fun s_1 =>
  bndp (dO s_1 a0) fun ci_5 fs_6 => if (ci_5 = 4 ∧ 2 < fs_6.length) then nx (sXd s_1 a0 (.inr (ci_5, fs_6.set 2 (.int (x3 + (1 : Int32)))))) (fun s_4 =>
  K s_4) else False) else False
def yj2_add_2 (N : Nat) (g : XG) (a0 : Nat) (x1 : Nat) (x2 : Nat) (x3 : Int32) (ξ : XS) (mc ms : Nat) (K : XS → Prop) : Prop :=
  bnop (lenO g ξ x2) fun n_1 =>
  if x3 = (Int32.ofNat n_1) then (
    if isC ξ a0 4 4 = true then (
    bny (yj2_grow N g a0 ξ) mc ms fun m_2 n_3 v_5 s_4 =>
    yj2_add_2_11 N g a0 K x1 v_5 x3 s_4 (mc - m_2) (ms - n_3)) else False)
  else (
    yj2_add_2_11 N g a0 K x1 x2 x3 ξ mc ms)
section XC
variable {p : Program} {l : Launch} {e : Env} {R : Room} {s : State} {m : MethodId} {args : Array Value} {below : List Frame} {meth : Method} {c : Code} {nL cells slots : Nat} {A : Nat → Prop} {g : XG} {ξ : XS} {Q : State → Prop} {pc n : Nat} {lv : List (Nat × Value)} {st : List Value} {cc : ByteArray} {ρ : Type} {res : ρ}
theorem yclJ2_129 (E : EV p s m args c cc nL RJ2) {N mc ms : Nat} {a0 : Nat}   {kk : Nat → Nat → Nat → XS → Prop} (hR : 5 ≤ R.frames ∧ 127 ≤ R.locals) (hcat : (st.map fun v => v.category).sum ≤ 8) (hb : cells + mc ≤ R.cells ∧ slots + ms ≤ R.slots) (d : decode cc pc = .ok (.invokevirtual 129, 3)) (h : if isC ξ a0 4 4 = true then bny (yj2_grow N g a0  ξ) mc ms kk else False) (hn : pc + 3 = n) (k : ∀ (m1 n1 : Nat) (v : Nat) (ξ1 : XS), (cells + m1 + (mc - m1) ≤ R.cells ∧ slots + n1 + (ms - n1) ≤ R.slots) → kk m1 n1 v ξ1 → CF p l e R s m args below meth c nL (cells + m1) (slots + n1) (XB g A s ξ1) Q n lv (.ref v :: st)) : CF p l e R s m args below meth c nL cells slots (XB g A s ξ) Q pc lv (.ref a0 :: st) := by
  by_cases hi : ¬ isC ξ a0 4 4 = true
  · rw [if_neg hi] at h; cases h
  have hi : isC ξ a0 4 4 = true := Decidable.not_not.mp hi
  rw [if_pos hi] at h
  obtain ⟨ci, hci, h8, h9⟩ := isC_at hi
  have e9 : ci = 4 := by omega
  subst e9
  obtain ⟨m1, n1, h1, h2, h⟩ := h
  exact ycallV_r (na := 0) E [] (met_yj2_grow l g N a0   ξ m1 n1 _ h) (C9 := RJ2) (lw_V q978 q980 qs18 q101 q981) (by decide +kernel) (xrecv_d (q := (RJ2, TJ2, 3)) hci rfl) hR rfl rfl hcat ⟨by omega, by omega⟩ d hn (fun v ξ1 hk => k m1 n1 v ξ1 ⟨by omega, by omega⟩ hk)
end XC
set_option maxHeartbeats 4000000 in
theorem wyj2_add_2_11 {p : Program} {l : Launch} {e : Env} {R : Room} {s : State} {m : MethodId} {args : Array Value} {below : List Frame} {meth : Method} {c : Code} {A : Nat → Prop} {g : XG} {Q : State → Prop} {K : XS → Prop} (E : EV p s m args c cJ2_add_2 4 RJ2) (hR : 5 ≤ R.frames ∧ 127 ≤ R.locals) (hq : YTv p l e R s m args below meth c cJ2_add_2 4 A g Q K) (N : Nat) (a0 : Nat)   (a1 : Nat) (a2 : Nat) (x3 : Int32) (ξ : XS) (mc ms cells slots : Nat) (hb : cells + mc ≤ R.cells ∧ slots + ms ≤ R.slots) (h : yj2_add_2_11 N g a0 K  a1 a2 x3 ξ mc ms) : CF p l e R s m args below meth c 4 cells slots (XB g A s ξ) Q 11 [(0, .ref a0), (1, .ref a1), (2, .ref a2), (3, .int x3)] [] := by
  unfold yj2_add_2_11 at h
  refine cf_aload_n E dJ2_add_2_11 2 rfl rfl ?_
  refine cf_iload_n E dJ2_add_2_12 3 rfl rfl ?_
  refine cf_aload_n E dJ2_add_2_13 1 rfl rfl ?_
  refine xastOp E dJ2_add_2_14 h rfl (fun s_1 h => ?_)
  refine cf_aload_n E dJ2_add_2_15 0 rfl rfl ?_
  refine cf_iload_n E dJ2_add_2_16 3 rfl rfl ?_
  refine cf_iconst E dJ2_add_2_17 ic_1 rfl ?_
  refine cf_iadd E dJ2_add_2_18 rfl ?_
  refine xdqJ2_48 E dJ2_add_2_19 h rfl (fun s_4 h => ?_)
  exact hq _ _ _ _ _ (hb0 hb).1 (hb0 hb).2 dJ2_add_2_22 h
set_option maxHeartbeats 4000000 in
theorem met_yj2_add_2 (l : Launch) (g : XG) (N : Nat) (a0 : Nat)  (x1 : Nat) (x2 : Nat) (x3 : Int32) (ξ : XS) (mc ms : Nat) (K : XS → Prop) (h : yj2_add_2 N g a0 x1 x2 x3 ξ mc ms K) : MetYv l g yJ2_add_2 (ws_ yJ2_add_2 cJ2_add_2 4 none) 5 127 [.ref a0, .ref x1, .ref x2, .int x3] ξ mc ms K := by
  refine met_yv (lv0 := [(0, .ref a0), (1, .ref x1), (2, .ref x2), (3, .int x3)]) (own := RJ2) (by decide) rfl (Nat.le_of_ble_eq_true rfl) rfl ?_
  intro p e s m below meth c A Q E hmn hq
  have hR : 5 ≤ ({ frames := 5, cells := mc, slots := ms, locals := 127 } : Room).frames ∧ 127 ≤ ({ frames := 5, cells := mc, slots := ms, locals := 127 } : Room).locals := ⟨Nat.le_refl _, Nat.le_refl _⟩
  have hb : 0 + mc ≤ ({ frames := 5, cells := mc, slots := ms, locals := 127 } : Room).cells ∧ 0 + ms ≤ ({ frames := 5, cells := mc, slots := ms, locals := 127 } : Room).slots := ⟨Nat.le_of_eq (Nat.zero_add _), Nat.le_of_eq (Nat.zero_add _)⟩
  unfold yj2_add_2 at h
  refine cf_iload_n E dJ2_add_2_0 3 rfl rfl ?_
  refine cf_aload_n E dJ2_add_2_1 2 rfl rfl ?_
  refine xlenOp E dJ2_add_2_2 h rfl (fun n_1 h => ?_)
  refine cf_icmp_nep E dJ2_add_2_3 h rfl rfl (fun h => ?_) (fun h => ?_)
  · exact CF.sub [0, 1, 2, 3] rfl (wyj2_add_2_11 E hR hq N a0 x1 x2 x3 ξ mc ms _ _ hb h)
  · refine cf_aload_n E dJ2_add_2_6 0 rfl rfl ?_
    refine yclJ2_129 E (rmle hR rfl rfl) (Nat.le_of_ble_eq_true rfl) hb dJ2_add_2_7 h rfl (fun m_2 n_3 v_5 s_4 hb h => ?_)
    refine cf_astore_n E dJ2_add_2_10 [(2, .ref v_5), (0, .ref a0), (1, .ref x1), (3, .int x3)] (Nat.le_of_ble_eq_true rfl) rfl rfl ?_
    exact CF.sub [1, 2, 0, 3] rfl (wyj2_add_2_11 E hR hq N a0 x1 v_5 x3 s_4 (mc - m_2) (ms - n_3) _ _ hb h)
def yj2_add (N : Nat) (g : XG) (a0 : Nat) (x1 : Nat) (ξ : XS) (mc ms : Nat) (K : Int32 → XS → Prop) : Prop :=
  bnop (dI ξ a0 4 4 0) fun v_1 =>
  bndp (dO ξ a0) fun ci_3 fs_4 => if (ci_3 = 4 ∧ 0 < fs_4.length) then nx (sXd ξ a0 (.inr (ci_3, fs_4.set 0 (.int (v_1 + (1 : Int32)))))) (fun s_2 =>
  bnop (dR s_2 a0 4 4 1) fun b_5 =>
  bnop (dI s_2 a0 4 4 2) fun v_6 =>
  if isC s_2 a0 4 4 = true then (
  bnyv (yj2_add_2 N g a0 x1 b_5 v_6 s_2) mc ms fun m_7 n_8 s_9 =>
  K (1 : Int32) s_9) else False) else False
section XC
variable {p : Program} {l : Launch} {e : Env} {R : Room} {s : State} {m : MethodId} {args : Array Value} {below : List Frame} {meth : Method} {c : Code} {nL cells slots : Nat} {A : Nat → Prop} {g : XG} {ξ : XS} {Q : State → Prop} {pc n : Nat} {lv : List (Nat × Value)} {st : List Value} {cc : ByteArray} {ρ : Type} {res : ρ}
theorem yclJ2_131 (E : EV p s m args c cc nL RJ2) {N mc ms : Nat} {a0 : Nat}  {x1 : Nat} {x2 : Nat} {x3 : Int32} {kk : Nat → Nat → XS → Prop} (hR : 6 ≤ R.frames ∧ 150 ≤ R.locals) (hcat : (st.map fun v => v.category).sum ≤ 8) (hb : cells + mc ≤ R.cells ∧ slots + ms ≤ R.slots) (d : decode cc pc = .ok (.invokevirtual 131, 3)) (h : if isC ξ a0 4 4 = true then bnyv (yj2_add_2 N g a0 x1 x2 x3 ξ) mc ms kk else False) (hn : pc + 3 = n) (k : ∀ (m1 n1 : Nat) (ξ1 : XS), (cells + m1 + (mc - m1) ≤ R.cells ∧ slots + n1 + (ms - n1) ≤ R.slots) → kk m1 n1 ξ1 → CF p l e R s m args below meth c nL (cells + m1) (slots + n1) (XB g A s ξ1) Q n lv st) : CF p l e R s m args below meth c nL cells slots (XB g A s ξ) Q pc lv (.int x3 :: .ref x2 :: .ref x1 :: .ref a0 :: st) := by
  by_cases hi : ¬ isC ξ a0 4 4 = true
  · rw [if_neg hi] at h; cases h
  have hi : isC ξ a0 4 4 = true := Decidable.not_not.mp hi
  rw [if_pos hi] at h
  obtain ⟨ci, hci, h8, h9⟩ := isC_at hi
  have e9 : ci = 4 := by omega
  subst e9
  obtain ⟨m1, n1, h1, h2, h⟩ := h
  exact ycallV_v (na := 3) E [.ref x1, .ref x2, .int x3] (met_yj2_add_2 l g N a0  x1 x2 x3 ξ m1 n1 _ h) (C9 := RJ2) (lw_V q974 q976 qs17 q101 q977) (by decide +kernel) (xrecv_d (q := (RJ2, TJ2, 3)) hci rfl) hR rfl rfl hcat ⟨by omega, by omega⟩ d hn (fun ξ1 hk => k m1 n1 ξ1 ⟨by omega, by omega⟩ hk)
end XC
set_option maxHeartbeats 4000000 in
theorem met_yj2_add (l : Launch) (g : XG) (N : Nat) (a0 : Nat)  (x1 : Nat) (ξ : XS) (mc ms : Nat) (K : Int32 → XS → Prop) (h : yj2_add N g a0 x1 ξ mc ms K) : MetYi l g yJ2_add (ws_ yJ2_add cJ2_add 2 (some .boolean)) 6 150 [.ref a0, .ref x1] ξ mc ms K := by
  refine met_yi (lv0 := [(0, .ref a0), (1, .ref x1)]) (own := RJ2) (by decide) rfl (Nat.le_of_ble_eq_true rfl) rfl ?_
  intro p e s m below meth c A Q E hmn hq
  have hR : 6 ≤ ({ frames := 6, cells := mc, slots := ms, locals := 150 } : Room).frames ∧ 150 ≤ ({ frames := 6, cells := mc, slots := ms, locals := 150 } : Room).locals := ⟨Nat.le_refl _, Nat.le_refl _⟩
  have hb : 0 + mc ≤ ({ frames := 6, cells := mc, slots := ms, locals := 150 } : Room).cells ∧ 0 + ms ≤ ({ frames := 6, cells := mc, slots := ms, locals := 150 } : Room).slots := ⟨Nat.le_of_eq (Nat.zero_add _), Nat.le_of_eq (Nat.zero_add _)⟩
  unfold yj2_add at h
  refine cf_aload_n E dJ2_add_0 0 rfl rfl ?_
  refine cf_dup E dJ2_add_1 rfl rfl ?_
  refine xdgJ2_63p E dJ2_add_2 h rfl (fun v_1 h => ?_)
  refine cf_iconst E dJ2_add_5 ic_1 rfl ?_
  refine cf_iadd E dJ2_add_6 rfl ?_
  refine xdqJ2_63 E dJ2_add_7 h rfl (fun s_2 h => ?_)
  refine cf_aload_n E dJ2_add_10 0 rfl rfl ?_
  refine cf_aload_n E dJ2_add_11 1 rfl rfl ?_
  refine cf_aload_n E dJ2_add_12 0 rfl rfl ?_
  refine xdgJ2_9p E dJ2_add_13 h rfl (fun b_5 h => ?_)
  refine cf_aload_n E dJ2_add_16 0 rfl rfl ?_
  refine xdgJ2_48p E dJ2_add_17 h rfl (fun v_6 h => ?_)
  refine yclJ2_131 E (rmle hR rfl rfl) (Nat.le_of_ble_eq_true rfl) hb dJ2_add_20 h rfl (fun m_7 n_8 s_9 hb h => ?_)
  refine cf_iconst E dJ2_add_23 ic_1 rfl ?_
  exact hq _ _ _ _ _ _ (hb0 hb).1 (hb0 hb).2 dJ2_add_24 nzb1 h
