/-! HatsDecide, group z2: rows, functions, walks -/
set_option maxRecDepth 100000
section XC
variable {p : Program} {l : Launch} {e : Env} {R : Room} {s : State} {m : MethodId} {args : Array Value} {below : List Frame} {meth : Method} {c : Code} {nL cells slots : Nat} {A : Nat → Prop} {g : XG} {ξ : XS} {Q : State → Prop} {pc n : Nat} {lv : List (Nat × Value)} {st : List Value} {cc : ByteArray} {ρ : Type} {res : ρ}
theorem xpPX0_351 (E : EV p s m args c cc nL RX0) {τ : Nat} (hτ : τ < 6) {v : Option Nat} {kk : XS → Option ρ} (d : decode cc pc = .ok (.putfield 351, 3)) (h : nx (sXo ξ (100 + τ) v) kk = some res) (hn : pc + 3 = n) (k : ∀ ξ1 : XS, kk ξ1 = some res → CF p l e R s m args below meth c nL cells slots (XB g A s ξ1) Q n lv st) : CF p l e R s m args below meth c nL cells slots (XB g A s ξ) Q pc lv (va_rf v :: .ref (xa g (320 + τ)) :: st) := by
  subst hn
  intro H locs ls hB hl
  rcases t6 hτ with rfl | rfl | rfl | rfl | rfl | rfl
  · exact va_putN (D := g.1) (ci := 7) (v := va_rf v) (ty := .object "java/lang/Object") (C := RX5) (T := TX5) (N := 1) E.1 E.2.1 E.2.2.2.2 in_X5 tyX5 tyX5_ok nmX5 E.2.2.2.1 hB.2.2.2.1 hB.1 hB.2.1 hB.2.2.1 37 rfl rfl 0 (Nat.le_of_ble_eq_true rfl) (va_Nw.use rfl (hB.2.2.2.2.2.1 _ q277 rfl)) (fun _ h9 => h9) rfl (by decide +kernel) (narq v) (fitq v) (Nat.le_of_ble_eq_true rfl) d (fun H1 locs1 hP hD hS => k _ h H1 locs1 ls ⟨hP, hD, hS, hB.2.2.2⟩ hl)
  · exact va_putN (D := g.1) (ci := 7) (v := va_rf v) (ty := .object "java/lang/Object") (C := RX5) (T := TX5) (N := 1) E.1 E.2.1 E.2.2.2.2 in_X5 tyX5 tyX5_ok nmX5 E.2.2.2.1 hB.2.2.2.1 hB.1 hB.2.1 hB.2.2.1 38 rfl rfl 0 (Nat.le_of_ble_eq_true rfl) (va_Nw.use rfl (hB.2.2.2.2.2.1 _ q277 rfl)) (fun _ h9 => h9) rfl (by decide +kernel) (narq v) (fitq v) (Nat.le_of_ble_eq_true rfl) d (fun H1 locs1 hP hD hS => k _ h H1 locs1 ls ⟨hP, hD, hS, hB.2.2.2⟩ hl)
  · exact va_putN (D := g.1) (ci := 7) (v := va_rf v) (ty := .object "java/lang/Object") (C := RX5) (T := TX5) (N := 1) E.1 E.2.1 E.2.2.2.2 in_X5 tyX5 tyX5_ok nmX5 E.2.2.2.1 hB.2.2.2.1 hB.1 hB.2.1 hB.2.2.1 39 rfl rfl 0 (Nat.le_of_ble_eq_true rfl) (va_Nw.use rfl (hB.2.2.2.2.2.1 _ q277 rfl)) (fun _ h9 => h9) rfl (by decide +kernel) (narq v) (fitq v) (Nat.le_of_ble_eq_true rfl) d (fun H1 locs1 hP hD hS => k _ h H1 locs1 ls ⟨hP, hD, hS, hB.2.2.2⟩ hl)
  · exact va_putN (D := g.1) (ci := 7) (v := va_rf v) (ty := .object "java/lang/Object") (C := RX5) (T := TX5) (N := 1) E.1 E.2.1 E.2.2.2.2 in_X5 tyX5 tyX5_ok nmX5 E.2.2.2.1 hB.2.2.2.1 hB.1 hB.2.1 hB.2.2.1 40 rfl rfl 0 (Nat.le_of_ble_eq_true rfl) (va_Nw.use rfl (hB.2.2.2.2.2.1 _ q277 rfl)) (fun _ h9 => h9) rfl (by decide +kernel) (narq v) (fitq v) (Nat.le_of_ble_eq_true rfl) d (fun H1 locs1 hP hD hS => k _ h H1 locs1 ls ⟨hP, hD, hS, hB.2.2.2⟩ hl)
  · exact va_putN (D := g.1) (ci := 7) (v := va_rf v) (ty := .object "java/lang/Object") (C := RX5) (T := TX5) (N := 1) E.1 E.2.1 E.2.2.2.2 in_X5 tyX5 tyX5_ok nmX5 E.2.2.2.1 hB.2.2.2.1 hB.1 hB.2.1 hB.2.2.1 41 rfl rfl 0 (Nat.le_of_ble_eq_true rfl) (va_Nw.use rfl (hB.2.2.2.2.2.1 _ q277 rfl)) (fun _ h9 => h9) rfl (by decide +kernel) (narq v) (fitq v) (Nat.le_of_ble_eq_true rfl) d (fun H1 locs1 hP hD hS => k _ h H1 locs1 ls ⟨hP, hD, hS, hB.2.2.2⟩ hl)
  · exact va_putN (D := g.1) (ci := 7) (v := va_rf v) (ty := .object "java/lang/Object") (C := RX5) (T := TX5) (N := 1) E.1 E.2.1 E.2.2.2.2 in_X5 tyX5 tyX5_ok nmX5 E.2.2.2.1 hB.2.2.2.1 hB.1 hB.2.1 hB.2.2.1 42 rfl rfl 0 (Nat.le_of_ble_eq_true rfl) (va_Nw.use rfl (hB.2.2.2.2.2.1 _ q277 rfl)) (fun _ h9 => h9) rfl (by decide +kernel) (narq v) (fitq v) (Nat.le_of_ble_eq_true rfl) d (fun H1 locs1 hP hD hS => k _ h H1 locs1 ls ⟨hP, hD, hS, hB.2.2.2⟩ hl)
theorem xpPX0_351p (E : EV p s m args c cc nL RX0) {τ : Nat} (hτ : τ < 6) {v : Option Nat} {kk : XS → Prop} (d : decode cc pc = .ok (.putfield 351, 3)) (h : nx (sXo ξ (100 + τ) v) kk) (hn : pc + 3 = n) (k : ∀ ξ1 : XS, kk ξ1 → CF p l e R s m args below meth c nL cells slots (XB g A s ξ1) Q n lv st) : CF p l e R s m args below meth c nL cells slots (XB g A s ξ) Q pc lv (va_rf v :: .ref (xa g (320 + τ)) :: st) := by
  subst hn
  intro H locs ls hB hl
  rcases t6 hτ with rfl | rfl | rfl | rfl | rfl | rfl
  · exact va_putN (D := g.1) (ci := 7) (v := va_rf v) (ty := .object "java/lang/Object") (C := RX5) (T := TX5) (N := 1) E.1 E.2.1 E.2.2.2.2 in_X5 tyX5 tyX5_ok nmX5 E.2.2.2.1 hB.2.2.2.1 hB.1 hB.2.1 hB.2.2.1 37 rfl rfl 0 (Nat.le_of_ble_eq_true rfl) (va_Nw.use rfl (hB.2.2.2.2.2.1 _ q277 rfl)) (fun _ h9 => h9) rfl (by decide +kernel) (narq v) (fitq v) (Nat.le_of_ble_eq_true rfl) d (fun H1 locs1 hP hD hS => k _ h H1 locs1 ls ⟨hP, hD, hS, hB.2.2.2⟩ hl)
  · exact va_putN (D := g.1) (ci := 7) (v := va_rf v) (ty := .object "java/lang/Object") (C := RX5) (T := TX5) (N := 1) E.1 E.2.1 E.2.2.2.2 in_X5 tyX5 tyX5_ok nmX5 E.2.2.2.1 hB.2.2.2.1 hB.1 hB.2.1 hB.2.2.1 38 rfl rfl 0 (Nat.le_of_ble_eq_true rfl) (va_Nw.use rfl (hB.2.2.2.2.2.1 _ q277 rfl)) (fun _ h9 => h9) rfl (by decide +kernel) (narq v) (fitq v) (Nat.le_of_ble_eq_true rfl) d (fun H1 locs1 hP hD hS => k _ h H1 locs1 ls ⟨hP, hD, hS, hB.2.2.2⟩ hl)
  · exact va_putN (D := g.1) (ci := 7) (v := va_rf v) (ty := .object "java/lang/Object") (C := RX5) (T := TX5) (N := 1) E.1 E.2.1 E.2.2.2.2 in_X5 tyX5 tyX5_ok nmX5 E.2.2.2.1 hB.2.2.2.1 hB.1 hB.2.1 hB.2.2.1 39 rfl rfl 0 (Nat.le_of_ble_eq_true rfl) (va_Nw.use rfl (hB.2.2.2.2.2.1 _ q277 rfl)) (fun _ h9 => h9) rfl (by decide +kernel) (narq v) (fitq v) (Nat.le_of_ble_eq_true rfl) d (fun H1 locs1 hP hD hS => k _ h H1 locs1 ls ⟨hP, hD, hS, hB.2.2.2⟩ hl)
  · exact va_putN (D := g.1) (ci := 7) (v := va_rf v) (ty := .object "java/lang/Object") (C := RX5) (T := TX5) (N := 1) E.1 E.2.1 E.2.2.2.2 in_X5 tyX5 tyX5_ok nmX5 E.2.2.2.1 hB.2.2.2.1 hB.1 hB.2.1 hB.2.2.1 40 rfl rfl 0 (Nat.le_of_ble_eq_true rfl) (va_Nw.use rfl (hB.2.2.2.2.2.1 _ q277 rfl)) (fun _ h9 => h9) rfl (by decide +kernel) (narq v) (fitq v) (Nat.le_of_ble_eq_true rfl) d (fun H1 locs1 hP hD hS => k _ h H1 locs1 ls ⟨hP, hD, hS, hB.2.2.2⟩ hl)
  · exact va_putN (D := g.1) (ci := 7) (v := va_rf v) (ty := .object "java/lang/Object") (C := RX5) (T := TX5) (N := 1) E.1 E.2.1 E.2.2.2.2 in_X5 tyX5 tyX5_ok nmX5 E.2.2.2.1 hB.2.2.2.1 hB.1 hB.2.1 hB.2.2.1 41 rfl rfl 0 (Nat.le_of_ble_eq_true rfl) (va_Nw.use rfl (hB.2.2.2.2.2.1 _ q277 rfl)) (fun _ h9 => h9) rfl (by decide +kernel) (narq v) (fitq v) (Nat.le_of_ble_eq_true rfl) d (fun H1 locs1 hP hD hS => k _ h H1 locs1 ls ⟨hP, hD, hS, hB.2.2.2⟩ hl)
  · exact va_putN (D := g.1) (ci := 7) (v := va_rf v) (ty := .object "java/lang/Object") (C := RX5) (T := TX5) (N := 1) E.1 E.2.1 E.2.2.2.2 in_X5 tyX5 tyX5_ok nmX5 E.2.2.2.1 hB.2.2.2.1 hB.1 hB.2.1 hB.2.2.1 42 rfl rfl 0 (Nat.le_of_ble_eq_true rfl) (va_Nw.use rfl (hB.2.2.2.2.2.1 _ q277 rfl)) (fun _ h9 => h9) rfl (by decide +kernel) (narq v) (fitq v) (Nat.le_of_ble_eq_true rfl) d (fun H1 locs1 hP hD hS => k _ h H1 locs1 ls ⟨hP, hD, hS, hB.2.2.2⟩ hl)
end XC
def y0_rowOf (N : Nat) (g : XG)  (x0 : Int32) (x1 : Int32) (ξ : XS) (mc ms : Nat) (K : Nat → XS → Prop) (KX : String → Nat → XS → Prop) : Prop :=
  if x0 = (0 : Int32) then (
    if x1 < 0 then mkX 3 54 mc ms (fun q_3 =>
      KX "java/lang/NegativeArraySizeException" q_3 ξ) else
    if (¬ x1 < 0 ∧ x1.toNatClampNeg ≤ 10000) then mkc ξ x1.toNatClampNeg mc ms (fun q_2 =>
    K (q_2) (pXd ξ q_2 (.inl (xc g 1, x1.toNatClampNeg, .inl (fun _ => 0))))) else False)
  else
  if x0 = (1 : Int32) then (
    if x1 < 0 then mkX 3 54 mc ms (fun q_6 =>
      KX "java/lang/NegativeArraySizeException" q_6 ξ) else
    if (¬ x1 < 0 ∧ x1.toNatClampNeg ≤ 10000) then mkc ξ x1.toNatClampNeg mc ms (fun q_5 =>
    K (q_5) (pXd ξ q_5 (.inl (xc g 4, x1.toNatClampNeg, .inl (fun _ => 0))))) else False)
  else
  if x0 = (2 : Int32) then (
    if x1 < 0 then mkX 3 54 mc ms (fun q_9 =>
      KX "java/lang/NegativeArraySizeException" q_9 ξ) else
    if (¬ x1 < 0 ∧ x1.toNatClampNeg ≤ 10000) then mkc ξ x1.toNatClampNeg mc ms (fun q_8 =>
    K (q_8) (pXd ξ q_8 (.inl (xc g 0, x1.toNatClampNeg, .inl (fun _ => 0))))) else False)
  else
  if x0 = (3 : Int32) then (
    if x1 < 0 then mkX 3 54 mc ms (fun q_12 =>
      KX "java/lang/NegativeArraySizeException" q_12 ξ) else
    if (¬ x1 < 0 ∧ x1.toNatClampNeg ≤ 10000) then mkc ξ x1.toNatClampNeg mc ms (fun q_11 =>
    K (q_11) (pXd ξ q_11 (.inl (xc g 3, x1.toNatClampNeg, .inr (.inl (fun _ => 0)))))) else False)
  else
  if x1 < 0 then mkX 3 54 mc ms (fun q_14 =>
    KX "java/lang/NegativeArraySizeException" q_14 ξ) else
  if (¬ x1 < 0 ∧ x1.toNatClampNeg ≤ 10000) then mkc ξ x1.toNatClampNeg mc ms (fun q_13 =>
  K (q_13) (pXd ξ q_13 (.inl (xc g 2, x1.toNatClampNeg, .inl (fun _ => 0))))) else False
set_option maxHeartbeats 4000000 in
theorem met_y0_rowOf (l : Launch) (g : XG) (N : Nat)   (x0 : Int32) (x1 : Int32) (ξ : XS) (mc ms : Nat) (K : Nat → XS → Prop) (KX : String → Nat → XS → Prop) (hlt : l.stackTraces = false) (h : y0_rowOf N g  x0 x1 ξ mc ms K KX) : MetZr l g yX0_rowOf (ws_ yX0_rowOf cX0_rowOf 2 (some (.object "java/lang/Object"))) 8 10248 [.int x0, .int x1] ξ mc ms K KX := by
  refine met_zr (Or.inl ⟨_, rfl⟩) (lv0 := [(0, .int x0), (1, .int x1)]) (own := RX0) (by decide) rfl (Nat.le_of_ble_eq_true rfl) rfl ?_
  intro p e s m below meth c A Q E hmn hlk hx hq
  have hR : 8 ≤ ({ frames := 8, cells := mc, slots := ms, locals := 10248 } : Room).frames ∧ 10248 ≤ ({ frames := 8, cells := mc, slots := ms, locals := 10248 } : Room).locals := ⟨Nat.le_refl _, Nat.le_refl _⟩
  have hb : 0 + mc ≤ ({ frames := 8, cells := mc, slots := ms, locals := 10248 } : Room).cells ∧ 0 + ms ≤ ({ frames := 8, cells := mc, slots := ms, locals := 10248 } : Room).slots := ⟨Nat.le_of_eq (Nat.zero_add _), Nat.le_of_eq (Nat.zero_add _)⟩
  unfold y0_rowOf at h
  refine cf_iload_n E dX0_rowOf_0 0 rfl rfl ?_
  by_cases hx_1 : x0 = (0 : Int32)
  · rw [if_pos hx_1] at h
    refine cf_tabIn E 0 dX0_rowOf_1 (i32_eqZ hx_1 (by decide)) (by decide) (by decide) rfl rfl ?_
    refine cf_iload_n E dX0_rowOf_32 1 rfl rfl ?_
    by_cases h0 : x1 < 0
    · rw [if_pos h0] at h
      refine xnewaZ_1 E hlt hlk h0 hb (rmle hR rfl rfl) (Nat.le_of_ble_eq_true rfl) dX0_rowOf_33 h (fun q_3 hb h => ?_)
      exact hx _ _ _ _ _ _ _ (hb0 hb).1 (hb0 hb).2 h
    rw [if_neg h0] at h
    refine xnewa_1 E hb dX0_rowOf_33 h rfl (fun q_2 hb h => ?_)
    exact hq _ _ _ _ _ _ (hb0 hb).1 (hb0 hb).2 dX0_rowOf_35 h
  rw [if_neg hx_1] at h
  by_cases hx_4 : x0 = (1 : Int32)
  · rw [if_pos hx_4] at h
    refine cf_tabIn E 1 dX0_rowOf_1 (i32_eqZ hx_4 (by decide)) (by decide) (by decide) rfl rfl ?_
    refine cf_iload_n E dX0_rowOf_36 1 rfl rfl ?_
    by_cases h0 : x1 < 0
    · rw [if_pos h0] at h
      refine xnewaZ_4 E hlt hlk h0 hb (rmle hR rfl rfl) (Nat.le_of_ble_eq_true rfl) dX0_rowOf_37 h (fun q_6 hb h => ?_)
      exact hx _ _ _ _ _ _ _ (hb0 hb).1 (hb0 hb).2 h
    rw [if_neg h0] at h
    refine xnewa_4 E hb dX0_rowOf_37 h rfl (fun q_5 hb h => ?_)
    exact hq _ _ _ _ _ _ (hb0 hb).1 (hb0 hb).2 dX0_rowOf_39 h
  rw [if_neg hx_4] at h
  by_cases hx_7 : x0 = (2 : Int32)
  · rw [if_pos hx_7] at h
    refine cf_tabIn E 2 dX0_rowOf_1 (i32_eqZ hx_7 (by decide)) (by decide) (by decide) rfl rfl ?_
    refine cf_iload_n E dX0_rowOf_40 1 rfl rfl ?_
    by_cases h0 : x1 < 0
    · rw [if_pos h0] at h
      refine xnewaZ_0 E hlt hlk h0 hb (rmle hR rfl rfl) (Nat.le_of_ble_eq_true rfl) dX0_rowOf_41 h (fun q_9 hb h => ?_)
      exact hx _ _ _ _ _ _ _ (hb0 hb).1 (hb0 hb).2 h
    rw [if_neg h0] at h
    refine xnewa_0 E hb dX0_rowOf_41 h rfl (fun q_8 hb h => ?_)
    exact hq _ _ _ _ _ _ (hb0 hb).1 (hb0 hb).2 dX0_rowOf_43 h
  rw [if_neg hx_7] at h
  by_cases hx_10 : x0 = (3 : Int32)
  · rw [if_pos hx_10] at h
    refine cf_tabIn E 3 dX0_rowOf_1 (i32_eqZ hx_10 (by decide)) (by decide) (by decide) rfl rfl ?_
    refine cf_iload_n E dX0_rowOf_44 1 rfl rfl ?_
    by_cases h0 : x1 < 0
    · rw [if_pos h0] at h
      refine xnewaZ_3 E hlt hlk h0 hb (rmle hR rfl rfl) (Nat.le_of_ble_eq_true rfl) dX0_rowOf_45 h (fun q_12 hb h => ?_)
      exact hx _ _ _ _ _ _ _ (hb0 hb).1 (hb0 hb).2 h
    rw [if_neg h0] at h
    refine xnewa_3 E hb dX0_rowOf_45 h rfl (fun q_11 hb h => ?_)
    exact hq _ _ _ _ _ _ (hb0 hb).1 (hb0 hb).2 dX0_rowOf_47 h
  rw [if_neg hx_10] at h
  have hx_1 := i32_neZ (z := 0) hx_1 (by decide)
  have hx_4 := i32_neZ (z := 1) hx_4 (by decide)
  have hx_7 := i32_neZ (z := 2) hx_7 (by decide)
  have hx_10 := i32_neZ (z := 3) hx_10 (by decide)
  refine cf_tabOut E dX0_rowOf_1 (by omega) rfl ?_
  refine cf_iload_n E dX0_rowOf_48 1 rfl rfl ?_
  by_cases h0 : x1 < 0
  · rw [if_pos h0] at h
    refine xnewaZ_2 E hlt hlk h0 hb (rmle hR rfl rfl) (Nat.le_of_ble_eq_true rfl) dX0_rowOf_49 h (fun q_14 hb h => ?_)
    exact hx _ _ _ _ _ _ _ (hb0 hb).1 (hb0 hb).2 h
  rw [if_neg h0] at h
  refine xnewa_2 E hb dX0_rowOf_49 h rfl (fun q_13 hb h => ?_)
  exact hq _ _ _ _ _ _ (hb0 hb).1 (hb0 hb).2 dX0_rowOf_51 h
def y0_tape_32 (N : Nat) (g : XG)  (K : Int32 → XS → Prop)  (x1 : Int32) (x2 : Int32) (x3 : Int32) (ξ : XS) (mc ms : Nat) : Prop :=
  if inb x1 6 = true then (
  if x2 = (-1 : Int32) then (
    nx (sXo ξ (100 + x1.toNatClampNeg) none) fun s_10 =>
    K (1 : Int32) s_10)
  else (
    bnyx (y0_rowOf N g x2 x3 ξ) mc ms (fun m_2 n_3 e_6 q_7 s_8 =>
      e_6 = "java/lang/NegativeArraySizeException" ∧ (
      K (-14 : Int32) s_8)) fun m_2 n_3 v_5 s_4 =>
    nx (sXo s_4 (100 + x1.toNatClampNeg) (some v_5)) fun s_9 =>
    K (1 : Int32) s_9)) else False
def y0_tape (N : Nat) (g : XG)  (x1 : Int32) (x2 : Int32) (x3 : Int32) (ξ : XS) (mc ms : Nat) (K : Int32 → XS → Prop) : Prop :=
  bndp (x0_isTape N g x1 ξ) fun v_2 s_1 =>
  if v_2 = 0 then (
    K (-1 : Int32) s_1)
  else (
    bndp (x0_in N g x2 (-1 : Int32) (4 : Int32) s_1) fun v_4 s_3 =>
    if v_4 = 0 then (
      K (-2 : Int32) s_3)
    else (
      if x2 = (-1 : Int32) then (
        y0_tape_32 N g K x1 x2 x3 s_3 mc ms)
      else (
        if x3 ≤ (60 : Int32) then (
          y0_tape_32 N g K x1 x2 x3 s_3 mc ms)
        else (
          K (-2 : Int32) s_3))))
section XC
variable {p : Program} {l : Launch} {e : Env} {R : Room} {s : State} {m : MethodId} {args : Array Value} {below : List Frame} {meth : Method} {c : Code} {nL cells slots : Nat} {A : Nat → Prop} {g : XG} {ξ : XS} {Q : State → Prop} {pc n : Nat} {lv : List (Nat × Value)} {st : List Value} {cc : ByteArray} {ρ : Type} {res : ρ}
theorem zclX0_392 (E : EV p s m args c cc nL RX0) (hlt : l.stackTraces = false) {N mc ms : Nat}   {x0 : Int32} {x1 : Int32} {kx : Nat → Nat → String → Nat → XS → Prop} {kk : Nat → Nat → Nat → XS → Prop} (hR : 9 ≤ R.frames ∧ 10269 ≤ R.locals) (hcat : (st.map fun v => v.category).sum ≤ 8) (hb : cells + mc ≤ R.cells ∧ slots + ms ≤ R.slots) (d : decode cc pc = .ok (.invokestatic 392, 3)) (h : bnyx (y0_rowOf N g  x0 x1 ξ) mc ms kx kk) (hn : pc + 3 = n) (kX : ∀ (m1 n1 : Nat) (E9 : String) (q : Nat) (ξ1 : XS), (cells + m1 + (mc - m1) ≤ R.cells ∧ slots + n1 + (ms - n1) ≤ R.slots) → kx m1 n1 E9 q ξ1 → CX p l e R s m args below meth c nL (cells + m1) (slots + n1) (XB g A s ξ1) Q pc lv E9 q) (k : ∀ (m1 n1 : Nat) (v : Nat) (ξ1 : XS), (cells + m1 + (mc - m1) ≤ R.cells ∧ slots + n1 + (ms - n1) ≤ R.slots) → kk m1 n1 v ξ1 → CF p l e R s m args below meth c nL (cells + m1) (slots + n1) (XB g A s ξ1) Q n lv (.ref v :: st)) : CF p l e R s m args below meth c nL cells slots (XB g A s ξ) Q pc lv (.int x1 :: .int x0 :: st) := by
  obtain ⟨m1, n1, h1, h2, h⟩ := h
  exact zcallS_r (na := 2) E [.int x0, .int x1] (met_y0_rowOf l g N   x0 x1 ξ m1 n1 _ _ hlt h) (lw_S q1423 q1424 q96 q1425) (by decide +kernel) hR rfl rfl hcat ⟨by omega, by omega⟩ d hn (fun v ξ1 hk => k m1 n1 v ξ1 ⟨by omega, by omega⟩ hk) (fun E9 q ξ1 hk => kX m1 n1 E9 q ξ1 ⟨by omega, by omega⟩ hk)
end XC
set_option maxHeartbeats 4000000 in
theorem wy0_tape_32 {p : Program} {l : Launch} {e : Env} {R : Room} {s : State} {m : MethodId} {args : Array Value} {below : List Frame} {meth : Method} {c : Code} {A : Nat → Prop} {g : XG} {Q : State → Prop} {K : Int32 → XS → Prop} (E : EV p s m args c cX0_tape 5 RX0) (hlt : l.stackTraces = false) (hlk : meth.locks = false) (htab : c.exceptionTable.toList = tableOf [((32 : Nat), (56 : Nat), (57 : Nat), (396 : Nat))]) (hR : 9 ≤ R.frames ∧ 10269 ≤ R.locals) (hq : YTi p l e R s m args below meth c cX0_tape 5 A g .int Q K) (N : Nat)    (x1 : Int32) (x2 : Int32) (x3 : Int32) (ξ : XS) (mc ms cells slots : Nat) (hb : cells + mc ≤ R.cells ∧ slots + ms ≤ R.slots) (h : y0_tape_32 N g  K  x1 x2 x3 ξ mc ms) : CF p l e R s m args below meth c 5 cells slots (XB g A s ξ) Q 32 [(0, .ref (xa g 0)), (1, .int x1), (2, .int x2), (3, .int x3)] [] := by
  unfold y0_tape_32 at h
  refine cf_aload_n E dX0_tape_32 0 rfl rfl ?_
  refine xgX0_79 E dX0_tape_33 rfl ?_
  refine cf_iload_n E dX0_tape_36 1 rfl rfl ?_
  refine xaltp E dX0_tape_37 h rfl (fun ht_1 h => ?_)
  refine cf_iload_n E dX0_tape_38 2 rfl rfl ?_
  refine cf_iconst E dX0_tape_39 ic_m1 rfl ?_
  refine cf_icmp_nep E dX0_tape_40 h rfl rfl (fun h => ?_) (fun h => ?_)
  · refine cf_iload_n E dX0_tape_47 2 rfl rfl ?_
    refine cf_iload_n E dX0_tape_48 3 rfl rfl ?_
    refine zclX0_392 E hlt (rmle hR rfl rfl) (Nat.le_of_ble_eq_true rfl) hb dX0_tape_49 h rfl (fun m_2 n_3 e_6 q_7 s_8 hb h => ?_) (fun m_2 n_3 v_5 s_4 hb h => ?_)
    · obtain ⟨hE9, h⟩ := h
      subst hE9
      refine cx_catch E htab [] ⟨32, 56, 57, 396⟩ [] rfl (fun z hz => nomatch hz) rfl (by decide) q1409 q1421 rfl ?_
      refine cf_astore E dX0_tape_57 [(4, .ref q_7), (0, .ref (xa g 0)), (1, .int x1), (2, .int x2), (3, .int x3)] (Nat.le_of_ble_eq_true rfl) rfl rfl ?_
      refine cf_bipush E dX0_tape_59 bp_m14 rfl ?_
      exact hq _ _ _ _ _ _ (hb0 hb).1 (hb0 hb).2 dX0_tape_61 rfl h
    refine xpPX0_351p (v := (some v_5)) E ht_1 dX0_tape_52 h rfl (fun s_9 h => ?_)
    refine cf_iconst E dX0_tape_55 ic_1 rfl ?_
    exact hq _ _ _ _ _ _ (hb0 hb).1 (hb0 hb).2 dX0_tape_56 rfl h
  · refine cf_null E dX0_tape_43 rfl ?_
    refine cf_goto E dX0_tape_44 rfl ?_
    refine xpPX0_351p (v := none) E ht_1 dX0_tape_52 h rfl (fun s_10 h => ?_)
    refine cf_iconst E dX0_tape_55 ic_1 rfl ?_
    exact hq _ _ _ _ _ _ (hb0 hb).1 (hb0 hb).2 dX0_tape_56 rfl h
set_option maxHeartbeats 4000000 in
theorem met_y0_tape (l : Launch) (g : XG) (N : Nat)   (x1 : Int32) (x2 : Int32) (x3 : Int32) (ξ : XS) (mc ms : Nat) (K : Int32 → XS → Prop) (hlt : l.stackTraces = false) (h : y0_tape N g  x1 x2 x3 ξ mc ms K) : MetZi l g yX0_tape (wsW_ yX0_tape cX0_tape 5 (some .int) [((32 : Nat), (56 : Nat), (57 : Nat), (396 : Nat))]) 9 10269 [.ref (xa g 0), .int x1, .int x2, .int x3] ξ mc ms K (fun _ _ _ => False) := by
  refine met_zhi (lv0 := [(0, .ref (xa g 0)), (1, .int x1), (2, .int x2), (3, .int x3)]) (own := RX0) (by decide) rfl (Nat.le_of_ble_eq_true rfl) rfl ?_
  intro p e s m below meth c A Q E hmn hlk htab hq
  have hR : 9 ≤ ({ frames := 9, cells := mc, slots := ms, locals := 10269 } : Room).frames ∧ 10269 ≤ ({ frames := 9, cells := mc, slots := ms, locals := 10269 } : Room).locals := ⟨Nat.le_refl _, Nat.le_refl _⟩
  have hb : 0 + mc ≤ ({ frames := 9, cells := mc, slots := ms, locals := 10269 } : Room).cells ∧ 0 + ms ≤ ({ frames := 9, cells := mc, slots := ms, locals := 10269 } : Room).slots := ⟨Nat.le_of_eq (Nat.zero_add _), Nat.le_of_eq (Nat.zero_add _)⟩
  unfold y0_tape at h
  refine cf_iload_n E dX0_tape_0 1 rfl rfl ?_
  refine xclX0_348p E (rmle hR rfl rfl) (Nat.le_of_ble_eq_true rfl) (hb0 hb) dX0_tape_1 h rfl (fun v_2 s_1 h => ?_)
  refine cf_if_nep E dX0_tape_4 h rfl rfl (fun h => ?_) (fun h => ?_)
  · refine cf_iload_n E dX0_tape_9 2 rfl rfl ?_
    refine cf_iconst E dX0_tape_10 ic_m1 rfl ?_
    refine cf_iconst E dX0_tape_11 ic_4 rfl ?_
    refine xclX0_130p E (rmle hR rfl rfl) (Nat.le_of_ble_eq_true rfl) (hb0 hb) dX0_tape_12 h rfl (fun v_4 s_3 h => ?_)
    refine cf_if_eqp E dX0_tape_15 h rfl rfl (fun h => ?_) (fun h => ?_)
    · refine cf_bipush E dX0_tape_29 bp_m2 rfl ?_
      exact hq _ _ _ _ _ _ (hb0 hb).1 (hb0 hb).2 dX0_tape_31 rfl h
    · refine cf_iload_n E dX0_tape_18 2 rfl rfl ?_
      refine cf_iconst E dX0_tape_19 ic_m1 rfl ?_
      refine cf_icmp_eqp E dX0_tape_20 h rfl rfl (fun h => ?_) (fun h => ?_)
      · exact CF.sub [0, 1, 2, 3] rfl (wy0_tape_32 E hlt hlk htab hR hq N x1 x2 x3 s_3 mc ms _ _ hb h)
      · refine cf_iload_n E dX0_tape_23 3 rfl rfl ?_
        refine cf_bipush E dX0_tape_24 bp_60 rfl ?_
        refine cf_icmp_lep E dX0_tape_26 h rfl rfl (fun h => ?_) (fun h => ?_)
        · exact CF.sub [0, 1, 2, 3] rfl (wy0_tape_32 E hlt hlk htab hR hq N x1 x2 x3 s_3 mc ms _ _ hb h)
        · refine cf_bipush E dX0_tape_29 bp_m2 rfl ?_
          exact hq _ _ _ _ _ _ (hb0 hb).1 (hb0 hb).2 dX0_tape_31 rfl h
  · refine cf_iconst E dX0_tape_7 ic_m1 rfl ?_
    exact hq _ _ _ _ _ _ (hb0 hb).1 (hb0 hb).2 dX0_tape_8 rfl h
def y0_firstOther_2b (N : Nat) (g : XG)  (K : Int32 → XS → Prop)  (rec2 : Option Nat → Int32 → Int32 → XS → Nat → Nat → Prop) (x1 : Option Nat) (x2 : Int32) (x3 : Int32) (ξ : XS) (mc ms : Nat) : Prop :=
  if (xF ξ 202) ≤ x3 then (
    K (-5 : Int32) ξ)
  else (
    nx (((x2.toInt64) + (x3.toInt64)) : Int64) fun x4_1 =>
    bnulx x1 (mkX 1 8 mc ms fun q_2 =>
      K (x3 + (100 : Int32)) ξ) fun b_3 =>
    bnop (dLen ξ b_3 (xc g 1)) fun n_4 =>
    if 0 ≤ (lg_cmp x4_1 ((Int32.ofNat n_4).toInt64)) then (
      mkOff ξ (-13 : Int32) mc ms fun q_5 s_7 =>
      if isC s_7 q_5 16 16 = true then (
      K (x3 + (100 : Int32)) s_7) else False)
    else (
      if 0 ≤ (lg_cmp x4_1 (0 : Int64)) then (
        bndp (dA ξ b_3 (xc g 1)) fun n_8 f_9 =>
        if inb (x4_1.toInt32) n_8 = true then (
        if inb x3 6 = true then (
        if (f_9 (x4_1.toInt32).toNatClampNeg) = (xR ξ 200 x3.toNatClampNeg) then (
          nx (x3 + (1 : Int32)) fun x3_10 =>
          rec2 (some b_3) x2 x3_10 ξ mc ms)
        else (
          K x3 ξ)) else False) else False)
      else (
        mkOff ξ (-13 : Int32) mc ms fun q_11 s_13 =>
        if isC s_13 q_11 16 16 = true then (
        K (x3 + (100 : Int32)) s_13) else False)))
def y0_firstOther_2 (N : Nat) (g : XG)  (K : Int32 → XS → Prop)  : Nat → Option Nat → Int32 → Int32 → XS → Nat → Nat → Prop
  | 0 => fun _ _ _ _ _ _ => False
  | k + 1 => fun x1 x2 x3 ξ mc ms => y0_firstOther_2b N g  K  (y0_firstOther_2 N g  K  k) x1 x2 x3 ξ mc ms
def y0_firstOther (N : Nat) (g : XG)  (x1 : Option Nat) (x2 : Int32) (ξ : XS) (mc ms : Nat) (K : Int32 → XS → Prop) : Prop :=
  nx ((0 : Int32) : Int32) fun x3_1 =>
  y0_firstOther_2 N g K N x1 x2 x3_1 ξ mc ms
set_option maxHeartbeats 4000000 in
theorem wy0_firstOther_2b {p : Program} {l : Launch} {e : Env} {R : Room} {s : State} {m : MethodId} {args : Array Value} {below : List Frame} {meth : Method} {c : Code} {A : Nat → Prop} {g : XG} {Q : State → Prop} {K : Int32 → XS → Prop} (E : EV p s m args c cX0_firstOther 6 RX0) (hlt : l.stackTraces = false) (hlk : meth.locks = false) (htab : c.exceptionTable.toList = tableOf [((2 : Nat), (64 : Nat), (74 : Nat), (346 : Nat)), ((65 : Nat), (73 : Nat), (74 : Nat), (346 : Nat)), ((2 : Nat), (64 : Nat), (81 : Nat), (242 : Nat)), ((65 : Nat), (73 : Nat), (81 : Nat), (242 : Nat))]) (hR : 8 ≤ R.frames ∧ 10248 ≤ R.locals) (hq : YTi p l e R s m args below meth c cX0_firstOther 6 A g .int Q K) (N : Nat)    {rec2 : Option Nat → Int32 → Int32 → XS → Nat → Nat → Prop} (ih2 : ∀ (x1 : Option Nat) (x2 : Int32) (x3 : Int32) (ξ : XS) (mc ms cells slots : Nat), (cells + mc ≤ R.cells ∧ slots + ms ≤ R.slots) → rec2 x1 x2 x3 ξ mc ms → CF p l e R s m args below meth c 6 cells slots (XB g A s ξ) Q 2 [(0, .ref (xa g 0)), (1, va_rf x1), (2, .int x2), (3, .int x3)] []) (x1 : Option Nat) (x2 : Int32) (x3 : Int32) (ξ : XS) (mc ms cells slots : Nat) (hb : cells + mc ≤ R.cells ∧ slots + ms ≤ R.slots) (h : y0_firstOther_2b N g  K  rec2 x1 x2 x3 ξ mc ms) : CF p l e R s m args below meth c 6 cells slots (XB g A s ξ) Q 2 [(0, .ref (xa g 0)), (1, va_rf x1), (2, .int x2), (3, .int x3)] [] := by
  unfold y0_firstOther_2b at h
  refine cf_iload_n E dX0_firstOther_2 3 rfl rfl ?_
  refine cf_aload_n E dX0_firstOther_3 0 rfl rfl ?_
  refine xgX0_30 E dX0_firstOther_4 rfl ?_
  refine xgX0_126_0 E dX0_firstOther_7 rfl ?_
  refine cf_icmp_gep E dX0_firstOther_10 h rfl rfl (fun h => ?_) (fun h => ?_)
  · refine cf_bipush E dX0_firstOther_71 bp_m5 rfl ?_
    exact hq _ _ _ _ _ _ (hb0 hb).1 (hb0 hb).2 dX0_firstOther_73 rfl h
  · refine cf_iload_n E dX0_firstOther_13 2 rfl rfl ?_
    refine cf_i2l E dX0_firstOther_14 rfl ?_
    refine cf_iload_n E dX0_firstOther_15 3 rfl rfl ?_
    refine cf_i2l E dX0_firstOther_16 rfl ?_
    refine cf_ladd E dX0_firstOther_17 rfl ?_
    refine cf_lstorep E dX0_firstOther_18 h (fun x4_1 => [(4, .long x4_1), (0, .ref (xa g 0)), (1, va_rf x1), (2, .int x2), (3, .int x3)]) (Nat.le_of_ble_eq_true rfl) (fun _ => rfl) rfl (fun x4_1 h => ?_)
    refine cf_lload E dX0_firstOther_20 0 rfl rfl ?_
    refine cf_aload_nQ E dX0_firstOther_22 2 rfl rfl ?_
    refine xsplitx h (fun hv9 h => ?_) (fun b_3 hv9 h => ?_)
    · refine xlenN E hlt hlk hb (rmle hR rfl rfl) (Nat.le_of_ble_eq_true rfl) dX0_firstOther_23 h (fun q_2 hb h => ?_)
      refine cx_catch E htab [] ⟨2, 64, 74, 346⟩ [⟨65, 73, 74, 346⟩, ⟨2, 64, 81, 242⟩, ⟨65, 73, 81, 242⟩] rfl (fun z hz => nomatch hz) rfl (by decide) q1279 q1295 rfl ?_
      refine cf_astore E dX0_firstOther_74 [(4, .ref q_2), (0, .ref (xa g 0)), (1, va_rf x1), (2, .int x2), (3, .int x3)] (Nat.le_of_ble_eq_true rfl) rfl rfl ?_
      refine cf_iload_n E dX0_firstOther_76 4 rfl rfl ?_
      refine cf_bipush E dX0_firstOther_77 bp_100 rfl ?_
      refine cf_iadd E dX0_firstOther_79 rfl ?_
      exact hq _ _ _ _ _ _ (hb0 hb).1 (hb0 hb).2 dX0_firstOther_80 rfl h
    subst hv9
    refine xlenA_1p E dX0_firstOther_23 h rfl (fun n_4 h => ?_)
    refine cf_i2l E dX0_firstOther_24 rfl ?_
    refine cf_lcmp E dX0_firstOther_25 rfl ?_
    refine cf_if_gep E dX0_firstOther_26 h rfl rfl (fun h => ?_) (fun h => ?_)
    · obtain ⟨hm9, hs9, h⟩ := h
      refine xnewO E q718 hb hm9 hs9 dX0_firstOther_36 rfl (fun q_5 hq9 hb => ?_)
      refine cf_dup E dX0_firstOther_39 rfl rfl ?_
      refine cf_bipush E dX0_firstOther_40 bp_m13 rfl ?_
      refine xinitO E hlt hq9 q1298 (rmle hR rfl rfl) (hb0 hb) (Nat.le_of_ble_eq_true rfl) dX0_firstOther_42 rfl (fun fs_6 h19 h29 => ?_)
      have h := h q_5 fs_6 hq9 h19 h29
      generalize (pXd ξ q_5 (.inr (16, fs_6))) = s_7 at h ⊢
      refine cx_athrowC E dX0_firstOther_45 h (fun h => ?_)
      refine cx_catch E htab [⟨2, 64, 74, 346⟩, ⟨65, 73, 74, 346⟩] ⟨2, 64, 81, 242⟩ [⟨65, 73, 81, 242⟩] rfl (fun z hz => by
          simp only [List.mem_cons, List.not_mem_nil, or_false] at hz
          rcases hz with rfl | rfl
          · exact Or.inr ⟨by decide, "java/lang/NullPointerException", q1279, by decide +kernel⟩
          · exact Or.inl rfl) rfl (by decide) q718 q820 rfl ?_
      refine cf_astore E dX0_firstOther_81 [(4, .ref q_5), (0, .ref (xa g 0)), (1, .ref b_3), (2, .int x2), (3, .int x3)] (Nat.le_of_ble_eq_true rfl) rfl rfl ?_
      refine cf_iload_n E dX0_firstOther_83 4 rfl rfl ?_
      refine cf_bipush E dX0_firstOther_84 bp_100 rfl ?_
      refine cf_iadd E dX0_firstOther_86 rfl ?_
      exact hq _ _ _ _ _ _ (hb0 hb).1 (hb0 hb).2 dX0_firstOther_87 rfl h
    · refine cf_lload E dX0_firstOther_29 0 rfl rfl ?_
      refine cf_lconst E dX0_firstOther_31 lc_0 rfl ?_
      refine cf_lcmp E dX0_firstOther_32 rfl ?_
      refine cf_if_gep E dX0_firstOther_33 h rfl rfl (fun h => ?_) (fun h => ?_)
      · refine cf_aload_n E dX0_firstOther_46 2 rfl rfl ?_
        refine cf_lload E dX0_firstOther_47 0 rfl rfl ?_
        refine cf_l2i E dX0_firstOther_49 rfl ?_
        refine xdald_bp E dX0_firstOther_50 h rfl (fun n_8 f_9 h => ?_)
        refine cf_aload_n E dX0_firstOther_51 1 rfl rfl ?_
        refine xgX0_30 E dX0_firstOther_52 rfl ?_
        refine xgX0_137_0 E dX0_firstOther_55 rfl ?_
        refine cf_iload_n E dX0_firstOther_58 4 rfl rfl ?_
        refine xaldT_0_0p E dX0_firstOther_59 h rfl (fun h => ?_)
        refine cf_icmp_eqp E dX0_firstOther_60 h rfl rfl (fun h => ?_) (fun h => ?_)
        · refine cf_iincp E dX0_firstOther_65 ic_1 h 4 rfl (fun x3_10 => [(3, .int x3_10), (4, .long x4_1), (0, .ref (xa g 0)), (1, .ref b_3), (2, .int x2)]) (Nat.le_of_ble_eq_true rfl) (fun _ => rfl) rfl (fun x3_10 h => ?_)
          refine cf_goto E dX0_firstOther_68 rfl ?_
          exact CF.sub [2, 3, 4, 0] rfl (ih2 (some b_3) x2 x3_10 ξ mc ms _ _ hb h)
        · refine cf_iload_n E dX0_firstOther_63 4 rfl rfl ?_
          exact hq _ _ _ _ _ _ (hb0 hb).1 (hb0 hb).2 dX0_firstOther_64 rfl h
      · obtain ⟨hm9, hs9, h⟩ := h
        refine xnewO E q718 hb hm9 hs9 dX0_firstOther_36 rfl (fun q_11 hq9 hb => ?_)
        refine cf_dup E dX0_firstOther_39 rfl rfl ?_
        refine cf_bipush E dX0_firstOther_40 bp_m13 rfl ?_
        refine xinitO E hlt hq9 q1298 (rmle hR rfl rfl) (hb0 hb) (Nat.le_of_ble_eq_true rfl) dX0_firstOther_42 rfl (fun fs_12 h19 h29 => ?_)
        have h := h q_11 fs_12 hq9 h19 h29
        generalize (pXd ξ q_11 (.inr (16, fs_12))) = s_13 at h ⊢
        refine cx_athrowC E dX0_firstOther_45 h (fun h => ?_)
        refine cx_catch E htab [⟨2, 64, 74, 346⟩, ⟨65, 73, 74, 346⟩] ⟨2, 64, 81, 242⟩ [⟨65, 73, 81, 242⟩] rfl (fun z hz => by
            simp only [List.mem_cons, List.not_mem_nil, or_false] at hz
            rcases hz with rfl | rfl
            · exact Or.inr ⟨by decide, "java/lang/NullPointerException", q1279, by decide +kernel⟩
            · exact Or.inl rfl) rfl (by decide) q718 q820 rfl ?_
        refine cf_astore E dX0_firstOther_81 [(4, .ref q_11), (0, .ref (xa g 0)), (1, .ref b_3), (2, .int x2), (3, .int x3)] (Nat.le_of_ble_eq_true rfl) rfl rfl ?_
        refine cf_iload_n E dX0_firstOther_83 4 rfl rfl ?_
        refine cf_bipush E dX0_firstOther_84 bp_100 rfl ?_
        refine cf_iadd E dX0_firstOther_86 rfl ?_
        exact hq _ _ _ _ _ _ (hb0 hb).1 (hb0 hb).2 dX0_firstOther_87 rfl h
set_option maxHeartbeats 4000000 in
theorem wy0_firstOther_2 {p : Program} {l : Launch} {e : Env} {R : Room} {s : State} {m : MethodId} {args : Array Value} {below : List Frame} {meth : Method} {c : Code} {A : Nat → Prop} {g : XG} {Q : State → Prop} {K : Int32 → XS → Prop} (E : EV p s m args c cX0_firstOther 6 RX0) (hlt : l.stackTraces = false) (hlk : meth.locks = false) (htab : c.exceptionTable.toList = tableOf [((2 : Nat), (64 : Nat), (74 : Nat), (346 : Nat)), ((65 : Nat), (73 : Nat), (74 : Nat), (346 : Nat)), ((2 : Nat), (64 : Nat), (81 : Nat), (242 : Nat)), ((65 : Nat), (73 : Nat), (81 : Nat), (242 : Nat))]) (hR : 8 ≤ R.frames ∧ 10248 ≤ R.locals) (hq : YTi p l e R s m args below meth c cX0_firstOther 6 A g .int Q K) (N : Nat)    : ∀ (k : Nat) (x1 : Option Nat) (x2 : Int32) (x3 : Int32) (ξ : XS) (mc ms cells slots : Nat), (cells + mc ≤ R.cells ∧ slots + ms ≤ R.slots) → y0_firstOther_2 N g  K  k x1 x2 x3 ξ mc ms → CF p l e R s m args below meth c 6 cells slots (XB g A s ξ) Q 2 [(0, .ref (xa g 0)), (1, va_rf x1), (2, .int x2), (3, .int x3)] [] := by
  intro k
  induction k with
  | zero => intro x1 x2 x3 ξ mc ms cells slots hb h; have h : False := h; cases h
  | succ k ih => intro x1 x2 x3 ξ mc ms cells slots hb h; exact wy0_firstOther_2b E hlt hlk htab hR hq N    ih x1 x2 x3 ξ mc ms cells slots hb h
set_option maxHeartbeats 4000000 in
theorem met_y0_firstOther (l : Launch) (g : XG) (N : Nat)   (x1 : Option Nat) (x2 : Int32) (ξ : XS) (mc ms : Nat) (K : Int32 → XS → Prop) (hlt : l.stackTraces = false) (h : y0_firstOther N g  x1 x2 ξ mc ms K) : MetZi l g yX0_firstOther (wsW_ yX0_firstOther cX0_firstOther 6 (some .int) [((2 : Nat), (64 : Nat), (74 : Nat), (346 : Nat)), ((65 : Nat), (73 : Nat), (74 : Nat), (346 : Nat)), ((2 : Nat), (64 : Nat), (81 : Nat), (242 : Nat)), ((65 : Nat), (73 : Nat), (81 : Nat), (242 : Nat))]) 8 10248 [.ref (xa g 0), va_rf x1, .int x2] ξ mc ms K (fun _ _ _ => False) := by
  refine met_zhi (lv0 := [(0, .ref (xa g 0)), (1, va_rf x1), (2, .int x2)]) (own := RX0) (by decide) rfl (by cases x1 <;> exact Nat.le_of_ble_eq_true rfl) (by cases x1 <;> rfl) ?_
  intro p e s m below meth c A Q E hmn hlk htab hq
  have hR : 8 ≤ ({ frames := 8, cells := mc, slots := ms, locals := 10248 } : Room).frames ∧ 10248 ≤ ({ frames := 8, cells := mc, slots := ms, locals := 10248 } : Room).locals := ⟨Nat.le_refl _, Nat.le_refl _⟩
  have hb : 0 + mc ≤ ({ frames := 8, cells := mc, slots := ms, locals := 10248 } : Room).cells ∧ 0 + ms ≤ ({ frames := 8, cells := mc, slots := ms, locals := 10248 } : Room).slots := ⟨Nat.le_of_eq (Nat.zero_add _), Nat.le_of_eq (Nat.zero_add _)⟩
  unfold y0_firstOther at h
  refine cf_iconst E dX0_firstOther_0 ic_0 rfl ?_
  refine cf_istore_np E dX0_firstOther_1 h (fun x3_1 => [(3, .int x3_1), (0, .ref (xa g 0)), (1, va_rf x1), (2, .int x2)]) (Nat.le_of_ble_eq_true rfl) (fun _ => rfl) rfl (fun x3_1 h => ?_)
  exact CF.sub [1, 2, 3, 0] rfl (wy0_firstOther_2 E hlt hlk htab hR hq N N x1 x2 x3_1 ξ mc ms _ _ hb h)
