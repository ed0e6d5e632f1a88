/-! HatsDecide, group r3: rows, functions, walks -/
set_option maxRecDepth 100000
section XC
variable {p : Program} {l : Launch} {e : Env} {R : Room} {s : State} {m : MethodId} {args : Array Value} {below : List Frame} {meth : Method} {c : Code} {nL cells slots : Nat} {A : Nat → Prop} {g : XG} {ξ : XS} {Q : State → Prop} {pc n : Nat} {lv : List (Nat × Value)} {st : List Value} {cc : ByteArray} {ρ : Type} {res : ρ}
theorem xdgX14_12 (E : EV p s m args c cc nL RX14) {a : Nat} {kk : Nat → Option ρ} (d : decode cc pc = .ok (.getfield 12, 3)) (h : bno (dR ξ a 15 15 4) kk = some res) (hn : pc + 3 = n) (k : ∀ v : Nat, kk v = some res → CF p l e R s m args below meth c nL cells slots (XB g A s ξ) Q n lv (.ref v :: st)) : CF p l e R s m args below meth c nL cells slots (XB g A s ξ) Q pc lv (.ref a :: st) := by
  subst hn
  obtain ⟨v, hi, h⟩ := bno_some h
  obtain ⟨ci, fs, he, h1, h2, hv⟩ := dR_at hi
  obtain ⟨q0, hq⟩ := dE_at (g := g) he
  intro H locs ls hB hl
  have hci : ci = 15 := by omega
  subst hci
  exact va_get (D := g.1) (ci := 15) (C := RX14) (T := TX14) (N := 5) E.1 E.2.1 E.2.2.2.2 in_X14 E.2.2.2.1 hB.2.2.2.1 hB.1 q0 hq rfl 4 (Nat.le_of_ble_eq_true rfl) (E.2.2.2.2 _ q731) (fun _ h9 => h9) hv d (k v h H locs ls hB hl)
theorem xdgX14_106 (E : EV p s m args c cc nL RX14) {a : Nat} {kk : Nat → Option ρ} (d : decode cc pc = .ok (.getfield 106, 3)) (h : bno (dR ξ a 3 3 0) kk = some res) (hn : pc + 3 = n) (k : ∀ v : Nat, kk v = some res → CF p l e R s m args below meth c nL cells slots (XB g A s ξ) Q n lv (.ref v :: st)) : CF p l e R s m args below meth c nL cells slots (XB g A s ξ) Q pc lv (.ref a :: st) := by
  subst hn
  obtain ⟨v, hi, h⟩ := bno_some h
  obtain ⟨ci, fs, he, h1, h2, hv⟩ := dR_at hi
  obtain ⟨q0, hq⟩ := dE_at (g := g) he
  intro H locs ls hB hl
  have hci : ci = 3 := by omega
  subst hci
  exact va_getN (D := g.1) (ci := 3) (C := RX2) (T := TX2) (N := 4) E.1 E.2.1 E.2.2.2.2 in_X2 E.2.2.2.1 hB.2.2.2.1 hB.1 q0 hq rfl 0 (Nat.le_of_ble_eq_true rfl) (va_Nw.use rfl (hB.2.2.2.2.2.1 _ q206 rfl)) (fun _ h9 => h9) hv d (k v h H locs ls hB hl)
theorem xnwX14_109 (E : EV p s m args c cc nL RX14) {mc ms : Nat} (hb : cells + mc ≤ R.cells ∧ slots + ms ≤ R.slots) {kk : Nat → Prop} (d : decode cc pc = .ok (.new 109, 3)) (h : mkc ξ 2 mc ms kk) (hn : pc + 3 = n) (k : ∀ q, (cells + 1 + (mc - 1) ≤ R.cells ∧ slots + 2 + (ms - 2) ≤ R.slots) → kk q → CF p l e R s m args below meth c nL (cells + 1) (slots + 2) (XB g A s (pXd ξ q (.inr (17, [.int 0, .null])))) Q n lv (.ref q :: st)) : CF p l e R s m args below meth c nL cells slots (XB g A s ξ) Q pc lv st :=
  xnew (C9 := RX16) (T := TX16) E in_X16 tyX16 tyX16_ok q907 q908 q124 rfl (fun j hj => by rcases (show j = 0 ∨ j = 1 by omega) with rfl | rfl <;> rfl) hb d h hn k
theorem xdgX14_12p (E : EV p s m args c cc nL RX14) {a : Nat} {kk : Nat → Prop} (d : decode cc pc = .ok (.getfield 12, 3)) (h : bnop (dR ξ a 15 15 4) kk) (hn : pc + 3 = n) (k : ∀ v : Nat, kk v → CF p l e R s m args below meth c nL cells slots (XB g A s ξ) Q n lv (.ref v :: st)) : CF p l e R s m args below meth c nL cells slots (XB g A s ξ) Q pc lv (.ref a :: st) := by
  subst hn
  obtain ⟨v, hi, h⟩ := h
  obtain ⟨ci, fs, he, h1, h2, hv⟩ := dR_at hi
  obtain ⟨q0, hq⟩ := dE_at (g := g) he
  intro H locs ls hB hl
  have hci : ci = 15 := by omega
  subst hci
  exact va_get (D := g.1) (ci := 15) (C := RX14) (T := TX14) (N := 5) E.1 E.2.1 E.2.2.2.2 in_X14 E.2.2.2.1 hB.2.2.2.1 hB.1 q0 hq rfl 4 (Nat.le_of_ble_eq_true rfl) (E.2.2.2.2 _ q731) (fun _ h9 => h9) hv d (k v h H locs ls hB hl)
theorem xdgX14_106p (E : EV p s m args c cc nL RX14) {a : Nat} {kk : Nat → Prop} (d : decode cc pc = .ok (.getfield 106, 3)) (h : bnop (dR ξ a 3 3 0) kk) (hn : pc + 3 = n) (k : ∀ v : Nat, kk v → CF p l e R s m args below meth c nL cells slots (XB g A s ξ) Q n lv (.ref v :: st)) : CF p l e R s m args below meth c nL cells slots (XB g A s ξ) Q pc lv (.ref a :: st) := by
  subst hn
  obtain ⟨v, hi, h⟩ := h
  obtain ⟨ci, fs, he, h1, h2, hv⟩ := dR_at hi
  obtain ⟨q0, hq⟩ := dE_at (g := g) he
  intro H locs ls hB hl
  have hci : ci = 3 := by omega
  subst hci
  exact va_getN (D := g.1) (ci := 3) (C := RX2) (T := TX2) (N := 4) E.1 E.2.1 E.2.2.2.2 in_X2 E.2.2.2.1 hB.2.2.2.1 hB.1 q0 hq rfl 0 (Nat.le_of_ble_eq_true rfl) (va_Nw.use rfl (hB.2.2.2.2.2.1 _ q206 rfl)) (fun _ h9 => h9) hv d (k v h H locs ls hB hl)
theorem xdgX14_116 (E : EV p s m args c cc nL RX14) {a : Nat} {kk : Nat → Option ρ} (d : decode cc pc = .ok (.getfield 116, 3)) (h : bno (dR ξ a 3 3 1) kk = some res) (hn : pc + 3 = n) (k : ∀ v : Nat, kk v = some res → CF p l e R s m args below meth c nL cells slots (XB g A s ξ) Q n lv (.ref v :: st)) : CF p l e R s m args below meth c nL cells slots (XB g A s ξ) Q pc lv (.ref a :: st) := by
  subst hn
  obtain ⟨v, hi, h⟩ := bno_some h
  obtain ⟨ci, fs, he, h1, h2, hv⟩ := dR_at hi
  obtain ⟨q0, hq⟩ := dE_at (g := g) he
  intro H locs ls hB hl
  have hci : ci = 3 := by omega
  subst hci
  exact va_getN (D := g.1) (ci := 3) (C := RX2) (T := TX2) (N := 4) E.1 E.2.1 E.2.2.2.2 in_X2 E.2.2.2.1 hB.2.2.2.1 hB.1 q0 hq rfl 1 (Nat.le_of_ble_eq_true rfl) (va_Nw.use rfl (hB.2.2.2.2.2.1 _ q208 rfl)) (fun _ h9 => h9) hv d (k v h H locs ls hB hl)
theorem xdgX14_116p (E : EV p s m args c cc nL RX14) {a : Nat} {kk : Nat → Prop} (d : decode cc pc = .ok (.getfield 116, 3)) (h : bnop (dR ξ a 3 3 1) kk) (hn : pc + 3 = n) (k : ∀ v : Nat, kk v → CF p l e R s m args below meth c nL cells slots (XB g A s ξ) Q n lv (.ref v :: st)) : CF p l e R s m args below meth c nL cells slots (XB g A s ξ) Q pc lv (.ref a :: st) := by
  subst hn
  obtain ⟨v, hi, h⟩ := h
  obtain ⟨ci, fs, he, h1, h2, hv⟩ := dR_at hi
  obtain ⟨q0, hq⟩ := dE_at (g := g) he
  intro H locs ls hB hl
  have hci : ci = 3 := by omega
  subst hci
  exact va_getN (D := g.1) (ci := 3) (C := RX2) (T := TX2) (N := 4) E.1 E.2.1 E.2.2.2.2 in_X2 E.2.2.2.1 hB.2.2.2.1 hB.1 q0 hq rfl 1 (Nat.le_of_ble_eq_true rfl) (va_Nw.use rfl (hB.2.2.2.2.2.1 _ q208 rfl)) (fun _ h9 => h9) hv d (k v h H locs ls hB hl)
theorem xdgX14_136 (E : EV p s m args c cc nL RX14) {a : Nat} {kk : Int32 → Option ρ} (d : decode cc pc = .ok (.getfield 136, 3)) (h : bno (dI ξ a 3 3 2) kk = some res) (hn : pc + 3 = n) (k : ∀ v : Int32, kk v = some res → CF p l e R s m args below meth c nL cells slots (XB g A s ξ) Q n lv (.int v :: st)) : CF p l e R s m args below meth c nL cells slots (XB g A s ξ) Q pc lv (.ref a :: st) := by
  subst hn
  obtain ⟨v, hi, h⟩ := bno_some h
  obtain ⟨ci, fs, he, h1, h2, hv⟩ := dI_at hi
  obtain ⟨q0, hq⟩ := dE_at (g := g) he
  intro H locs ls hB hl
  have hci : ci = 3 := by omega
  subst hci
  exact va_getN (D := g.1) (ci := 3) (C := RX2) (T := TX2) (N := 4) E.1 E.2.1 E.2.2.2.2 in_X2 E.2.2.2.1 hB.2.2.2.1 hB.1 q0 hq rfl 2 (Nat.le_of_ble_eq_true rfl) (va_Nw.use rfl (hB.2.2.2.2.2.1 _ q210 rfl)) (fun _ h9 => h9) hv d (k v h H locs ls hB hl)
theorem xdqX14_136 (E : EV p s m args c cc nL RX14) {a : Nat} {v : Int32} {kk : XS → Prop} (d : decode cc pc = .ok (.putfield 136, 3)) (h : bndp (dO ξ a) (fun ci fs => (if (ci = 3 ∧ 2 < fs.length) then nx (sXd ξ a (.inr (ci, fs.set 2 (.int v)))) kk else False))) (hn : pc + 3 = n) (k : ∀ ξ1 : XS, kk ξ1 → CF p l e R s m args below meth c nL cells slots (XB g A s ξ1) Q n lv st) : CF p l e R s m args below meth c nL cells slots (XB g A s ξ) Q pc lv (.int v :: .ref a :: st) := by
  obtain ⟨ci, fs, hO, h⟩ := h
  by_cases hi : (ci = 3 ∧ 2 < fs.length)
  · have h : (if (ci = 3 ∧ 2 < fs.length) then nx (sXd ξ a (.inr (ci, fs.set 2 (.int v)))) kk else False) := h
    rw [if_pos hi] at h
    have he := dO_at hO
    obtain ⟨rfl, hi⟩ : ci = 3 ∧ _ := hi
    have hi : True ∧ _ := ⟨trivial, hi⟩
    exact xdpN (C9 := RX2) (T := TX2) (N := 4) (ci := 3) (j := 2) (ty := .int) E in_X2 tyX2 tyX2_ok nmX2 rfl he (by decide) q210 (fun _ h9 => h9) rfl (by decide +kernel) rfl rfl hi.2 d hn (k _ h)
  · have h : (if (ci = 3 ∧ 2 < fs.length) then nx (sXd ξ a (.inr (ci, fs.set 2 (.int v)))) kk else False) := h
    rw [if_neg hi] at h; cases h
theorem xdgX14_136p (E : EV p s m args c cc nL RX14) {a : Nat} {kk : Int32 → Prop} (d : decode cc pc = .ok (.getfield 136, 3)) (h : bnop (dI ξ a 3 3 2) kk) (hn : pc + 3 = n) (k : ∀ v : Int32, kk v → CF p l e R s m args below meth c nL cells slots (XB g A s ξ) Q n lv (.int v :: st)) : CF p l e R s m args below meth c nL cells slots (XB g A s ξ) Q pc lv (.ref a :: st) := by
  subst hn
  obtain ⟨v, hi, h⟩ := h
  obtain ⟨ci, fs, he, h1, h2, hv⟩ := dI_at hi
  obtain ⟨q0, hq⟩ := dE_at (g := g) he
  intro H locs ls hB hl
  have hci : ci = 3 := by omega
  subst hci
  exact va_getN (D := g.1) (ci := 3) (C := RX2) (T := TX2) (N := 4) E.1 E.2.1 E.2.2.2.2 in_X2 E.2.2.2.1 hB.2.2.2.1 hB.1 q0 hq rfl 2 (Nat.le_of_ble_eq_true rfl) (va_Nw.use rfl (hB.2.2.2.2.2.1 _ q210 rfl)) (fun _ h9 => h9) hv d (k v h H locs ls hB hl)
theorem xdqX14_130 (E : EV p s m args c cc nL RX14) {a : Nat} {v : Int32} {kk : XS → Prop} (d : decode cc pc = .ok (.putfield 130, 3)) (h : bndp (dO ξ a) (fun ci fs => (if (ci = 3 ∧ 3 < fs.length) then nx (sXd ξ a (.inr (ci, fs.set 3 (.int v)))) kk else False))) (hn : pc + 3 = n) (k : ∀ ξ1 : XS, kk ξ1 → CF p l e R s m args below meth c nL cells slots (XB g A s ξ1) Q n lv st) : CF p l e R s m args below meth c nL cells slots (XB g A s ξ) Q pc lv (.int v :: .ref a :: st) := by
  obtain ⟨ci, fs, hO, h⟩ := h
  by_cases hi : (ci = 3 ∧ 3 < fs.length)
  · have h : (if (ci = 3 ∧ 3 < fs.length) then nx (sXd ξ a (.inr (ci, fs.set 3 (.int v)))) kk else False) := h
    rw [if_pos hi] at h
    have he := dO_at hO
    obtain ⟨rfl, hi⟩ : ci = 3 ∧ _ := hi
    have hi : True ∧ _ := ⟨trivial, hi⟩
    exact xdpN (C9 := RX2) (T := TX2) (N := 4) (ci := 3) (j := 3) (ty := .int) E in_X2 tyX2 tyX2_ok nmX2 rfl he (by decide) q212 (fun _ h9 => h9) rfl (by decide +kernel) rfl rfl hi.2 d hn (k _ h)
  · have h : (if (ci = 3 ∧ 3 < fs.length) then nx (sXd ξ a (.inr (ci, fs.set 3 (.int v)))) kk else False) := h
    rw [if_neg hi] at h; cases h
theorem xdgX14_22p (E : EV p s m args c cc nL RX14) {a : Nat} {kk : Int32 → Prop} (d : decode cc pc = .ok (.getfield 22, 3)) (h : bnop (dI ξ a 15 15 1) kk) (hn : pc + 3 = n) (k : ∀ v : Int32, kk v → CF p l e R s m args below meth c nL cells slots (XB g A s ξ) Q n lv (.int v :: st)) : CF p l e R s m args below meth c nL cells slots (XB g A s ξ) Q pc lv (.ref a :: st) := by
  subst hn
  obtain ⟨v, hi, h⟩ := h
  obtain ⟨ci, fs, he, h1, h2, hv⟩ := dI_at hi
  obtain ⟨q0, hq⟩ := dE_at (g := g) he
  intro H locs ls hB hl
  have hci : ci = 15 := by omega
  subst hci
  exact va_get (D := g.1) (ci := 15) (C := RX14) (T := TX14) (N := 5) E.1 E.2.1 E.2.2.2.2 in_X14 E.2.2.2.1 hB.2.2.2.1 hB.1 q0 hq rfl 1 (Nat.le_of_ble_eq_true rfl) (E.2.2.2.2 _ q728) (fun _ h9 => h9) hv d (k v h H locs ls hB hl)
end XC
def y14_tested (N : Nat) (g : XG) (a0 : Nat) (t1 : Nat) (x2 : Int32) (ξ : XS) (mc ms : Nat) (K : XS → Prop) (KX : String → Nat → XS → Prop) : Prop :=
  if isC ξ a0 15 15 = true then (
  bnyvx (y14_word N g a0 t1 ξ) mc ms (fun m_1 n_2 e_5 q_6 s_7 =>
    KX e_5 q_6 s_7) fun m_1 n_2 s_3 =>
  if isC s_3 a0 15 15 = true then (
  bnyx (y14_number N g a0 s_3) (mc - m_1) (ms - n_2) (fun m_8 n_9 e_12 q_13 s_14 =>
    KX e_12 q_13 s_14) fun m_8 n_9 v_11 s_10 =>
  nx (v_11 : Int32) fun x3_15 =>
  if isC s_10 a0 15 15 = true then (
  bnyvx (y14_must N g a0 (32 : Int32) s_10) ((mc - m_1) - m_8) ((ms - n_2) - n_9) (fun m_16 n_17 e_20 q_21 s_22 =>
    KX e_20 q_21 s_22) fun m_16 n_17 s_18 =>
  bnop (dR s_18 a0 15 15 4) fun b_23 =>
  bnop (dR s_18 b_23 3 3 0) fun b_24 =>
  mkc s_18 2 (((mc - m_1) - m_8) - m_16) (((ms - n_2) - n_9) - n_17) fun q_25 =>
  if isC (pXd s_18 q_25 (.inr (17, [.int 0, .null]))) a0 15 15 = true then (
  bnyx (y14_some N g (y14_factor N g 6) a0 (pXd s_18 q_25 (.inr (17, [.int 0, .null])))) ((((mc - m_1) - m_8) - m_16) - 1) ((((ms - n_2) - n_9) - n_17) - 2) (fun m_26 n_27 e_30 q_31 s_32 =>
    KX e_30 q_31 s_32) fun m_26 n_27 v_29 s_28 =>
  bnyv (y16_init N g q_25 (x2 * x3_15) v_29 s_28) (((((mc - m_1) - m_8) - m_16) - 1) - m_26) (((((ms - n_2) - n_9) - n_17) - 2) - n_27) fun m_33 n_34 s_35 =>
  if isC s_35 b_24 4 4 = true then (
  bny (yj2_add N g b_24 q_25 s_35) ((((((mc - m_1) - m_8) - m_16) - 1) - m_26) - m_33) ((((((ms - n_2) - n_9) - n_17) - 2) - n_27) - n_34) fun m_37 n_38 v_40 s_39 =>
  K s_39) else False) else False) else False) else False) else False
section XC
variable {p : Program} {l : Launch} {e : Env} {R : Room} {s : State} {m : MethodId} {args : Array Value} {below : List Frame} {meth : Method} {c : Code} {nL cells slots : Nat} {A : Nat → Prop} {g : XG} {ξ : XS} {Q : State → Prop} {pc n : Nat} {lv : List (Nat × Value)} {st : List Value} {cc : ByteArray} {ρ : Type} {res : ρ}
theorem zclX14_102 (E : EV p s m args c cc nL RX14) (hlt : l.stackTraces = false) {N mc ms : Nat} {a0 : Nat} {t1 : Nat} (ht1 : t1 < 4)  {kx : Nat → Nat → String → Nat → XS → Prop} {kk : Nat → Nat → XS → Prop} (hR : 9 ≤ R.frames ∧ 184 ≤ R.locals) (hcat : (st.map fun v => v.category).sum ≤ 8) (hb : cells + mc ≤ R.cells ∧ slots + ms ≤ R.slots) (d : decode cc pc = .ok (.invokevirtual 102, 3)) (h : if isC ξ a0 15 15 = true then bnyvx (y14_word N g a0 t1  ξ) mc ms kx kk else False) (hn : pc + 3 = n) (kX : ∀ (m1 n1 : Nat) (E9 : String) (q : Nat) (ξ1 : XS), (cells + m1 + (mc - m1) ≤ R.cells ∧ slots + n1 + (ms - n1) ≤ R.slots) → kx m1 n1 E9 q ξ1 → CX p l e R s m args below meth c nL (cells + m1) (slots + n1) (XB g A s ξ1) Q pc lv E9 q) (k : ∀ (m1 n1 : Nat) (ξ1 : XS), (cells + m1 + (mc - m1) ≤ R.cells ∧ slots + n1 + (ms - n1) ≤ R.slots) → kk m1 n1 ξ1 → CF p l e R s m args below meth c nL (cells + m1) (slots + n1) (XB g A s ξ1) Q n lv st) : CF p l e R s m args below meth c nL cells slots (XB g A s ξ) Q pc lv (.ref (xa g (410 + t1)) :: .ref a0 :: st) := by
  by_cases hi : ¬ isC ξ a0 15 15 = true
  · rw [if_neg hi] at h; cases h
  have hi : isC ξ a0 15 15 = true := Decidable.not_not.mp hi
  rw [if_pos hi] at h
  obtain ⟨ci, hci, h8, h9⟩ := isC_at hi
  have e9 : ci = 15 := by omega
  subst e9
  obtain ⟨m1, n1, h1, h2, h⟩ := h
  exact zcallV_v (na := 1) E [.ref (xa g (410 + t1))] (met_y14_word l g N a0 t1 ht1  ξ m1 n1 _ _ hlt h) (C9 := RX14) (lw_V q760 q762 qs7 q116 q763) (by decide +kernel) (xrecv_d (q := (RX14, TX14, 5)) hci rfl) hR rfl rfl hcat ⟨by omega, by omega⟩ d hn (fun ξ1 hk => k m1 n1 ξ1 ⟨by omega, by omega⟩ hk) (fun E9 q ξ1 hk => kX m1 n1 E9 q ξ1 ⟨by omega, by omega⟩ hk)
theorem zclX14_73 (E : EV p s m args c cc nL RX14) (hlt : l.stackTraces = false) {N mc ms : Nat} {a0 : Nat}   {kx : Nat → Nat → String → Nat → XS → Prop} {kk : Nat → Nat → Nat → XS → Prop} (hR : 33 ≤ R.frames ∧ 948 ≤ R.locals) (hcat : (st.map fun v => v.category).sum ≤ 8) (hb : cells + mc ≤ R.cells ∧ slots + ms ≤ R.slots) (d : decode cc pc = .ok (.invokevirtual 73, 3)) (h : if isC ξ a0 15 15 = true then bnyx (y14_some N g (y14_factor N g 6) a0 ξ) mc ms kx kk else False) (hn : pc + 3 = n) (kX : ∀ (m1 n1 : Nat) (E9 : String) (q : Nat) (ξ1 : XS), (cells + m1 + (mc - m1) ≤ R.cells ∧ slots + n1 + (ms - n1) ≤ R.slots) → kx m1 n1 E9 q ξ1 → CX p l e R s m args below meth c nL (cells + m1) (slots + n1) (XB g A s ξ1) Q pc lv E9 q) (k : ∀ (m1 n1 : Nat) (v : Nat) (ξ1 : XS), (cells + m1 + (mc - m1) ≤ R.cells ∧ slots + n1 + (ms - n1) ≤ R.slots) → kk m1 n1 v ξ1 → CF p l e R s m args below meth c nL (cells + m1) (slots + n1) (XB g A s ξ1) Q n lv (.ref v :: st)) : CF p l e R s m args below meth c nL cells slots (XB g A s ξ) Q pc lv (.ref a0 :: st) := by
  by_cases hi : ¬ isC ξ a0 15 15 = true
  · rw [if_neg hi] at h; cases h
  have hi : isC ξ a0 15 15 = true := Decidable.not_not.mp hi
  rw [if_pos hi] at h
  obtain ⟨ci, hci, h8, h9⟩ := isC_at hi
  have e9 : ci = 15 := by omega
  subst e9
  obtain ⟨m1, n1, h1, h2, h⟩ := h
  exact zcallV_r (na := 0) E [] (met_y14_some l g N 6 (hs_factor l g N hlt 6) a0 ξ m1 n1 _ _ hlt h) (C9 := RX14) (lw_V q909 q911 qs13 q116 q912) (by decide +kernel) (xrecv_d (q := (RX14, TX14, 5)) hci rfl) hR rfl rfl hcat ⟨by omega, by omega⟩ d hn (fun v ξ1 hk => k m1 n1 v ξ1 ⟨by omega, by omega⟩ hk) (fun E9 q ξ1 hk => kX m1 n1 E9 q ξ1 ⟨by omega, by omega⟩ hk)
theorem yclX14_111 (E : EV p s m args c cc nL RX14) {N mc ms : Nat} {a0 : Nat}  {x1 : Int32} {x2 : Nat} {kk : Nat → Nat → XS → Prop} (hR : 2 ≤ R.frames ∧ 62 ≤ R.locals) (hcat : (st.map fun v => v.category).sum ≤ 8) (hb : cells + mc ≤ R.cells ∧ slots + ms ≤ R.slots) (d : decode cc pc = .ok (.invokespecial 111, 3)) (h : bnyv (y16_init N g a0 x1 x2 ξ) mc ms kk) (hn : pc + 3 = n) (k : ∀ (m1 n1 : Nat) (ξ1 : XS), (cells + m1 + (mc - m1) ≤ R.cells ∧ slots + n1 + (ms - n1) ≤ R.slots) → kk m1 n1 ξ1 → CF p l e R s m args below meth c nL (cells + m1) (slots + n1) (XB g A s ξ1) Q n lv st) : CF p l e R s m args below meth c nL cells slots (XB g A s ξ) Q pc lv (.ref x2 :: .int x1 :: .ref a0 :: st) := by
  obtain ⟨m1, n1, h1, h2, h⟩ := h
  exact ycallI_v (na := 2) E [.int x1, .ref x2] (met_y16_init l g N a0  x1 x2 ξ m1 n1 _ h) (lw_meth q1043) q124 q1041 q1042 (by decide +kernel) hR rfl rfl hcat ⟨by omega, by omega⟩ d hn (fun ξ1 hk => k m1 n1 ξ1 ⟨by omega, by omega⟩ hk)
end XC
set_option maxHeartbeats 4000000 in
theorem met_y14_tested (l : Launch) (g : XG) (N : Nat) (a0 : Nat) (t1 : Nat) (ht1 : t1 < 4) (x2 : Int32) (ξ : XS) (mc ms : Nat) (K : XS → Prop) (KX : String → Nat → XS → Prop) (hlt : l.stackTraces = false) (h : y14_tested N g a0 t1 x2 ξ mc ms K KX) : MetZv l g yX14_tested (ws_ yX14_tested cX14_tested 4 none) 33 948 [.ref a0, .ref (xa g (410 + t1)), .int x2] ξ mc ms K KX := by
  refine met_zv (lv0 := [(0, .ref a0), (1, .ref (xa g (410 + t1))), (2, .int x2)]) (own := RX14) (by decide) rfl (Nat.le_of_ble_eq_true rfl) rfl ?_
  intro p e s m below meth c A Q E hmn hlk hx hq
  have hR : 33 ≤ ({ frames := 33, cells := mc, slots := ms, locals := 948 } : Room).frames ∧ 948 ≤ ({ frames := 33, cells := mc, slots := ms, locals := 948 } : Room).locals := ⟨Nat.le_refl _, Nat.le_refl _⟩
  have hb : 0 + mc ≤ ({ frames := 33, cells := mc, slots := ms, locals := 948 } : Room).cells ∧ 0 + ms ≤ ({ frames := 33, cells := mc, slots := ms, locals := 948 } : Room).slots := ⟨Nat.le_of_eq (Nat.zero_add _), Nat.le_of_eq (Nat.zero_add _)⟩
  unfold y14_tested at h
  refine cf_aload_n E dX14_tested_0 0 rfl rfl ?_
  refine cf_aload_n E dX14_tested_1 1 rfl rfl ?_
  refine zclX14_102 (t1 := t1) E hlt ht1 (rmle hR rfl rfl) (Nat.le_of_ble_eq_true rfl) hb dX14_tested_2 h rfl (fun m_1 n_2 e_5 q_6 s_7 hb h => ?_) (fun m_1 n_2 s_3 hb h => ?_)
  · exact hx _ _ _ _ _ _ _ (hb0 hb).1 (hb0 hb).2 h
  refine cf_aload_n E dX14_tested_5 0 rfl rfl ?_
  refine zclX14_78 E hlt (rmle hR rfl rfl) (Nat.le_of_ble_eq_true rfl) hb dX14_tested_6 h rfl (fun m_8 n_9 e_12 q_13 s_14 hb h => ?_) (fun m_8 n_9 v_11 s_10 hb h => ?_)
  · exact hx _ _ _ _ _ _ _ (hb0 hb).1 (hb0 hb).2 h
  refine cf_istore_np E dX14_tested_9 h (fun x3_15 => [(3, .int x3_15), (0, .ref a0), (1, .ref (xa g (410 + t1))), (2, .int x2)]) (Nat.le_of_ble_eq_true rfl) (fun _ => rfl) rfl (fun x3_15 h => ?_)
  refine cf_aload_n E dX14_tested_10 1 rfl rfl ?_
  refine cf_bipush E dX14_tested_11 bp_32 rfl ?_
  refine zclX14_51 E hlt (rmle hR rfl rfl) (Nat.le_of_ble_eq_true rfl) hb dX14_tested_13 h rfl (fun m_16 n_17 e_20 q_21 s_22 hb h => ?_) (fun m_16 n_17 s_18 hb h => ?_)
  · exact hx _ _ _ _ _ _ _ (hb0 hb).1 (hb0 hb).2 h
  refine cf_aload_n E dX14_tested_16 1 rfl rfl ?_
  refine xdgX14_12p E dX14_tested_17 h rfl (fun b_23 h => ?_)
  refine xdgX14_106p E dX14_tested_20 h rfl (fun b_24 h => ?_)
  refine xnwX14_109 E hb dX14_tested_23 h rfl (fun q_25 hb h => ?_)
  refine cf_dup E dX14_tested_26 rfl rfl ?_
  refine cf_iload_n E dX14_tested_27 3 rfl rfl ?_
  refine cf_iload_n E dX14_tested_28 0 rfl rfl ?_
  refine cf_imul E dX14_tested_29 rfl ?_
  refine cf_aload_n E dX14_tested_30 1 rfl rfl ?_
  refine zclX14_73 E hlt (rmle hR rfl rfl) (Nat.le_of_ble_eq_true rfl) hb dX14_tested_31 h rfl (fun m_26 n_27 e_30 q_31 s_32 hb h => ?_) (fun m_26 n_27 v_29 s_28 hb h => ?_)
  · exact hx _ _ _ _ _ _ _ (hb0 hb).1 (hb0 hb).2 h
  refine yclX14_111 E (rmle hR rfl rfl) (Nat.le_of_ble_eq_true rfl) hb dX14_tested_34 h rfl (fun m_33 n_34 s_35 hb h => ?_)
  refine yclX14_93 E (rmle hR rfl rfl) (Nat.le_of_ble_eq_true rfl) hb dX14_tested_37 h rfl (fun m_37 n_38 v_40 s_39 hb h => ?_)
  refine cf_pop E dX14_tested_40 rfl rfl ?_
  exact hq _ _ _ _ _ (hb0 hb).1 (hb0 hb).2 dX14_tested_41 h
def y14_work (N : Nat) (g : XG) (a0 : Nat)  (ξ : XS) (mc ms : Nat) (K : XS → Prop) (KX : String → Nat → XS → Prop) : Prop :=
  if isC ξ a0 15 15 = true then (
  bnyvx (y14_word N g a0 3 ξ) mc ms (fun m_1 n_2 e_5 q_6 s_7 =>
    KX e_5 q_6 s_7) fun m_1 n_2 s_3 =>
  if isC s_3 a0 15 15 = true then (
  bnyx (y14_number N g a0 s_3) (mc - m_1) (ms - n_2) (fun m_8 n_9 e_12 q_13 s_14 =>
    KX e_12 q_13 s_14) fun m_8 n_9 v_11 s_10 =>
  nx (v_11 : Int32) fun x1_15 =>
  if isC s_10 a0 15 15 = true then (
  bnyvx (y14_must N g a0 (32 : Int32) s_10) ((mc - m_1) - m_8) ((ms - n_2) - n_9) (fun m_16 n_17 e_20 q_21 s_22 =>
    KX e_20 q_21 s_22) fun m_16 n_17 s_18 =>
  if isC s_18 a0 15 15 = true then (
  bnyx (y14_number N g a0 s_18) (((mc - m_1) - m_8) - m_16) (((ms - n_2) - n_9) - n_17) (fun m_23 n_24 e_27 q_28 s_29 =>
    KX e_27 q_28 s_29) fun m_23 n_24 v_26 s_25 =>
  nx (v_26 : Int32) fun x2_30 =>
  if (5 : Int32) ≤ x1_15 then (
    K s_25)
  else (
    bnop (dR s_25 a0 15 15 4) fun b_31 =>
    bnop (dR s_25 b_31 3 3 1) fun b_32 =>
    bndp (dA s_25 b_32 (xc g 0)) fun n_34 f_35 => if inb x1_15 n_34 = true then nx (sXd s_25 b_32 (.inl (xc g 0, n_34, .inl (upd f_35 x1_15.toNatClampNeg x2_30)))) (fun s_33 =>
    K s_33) else False)) else False) else False) else False) else False
set_option maxHeartbeats 4000000 in
theorem met_y14_work (l : Launch) (g : XG) (N : Nat) (a0 : Nat)   (ξ : XS) (mc ms : Nat) (K : XS → Prop) (KX : String → Nat → XS → Prop) (hlt : l.stackTraces = false) (h : y14_work N g a0  ξ mc ms K KX) : MetZv l g yX14_work (ws_ yX14_work cX14_work 3 none) 9 184 [.ref a0] ξ mc ms K KX := by
  refine met_zv (lv0 := [(0, .ref a0)]) (own := RX14) (by decide) rfl (Nat.le_of_ble_eq_true rfl) rfl ?_
  intro p e s m below meth c A Q E hmn hlk hx hq
  have hR : 9 ≤ ({ frames := 9, cells := mc, slots := ms, locals := 184 } : Room).frames ∧ 184 ≤ ({ frames := 9, cells := mc, slots := ms, locals := 184 } : Room).locals := ⟨Nat.le_refl _, Nat.le_refl _⟩
  have hb : 0 + mc ≤ ({ frames := 9, cells := mc, slots := ms, locals := 184 } : Room).cells ∧ 0 + ms ≤ ({ frames := 9, cells := mc, slots := ms, locals := 184 } : Room).slots := ⟨Nat.le_of_eq (Nat.zero_add _), Nat.le_of_eq (Nat.zero_add _)⟩
  unfold y14_work at h
  refine cf_aload_n E dX14_work_0 0 rfl rfl ?_
  refine xldcS_114 E dX14_work_1 rfl ?_
  refine zclX14_102 (t1 := 3) E hlt (by decide) (rmle hR rfl rfl) (Nat.le_of_ble_eq_true rfl) hb dX14_work_3 h rfl (fun m_1 n_2 e_5 q_6 s_7 hb h => ?_) (fun m_1 n_2 s_3 hb h => ?_)
  · exact hx _ _ _ _ _ _ _ (hb0 hb).1 (hb0 hb).2 h
  refine cf_aload_n E dX14_work_6 0 rfl rfl ?_
  refine zclX14_78 E hlt (rmle hR rfl rfl) (Nat.le_of_ble_eq_true rfl) hb dX14_work_7 h rfl (fun m_8 n_9 e_12 q_13 s_14 hb h => ?_) (fun m_8 n_9 v_11 s_10 hb h => ?_)
  · exact hx _ _ _ _ _ _ _ (hb0 hb).1 (hb0 hb).2 h
  refine cf_istore_np E dX14_work_10 h (fun x1_15 => [(1, .int x1_15), (0, .ref a0)]) (Nat.le_of_ble_eq_true rfl) (fun _ => rfl) rfl (fun x1_15 h => ?_)
  refine cf_aload_n E dX14_work_11 1 rfl rfl ?_
  refine cf_bipush E dX14_work_12 bp_32 rfl ?_
  refine zclX14_51 E hlt (rmle hR rfl rfl) (Nat.le_of_ble_eq_true rfl) hb dX14_work_14 h rfl (fun m_16 n_17 e_20 q_21 s_22 hb h => ?_) (fun m_16 n_17 s_18 hb h => ?_)
  · exact hx _ _ _ _ _ _ _ (hb0 hb).1 (hb0 hb).2 h
  refine cf_aload_n E dX14_work_17 1 rfl rfl ?_
  refine zclX14_78 E hlt (rmle hR rfl rfl) (Nat.le_of_ble_eq_true rfl) hb dX14_work_18 h rfl (fun m_23 n_24 e_27 q_28 s_29 hb h => ?_) (fun m_23 n_24 v_26 s_25 hb h => ?_)
  · exact hx _ _ _ _ _ _ _ (hb0 hb).1 (hb0 hb).2 h
  refine cf_istore_np E dX14_work_21 h (fun x2_30 => [(2, .int x2_30), (1, .int x1_15), (0, .ref a0)]) (Nat.le_of_ble_eq_true rfl) (fun _ => rfl) rfl (fun x2_30 h => ?_)
  refine cf_iload_n E dX14_work_22 1 rfl rfl ?_
  refine cf_iconst E dX14_work_23 ic_5 rfl ?_
  refine cf_icmp_gep E dX14_work_24 h rfl rfl (fun h => ?_) (fun h => ?_)
  · exact hq _ _ _ _ _ (hb0 hb).1 (hb0 hb).2 dX14_work_37 h
  · refine cf_aload_n E dX14_work_27 2 rfl rfl ?_
    refine xdgX14_12p E dX14_work_28 h rfl (fun b_31 h => ?_)
    refine xdgX14_116p E dX14_work_31 h rfl (fun b_32 h => ?_)
    refine cf_iload_n E dX14_work_34 1 rfl rfl ?_
    refine cf_iload_n E dX14_work_35 0 rfl rfl ?_
    refine xdast_ip E dX14_work_36 h rfl (fun s_33 h => ?_)
    exact hq _ _ _ _ _ (hb0 hb).1 (hb0 hb).2 dX14_work_37 h
def y14_clause_100 (N : Nat) (g : XG) (a0 : Nat) (K : XS → Prop) (KX : String → Nat → XS → Prop)   (ξ : XS) (mc ms : Nat) : Prop :=
  bnop (dR ξ a0 15 15 4) fun b_1 =>
  bnop (dI ξ b_1 3 3 2) fun v_2 =>
  bndp (dO ξ b_1) fun ci_4 fs_5 => if (ci_4 = 3 ∧ 2 < fs_5.length) then nx (sXd ξ b_1 (.inr (ci_4, fs_5.set 2 (.int (v_2 + (1 : Int32)))))) (fun s_3 =>
  K s_3) else False
def y14_clause (N : Nat) (g : XG) (a0 : Nat)  (ξ : XS) (mc ms : Nat) (K : XS → Prop) (KX : String → Nat → XS → Prop) : Prop :=
  if isC ξ a0 15 15 = true then (
  bndp (x14_here N g a0 ξ) fun v_2 s_1 =>
  if v_2 = (103 : Int32) then (
    if isC s_1 a0 15 15 = true then (
    bnyvx (y14_tested N g a0 1 (-1 : Int32) s_1) mc ms (fun m_4 n_5 e_8 q_9 s_10 =>
      KX e_8 q_9 s_10) fun m_4 n_5 s_6 =>
    y14_clause_100 N g a0 K KX s_6 (mc - m_4) (ms - n_5)) else False)
  else
  if v_2 = (109 : Int32) then (
    if isC s_1 a0 15 15 = true then (
    bnyvx (y14_word N g a0 2 s_1) mc ms (fun m_12 n_13 e_16 q_17 s_18 =>
      KX e_16 q_17 s_18) fun m_12 n_13 s_14 =>
    bnop (dR s_14 a0 15 15 4) fun b_19 =>
    if isC s_14 a0 15 15 = true then (
    bnyx (y14_number N g a0 s_14) (mc - m_12) (ms - n_13) (fun m_20 n_21 e_24 q_25 s_26 =>
      KX e_24 q_25 s_26) fun m_20 n_21 v_23 s_22 =>
    bndp (dO s_22 b_19) fun ci_28 fs_29 => if (ci_28 = 3 ∧ 3 < fs_29.length) then nx (sXd s_22 b_19 (.inr (ci_28, fs_29.set 3 (.int v_23)))) (fun s_27 =>
    y14_clause_100 N g a0 K KX s_27 ((mc - m_12) - m_20) ((ms - n_13) - n_21)) else False) else False) else False)
  else
  if v_2 = (115 : Int32) then (
    if isC s_1 a0 15 15 = true then (
    bnyvx (y14_tested N g a0 0 (1 : Int32) s_1) mc ms (fun m_31 n_32 e_35 q_36 s_37 =>
      KX e_35 q_36 s_37) fun m_31 n_32 s_33 =>
    y14_clause_100 N g a0 K KX s_33 (mc - m_31) (ms - n_32)) else False)
  else
  if v_2 = (119 : Int32) then (
    if isC s_1 a0 15 15 = true then (
    bnyvx (y14_work N g a0 s_1) mc ms (fun m_39 n_40 e_43 q_44 s_45 =>
      KX e_43 q_44 s_45) fun m_39 n_40 s_41 =>
    y14_clause_100 N g a0 K KX s_41 (mc - m_39) (ms - n_40)) else False)
  else
  if isC s_1 a0 15 15 = true then (
  bnyx (y14_off N g a0 s_1) mc ms (fun m_46 n_47 e_50 q_51 s_52 =>
    KX e_50 q_51 s_52) fun m_46 n_47 v_49 s_48 =>
  if isC s_48 v_49 16 16 = true then (
  KX "HatsDecide$Off" v_49 s_48) else False) else False) else False
section XC
variable {p : Program} {l : Launch} {e : Env} {R : Room} {s : State} {m : MethodId} {args : Array Value} {below : List Frame} {meth : Method} {c : Code} {nL cells slots : Nat} {A : Nat → Prop} {g : XG} {ξ : XS} {Q : State → Prop} {pc n : Nat} {lv : List (Nat × Value)} {st : List Value} {cc : ByteArray} {ρ : Type} {res : ρ}
theorem zclX14_122 (E : EV p s m args c cc nL RX14) (hlt : l.stackTraces = false) {N mc ms : Nat} {a0 : Nat} {t1 : Nat} (ht1 : t1 < 4) {x2 : Int32} {kx : Nat → Nat → String → Nat → XS → Prop} {kk : Nat → Nat → XS → Prop} (hR : 34 ≤ R.frames ∧ 971 ≤ R.locals) (hcat : (st.map fun v => v.category).sum ≤ 8) (hb : cells + mc ≤ R.cells ∧ slots + ms ≤ R.slots) (d : decode cc pc = .ok (.invokevirtual 122, 3)) (h : if isC ξ a0 15 15 = true then bnyvx (y14_tested N g a0 t1 x2 ξ) mc ms kx kk else False) (hn : pc + 3 = n) (kX : ∀ (m1 n1 : Nat) (E9 : String) (q : Nat) (ξ1 : XS), (cells + m1 + (mc - m1) ≤ R.cells ∧ slots + n1 + (ms - n1) ≤ R.slots) → kx m1 n1 E9 q ξ1 → CX p l e R s m args below meth c nL (cells + m1) (slots + n1) (XB g A s ξ1) Q pc lv E9 q) (k : ∀ (m1 n1 : Nat) (ξ1 : XS), (cells + m1 + (mc - m1) ≤ R.cells ∧ slots + n1 + (ms - n1) ≤ R.slots) → kk m1 n1 ξ1 → CF p l e R s m args below meth c nL (cells + m1) (slots + n1) (XB g A s ξ1) Q n lv st) : CF p l e R s m args below meth c nL cells slots (XB g A s ξ) Q pc lv (.int x2 :: .ref (xa g (410 + t1)) :: .ref a0 :: st) := by
  by_cases hi : ¬ isC ξ a0 15 15 = true
  · rw [if_neg hi] at h; cases h
  have hi : isC ξ a0 15 15 = true := Decidable.not_not.mp hi
  rw [if_pos hi] at h
  obtain ⟨ci, hci, h8, h9⟩ := isC_at hi
  have e9 : ci = 15 := by omega
  subst e9
  obtain ⟨m1, n1, h1, h2, h⟩ := h
  exact zcallV_v (na := 2) E [.ref (xa g (410 + t1)), .int x2] (met_y14_tested l g N a0 t1 ht1 x2 ξ m1 n1 _ _ hlt h) (C9 := RX14) (lw_V q756 q758 qs6 q116 q759) (by decide +kernel) (xrecv_d (q := (RX14, TX14, 5)) hci rfl) hR rfl rfl hcat ⟨by omega, by omega⟩ d hn (fun ξ1 hk => k m1 n1 ξ1 ⟨by omega, by omega⟩ hk) (fun E9 q ξ1 hk => kX m1 n1 E9 q ξ1 ⟨by omega, by omega⟩ hk)
theorem zclX14_133 (E : EV p s m args c cc nL RX14) (hlt : l.stackTraces = false) {N mc ms : Nat} {a0 : Nat}   {kx : Nat → Nat → String → Nat → XS → Prop} {kk : Nat → Nat → XS → Prop} (hR : 10 ≤ R.frames ∧ 206 ≤ R.locals) (hcat : (st.map fun v => v.category).sum ≤ 8) (hb : cells + mc ≤ R.cells ∧ slots + ms ≤ R.slots) (d : decode cc pc = .ok (.invokevirtual 133, 3)) (h : if isC ξ a0 15 15 = true then bnyvx (y14_work N g a0  ξ) mc ms kx kk else False) (hn : pc + 3 = n) (kX : ∀ (m1 n1 : Nat) (E9 : String) (q : Nat) (ξ1 : XS), (cells + m1 + (mc - m1) ≤ R.cells ∧ slots + n1 + (ms - n1) ≤ R.slots) → kx m1 n1 E9 q ξ1 → CX p l e R s m args below meth c nL (cells + m1) (slots + n1) (XB g A s ξ1) Q pc lv E9 q) (k : ∀ (m1 n1 : Nat) (ξ1 : XS), (cells + m1 + (mc - m1) ≤ R.cells ∧ slots + n1 + (ms - n1) ≤ R.slots) → kk m1 n1 ξ1 → CF p l e R s m args below meth c nL (cells + m1) (slots + n1) (XB g A s ξ1) Q n lv st) : CF p l e R s m args below meth c nL cells slots (XB g A s ξ) Q pc lv (.ref a0 :: st) := by
  by_cases hi : ¬ isC ξ a0 15 15 = true
  · rw [if_neg hi] at h; cases h
  have hi : isC ξ a0 15 15 = true := Decidable.not_not.mp hi
  rw [if_pos hi] at h
  obtain ⟨ci, hci, h8, h9⟩ := isC_at hi
  have e9 : ci = 15 := by omega
  subst e9
  obtain ⟨m1, n1, h1, h2, h⟩ := h
  exact zcallV_v (na := 0) E [] (met_y14_work l g N a0   ξ m1 n1 _ _ hlt h) (C9 := RX14) (lw_V q1056 q1058 qs20 q116 q1059) (by decide +kernel) (xrecv_d (q := (RX14, TX14, 5)) hci rfl) hR rfl rfl hcat ⟨by omega, by omega⟩ d hn (fun ξ1 hk => k m1 n1 ξ1 ⟨by omega, by omega⟩ hk) (fun E9 q ξ1 hk => kX m1 n1 E9 q ξ1 ⟨by omega, by omega⟩ hk)
end XC
set_option maxHeartbeats 4000000 in
theorem wy14_clause_100 {p : Program} {l : Launch} {e : Env} {R : Room} {s : State} {m : MethodId} {args : Array Value} {below : List Frame} {meth : Method} {c : Code} {A : Nat → Prop} {g : XG} {Q : State → Prop} {K : XS → Prop} {KX : String → Nat → XS → Prop} (E : EV p s m args c cX14_clause 1 RX14) (hlt : l.stackTraces = false) (hlk : meth.locks = false) (hx : ZX p l e R s m args below meth c 1 A g Q KX) (hR : 34 ≤ R.frames ∧ 971 ≤ R.locals) (hq : YTv p l e R s m args below meth c cX14_clause 1 A g Q K) (N : Nat) (a0 : Nat)    (ξ : XS) (mc ms cells slots : Nat) (hb : cells + mc ≤ R.cells ∧ slots + ms ≤ R.slots) (h : y14_clause_100 N g a0 K KX   ξ mc ms) : CF p l e R s m args below meth c 1 cells slots (XB g A s ξ) Q 100 [(0, .ref a0)] [] := by
  unfold y14_clause_100 at h
  refine cf_aload_n E dX14_clause_100 0 rfl rfl ?_
  refine xdgX14_12p E dX14_clause_101 h rfl (fun b_1 h => ?_)
  refine cf_dup E dX14_clause_104 rfl rfl ?_
  refine xdgX14_136p E dX14_clause_105 h rfl (fun v_2 h => ?_)
  refine cf_iconst E dX14_clause_108 ic_1 rfl ?_
  refine cf_iadd E dX14_clause_109 rfl ?_
  refine xdqX14_136 E dX14_clause_110 h rfl (fun s_3 h => ?_)
  exact hq _ _ _ _ _ (hb0 hb).1 (hb0 hb).2 dX14_clause_113 h
set_option maxHeartbeats 4000000 in
theorem met_y14_clause (l : Launch) (g : XG) (N : Nat) (a0 : Nat)   (ξ : XS) (mc ms : Nat) (K : XS → Prop) (KX : String → Nat → XS → Prop) (hlt : l.stackTraces = false) (h : y14_clause N g a0  ξ mc ms K KX) : MetZv l g yX14_clause (ws_ yX14_clause cX14_clause 1 none) 34 971 [.ref a0] ξ mc ms K KX := by
  refine met_zv (lv0 := [(0, .ref a0)]) (own := RX14) (by decide) rfl (Nat.le_of_ble_eq_true rfl) rfl ?_
  intro p e s m below meth c A Q E hmn hlk hx hq
  have hR : 34 ≤ ({ frames := 34, cells := mc, slots := ms, locals := 971 } : Room).frames ∧ 971 ≤ ({ frames := 34, cells := mc, slots := ms, locals := 971 } : Room).locals := ⟨Nat.le_refl _, Nat.le_refl _⟩
  have hb : 0 + mc ≤ ({ frames := 34, cells := mc, slots := ms, locals := 971 } : Room).cells ∧ 0 + ms ≤ ({ frames := 34, cells := mc, slots := ms, locals := 971 } : Room).slots := ⟨Nat.le_of_eq (Nat.zero_add _), Nat.le_of_eq (Nat.zero_add _)⟩
  unfold y14_clause at h
  refine cf_aload_n E dX14_clause_0 0 rfl rfl ?_
  refine xclX14_34p E (rmle hR rfl rfl) (Nat.le_of_ble_eq_true rfl) (hb0 hb) dX14_clause_1 h rfl (fun v_2 s_1 h => ?_)
  by_cases hx_3 : v_2 = (103 : Int32)
  · rw [if_pos hx_3] at h
    refine cf_look E dX14_clause_4 (by decide) (by rw [i32_eqZ (z := 103) hx_3 (by decide)]) rfl ?_
    refine cf_aload_n E dX14_clause_58 0 rfl rfl ?_
    refine xldcS_126 E dX14_clause_59 rfl ?_
    refine cf_iconst E dX14_clause_61 ic_m1 rfl ?_
    refine zclX14_122 (t1 := 1) E hlt (by decide) (rmle hR rfl rfl) (Nat.le_of_ble_eq_true rfl) hb dX14_clause_62 h rfl (fun m_4 n_5 e_8 q_9 s_10 hb h => ?_) (fun m_4 n_5 s_6 hb h => ?_)
    · exact hx _ _ _ _ _ _ _ (hb0 hb).1 (hb0 hb).2 h
    refine cf_goto E dX14_clause_65 rfl ?_
    exact CF.sub [0] rfl (wy14_clause_100 E hlt hlk hx hR hq N a0 s_6 (mc - m_4) (ms - n_5) _ _ hb h)
  rw [if_neg hx_3] at h
  by_cases hx_11 : v_2 = (109 : Int32)
  · rw [if_pos hx_11] at h
    refine cf_look E dX14_clause_4 (by decide) (by rw [i32_eqZ (z := 109) hx_11 (by decide)]) rfl ?_
    refine cf_aload_n E dX14_clause_68 0 rfl rfl ?_
    refine xldcS_128 E dX14_clause_69 rfl ?_
    refine zclX14_102 (t1 := 2) E hlt (by decide) (rmle hR rfl rfl) (Nat.le_of_ble_eq_true rfl) hb dX14_clause_71 h rfl (fun m_12 n_13 e_16 q_17 s_18 hb h => ?_) (fun m_12 n_13 s_14 hb h => ?_)
    · exact hx _ _ _ _ _ _ _ (hb0 hb).1 (hb0 hb).2 h
    refine cf_aload_n E dX14_clause_74 0 rfl rfl ?_
    refine xdgX14_12p E dX14_clause_75 h rfl (fun b_19 h => ?_)
    refine cf_aload_n E dX14_clause_78 0 rfl rfl ?_
    refine zclX14_78 E hlt (rmle hR rfl rfl) (Nat.le_of_ble_eq_true rfl) hb dX14_clause_79 h rfl (fun m_20 n_21 e_24 q_25 s_26 hb h => ?_) (fun m_20 n_21 v_23 s_22 hb h => ?_)
    · exact hx _ _ _ _ _ _ _ (hb0 hb).1 (hb0 hb).2 h
    refine xdqX14_130 E dX14_clause_82 h rfl (fun s_27 h => ?_)
    refine cf_goto E dX14_clause_85 rfl ?_
    exact CF.sub [0] rfl (wy14_clause_100 E hlt hlk hx hR hq N a0 s_27 ((mc - m_12) - m_20) ((ms - n_13) - n_21) _ _ hb h)
  rw [if_neg hx_11] at h
  by_cases hx_30 : v_2 = (115 : Int32)
  · rw [if_pos hx_30] at h
    refine cf_look E dX14_clause_4 (by decide) (by rw [i32_eqZ (z := 115) hx_30 (by decide)]) rfl ?_
    refine cf_aload_n E dX14_clause_48 0 rfl rfl ?_
    refine xldcS_120 E dX14_clause_49 rfl ?_
    refine cf_iconst E dX14_clause_51 ic_1 rfl ?_
    refine zclX14_122 (t1 := 0) E hlt (by decide) (rmle hR rfl rfl) (Nat.le_of_ble_eq_true rfl) hb dX14_clause_52 h rfl (fun m_31 n_32 e_35 q_36 s_37 hb h => ?_) (fun m_31 n_32 s_33 hb h => ?_)
    · exact hx _ _ _ _ _ _ _ (hb0 hb).1 (hb0 hb).2 h
    refine cf_goto E dX14_clause_55 rfl ?_
    exact CF.sub [0] rfl (wy14_clause_100 E hlt hlk hx hR hq N a0 s_33 (mc - m_31) (ms - n_32) _ _ hb h)
  rw [if_neg hx_30] at h
  by_cases hx_38 : v_2 = (119 : Int32)
  · rw [if_pos hx_38] at h
    refine cf_look E dX14_clause_4 (by decide) (by rw [i32_eqZ (z := 119) hx_38 (by decide)]) rfl ?_
    refine cf_aload_n E dX14_clause_88 0 rfl rfl ?_
    refine zclX14_133 E hlt (rmle hR rfl rfl) (Nat.le_of_ble_eq_true rfl) hb dX14_clause_89 h rfl (fun m_39 n_40 e_43 q_44 s_45 hb h => ?_) (fun m_39 n_40 s_41 hb h => ?_)
    · exact hx _ _ _ _ _ _ _ (hb0 hb).1 (hb0 hb).2 h
    refine cf_goto E dX14_clause_92 rfl ?_
    exact CF.sub [0] rfl (wy14_clause_100 E hlt hlk hx hR hq N a0 s_41 (mc - m_39) (ms - n_40) _ _ hb h)
  rw [if_neg hx_38] at h
  refine cf_look E dX14_clause_4 (by decide) (look_no (i32_neZ (z := 103) hx_3 (by decide)) (look_no (i32_neZ (z := 109) hx_11 (by decide)) (look_no (i32_neZ (z := 115) hx_30 (by decide)) (look_no (i32_neZ (z := 119) hx_38 (by decide)) rfl)))) rfl ?_
  refine cf_aload_n E dX14_clause_95 0 rfl rfl ?_
  refine zclX14_38 E hlt (rmle hR rfl rfl) (Nat.le_of_ble_eq_true rfl) hb dX14_clause_96 h rfl (fun m_46 n_47 e_50 q_51 s_52 hb h => ?_) (fun m_46 n_47 v_49 s_48 hb h => ?_)
  · exact hx _ _ _ _ _ _ _ (hb0 hb).1 (hb0 hb).2 h
  refine cx_athrowC E dX14_clause_99 h (fun h => ?_)
  exact hx _ _ _ _ _ _ _ (hb0 hb).1 (hb0 hb).2 h
def y14_town_42 (N : Nat) (g : XG) (a0 : Nat) (K : Nat → XS → Prop) (KX : String → Nat → XS → Prop)   (ξ : XS) (mc ms : Nat) : Prop :=
  bnop (dI ξ a0 15 15 2) fun v_1 =>
  bnop (dI ξ a0 15 15 1) fun v_2 =>
  if v_2 ≤ v_1 then (
    bnop (dR ξ a0 15 15 4) fun b_3 =>
    K (b_3) ξ)
  else (
    if isC ξ a0 15 15 = true then (
    bnyx (y14_off N g a0 ξ) mc ms (fun m_4 n_5 e_8 q_9 s_10 =>
      KX e_8 q_9 s_10) fun m_4 n_5 v_7 s_6 =>
    if isC s_6 v_7 16 16 = true then (
    KX "HatsDecide$Off" v_7 s_6) else False) else False)
def y14_town_4b (N : Nat) (g : XG) (a0 : Nat) (K : Nat → XS → Prop) (KX : String → Nat → XS → Prop)  (rec4 : XS → Nat → Nat → Prop)  (ξ : XS) (mc ms : Nat) : Prop :=
  bnop (dR ξ a0 15 15 4) fun b_1 =>
  bnop (dI ξ b_1 3 3 2) fun v_2 =>
  if (10 : Int32) ≤ v_2 then (
    y14_town_42 N g a0 K KX ξ mc ms)
  else (
    if isC ξ a0 15 15 = true then (
    bndp (x14_here N g a0 ξ) fun v_4 s_3 =>
    if v_4 = (59 : Int32) then (
      bnop (dI s_3 a0 15 15 2) fun v_5 =>
      bndp (dO s_3 a0) fun ci_7 fs_8 => if (ci_7 = 15 ∧ 2 < fs_8.length) then nx (sXd s_3 a0 (.inr (ci_7, fs_8.set 2 (.int (v_5 + (1 : Int32)))))) (fun s_6 =>
      if isC s_6 a0 15 15 = true then (
      bnyvx (y14_clause N g a0 s_6) mc ms (fun m_9 n_10 e_13 q_14 s_15 =>
        KX e_13 q_14 s_15) fun m_9 n_10 s_11 =>
      rec4 s_11 (mc - m_9) (ms - n_10)) else False) else False)
    else (
      y14_town_42 N g a0 K KX s_3 mc ms)) else False)
def y14_town_4 (N : Nat) (g : XG) (a0 : Nat) (K : Nat → XS → Prop) (KX : String → Nat → XS → Prop)  : Nat → XS → Nat → Nat → Prop
  | 0 => fun  _ _ _ => False
  | k + 1 => fun  ξ mc ms => y14_town_4b N g a0 K KX  (y14_town_4 N g a0 K KX  k)  ξ mc ms
def y14_town (N : Nat) (g : XG) (a0 : Nat)  (ξ : XS) (mc ms : Nat) (K : Nat → XS → Prop) (KX : String → Nat → XS → Prop) : Prop :=
  if isC ξ a0 15 15 = true then (
  bnyvx (y14_clause N g a0 ξ) mc ms (fun m_1 n_2 e_5 q_6 s_7 =>
    KX e_5 q_6 s_7) fun m_1 n_2 s_3 =>
  y14_town_4 N g a0 K KX N s_3 (mc - m_1) (ms - n_2)) else False
section XC
variable {p : Program} {l : Launch} {e : Env} {R : Room} {s : State} {m : MethodId} {args : Array Value} {below : List Frame} {meth : Method} {c : Code} {nL cells slots : Nat} {A : Nat → Prop} {g : XG} {ξ : XS} {Q : State → Prop} {pc n : Nat} {lv : List (Nat × Value)} {st : List Value} {cc : ByteArray} {ρ : Type} {res : ρ}
theorem zclX14_139 (E : EV p s m args c cc nL RX14) (hlt : l.stackTraces = false) {N mc ms : Nat} {a0 : Nat}   {kx : Nat → Nat → String → Nat → XS → Prop} {kk : Nat → Nat → XS → Prop} (hR : 35 ≤ R.frames ∧ 991 ≤ R.locals) (hcat : (st.map fun v => v.category).sum ≤ 8) (hb : cells + mc ≤ R.cells ∧ slots + ms ≤ R.slots) (d : decode cc pc = .ok (.invokevirtual 139, 3)) (h : if isC ξ a0 15 15 = true then bnyvx (y14_clause N g a0  ξ) mc ms kx kk else False) (hn : pc + 3 = n) (kX : ∀ (m1 n1 : Nat) (E9 : String) (q : Nat) (ξ1 : XS), (cells + m1 + (mc - m1) ≤ R.cells ∧ slots + n1 + (ms - n1) ≤ R.slots) → kx m1 n1 E9 q ξ1 → CX p l e R s m args below meth c nL (cells + m1) (slots + n1) (XB g A s ξ1) Q pc lv E9 q) (k : ∀ (m1 n1 : Nat) (ξ1 : XS), (cells + m1 + (mc - m1) ≤ R.cells ∧ slots + n1 + (ms - n1) ≤ R.slots) → kk m1 n1 ξ1 → CF p l e R s m args below meth c nL (cells + m1) (slots + n1) (XB g A s ξ1) Q n lv st) : CF p l e R s m args below meth c nL cells slots (XB g A s ξ) Q pc lv (.ref a0 :: st) := by
  by_cases hi : ¬ isC ξ a0 15 15 = true
  · rw [if_neg hi] at h; cases h
  have hi : isC ξ a0 15 15 = true := Decidable.not_not.mp hi
  rw [if_pos hi] at h
  obtain ⟨ci, hci, h8, h9⟩ := isC_at hi
  have e9 : ci = 15 := by omega
  subst e9
  obtain ⟨m1, n1, h1, h2, h⟩ := h
  exact zcallV_v (na := 0) E [] (met_y14_clause l g N a0   ξ m1 n1 _ _ hlt h) (C9 := RX14) (lw_V q747 q749 qs4 q116 q750) (by decide +kernel) (xrecv_d (q := (RX14, TX14, 5)) hci rfl) hR rfl rfl hcat ⟨by omega, by omega⟩ d hn (fun ξ1 hk => k m1 n1 ξ1 ⟨by omega, by omega⟩ hk) (fun E9 q ξ1 hk => kX m1 n1 E9 q ξ1 ⟨by omega, by omega⟩ hk)
end XC
set_option maxHeartbeats 4000000 in
theorem wy14_town_42 {p : Program} {l : Launch} {e : Env} {R : Room} {s : State} {m : MethodId} {args : Array Value} {below : List Frame} {meth : Method} {c : Code} {A : Nat → Prop} {g : XG} {Q : State → Prop} {K : Nat → XS → Prop} {KX : String → Nat → XS → Prop} (E : EV p s m args c cX14_town 1 RX14) (hlt : l.stackTraces = false) (hlk : meth.locks = false) (hx : ZX p l e R s m args below meth c 1 A g Q KX) (hR : 35 ≤ R.frames ∧ 991 ≤ R.locals) (hq : YTr p l e R s m args below meth c cX14_town 1 A g Q K) (N : Nat) (a0 : Nat)    (ξ : XS) (mc ms cells slots : Nat) (hb : cells + mc ≤ R.cells ∧ slots + ms ≤ R.slots) (h : y14_town_42 N g a0 K KX   ξ mc ms) : CF p l e R s m args below meth c 1 cells slots (XB g A s ξ) Q 42 [(0, .ref a0)] [] := by
  unfold y14_town_42 at h
  refine cf_aload_n E dX14_town_42 0 rfl rfl ?_
  refine xdgX14_26p E dX14_town_43 h rfl (fun v_1 h => ?_)
  refine cf_aload_n E dX14_town_46 0 rfl rfl ?_
  refine xdgX14_22p E dX14_town_47 h rfl (fun v_2 h => ?_)
  refine cf_icmp_gep E dX14_town_50 h rfl rfl (fun h => ?_) (fun h => ?_)
  · refine cf_aload_n E dX14_town_58 0 rfl rfl ?_
    refine xdgX14_12p E dX14_town_59 h rfl (fun b_3 h => ?_)
    exact hq _ _ _ _ _ _ (hb0 hb).1 (hb0 hb).2 dX14_town_62 h
  · refine cf_aload_n E dX14_town_53 0 rfl rfl ?_
    refine zclX14_38 E hlt (rmle hR rfl rfl) (Nat.le_of_ble_eq_true rfl) hb dX14_town_54 h rfl (fun m_4 n_5 e_8 q_9 s_10 hb h => ?_) (fun m_4 n_5 v_7 s_6 hb h => ?_)
    · exact hx _ _ _ _ _ _ _ (hb0 hb).1 (hb0 hb).2 h
    refine cx_athrowC E dX14_town_57 h (fun h => ?_)
    exact hx _ _ _ _ _ _ _ (hb0 hb).1 (hb0 hb).2 h
set_option maxHeartbeats 4000000 in
theorem wy14_town_4b {p : Program} {l : Launch} {e : Env} {R : Room} {s : State} {m : MethodId} {args : Array Value} {below : List Frame} {meth : Method} {c : Code} {A : Nat → Prop} {g : XG} {Q : State → Prop} {K : Nat → XS → Prop} {KX : String → Nat → XS → Prop} (E : EV p s m args c cX14_town 1 RX14) (hlt : l.stackTraces = false) (hlk : meth.locks = false) (hx : ZX p l e R s m args below meth c 1 A g Q KX) (hR : 35 ≤ R.frames ∧ 991 ≤ R.locals) (hq : YTr p l e R s m args below meth c cX14_town 1 A g Q K) (N : Nat) (a0 : Nat)   {rec4 : XS → Nat → Nat → Prop} (ih4 : ∀  (ξ : XS) (mc ms cells slots : Nat), (cells + mc ≤ R.cells ∧ slots + ms ≤ R.slots) → rec4  ξ mc ms → CF p l e R s m args below meth c 1 cells slots (XB g A s ξ) Q 4 [(0, .ref a0)] [])  (ξ : XS) (mc ms cells slots : Nat) (hb : cells + mc ≤ R.cells ∧ slots + ms ≤ R.slots) (h : y14_town_4b N g a0 K KX  rec4  ξ mc ms) : CF p l e R s m args below meth c 1 cells slots (XB g A s ξ) Q 4 [(0, .ref a0)] [] := by
  unfold y14_town_4b at h
  refine cf_aload_n E dX14_town_4 0 rfl rfl ?_
  refine xdgX14_12p E dX14_town_5 h rfl (fun b_1 h => ?_)
  refine xdgX14_136p E dX14_town_8 h rfl (fun v_2 h => ?_)
  refine cf_bipush E dX14_town_11 bp_10 rfl ?_
  refine cf_icmp_gep E dX14_town_13 h rfl rfl (fun h => ?_) (fun h => ?_)
  · exact CF.sub [0] rfl (wy14_town_42 E hlt hlk hx hR hq N a0 ξ mc ms _ _ hb h)
  · refine cf_aload_n E dX14_town_16 0 rfl rfl ?_
    refine xclX14_34p E (rmle hR rfl rfl) (Nat.le_of_ble_eq_true rfl) (hb0 hb) dX14_town_17 h rfl (fun v_4 s_3 h => ?_)
    refine cf_bipush E dX14_town_20 bp_59 rfl ?_
    refine cf_icmp_nep E dX14_town_22 h rfl rfl (fun h => ?_) (fun h => ?_)
    · exact CF.sub [0] rfl (wy14_town_42 E hlt hlk hx hR hq N a0 s_3 mc ms _ _ hb h)
    · refine cf_aload_n E dX14_town_25 0 rfl rfl ?_
      refine cf_dup E dX14_town_26 rfl rfl ?_
      refine xdgX14_26p E dX14_town_27 h rfl (fun v_5 h => ?_)
      refine cf_iconst E dX14_town_30 ic_1 rfl ?_
      refine cf_iadd E dX14_town_31 rfl ?_
      refine xdqX14_26 E dX14_town_32 h rfl (fun s_6 h => ?_)
      refine cf_aload_n E dX14_town_35 0 rfl rfl ?_
      refine zclX14_139 E hlt (rmle hR rfl rfl) (Nat.le_of_ble_eq_true rfl) hb dX14_town_36 h rfl (fun m_9 n_10 e_13 q_14 s_15 hb h => ?_) (fun m_9 n_10 s_11 hb h => ?_)
      · exact hx _ _ _ _ _ _ _ (hb0 hb).1 (hb0 hb).2 h
      refine cf_goto E dX14_town_39 rfl ?_
      exact CF.sub [0] rfl (ih4 s_11 (mc - m_9) (ms - n_10) _ _ hb h)
set_option maxHeartbeats 4000000 in
theorem wy14_town_4 {p : Program} {l : Launch} {e : Env} {R : Room} {s : State} {m : MethodId} {args : Array Value} {below : List Frame} {meth : Method} {c : Code} {A : Nat → Prop} {g : XG} {Q : State → Prop} {K : Nat → XS → Prop} {KX : String → Nat → XS → Prop} (E : EV p s m args c cX14_town 1 RX14) (hlt : l.stackTraces = false) (hlk : meth.locks = false) (hx : ZX p l e R s m args below meth c 1 A g Q KX) (hR : 35 ≤ R.frames ∧ 991 ≤ R.locals) (hq : YTr p l e R s m args below meth c cX14_town 1 A g Q K) (N : Nat) (a0 : Nat)   : ∀ (k : Nat)  (ξ : XS) (mc ms cells slots : Nat), (cells + mc ≤ R.cells ∧ slots + ms ≤ R.slots) → y14_town_4 N g a0 K KX  k  ξ mc ms → CF p l e R s m args below meth c 1 cells slots (XB g A s ξ) Q 4 [(0, .ref a0)] [] := by
  intro k
  induction k with
  | zero => intro  ξ mc ms cells slots hb h; have h : False := h; cases h
  | succ k ih => intro  ξ mc ms cells slots hb h; exact wy14_town_4b E hlt hlk hx hR hq N a0   ih  ξ mc ms cells slots hb h
set_option maxHeartbeats 4000000 in
theorem met_y14_town (l : Launch) (g : XG) (N : Nat) (a0 : Nat)   (ξ : XS) (mc ms : Nat) (K : Nat → XS → Prop) (KX : String → Nat → XS → Prop) (hlt : l.stackTraces = false) (h : y14_town N g a0  ξ mc ms K KX) : MetZr l g yX14_town (ws_ yX14_town cX14_town 1 (some (.object "HatsDecide$Town"))) 35 991 [.ref a0] ξ mc ms K KX := by
  refine met_zr (Or.inl ⟨_, rfl⟩) (lv0 := [(0, .ref a0)]) (own := RX14) (by decide) rfl (Nat.le_of_ble_eq_true rfl) rfl ?_
  intro p e s m below meth c A Q E hmn hlk hx hq
  have hR : 35 ≤ ({ frames := 35, cells := mc, slots := ms, locals := 991 } : Room).frames ∧ 991 ≤ ({ frames := 35, cells := mc, slots := ms, locals := 991 } : Room).locals := ⟨Nat.le_refl _, Nat.le_refl _⟩
  have hb : 0 + mc ≤ ({ frames := 35, cells := mc, slots := ms, locals := 991 } : Room).cells ∧ 0 + ms ≤ ({ frames := 35, cells := mc, slots := ms, locals := 991 } : Room).slots := ⟨Nat.le_of_eq (Nat.zero_add _), Nat.le_of_eq (Nat.zero_add _)⟩
  unfold y14_town at h
  refine cf_aload_n E dX14_town_0 0 rfl rfl ?_
  refine zclX14_139 E hlt (rmle hR rfl rfl) (Nat.le_of_ble_eq_true rfl) hb dX14_town_1 h rfl (fun m_1 n_2 e_5 q_6 s_7 hb h => ?_) (fun m_1 n_2 s_3 hb h => ?_)
  · exact hx _ _ _ _ _ _ _ (hb0 hb).1 (hb0 hb).2 h
  exact CF.sub [0] rfl (wy14_town_4 E hlt hlk hx hR hq N a0 N s_3 (mc - m_1) (ms - n_2) _ _ hb h)
