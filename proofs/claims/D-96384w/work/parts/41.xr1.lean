/-! HatsDecide, group r1: rows, functions, walks -/
set_option maxRecDepth 100000
section XC
variable {p : Program} {l : Launch} {e : Env} {R : Room} {s : State} {m : MethodId} {args : Array Value} {below : List Frame} {meth : Method} {c : Code} {nL cells slots : Nat} {A : Nat → Prop} {g : XG} {ξ : XS} {Q : State → Prop} {pc n : Nat} {lv : List (Nat × Value)} {st : List Value} {cc : ByteArray} {ρ : Type} {res : ρ}
theorem xdgX14_26 (E : EV p s m args c cc nL RX14) {a : Nat} {kk : Int32 → Option ρ} (d : decode cc pc = .ok (.getfield 26, 3)) (h : bno (dI ξ a 15 15 2) kk = some res) (hn : pc + 3 = n) (k : ∀ v : Int32, kk v = some res → CF p l e R s m args below meth c nL cells slots (XB g A s ξ) Q n lv (.int v :: st)) : CF p l e R s m args below meth c nL cells slots (XB g A s ξ) Q pc lv (.ref a :: st) := by
  subst hn
  obtain ⟨v, hi, h⟩ := bno_some h
  obtain ⟨ci, fs, he, h1, h2, hv⟩ := dI_at hi
  obtain ⟨q0, hq⟩ := dE_at (g := g) he
  intro H locs ls hB hl
  have hci : ci = 15 := by omega
  subst hci
  exact va_get (D := g.1) (ci := 15) (C := RX14) (T := TX14) (N := 5) E.1 E.2.1 E.2.2.2.2 in_X14 E.2.2.2.1 hB.2.2.2.1 hB.1 q0 hq rfl 2 (Nat.le_of_ble_eq_true rfl) (E.2.2.2.2 _ q729) (fun _ h9 => h9) hv d (k v h H locs ls hB hl)
theorem xdgX14_22 (E : EV p s m args c cc nL RX14) {a : Nat} {kk : Int32 → Option ρ} (d : decode cc pc = .ok (.getfield 22, 3)) (h : bno (dI ξ a 15 15 1) kk = some res) (hn : pc + 3 = n) (k : ∀ v : Int32, kk v = some res → CF p l e R s m args below meth c nL cells slots (XB g A s ξ) Q n lv (.int v :: st)) : CF p l e R s m args below meth c nL cells slots (XB g A s ξ) Q pc lv (.ref a :: st) := by
  subst hn
  obtain ⟨v, hi, h⟩ := bno_some h
  obtain ⟨ci, fs, he, h1, h2, hv⟩ := dI_at hi
  obtain ⟨q0, hq⟩ := dE_at (g := g) he
  intro H locs ls hB hl
  have hci : ci = 15 := by omega
  subst hci
  exact va_get (D := g.1) (ci := 15) (C := RX14) (T := TX14) (N := 5) E.1 E.2.1 E.2.2.2.2 in_X14 E.2.2.2.1 hB.2.2.2.1 hB.1 q0 hq rfl 1 (Nat.le_of_ble_eq_true rfl) (E.2.2.2.2 _ q728) (fun _ h9 => h9) hv d (k v h H locs ls hB hl)
theorem xrtX14_18 (E : EV p s m args c cc nL RX14) {a : Nat} {A9 : Option ρ} (d : decode cc pc = .ok (.getfield 18, 3)) (h : (if dRs ξ a [15] 0 = some (xa g 108) then A9 else none) = some res) (hn : pc + 3 = n) (k : A9 = some res → CF p l e R s m args below meth c nL cells slots (XB g A s ξ) Q n lv (.ref (xa g 108) :: st)) : CF p l e R s m args below meth c nL cells slots (XB g A s ξ) Q pc lv (.ref a :: st) := by
  subst hn
  by_cases hi : dRs ξ a [15] 0 = some (xa g 108)
  · rw [if_pos hi] at h
    obtain ⟨ci, fs, he, h1, hv⟩ := dRs_at hi
    obtain ⟨q0, hq⟩ := dE_at (g := g) he
    intro H locs ls hB hl
    have hci : ci = 15 := by simpa using h1
    subst hci
    exact va_get (D := g.1) (ci := 15) (C := RX14) (T := TX14) (N := 5) E.1 E.2.1 E.2.2.2.2 in_X14 E.2.2.2.1 hB.2.2.2.1 hB.1 q0 hq rfl 0 (Nat.le_of_ble_eq_true rfl) (E.2.2.2.2 _ q727) (fun _ h9 => h9) hv d (k h H locs ls hB hl)
  · rw [if_neg hi] at h; cases h
theorem xald_8 {own : String} (E : EV p s m args c cc nL own) {i : Int32} {A9 : Option ρ} (d : decode cc pc = .ok (.baload, 1)) (h : (if inb i 100 = true then A9 else none) = some res) (hn : pc + 1 = n) (k : A9 = some res → CF p l e R s m args below meth c nL cells slots (XB g A s ξ) Q n lv (.int (xR ξ 8 i.toNatClampNeg) :: st)) : CF p l e R s m args below meth c nL cells slots (XB g A s ξ) Q pc lv (.int i :: .ref (xa g 108) :: st) := by
  subst hn
  by_cases hi : inb i 100 = true
  · rw [if_pos hi] at h
    intro H locs ls hB hl
    exact va_bald E.1 E.2.1 hB.2.2.2.1 hB.1 6 1 rfl rfl (inb_in hi) d (k h H locs ls hB hl)
  · rw [if_neg hi] at h; cases h
theorem xdqX14_26 (E : EV p s m args c cc nL RX14) {a : Nat} {v : Int32} {kk : XS → Prop} (d : decode cc pc = .ok (.putfield 26, 3)) (h : bndp (dO ξ a) (fun ci fs => (if (ci = 15 ∧ 2 < fs.length) then nx (sXd ξ a (.inr (ci, fs.set 2 (.int v)))) kk else False))) (hn : pc + 3 = n) (k : ∀ ξ1 : XS, kk ξ1 → CF p l e R s m args below meth c nL cells slots (XB g A s ξ1) Q n lv st) : CF p l e R s m args below meth c nL cells slots (XB g A s ξ) Q pc lv (.int v :: .ref a :: st) := by
  obtain ⟨ci, fs, hO, h⟩ := h
  by_cases hi : (ci = 15 ∧ 2 < fs.length)
  · have h : (if (ci = 15 ∧ 2 < fs.length) then nx (sXd ξ a (.inr (ci, fs.set 2 (.int v)))) kk else False) := h
    rw [if_pos hi] at h
    have he := dO_at hO
    obtain ⟨rfl, hi⟩ : ci = 15 ∧ _ := hi
    have hi : True ∧ _ := ⟨trivial, hi⟩
    exact xdp (C9 := RX14) (T := TX14) (N := 5) (ci := 15) (j := 2) (ty := .int) E in_X14 tyX14 tyX14_ok nmX14 rfl he (by decide) q729 (fun _ h9 => h9) rfl (by decide +kernel) rfl rfl hi.2 d hn (k _ h)
  · have h : (if (ci = 15 ∧ 2 < fs.length) then nx (sXd ξ a (.inr (ci, fs.set 2 (.int v)))) kk else False) := h
    rw [if_neg hi] at h; cases h
theorem xdgX14_26p (E : EV p s m args c cc nL RX14) {a : Nat} {kk : Int32 → Prop} (d : decode cc pc = .ok (.getfield 26, 3)) (h : bnop (dI ξ a 15 15 2) kk) (hn : pc + 3 = n) (k : ∀ v : Int32, kk v → CF p l e R s m args below meth c nL cells slots (XB g A s ξ) Q n lv (.int v :: st)) : CF p l e R s m args below meth c nL cells slots (XB g A s ξ) Q pc lv (.ref a :: st) := by
  subst hn
  obtain ⟨v, hi, h⟩ := h
  obtain ⟨ci, fs, he, h1, h2, hv⟩ := dI_at hi
  obtain ⟨q0, hq⟩ := dE_at (g := g) he
  intro H locs ls hB hl
  have hci : ci = 15 := by omega
  subst hci
  exact va_get (D := g.1) (ci := 15) (C := RX14) (T := TX14) (N := 5) E.1 E.2.1 E.2.2.2.2 in_X14 E.2.2.2.1 hB.2.2.2.1 hB.1 q0 hq rfl 2 (Nat.le_of_ble_eq_true rfl) (E.2.2.2.2 _ q729) (fun _ h9 => h9) hv d (k v h H locs ls hB hl)
theorem xrtX14_18p (E : EV p s m args c cc nL RX14) {a : Nat} {A9 : Prop} (d : decode cc pc = .ok (.getfield 18, 3)) (h : (if dRs ξ a [15] 0 = some (xa g 108) then A9 else False)) (hn : pc + 3 = n) (k : A9 → CF p l e R s m args below meth c nL cells slots (XB g A s ξ) Q n lv (.ref (xa g 108) :: st)) : CF p l e R s m args below meth c nL cells slots (XB g A s ξ) Q pc lv (.ref a :: st) := by
  subst hn
  by_cases hi : dRs ξ a [15] 0 = some (xa g 108)
  · rw [if_pos hi] at h
    obtain ⟨ci, fs, he, h1, hv⟩ := dRs_at hi
    obtain ⟨q0, hq⟩ := dE_at (g := g) he
    intro H locs ls hB hl
    have hci : ci = 15 := by simpa using h1
    subst hci
    exact va_get (D := g.1) (ci := 15) (C := RX14) (T := TX14) (N := 5) E.1 E.2.1 E.2.2.2.2 in_X14 E.2.2.2.1 hB.2.2.2.1 hB.1 q0 hq rfl 0 (Nat.le_of_ble_eq_true rfl) (E.2.2.2.2 _ q727) (fun _ h9 => h9) hv d (k h H locs ls hB hl)
  · rw [if_neg hi] at h; cases h
theorem xald_8p {own : String} (E : EV p s m args c cc nL own) {i : Int32} {A9 : Prop} (d : decode cc pc = .ok (.baload, 1)) (h : (if inb i 100 = true then A9 else False)) (hn : pc + 1 = n) (k : A9 → CF p l e R s m args below meth c nL cells slots (XB g A s ξ) Q n lv (.int (xR ξ 8 i.toNatClampNeg) :: st)) : CF p l e R s m args below meth c nL cells slots (XB g A s ξ) Q pc lv (.int i :: .ref (xa g 108) :: st) := by
  subst hn
  by_cases hi : inb i 100 = true
  · rw [if_pos hi] at h
    intro H locs ls hB hl
    exact va_bald E.1 E.2.1 hB.2.2.2.1 hB.1 6 1 rfl rfl (inb_in hi) d (k h H locs ls hB hl)
  · rw [if_neg hi] at h; cases h
theorem xdgX14_58 (E : EV p s m args c cc nL RX14) {a : Nat} {kk : Int32 → Option ρ} (d : decode cc pc = .ok (.getfield 58, 3)) (h : bno (dI ξ a 15 15 3) kk = some res) (hn : pc + 3 = n) (k : ∀ v : Int32, kk v = some res → CF p l e R s m args below meth c nL cells slots (XB g A s ξ) Q n lv (.int v :: st)) : CF p l e R s m args below meth c nL cells slots (XB g A s ξ) Q pc lv (.ref a :: st) := by
  subst hn
  obtain ⟨v, hi, h⟩ := bno_some h
  obtain ⟨ci, fs, he, h1, h2, hv⟩ := dI_at hi
  obtain ⟨q0, hq⟩ := dE_at (g := g) he
  intro H locs ls hB hl
  have hci : ci = 15 := by omega
  subst hci
  exact va_get (D := g.1) (ci := 15) (C := RX14) (T := TX14) (N := 5) E.1 E.2.1 E.2.2.2.2 in_X14 E.2.2.2.1 hB.2.2.2.1 hB.1 q0 hq rfl 3 (Nat.le_of_ble_eq_true rfl) (E.2.2.2.2 _ q730) (fun _ h9 => h9) hv d (k v h H locs ls hB hl)
theorem xdqX14_58 (E : EV p s m args c cc nL RX14) {a : Nat} {v : Int32} {kk : XS → Prop} (d : decode cc pc = .ok (.putfield 58, 3)) (h : bndp (dO ξ a) (fun ci fs => (if (ci = 15 ∧ 3 < fs.length) then nx (sXd ξ a (.inr (ci, fs.set 3 (.int v)))) kk else False))) (hn : pc + 3 = n) (k : ∀ ξ1 : XS, kk ξ1 → CF p l e R s m args below meth c nL cells slots (XB g A s ξ1) Q n lv st) : CF p l e R s m args below meth c nL cells slots (XB g A s ξ) Q pc lv (.int v :: .ref a :: st) := by
  obtain ⟨ci, fs, hO, h⟩ := h
  by_cases hi : (ci = 15 ∧ 3 < fs.length)
  · have h : (if (ci = 15 ∧ 3 < fs.length) then nx (sXd ξ a (.inr (ci, fs.set 3 (.int v)))) kk else False) := h
    rw [if_pos hi] at h
    have he := dO_at hO
    obtain ⟨rfl, hi⟩ : ci = 15 ∧ _ := hi
    have hi : True ∧ _ := ⟨trivial, hi⟩
    exact xdp (C9 := RX14) (T := TX14) (N := 5) (ci := 15) (j := 3) (ty := .int) E in_X14 tyX14 tyX14_ok nmX14 rfl he (by decide) q730 (fun _ h9 => h9) rfl (by decide +kernel) rfl rfl hi.2 d hn (k _ h)
  · have h : (if (ci = 15 ∧ 3 < fs.length) then nx (sXd ξ a (.inr (ci, fs.set 3 (.int v)))) kk else False) := h
    rw [if_neg hi] at h; cases h
theorem xdgX14_58p (E : EV p s m args c cc nL RX14) {a : Nat} {kk : Int32 → Prop} (d : decode cc pc = .ok (.getfield 58, 3)) (h : bnop (dI ξ a 15 15 3) kk) (hn : pc + 3 = n) (k : ∀ v : Int32, kk v → CF p l e R s m args below meth c nL cells slots (XB g A s ξ) Q n lv (.int v :: st)) : CF p l e R s m args below meth c nL cells slots (XB g A s ξ) Q pc lv (.ref a :: st) := by
  subst hn
  obtain ⟨v, hi, h⟩ := h
  obtain ⟨ci, fs, he, h1, h2, hv⟩ := dI_at hi
  obtain ⟨q0, hq⟩ := dE_at (g := g) he
  intro H locs ls hB hl
  have hci : ci = 15 := by omega
  subst hci
  exact va_get (D := g.1) (ci := 15) (C := RX14) (T := TX14) (N := 5) E.1 E.2.1 E.2.2.2.2 in_X14 E.2.2.2.1 hB.2.2.2.1 hB.1 q0 hq rfl 3 (Nat.le_of_ble_eq_true rfl) (E.2.2.2.2 _ q730) (fun _ h9 => h9) hv d (k v h H locs ls hB hl)
end XC
def x14_here (N : Nat) (g : XG) (a0 : Nat)   (ξ : XS) : Option (Int32 × XS) :=
  bno (dI ξ a0 15 15 2) fun v_1 =>
  bno (dI ξ a0 15 15 1) fun v_2 =>
  if v_2 ≤ v_1 then (
    some ((-1 : Int32), ξ))
  else (
    if dRs ξ a0 [15] 0 = some (xa g 108) then (
    bno (dI ξ a0 15 15 2) fun v_3 =>
    if inb v_3 100 = true then (
    some ((xR ξ 8 v_3.toNatClampNeg), ξ)) else none) else none)
set_option maxHeartbeats 4000000 in
theorem met_x14_here (l : Launch) (g : XG) (N : Nat) (a0 : Nat)   (ξ : XS) {v : Int32} {ξ1 : XS} (h : x14_here N g a0  ξ = some (v, ξ1)) : MetXi l g yX14_here (ws_ yX14_here cX14_here 1 (some .int)) { frames := 0, cells := 0, slots := 0, locals := 0 } [.ref a0] ξ v ξ1 0 0 := by
  refine met_xi (lv0 := [(0, .ref a0)]) (own := RX14) (by decide) rfl (Nat.le_of_ble_eq_true rfl) rfl ?_
  intro p e s m below meth c A Q E hq
  have hR : 0 ≤ ({ frames := 0, cells := 0, slots := 0, locals := 0 } : Room).frames ∧ 0 ≤ ({ frames := 0, cells := 0, slots := 0, locals := 0 } : Room).locals := ⟨Nat.le_refl _, Nat.le_refl _⟩
  unfold x14_here at h
  refine cf_aload_n E dX14_here_0 0 rfl rfl ?_
  refine xdgX14_26 E dX14_here_1 h rfl (fun v_1 h => ?_)
  refine cf_aload_n E dX14_here_4 0 rfl rfl ?_
  refine xdgX14_22 E dX14_here_5 h rfl (fun v_2 h => ?_)
  refine cf_icmp_ge E dX14_here_8 h rfl rfl (fun h => ?_) (fun h => ?_)
  · refine cf_iconst E dX14_here_23 ic_m1 rfl ?_
    exact xret_i dX14_here_24 h rfl hq
  · refine cf_aload_n E dX14_here_11 0 rfl rfl ?_
    refine xrtX14_18 E dX14_here_12 h rfl (fun h => ?_)
    refine cf_aload_n E dX14_here_15 0 rfl rfl ?_
    refine xdgX14_26 E dX14_here_16 h rfl (fun v_3 h => ?_)
    refine xald_8 E dX14_here_19 h rfl (fun h => ?_)
    refine cf_goto E dX14_here_20 rfl ?_
    exact xret_i dX14_here_24 h rfl hq
def y14_off (N : Nat) (g : XG) (a0 : Nat)  (ξ : XS) (mc ms : Nat) (K : Nat → XS → Prop) (KX : String → Nat → XS → Prop) : Prop :=
  bnop (dI ξ a0 15 15 2) fun v_4 => mkOff ξ v_4 mc ms fun q_1 s_3 =>
  K (q_1) s_3
set_option maxHeartbeats 4000000 in
theorem met_y14_off (l : Launch) (g : XG) (N : Nat) (a0 : Nat)   (ξ : XS) (mc ms : Nat) (K : Nat → XS → Prop) (KX : String → Nat → XS → Prop) (hlt : l.stackTraces = false) (h : y14_off N g a0  ξ mc ms K KX) : MetZr l g yX14_off (ws_ yX14_off cX14_off 1 (some (.object "HatsDecide$Off"))) 6 121 [.ref a0] ξ mc ms K KX := by
  refine met_zr (Or.inl ⟨_, rfl⟩) (lv0 := [(0, .ref a0)]) (own := RX14) (by decide) rfl (Nat.le_of_ble_eq_true rfl) rfl ?_
  intro p e s m below meth c A Q E hmn hlk hx hq
  have hR : 6 ≤ ({ frames := 6, cells := mc, slots := ms, locals := 121 } : Room).frames ∧ 121 ≤ ({ frames := 6, cells := mc, slots := ms, locals := 121 } : Room).locals := ⟨Nat.le_refl _, Nat.le_refl _⟩
  have hb : 0 + mc ≤ ({ frames := 6, cells := mc, slots := ms, locals := 121 } : Room).cells ∧ 0 + ms ≤ ({ frames := 6, cells := mc, slots := ms, locals := 121 } : Room).slots := ⟨Nat.le_of_eq (Nat.zero_add _), Nat.le_of_eq (Nat.zero_add _)⟩
  unfold y14_off at h
  obtain ⟨v_4, hv9, hm9, hs9, h⟩ := h
  refine xnewO E q818 hb hm9 hs9 dX14_off_0 rfl (fun q_1 hq9 hb => ?_)
  refine cf_dup E dX14_off_3 rfl rfl ?_
  refine cf_aload_n E dX14_off_4 0 rfl rfl ?_
  refine xgAt9 E hq9 hv9 dX14_off_5 rfl ?_
  refine xinitO E hlt hq9 q875 (rmle hR rfl rfl) (hb0 hb) (Nat.le_of_ble_eq_true rfl) dX14_off_8 rfl (fun fs_2 h19 h29 => ?_)
  have h := h q_1 fs_2 hq9 h19 h29
  generalize (pXd ξ q_1 (.inr (16, fs_2))) = s_3 at h ⊢
  exact hq _ _ _ _ _ _ (hb0 hb).1 (hb0 hb).2 dX14_off_11 h
def y14_must (N : Nat) (g : XG) (a0 : Nat) (x1 : Int32) (ξ : XS) (mc ms : Nat) (K : XS → Prop) (KX : String → Nat → XS → Prop) : Prop :=
  if isC ξ a0 15 15 = true then (
  bndp (x14_here N g a0 ξ) fun v_2 s_1 =>
  if v_2 = x1 then (
    bnop (dI s_1 a0 15 15 2) fun v_3 =>
    bndp (dO s_1 a0) fun ci_5 fs_6 => if (ci_5 = 15 ∧ 2 < fs_6.length) then nx (sXd s_1 a0 (.inr (ci_5, fs_6.set 2 (.int (v_3 + (1 : Int32)))))) (fun s_4 =>
    K s_4) else False)
  else (
    if isC s_1 a0 15 15 = true then (
    bnyx (y14_off N g a0 s_1) mc ms (fun m_7 n_8 e_11 q_12 s_13 =>
      KX e_11 q_12 s_13) fun m_7 n_8 v_10 s_9 =>
    if isC s_9 v_10 16 16 = true then (
    KX "HatsDecide$Off" v_10 s_9) else False) else False)) else False
section XC
variable {p : Program} {l : Launch} {e : Env} {R : Room} {s : State} {m : MethodId} {args : Array Value} {below : List Frame} {meth : Method} {c : Code} {nL cells slots : Nat} {A : Nat → Prop} {g : XG} {ξ : XS} {Q : State → Prop} {pc n : Nat} {lv : List (Nat × Value)} {st : List Value} {cc : ByteArray} {ρ : Type} {res : ρ}
theorem xclX14_34 (E : EV p s m args c cc nL RX14) {N : Nat} {a0 : Nat}   {kk : Int32 → XS → Option ρ} (hR : 1 ≤ R.frames ∧ 20 ≤ R.locals) (hcat : (st.map fun v => v.category).sum ≤ 8) (hf : cells ≤ R.cells ∧ slots ≤ R.slots) (d : decode cc pc = .ok (.invokevirtual 34, 3)) (h : (if isC ξ a0 15 15 = true then bnd (x14_here N g a0  ξ) kk else none) = some res) (hn : pc + 3 = n) (k : ∀ (v : Int32) (ξ1 : XS), kk v ξ1 = some res → CF p l e R s m args below meth c nL cells slots (XB g A s ξ1) Q n lv (.int v :: st)) : CF p l e R s m args below meth c nL cells slots (XB g A s ξ) Q pc lv (.ref a0 :: st) := by
  by_cases hi : isC ξ a0 15 15 = true
  · rw [if_pos hi] at h
    obtain ⟨ci, hci, h1, h2⟩ := isC_at hi
    have e9 : ci = 15 := by omega
    subst e9
    exact xcallV0_i (na := 0) E [] (fun v ξ1 ho => met_x14_here l g N a0   ξ ho) (C := RX14) (lw_V q751 q753 qs5 q116 q754) (by decide +kernel) (xrecv_d (q := (RX14, TX14, 5)) hci rfl) rfl rfl hR rfl rfl hcat hf d h hn k
  · rw [if_neg hi] at h; cases h
theorem zclX14_38 (E : EV p s m args c cc nL RX14) (hlt : l.stackTraces = false) {N mc ms : Nat} {a0 : Nat}   {kx : Nat → Nat → String → Nat → XS → Prop} {kk : Nat → Nat → Nat → XS → Prop} (hR : 7 ≤ R.frames ∧ 141 ≤ R.locals) (hcat : (st.map fun v => v.category).sum ≤ 8) (hb : cells + mc ≤ R.cells ∧ slots + ms ≤ R.slots) (d : decode cc pc = .ok (.invokevirtual 38, 3)) (h : if isC ξ a0 15 15 = true then bnyx (y14_off N g a0  ξ) mc ms kx kk else False) (hn : pc + 3 = n) (kX : ∀ (m1 n1 : Nat) (E9 : String) (q : Nat) (ξ1 : XS), (cells + m1 + (mc - m1) ≤ R.cells ∧ slots + n1 + (ms - n1) ≤ R.slots) → kx m1 n1 E9 q ξ1 → CX p l e R s m args below meth c nL (cells + m1) (slots + n1) (XB g A s ξ1) Q pc lv E9 q) (k : ∀ (m1 n1 : Nat) (v : Nat) (ξ1 : XS), (cells + m1 + (mc - m1) ≤ R.cells ∧ slots + n1 + (ms - n1) ≤ R.slots) → kk m1 n1 v ξ1 → CF p l e R s m args below meth c nL (cells + m1) (slots + n1) (XB g A s ξ1) Q n lv (.ref v :: st)) : CF p l e R s m args below meth c nL cells slots (XB g A s ξ) Q pc lv (.ref a0 :: st) := by
  by_cases hi : ¬ isC ξ a0 15 15 = true
  · rw [if_neg hi] at h; cases h
  have hi : isC ξ a0 15 15 = true := Decidable.not_not.mp hi
  rw [if_pos hi] at h
  obtain ⟨ci, hci, h8, h9⟩ := isC_at hi
  have e9 : ci = 15 := by omega
  subst e9
  obtain ⟨m1, n1, h1, h2, h⟩ := h
  exact zcallV_r (na := 0) E [] (met_y14_off l g N a0   ξ m1 n1 _ _ hlt h) (C9 := RX14) (lw_V q814 q816 qs9 q116 q817) (by decide +kernel) (xrecv_d (q := (RX14, TX14, 5)) hci rfl) hR rfl rfl hcat ⟨by omega, by omega⟩ d hn (fun v ξ1 hk => k m1 n1 v ξ1 ⟨by omega, by omega⟩ hk) (fun E9 q ξ1 hk => kX m1 n1 E9 q ξ1 ⟨by omega, by omega⟩ hk)
theorem xclX14_34p (E : EV p s m args c cc nL RX14) {N : Nat} {a0 : Nat}   {kk : Int32 → XS → Prop} (hR : 1 ≤ R.frames ∧ 20 ≤ R.locals) (hcat : (st.map fun v => v.category).sum ≤ 8) (hf : cells ≤ R.cells ∧ slots ≤ R.slots) (d : decode cc pc = .ok (.invokevirtual 34, 3)) (h : (if isC ξ a0 15 15 = true then bndp (x14_here N g a0  ξ) kk else False)) (hn : pc + 3 = n) (k : ∀ (v : Int32) (ξ1 : XS), kk v ξ1 → CF p l e R s m args below meth c nL cells slots (XB g A s ξ1) Q n lv (.int v :: st)) : CF p l e R s m args below meth c nL cells slots (XB g A s ξ) Q pc lv (.ref a0 :: st) := by
  by_cases hi : isC ξ a0 15 15 = true
  · rw [if_pos hi] at h
    obtain ⟨ci, hci, h1, h2⟩ := isC_at hi
    have e9 : ci = 15 := by omega
    subst e9
    exact xcallV0_ip (na := 0) E [] (fun v ξ1 ho => met_x14_here l g N a0   ξ ho) (C := RX14) (lw_V q751 q753 qs5 q116 q754) (by decide +kernel) (xrecv_d (q := (RX14, TX14, 5)) hci rfl) rfl rfl hR rfl rfl hcat hf d h hn k
  · rw [if_neg hi] at h; cases h
end XC
set_option maxHeartbeats 4000000 in
theorem met_y14_must (l : Launch) (g : XG) (N : Nat) (a0 : Nat)  (x1 : Int32) (ξ : XS) (mc ms : Nat) (K : XS → Prop) (KX : String → Nat → XS → Prop) (hlt : l.stackTraces = false) (h : y14_must N g a0 x1 ξ mc ms K KX) : MetZv l g yX14_must (ws_ yX14_must cX14_must 2 none) 7 141 [.ref a0, .int x1] ξ mc ms K KX := by
  refine met_zv (lv0 := [(0, .ref a0), (1, .int x1)]) (own := RX14) (by decide) rfl (Nat.le_of_ble_eq_true rfl) rfl ?_
  intro p e s m below meth c A Q E hmn hlk hx hq
  have hR : 7 ≤ ({ frames := 7, cells := mc, slots := ms, locals := 141 } : Room).frames ∧ 141 ≤ ({ frames := 7, cells := mc, slots := ms, locals := 141 } : Room).locals := ⟨Nat.le_refl _, Nat.le_refl _⟩
  have hb : 0 + mc ≤ ({ frames := 7, cells := mc, slots := ms, locals := 141 } : Room).cells ∧ 0 + ms ≤ ({ frames := 7, cells := mc, slots := ms, locals := 141 } : Room).slots := ⟨Nat.le_of_eq (Nat.zero_add _), Nat.le_of_eq (Nat.zero_add _)⟩
  unfold y14_must at h
  refine cf_aload_n E dX14_must_0 0 rfl rfl ?_
  refine xclX14_34p E (rmle hR rfl rfl) (Nat.le_of_ble_eq_true rfl) (hb0 hb) dX14_must_1 h rfl (fun v_2 s_1 h => ?_)
  refine cf_iload_n E dX14_must_4 1 rfl rfl ?_
  refine cf_icmp_eqp E dX14_must_5 h rfl rfl (fun h => ?_) (fun h => ?_)
  · refine cf_aload_n E dX14_must_13 0 rfl rfl ?_
    refine cf_dup E dX14_must_14 rfl rfl ?_
    refine xdgX14_26p E dX14_must_15 h rfl (fun v_3 h => ?_)
    refine cf_iconst E dX14_must_18 ic_1 rfl ?_
    refine cf_iadd E dX14_must_19 rfl ?_
    refine xdqX14_26 E dX14_must_20 h rfl (fun s_4 h => ?_)
    exact hq _ _ _ _ _ (hb0 hb).1 (hb0 hb).2 dX14_must_23 h
  · refine cf_aload_n E dX14_must_8 0 rfl rfl ?_
    refine zclX14_38 E hlt (rmle hR rfl rfl) (Nat.le_of_ble_eq_true rfl) hb dX14_must_9 h rfl (fun m_7 n_8 e_11 q_12 s_13 hb h => ?_) (fun m_7 n_8 v_10 s_9 hb h => ?_)
    · exact hx _ _ _ _ _ _ _ (hb0 hb).1 (hb0 hb).2 h
    refine cx_athrowC E dX14_must_12 h (fun h => ?_)
    exact hx _ _ _ _ _ _ _ (hb0 hb).1 (hb0 hb).2 h
def y14_word_2b (N : Nat) (g : XG) (a0 : Nat) (t1 : Nat) (K : XS → Prop) (KX : String → Nat → XS → Prop)  (rec2 : Int32 → XS → Nat → Nat → Prop) (x2 : Int32) (ξ : XS) (mc ms : Nat) : Prop :=
  bndp (x6_length N g t1 ξ) fun v_2 s_1 =>
  if v_2 ≤ x2 then (
    K s_1)
  else (
    bndp (x6_charAt N g t1 x2 s_1) fun v_4 s_3 =>
    if isC s_3 a0 15 15 = true then (
    bnyvx (y14_must N g a0 v_4 s_3) mc ms (fun m_5 n_6 e_9 q_10 s_11 =>
      KX e_9 q_10 s_11) fun m_5 n_6 s_7 =>
    nx (x2 + (1 : Int32)) fun x2_12 =>
    rec2 x2_12 s_7 (mc - m_5) (ms - n_6)) else False)
def y14_word_2 (N : Nat) (g : XG) (a0 : Nat) (t1 : Nat) (K : XS → Prop) (KX : String → Nat → XS → Prop)  : Nat → Int32 → XS → Nat → Nat → Prop
  | 0 => fun _ _ _ _ => False
  | k + 1 => fun x2 ξ mc ms => y14_word_2b N g a0 t1 K KX  (y14_word_2 N g a0 t1 K KX  k) x2 ξ mc ms
def y14_word (N : Nat) (g : XG) (a0 : Nat) (t1 : Nat)  (ξ : XS) (mc ms : Nat) (K : XS → Prop) (KX : String → Nat → XS → Prop) : Prop :=
  nx ((0 : Int32) : Int32) fun x2_1 =>
  y14_word_2 N g a0 t1 K KX N x2_1 ξ mc ms
section XC
variable {p : Program} {l : Launch} {e : Env} {R : Room} {s : State} {m : MethodId} {args : Array Value} {below : List Frame} {meth : Method} {c : Code} {nL cells slots : Nat} {A : Nat → Prop} {g : XG} {ξ : XS} {Q : State → Prop} {pc n : Nat} {lv : List (Nat × Value)} {st : List Value} {cc : ByteArray} {ρ : Type} {res : ρ}
theorem xclX14_42 (E : EV p s m args c cc nL RX14) {N : Nat} {t0 : Nat} (ht0 : t0 < 4)  {kk : Int32 → XS → Option ρ} (hR : 2 ≤ R.frames ∧ 40 ≤ R.locals) (hcat : (st.map fun v => v.category).sum ≤ 8) (hf : cells ≤ R.cells ∧ slots ≤ R.slots) (d : decode cc pc = .ok (.invokevirtual 42, 3)) (h : bnd (x6_length N g t0  ξ) kk = some res) (hn : pc + 3 = n) (k : ∀ (v : Int32) (ξ1 : XS), kk v ξ1 = some res → CF p l e R s m args below meth c nL cells slots (XB g A s ξ1) Q n lv (.int v :: st)) : CF p l e R s m args below meth c nL cells slots (XB g A s ξ) Q pc lv (.ref (xa g (410 + t0)) :: st) :=
  xcallW0_i (na := 0) E [] (fun v ξ1 ho => met_x6_length l g N t0 ht0  ξ ho) (C := RJ6) (lw_V q764 q765 q766 q117 q767) (by decide +kernel) (fun H locs hB => vk_recv (adK := fun i => xa g (410 + i)) (i := t0) hB.2.2.2.2.2.2.2.2.2.2.2.2.1 ht0 hB.2.2.1) rfl rfl hR rfl rfl hcat hf d h hn k
theorem xclX14_47 (E : EV p s m args c cc nL RX14) {N : Nat} {t0 : Nat} (ht0 : t0 < 4) {x1 : Int32} {kk : Int32 → XS → Option ρ} (hR : 4 ≤ R.frames ∧ 85 ≤ R.locals) (hcat : (st.map fun v => v.category).sum ≤ 8) (hf : cells ≤ R.cells ∧ slots ≤ R.slots) (d : decode cc pc = .ok (.invokevirtual 47, 3)) (h : bnd (x6_charAt N g t0 x1 ξ) kk = some res) (hn : pc + 3 = n) (k : ∀ (v : Int32) (ξ1 : XS), kk v ξ1 = some res → CF p l e R s m args below meth c nL cells slots (XB g A s ξ1) Q n lv (.int v :: st)) : CF p l e R s m args below meth c nL cells slots (XB g A s ξ) Q pc lv (.int x1 :: .ref (xa g (410 + t0)) :: st) :=
  xcallW0_i (na := 1) E [.int x1] (fun v ξ1 ho => met_x6_charAt l g N t0 ht0 x1 ξ ho) (C := RJ6) (lw_V q774 q775 q776 q117 q777) (by decide +kernel) (fun H locs hB => vk_recv (adK := fun i => xa g (410 + i)) (i := t0) hB.2.2.2.2.2.2.2.2.2.2.2.2.1 ht0 hB.2.2.1) rfl rfl hR rfl rfl hcat hf d h hn k
theorem zclX14_51 (E : EV p s m args c cc nL RX14) (hlt : l.stackTraces = false) {N mc ms : Nat} {a0 : Nat}  {x1 : Int32} {kx : Nat → Nat → String → Nat → XS → Prop} {kk : Nat → Nat → XS → Prop} (hR : 8 ≤ R.frames ∧ 162 ≤ R.locals) (hcat : (st.map fun v => v.category).sum ≤ 8) (hb : cells + mc ≤ R.cells ∧ slots + ms ≤ R.slots) (d : decode cc pc = .ok (.invokevirtual 51, 3)) (h : if isC ξ a0 15 15 = true then bnyvx (y14_must N g a0 x1 ξ) mc ms kx kk else False) (hn : pc + 3 = n) (kX : ∀ (m1 n1 : Nat) (E9 : String) (q : Nat) (ξ1 : XS), (cells + m1 + (mc - m1) ≤ R.cells ∧ slots + n1 + (ms - n1) ≤ R.slots) → kx m1 n1 E9 q ξ1 → CX p l e R s m args below meth c nL (cells + m1) (slots + n1) (XB g A s ξ1) Q pc lv E9 q) (k : ∀ (m1 n1 : Nat) (ξ1 : XS), (cells + m1 + (mc - m1) ≤ R.cells ∧ slots + n1 + (ms - n1) ≤ R.slots) → kk m1 n1 ξ1 → CF p l e R s m args below meth c nL (cells + m1) (slots + n1) (XB g A s ξ1) Q n lv st) : CF p l e R s m args below meth c nL cells slots (XB g A s ξ) Q pc lv (.int x1 :: .ref a0 :: st) := by
  by_cases hi : ¬ isC ξ a0 15 15 = true
  · rw [if_neg hi] at h; cases h
  have hi : isC ξ a0 15 15 = true := Decidable.not_not.mp hi
  rw [if_pos hi] at h
  obtain ⟨ci, hci, h8, h9⟩ := isC_at hi
  have e9 : ci = 15 := by omega
  subst e9
  obtain ⟨m1, n1, h1, h2, h⟩ := h
  exact zcallV_v (na := 1) E [.int x1] (met_y14_must l g N a0  x1 ξ m1 n1 _ _ hlt h) (C9 := RX14) (lw_V q810 q812 qs8 q116 q813) (by decide +kernel) (xrecv_d (q := (RX14, TX14, 5)) hci rfl) hR rfl rfl hcat ⟨by omega, by omega⟩ d hn (fun ξ1 hk => k m1 n1 ξ1 ⟨by omega, by omega⟩ hk) (fun E9 q ξ1 hk => kX m1 n1 E9 q ξ1 ⟨by omega, by omega⟩ hk)
theorem xclX14_42p (E : EV p s m args c cc nL RX14) {N : Nat} {t0 : Nat} (ht0 : t0 < 4)  {kk : Int32 → XS → Prop} (hR : 2 ≤ R.frames ∧ 40 ≤ R.locals) (hcat : (st.map fun v => v.category).sum ≤ 8) (hf : cells ≤ R.cells ∧ slots ≤ R.slots) (d : decode cc pc = .ok (.invokevirtual 42, 3)) (h : bndp (x6_length N g t0  ξ) kk) (hn : pc + 3 = n) (k : ∀ (v : Int32) (ξ1 : XS), kk v ξ1 → CF p l e R s m args below meth c nL cells slots (XB g A s ξ1) Q n lv (.int v :: st)) : CF p l e R s m args below meth c nL cells slots (XB g A s ξ) Q pc lv (.ref (xa g (410 + t0)) :: st) :=
  xcallW0_ip (na := 0) E [] (fun v ξ1 ho => met_x6_length l g N t0 ht0  ξ ho) (C := RJ6) (lw_V q764 q765 q766 q117 q767) (by decide +kernel) (fun H locs hB => vk_recv (adK := fun i => xa g (410 + i)) (i := t0) hB.2.2.2.2.2.2.2.2.2.2.2.2.1 ht0 hB.2.2.1) rfl rfl hR rfl rfl hcat hf d h hn k
theorem xclX14_47p (E : EV p s m args c cc nL RX14) {N : Nat} {t0 : Nat} (ht0 : t0 < 4) {x1 : Int32} {kk : Int32 → XS → Prop} (hR : 4 ≤ R.frames ∧ 85 ≤ R.locals) (hcat : (st.map fun v => v.category).sum ≤ 8) (hf : cells ≤ R.cells ∧ slots ≤ R.slots) (d : decode cc pc = .ok (.invokevirtual 47, 3)) (h : bndp (x6_charAt N g t0 x1 ξ) kk) (hn : pc + 3 = n) (k : ∀ (v : Int32) (ξ1 : XS), kk v ξ1 → CF p l e R s m args below meth c nL cells slots (XB g A s ξ1) Q n lv (.int v :: st)) : CF p l e R s m args below meth c nL cells slots (XB g A s ξ) Q pc lv (.int x1 :: .ref (xa g (410 + t0)) :: st) :=
  xcallW0_ip (na := 1) E [.int x1] (fun v ξ1 ho => met_x6_charAt l g N t0 ht0 x1 ξ ho) (C := RJ6) (lw_V q774 q775 q776 q117 q777) (by decide +kernel) (fun H locs hB => vk_recv (adK := fun i => xa g (410 + i)) (i := t0) hB.2.2.2.2.2.2.2.2.2.2.2.2.1 ht0 hB.2.2.1) rfl rfl hR rfl rfl hcat hf d h hn k
end XC
set_option maxHeartbeats 4000000 in
theorem wy14_word_2b {p : Program} {l : Launch} {e : Env} {R : Room} {s : State} {m : MethodId} {args : Array Value} {below : List Frame} {meth : Method} {c : Code} {A : Nat → Prop} {g : XG} {Q : State → Prop} {K : XS → Prop} {KX : String → Nat → XS → Prop} (E : EV p s m args c cX14_word 3 RX14) (hlt : l.stackTraces = false) (hlk : meth.locks = false) (hx : ZX p l e R s m args below meth c 3 A g Q KX) (hR : 8 ≤ R.frames ∧ 162 ≤ R.locals) (hq : YTv p l e R s m args below meth c cX14_word 3 A g Q K) (N : Nat) (a0 : Nat) (t1 : Nat) (ht1 : t1 < 4)  {rec2 : Int32 → XS → Nat → Nat → Prop} (ih2 : ∀ (x2 : Int32) (ξ : XS) (mc ms cells slots : Nat), (cells + mc ≤ R.cells ∧ slots + ms ≤ R.slots) → rec2 x2 ξ mc ms → CF p l e R s m args below meth c 3 cells slots (XB g A s ξ) Q 2 [(0, .ref a0), (1, .ref (xa g (410 + t1))), (2, .int x2)] []) (x2 : Int32) (ξ : XS) (mc ms cells slots : Nat) (hb : cells + mc ≤ R.cells ∧ slots + ms ≤ R.slots) (h : y14_word_2b N g a0 t1 K KX  rec2 x2 ξ mc ms) : CF p l e R s m args below meth c 3 cells slots (XB g A s ξ) Q 2 [(0, .ref a0), (1, .ref (xa g (410 + t1))), (2, .int x2)] [] := by
  unfold y14_word_2b at h
  refine cf_iload_n E dX14_word_2 2 rfl rfl ?_
  refine cf_aload_n E dX14_word_3 1 rfl rfl ?_
  refine xclX14_42p (t0 := t1) E ht1 (rmle hR rfl rfl) (Nat.le_of_ble_eq_true rfl) (hb0 hb) dX14_word_4 h rfl (fun v_2 s_1 h => ?_)
  refine cf_icmp_gep E dX14_word_7 h rfl rfl (fun h => ?_) (fun h => ?_)
  · exact hq _ _ _ _ _ (hb0 hb).1 (hb0 hb).2 dX14_word_25 h
  · refine cf_aload_n E dX14_word_10 0 rfl rfl ?_
    refine cf_aload_n E dX14_word_11 1 rfl rfl ?_
    refine cf_iload_n E dX14_word_12 2 rfl rfl ?_
    refine xclX14_47p (t0 := t1) E ht1 (rmle hR rfl rfl) (Nat.le_of_ble_eq_true rfl) (hb0 hb) dX14_word_13 h rfl (fun v_4 s_3 h => ?_)
    refine zclX14_51 E hlt (rmle hR rfl rfl) (Nat.le_of_ble_eq_true rfl) hb dX14_word_16 h rfl (fun m_5 n_6 e_9 q_10 s_11 hb h => ?_) (fun m_5 n_6 s_7 hb h => ?_)
    · exact hx _ _ _ _ _ _ _ (hb0 hb).1 (hb0 hb).2 h
    refine cf_iincp E dX14_word_19 ic_1 h 2 rfl (fun x2_12 => [(2, .int x2_12), (0, .ref a0), (1, .ref (xa g (410 + t1)))]) (Nat.le_of_ble_eq_true rfl) (fun _ => rfl) rfl (fun x2_12 h => ?_)
    refine cf_goto E dX14_word_22 rfl ?_
    exact CF.sub [1, 2, 0] rfl (ih2 x2_12 s_7 (mc - m_5) (ms - n_6) _ _ hb h)
set_option maxHeartbeats 4000000 in
theorem wy14_word_2 {p : Program} {l : Launch} {e : Env} {R : Room} {s : State} {m : MethodId} {args : Array Value} {below : List Frame} {meth : Method} {c : Code} {A : Nat → Prop} {g : XG} {Q : State → Prop} {K : XS → Prop} {KX : String → Nat → XS → Prop} (E : EV p s m args c cX14_word 3 RX14) (hlt : l.stackTraces = false) (hlk : meth.locks = false) (hx : ZX p l e R s m args below meth c 3 A g Q KX) (hR : 8 ≤ R.frames ∧ 162 ≤ R.locals) (hq : YTv p l e R s m args below meth c cX14_word 3 A g Q K) (N : Nat) (a0 : Nat) (t1 : Nat) (ht1 : t1 < 4)  : ∀ (k : Nat) (x2 : Int32) (ξ : XS) (mc ms cells slots : Nat), (cells + mc ≤ R.cells ∧ slots + ms ≤ R.slots) → y14_word_2 N g a0 t1 K KX  k x2 ξ mc ms → CF p l e R s m args below meth c 3 cells slots (XB g A s ξ) Q 2 [(0, .ref a0), (1, .ref (xa g (410 + t1))), (2, .int x2)] [] := by
  intro k
  induction k with
  | zero => intro x2 ξ mc ms cells slots hb h; have h : False := h; cases h
  | succ k ih => intro x2 ξ mc ms cells slots hb h; exact wy14_word_2b E hlt hlk hx hR hq N a0 t1 ht1  ih x2 ξ mc ms cells slots hb h
set_option maxHeartbeats 4000000 in
theorem met_y14_word (l : Launch) (g : XG) (N : Nat) (a0 : Nat) (t1 : Nat) (ht1 : t1 < 4)  (ξ : XS) (mc ms : Nat) (K : XS → Prop) (KX : String → Nat → XS → Prop) (hlt : l.stackTraces = false) (h : y14_word N g a0 t1  ξ mc ms K KX) : MetZv l g yX14_word (ws_ yX14_word cX14_word 3 none) 8 162 [.ref a0, .ref (xa g (410 + t1))] ξ mc ms K KX := by
  refine met_zv (lv0 := [(0, .ref a0), (1, .ref (xa g (410 + t1)))]) (own := RX14) (by decide) rfl (Nat.le_of_ble_eq_true rfl) rfl ?_
  intro p e s m below meth c A Q E hmn hlk hx hq
  have hR : 8 ≤ ({ frames := 8, cells := mc, slots := ms, locals := 162 } : Room).frames ∧ 162 ≤ ({ frames := 8, cells := mc, slots := ms, locals := 162 } : Room).locals := ⟨Nat.le_refl _, Nat.le_refl _⟩
  have hb : 0 + mc ≤ ({ frames := 8, cells := mc, slots := ms, locals := 162 } : Room).cells ∧ 0 + ms ≤ ({ frames := 8, cells := mc, slots := ms, locals := 162 } : Room).slots := ⟨Nat.le_of_eq (Nat.zero_add _), Nat.le_of_eq (Nat.zero_add _)⟩
  unfold y14_word at h
  refine cf_iconst E dX14_word_0 ic_0 rfl ?_
  refine cf_istore_np E dX14_word_1 h (fun x2_1 => [(2, .int x2_1), (0, .ref a0), (1, .ref (xa g (410 + t1)))]) (Nat.le_of_ble_eq_true rfl) (fun _ => rfl) rfl (fun x2_1 h => ?_)
  exact CF.sub [1, 2, 0] rfl (wy14_word_2 E hlt hlk hx hR hq N a0 t1 ht1 N x2_1 ξ mc ms _ _ hb h)
def y14_number_23b (N : Nat) (g : XG) (a0 : Nat) (K : Int32 → XS → Prop) (KX : String → Nat → XS → Prop)  (rec23 : Int32 → Int32 → XS → Nat → Nat → Prop) (x1 : Int32) (x2 : Int32) (ξ : XS) (mc ms : Nat) : Prop :=
  if (2 : Int32) ≤ x2 then (
    K x1 ξ)
  else (
    if isC ξ a0 15 15 = true then (
    bndp (x14_here N g a0 ξ) fun v_2 s_1 =>
    bndp (x0_in N g v_2 (48 : Int32) (57 : Int32) s_1) fun v_4 s_3 =>
    if v_4 = 0 then (
      K x1 s_3)
    else (
      if dRs s_3 a0 [15] 0 = some (xa g 108) then (
      bnop (dI s_3 a0 15 15 2) fun v_5 =>
      bndp (dO s_3 a0) fun ci_7 fs_8 => if (ci_7 = 15 ∧ 2 < fs_8.length) then nx (sXd s_3 a0 (.inr (ci_7, fs_8.set 2 (.int (v_5 + (1 : Int32)))))) (fun s_6 =>
      if inb v_5 100 = true then (
      nx (((((10 : Int32) * x1) + (xR s_6 8 v_5.toNatClampNeg)) - (48 : Int32)) : Int32) fun x1_9 =>
      nx (x2 + (1 : Int32)) fun x2_10 =>
      rec23 x1_9 x2_10 s_6 mc ms) else False) else False) else False)) else False)
def y14_number_23 (N : Nat) (g : XG) (a0 : Nat) (K : Int32 → XS → Prop) (KX : String → Nat → XS → Prop)  : Nat → Int32 → Int32 → XS → Nat → Nat → Prop
  | 0 => fun _ _ _ _ _ => False
  | k + 1 => fun x1 x2 ξ mc ms => y14_number_23b N g a0 K KX  (y14_number_23 N g a0 K KX  k) x1 x2 ξ mc ms
def y14_number (N : Nat) (g : XG) (a0 : Nat)  (ξ : XS) (mc ms : Nat) (K : Int32 → XS → Prop) (KX : String → Nat → XS → Prop) : Prop :=
  if isC ξ a0 15 15 = true then (
  bndp (x14_here N g a0 ξ) fun v_2 s_1 =>
  bndp (x0_in N g v_2 (48 : Int32) (57 : Int32) s_1) fun v_4 s_3 =>
  if v_4 = 0 then (
    if isC s_3 a0 15 15 = true then (
    bnyx (y14_off N g a0 s_3) mc ms (fun m_7 n_8 e_11 q_12 s_13 =>
      KX e_11 q_12 s_13) fun m_7 n_8 v_10 s_9 =>
    if isC s_9 v_10 16 16 = true then (
    KX "HatsDecide$Off" v_10 s_9) else False) else False)
  else (
    nx ((0 : Int32) : Int32) fun x1_5 =>
    nx ((0 : Int32) : Int32) fun x2_6 =>
    y14_number_23 N g a0 K KX N x1_5 x2_6 s_3 mc ms)) else False
section XC
variable {p : Program} {l : Launch} {e : Env} {R : Room} {s : State} {m : MethodId} {args : Array Value} {below : List Frame} {meth : Method} {c : Code} {nL cells slots : Nat} {A : Nat → Prop} {g : XG} {ξ : XS} {Q : State → Prop} {pc n : Nat} {lv : List (Nat × Value)} {st : List Value} {cc : ByteArray} {ρ : Type} {res : ρ}
theorem xclX14_54 (E : EV p s m args c cc nL RX14) {N : Nat}   {x0 : Int32} {x1 : Int32} {x2 : Int32} {kk : Int32 → XS → Option ρ} (hR : 1 ≤ R.frames ∧ 22 ≤ R.locals) (hcat : (st.map fun v => v.category).sum ≤ 8) (hf : cells ≤ R.cells ∧ slots ≤ R.slots) (d : decode cc pc = .ok (.invokestatic 54, 3)) (h : bnd (x0_in N g  x0 x1 x2 ξ) kk = some res) (hn : pc + 3 = n) (k : ∀ (v : Int32) (ξ1 : XS), kk v ξ1 = some res → CF p l e R s m args below meth c nL cells slots (XB g A s ξ1) Q n lv (.int v :: st)) : CF p l e R s m args below meth c nL cells slots (XB g A s ξ) Q pc lv (.int x2 :: .int x1 :: .int x0 :: st) :=
  xcallN0_i (na := 3) E [.int x0, .int x1, .int x2] (fun v ξ1 ho => met_x0_in l g N   x0 x1 x2 ξ ho) (lw_meth q417) (by decide +kernel) (host := "HatsDecide") q906 q96 q416 rfl rfl hR rfl rfl hcat hf d h hn k
theorem xclX14_54p (E : EV p s m args c cc nL RX14) {N : Nat}   {x0 : Int32} {x1 : Int32} {x2 : Int32} {kk : Int32 → XS → Prop} (hR : 1 ≤ R.frames ∧ 22 ≤ R.locals) (hcat : (st.map fun v => v.category).sum ≤ 8) (hf : cells ≤ R.cells ∧ slots ≤ R.slots) (d : decode cc pc = .ok (.invokestatic 54, 3)) (h : bndp (x0_in N g  x0 x1 x2 ξ) kk) (hn : pc + 3 = n) (k : ∀ (v : Int32) (ξ1 : XS), kk v ξ1 → CF p l e R s m args below meth c nL cells slots (XB g A s ξ1) Q n lv (.int v :: st)) : CF p l e R s m args below meth c nL cells slots (XB g A s ξ) Q pc lv (.int x2 :: .int x1 :: .int x0 :: st) :=
  xcallN0_ip (na := 3) E [.int x0, .int x1, .int x2] (fun v ξ1 ho => met_x0_in l g N   x0 x1 x2 ξ ho) (lw_meth q417) (by decide +kernel) (host := "HatsDecide") q906 q96 q416 rfl rfl hR rfl rfl hcat hf d h hn k
end XC
set_option maxHeartbeats 4000000 in
theorem wy14_number_23b {p : Program} {l : Launch} {e : Env} {R : Room} {s : State} {m : MethodId} {args : Array Value} {below : List Frame} {meth : Method} {c : Code} {A : Nat → Prop} {g : XG} {Q : State → Prop} {K : Int32 → XS → Prop} {KX : String → Nat → XS → Prop} (E : EV p s m args c cX14_number 3 RX14) (hlt : l.stackTraces = false) (hlk : meth.locks = false) (hx : ZX p l e R s m args below meth c 3 A g Q KX) (hR : 7 ≤ R.frames ∧ 141 ≤ R.locals) (hq : YTi p l e R s m args below meth c cX14_number 3 A g .int Q K) (N : Nat) (a0 : Nat)   {rec23 : Int32 → Int32 → XS → Nat → Nat → Prop} (ih23 : ∀ (x1 : Int32) (x2 : Int32) (ξ : XS) (mc ms cells slots : Nat), (cells + mc ≤ R.cells ∧ slots + ms ≤ R.slots) → rec23 x1 x2 ξ mc ms → CF p l e R s m args below meth c 3 cells slots (XB g A s ξ) Q 23 [(0, .ref a0), (1, .int x1), (2, .int x2)] []) (x1 : Int32) (x2 : Int32) (ξ : XS) (mc ms cells slots : Nat) (hb : cells + mc ≤ R.cells ∧ slots + ms ≤ R.slots) (h : y14_number_23b N g a0 K KX  rec23 x1 x2 ξ mc ms) : CF p l e R s m args below meth c 3 cells slots (XB g A s ξ) Q 23 [(0, .ref a0), (1, .int x1), (2, .int x2)] [] := by
  unfold y14_number_23b at h
  refine cf_iload_n E dX14_number_23 2 rfl rfl ?_
  refine cf_iconst E dX14_number_24 ic_2 rfl ?_
  refine cf_icmp_gep E dX14_number_25 h rfl rfl (fun h => ?_) (fun h => ?_)
  · refine cf_iload_n E dX14_number_73 1 rfl rfl ?_
    exact hq _ _ _ _ _ _ (hb0 hb).1 (hb0 hb).2 dX14_number_74 rfl h
  · refine cf_aload_n E dX14_number_28 0 rfl rfl ?_
    refine xclX14_34p E (rmle hR rfl rfl) (Nat.le_of_ble_eq_true rfl) (hb0 hb) dX14_number_29 h rfl (fun v_2 s_1 h => ?_)
    refine cf_bipush E dX14_number_32 bp_48 rfl ?_
    refine cf_bipush E dX14_number_34 bp_57 rfl ?_
    refine xclX14_54p E (rmle hR rfl rfl) (Nat.le_of_ble_eq_true rfl) (hb0 hb) dX14_number_36 h rfl (fun v_4 s_3 h => ?_)
    refine cf_if_eqp E dX14_number_39 h rfl rfl (fun h => ?_) (fun h => ?_)
    · refine cf_iload_n E dX14_number_73 1 rfl rfl ?_
      exact hq _ _ _ _ _ _ (hb0 hb).1 (hb0 hb).2 dX14_number_74 rfl h
    · refine cf_bipush E dX14_number_42 bp_10 rfl ?_
      refine cf_iload_n E dX14_number_44 1 rfl rfl ?_
      refine cf_imul E dX14_number_45 rfl ?_
      refine cf_aload_n E dX14_number_46 0 rfl rfl ?_
      refine xrtX14_18p E dX14_number_47 h rfl (fun h => ?_)
      refine cf_aload_n E dX14_number_50 0 rfl rfl ?_
      refine cf_dup E dX14_number_51 rfl rfl ?_
      refine xdgX14_26p E dX14_number_52 h rfl (fun v_5 h => ?_)
      refine cf_dup_x1 E dX14_number_55 rfl rfl rfl ?_
      refine cf_iconst E dX14_number_56 ic_1 rfl ?_
      refine cf_iadd E dX14_number_57 rfl ?_
      refine xdqX14_26 E dX14_number_58 h rfl (fun s_6 h => ?_)
      refine xald_8p E dX14_number_61 h rfl (fun h => ?_)
      refine cf_iadd E dX14_number_62 rfl ?_
      refine cf_bipush E dX14_number_63 bp_48 rfl ?_
      refine cf_isub E dX14_number_65 rfl ?_
      refine cf_istore_np E dX14_number_66 h (fun x1_9 => [(1, .int x1_9), (0, .ref a0), (2, .int x2)]) (Nat.le_of_ble_eq_true rfl) (fun _ => rfl) rfl (fun x1_9 h => ?_)
      refine cf_iincp E dX14_number_67 ic_1 h 2 rfl (fun x2_10 => [(2, .int x2_10), (1, .int x1_9), (0, .ref a0)]) (Nat.le_of_ble_eq_true rfl) (fun _ => rfl) rfl (fun x2_10 h => ?_)
      refine cf_goto E dX14_number_70 rfl ?_
      exact CF.sub [2, 1, 0] rfl (ih23 x1_9 x2_10 s_6 mc ms _ _ hb h)
set_option maxHeartbeats 4000000 in
theorem wy14_number_23 {p : Program} {l : Launch} {e : Env} {R : Room} {s : State} {m : MethodId} {args : Array Value} {below : List Frame} {meth : Method} {c : Code} {A : Nat → Prop} {g : XG} {Q : State → Prop} {K : Int32 → XS → Prop} {KX : String → Nat → XS → Prop} (E : EV p s m args c cX14_number 3 RX14) (hlt : l.stackTraces = false) (hlk : meth.locks = false) (hx : ZX p l e R s m args below meth c 3 A g Q KX) (hR : 7 ≤ R.frames ∧ 141 ≤ R.locals) (hq : YTi p l e R s m args below meth c cX14_number 3 A g .int Q K) (N : Nat) (a0 : Nat)   : ∀ (k : Nat) (x1 : Int32) (x2 : Int32) (ξ : XS) (mc ms cells slots : Nat), (cells + mc ≤ R.cells ∧ slots + ms ≤ R.slots) → y14_number_23 N g a0 K KX  k x1 x2 ξ mc ms → CF p l e R s m args below meth c 3 cells slots (XB g A s ξ) Q 23 [(0, .ref a0), (1, .int x1), (2, .int x2)] [] := by
  intro k
  induction k with
  | zero => intro x1 x2 ξ mc ms cells slots hb h; have h : False := h; cases h
  | succ k ih => intro x1 x2 ξ mc ms cells slots hb h; exact wy14_number_23b E hlt hlk hx hR hq N a0   ih x1 x2 ξ mc ms cells slots hb h
set_option maxHeartbeats 4000000 in
theorem met_y14_number (l : Launch) (g : XG) (N : Nat) (a0 : Nat)   (ξ : XS) (mc ms : Nat) (K : Int32 → XS → Prop) (KX : String → Nat → XS → Prop) (hlt : l.stackTraces = false) (h : y14_number N g a0  ξ mc ms K KX) : MetZi l g yX14_number (ws_ yX14_number cX14_number 3 (some .int)) 7 141 [.ref a0] ξ mc ms K KX := by
  refine met_zi (lv0 := [(0, .ref a0)]) (own := RX14) (by decide) rfl (Nat.le_of_ble_eq_true rfl) rfl ?_
  intro p e s m below meth c A Q E hmn hlk hx hq
  have hR : 7 ≤ ({ frames := 7, cells := mc, slots := ms, locals := 141 } : Room).frames ∧ 141 ≤ ({ frames := 7, cells := mc, slots := ms, locals := 141 } : Room).locals := ⟨Nat.le_refl _, Nat.le_refl _⟩
  have hb : 0 + mc ≤ ({ frames := 7, cells := mc, slots := ms, locals := 141 } : Room).cells ∧ 0 + ms ≤ ({ frames := 7, cells := mc, slots := ms, locals := 141 } : Room).slots := ⟨Nat.le_of_eq (Nat.zero_add _), Nat.le_of_eq (Nat.zero_add _)⟩
  unfold y14_number at h
  refine cf_aload_n E dX14_number_0 0 rfl rfl ?_
  refine xclX14_34p E (rmle hR rfl rfl) (Nat.le_of_ble_eq_true rfl) (hb0 hb) dX14_number_1 h rfl (fun v_2 s_1 h => ?_)
  refine cf_bipush E dX14_number_4 bp_48 rfl ?_
  refine cf_bipush E dX14_number_6 bp_57 rfl ?_
  refine xclX14_54p E (rmle hR rfl rfl) (Nat.le_of_ble_eq_true rfl) (hb0 hb) dX14_number_8 h rfl (fun v_4 s_3 h => ?_)
  refine cf_if_nep E dX14_number_11 h rfl rfl (fun h => ?_) (fun h => ?_)
  · refine cf_iconst E dX14_number_19 ic_0 rfl ?_
    refine cf_istore_np E dX14_number_20 h (fun x1_5 => [(1, .int x1_5), (0, .ref a0)]) (Nat.le_of_ble_eq_true rfl) (fun _ => rfl) rfl (fun x1_5 h => ?_)
    refine cf_iconst E dX14_number_21 ic_0 rfl ?_
    refine cf_istore_np E dX14_number_22 h (fun x2_6 => [(2, .int x2_6), (1, .int x1_5), (0, .ref a0)]) (Nat.le_of_ble_eq_true rfl) (fun _ => rfl) rfl (fun x2_6 h => ?_)
    exact CF.sub [2, 1, 0] rfl (wy14_number_23 E hlt hlk hx hR hq N a0 N x1_5 x2_6 s_3 mc ms _ _ hb h)
  · refine cf_aload_n E dX14_number_14 0 rfl rfl ?_
    refine zclX14_38 E hlt (rmle hR rfl rfl) (Nat.le_of_ble_eq_true rfl) hb dX14_number_15 h rfl (fun m_7 n_8 e_11 q_12 s_13 hb h => ?_) (fun m_7 n_8 v_10 s_9 hb h => ?_)
    · exact hx _ _ _ _ _ _ _ (hb0 hb).1 (hb0 hb).2 h
    refine cx_athrowC E dX14_number_18 h (fun h => ?_)
    exact hx _ _ _ _ _ _ _ (hb0 hb).1 (hb0 hb).2 h
def y14_deeper (N : Nat) (g : XG) (a0 : Nat)  (ξ : XS) (mc ms : Nat) (K : XS → Prop) (KX : String → Nat → XS → Prop) : Prop :=
  bnop (dI ξ a0 15 15 3) fun v_1 =>
  if v_1 = (4 : Int32) then (
    if isC ξ a0 15 15 = true then (
    bnyx (y14_off N g a0 ξ) mc ms (fun m_10 n_11 e_14 q_15 s_16 =>
      KX e_14 q_15 s_16) fun m_10 n_11 v_13 s_12 =>
    if isC s_12 v_13 16 16 = true then (
    KX "HatsDecide$Off" v_13 s_12) else False) else False)
  else (
    bnop (dI ξ a0 15 15 3) fun v_2 =>
    bndp (dO ξ a0) fun ci_4 fs_5 => if (ci_4 = 15 ∧ 3 < fs_5.length) then nx (sXd ξ a0 (.inr (ci_4, fs_5.set 3 (.int (v_2 + (1 : Int32)))))) (fun s_3 =>
    bnop (dI s_3 a0 15 15 2) fun v_6 =>
    bndp (dO s_3 a0) fun ci_8 fs_9 => if (ci_8 = 15 ∧ 2 < fs_9.length) then nx (sXd s_3 a0 (.inr (ci_8, fs_9.set 2 (.int (v_6 + (1 : Int32)))))) (fun s_7 =>
    K s_7) else False) else False)
set_option maxHeartbeats 4000000 in
theorem met_y14_deeper (l : Launch) (g : XG) (N : Nat) (a0 : Nat)   (ξ : XS) (mc ms : Nat) (K : XS → Prop) (KX : String → Nat → XS → Prop) (hlt : l.stackTraces = false) (h : y14_deeper N g a0  ξ mc ms K KX) : MetZv l g yX14_deeper (ws_ yX14_deeper cX14_deeper 1 none) 7 141 [.ref a0] ξ mc ms K KX := by
  refine met_zv (lv0 := [(0, .ref a0)]) (own := RX14) (by decide) rfl (Nat.le_of_ble_eq_true rfl) rfl ?_
  intro p e s m below meth c A Q E hmn hlk hx hq
  have hR : 7 ≤ ({ frames := 7, cells := mc, slots := ms, locals := 141 } : Room).frames ∧ 141 ≤ ({ frames := 7, cells := mc, slots := ms, locals := 141 } : Room).locals := ⟨Nat.le_refl _, Nat.le_refl _⟩
  have hb : 0 + mc ≤ ({ frames := 7, cells := mc, slots := ms, locals := 141 } : Room).cells ∧ 0 + ms ≤ ({ frames := 7, cells := mc, slots := ms, locals := 141 } : Room).slots := ⟨Nat.le_of_eq (Nat.zero_add _), Nat.le_of_eq (Nat.zero_add _)⟩
  unfold y14_deeper at h
  refine cf_aload_n E dX14_deeper_0 0 rfl rfl ?_
  refine xdgX14_58p E dX14_deeper_1 h rfl (fun v_1 h => ?_)
  refine cf_iconst E dX14_deeper_4 ic_4 rfl ?_
  refine cf_icmp_nep E dX14_deeper_5 h rfl rfl (fun h => ?_) (fun h => ?_)
  · refine cf_aload_n E dX14_deeper_13 0 rfl rfl ?_
    refine cf_dup E dX14_deeper_14 rfl rfl ?_
    refine xdgX14_58p E dX14_deeper_15 h rfl (fun v_2 h => ?_)
    refine cf_iconst E dX14_deeper_18 ic_1 rfl ?_
    refine cf_iadd E dX14_deeper_19 rfl ?_
    refine xdqX14_58 E dX14_deeper_20 h rfl (fun s_3 h => ?_)
    refine cf_aload_n E dX14_deeper_23 0 rfl rfl ?_
    refine cf_dup E dX14_deeper_24 rfl rfl ?_
    refine xdgX14_26p E dX14_deeper_25 h rfl (fun v_6 h => ?_)
    refine cf_iconst E dX14_deeper_28 ic_1 rfl ?_
    refine cf_iadd E dX14_deeper_29 rfl ?_
    refine xdqX14_26 E dX14_deeper_30 h rfl (fun s_7 h => ?_)
    exact hq _ _ _ _ _ (hb0 hb).1 (hb0 hb).2 dX14_deeper_33 h
  · refine cf_aload_n E dX14_deeper_8 0 rfl rfl ?_
    refine zclX14_38 E hlt (rmle hR rfl rfl) (Nat.le_of_ble_eq_true rfl) hb dX14_deeper_9 h rfl (fun m_10 n_11 e_14 q_15 s_16 hb h => ?_) (fun m_10 n_11 v_13 s_12 hb h => ?_)
    · exact hx _ _ _ _ _ _ _ (hb0 hb).1 (hb0 hb).2 h
    refine cx_athrowC E dX14_deeper_12 h (fun h => ?_)
    exact hx _ _ _ _ _ _ _ (hb0 hb).1 (hb0 hb).2 h
