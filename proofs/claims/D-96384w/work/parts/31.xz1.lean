/-! HatsDecide, group z1: rows, functions, walks -/
set_option maxRecDepth 100000
section XC
variable {p : Program} {l : Launch} {e : Env} {R : Room} {s : State} {m : MethodId} {args : Array Value} {below : List Frame} {meth : Method} {c : Code} {nL cells slots : Nat} {A : Nat → Prop} {g : XG} {ξ : XS} {Q : State → Prop} {pc n : Nat} {lv : List (Nat × Value)} {st : List Value} {cc : ByteArray} {ρ : Type} {res : ρ}
theorem xdgX0_244 (E : EV p s m args c cc nL RX0) {a : Nat} {kk : Int32 → Option ρ} (d : decode cc pc = .ok (.getfield 244, 3)) (h : bno (dI ξ a 16 16 6) kk = some res) (hn : pc + 3 = n) (k : ∀ v : Int32, kk v = some res → CF p l e R s m args below meth c nL cells slots (XB g A s ξ) Q n lv (.int v :: st)) : CF p l e R s m args below meth c nL cells slots (XB g A s ξ) Q pc lv (.ref a :: st) := by
  subst hn
  obtain ⟨v, hi, h⟩ := bno_some h
  obtain ⟨ci, fs, he, h1, h2, hv⟩ := dI_at hi
  obtain ⟨q0, hq⟩ := dE_at (g := g) he
  intro H locs ls hB hl
  have hci : ci = 16 := by omega
  subst hci
  exact va_getN (D := g.1) (ci := 16) (C := RX15) (T := TX15) (N := 7) E.1 E.2.1 E.2.2.2.2 in_X15 E.2.2.2.1 hB.2.2.2.1 hB.1 q0 hq rfl 6 (Nat.le_of_ble_eq_true rfl) (va_Nw.use rfl (hB.2.2.2.2.2.1 _ q886 rfl)) (fun _ h9 => h9) hv d (k v h H locs ls hB hl)
theorem xdgX0_244p (E : EV p s m args c cc nL RX0) {a : Nat} {kk : Int32 → Prop} (d : decode cc pc = .ok (.getfield 244, 3)) (h : bnop (dI ξ a 16 16 6) kk) (hn : pc + 3 = n) (k : ∀ v : Int32, kk v → CF p l e R s m args below meth c nL cells slots (XB g A s ξ) Q n lv (.int v :: st)) : CF p l e R s m args below meth c nL cells slots (XB g A s ξ) Q pc lv (.ref a :: st) := by
  subst hn
  obtain ⟨v, hi, h⟩ := h
  obtain ⟨ci, fs, he, h1, h2, hv⟩ := dI_at hi
  obtain ⟨q0, hq⟩ := dE_at (g := g) he
  intro H locs ls hB hl
  have hci : ci = 16 := by omega
  subst hci
  exact va_getN (D := g.1) (ci := 16) (C := RX15) (T := TX15) (N := 7) E.1 E.2.1 E.2.2.2.2 in_X15 E.2.2.2.1 hB.2.2.2.1 hB.1 q0 hq rfl 6 (Nat.le_of_ble_eq_true rfl) (va_Nw.use rfl (hB.2.2.2.2.2.1 _ q886 rfl)) (fun _ h9 => h9) hv d (k v h H locs ls hB hl)
end XC
def y5_has (N : Nat) (g : XG) (t0 : Nat) (x1 : Int32) (ξ : XS) (mc ms : Nat) (K : XS → Prop) (KX : String → Nat → XS → Prop) : Prop :=
  if (xo ξ (100 + t0)).isSome = true then (
    bndp (x5_size N g t0 ξ) fun v_2 s_1 =>
    bndp (x0_in N g x1 (0 : Int32) (v_2 - (1 : Int32)) s_1) fun v_4 s_3 =>
    if v_4 = 0 then (
      mkOff s_3 (-13 : Int32) mc ms fun q_5 s_7 =>
      if isC s_7 q_5 16 16 = true then (
      KX "HatsDecide$Off" q_5 s_7) else False)
    else (
      K s_3))
  else (
    mkOff ξ (-11 : Int32) mc ms fun q_8 s_10 =>
    if isC s_10 q_8 16 16 = true then (
    KX "HatsDecide$Off" q_8 s_10) else False)
section XC
variable {p : Program} {l : Launch} {e : Env} {R : Room} {s : State} {m : MethodId} {args : Array Value} {below : List Frame} {meth : Method} {c : Code} {nL cells slots : Nat} {A : Nat → Prop} {g : XG} {ξ : XS} {Q : State → Prop} {pc n : Nat} {lv : List (Nat × Value)} {st : List Value} {cc : ByteArray} {ρ : Type} {res : ρ}
theorem xclX5_30 (E : EV p s m args c cc nL RX5) {N : Nat} {t0 : Nat} (ht0 : t0 < 6)  {kk : Int32 → XS → Option ρ} (hR : 1 ≤ R.frames ∧ 22 ≤ R.locals) (hcat : (st.map fun v => v.category).sum ≤ 8) (hf : cells ≤ R.cells ∧ slots ≤ R.slots) (d : decode cc pc = .ok (.invokevirtual 30, 3)) (h : bnd (x5_size N g t0  ξ) kk = some res) (hn : pc + 3 = n) (k : ∀ (v : Int32) (ξ1 : XS), kk v ξ1 = some res → CF p l e R s m args below meth c nL cells slots (XB g A s ξ1) Q n lv (.int v :: st)) : CF p l e R s m args below meth c nL cells slots (XB g A s ξ) Q pc lv (.ref (xa g (320 + t0)) :: st) :=
  xcallV0_i (na := 0) E [] (fun v ξ1 ho => met_x5_size l g N t0 ht0  ξ ho) (C := RX5) (lw_V q1439 q1441 qs35 q104 q1442) (by decide +kernel) (xrecvP ht0) rfl rfl hR rfl rfl hcat hf d h hn k
theorem xclX5_34 (E : EV p s m args c cc nL RX5) {N : Nat}   {x0 : Int32} {x1 : Int32} {x2 : Int32} {kk : Int32 → XS → Option ρ} (hR : 1 ≤ R.frames ∧ 22 ≤ R.locals) (hcat : (st.map fun v => v.category).sum ≤ 8) (hf : cells ≤ R.cells ∧ slots ≤ R.slots) (d : decode cc pc = .ok (.invokestatic 34, 3)) (h : bnd (x0_in N g  x0 x1 x2 ξ) kk = some res) (hn : pc + 3 = n) (k : ∀ (v : Int32) (ξ1 : XS), kk v ξ1 = some res → CF p l e R s m args below meth c nL cells slots (XB g A s ξ1) Q n lv (.int v :: st)) : CF p l e R s m args below meth c nL cells slots (XB g A s ξ) Q pc lv (.int x2 :: .int x1 :: .int x0 :: st) :=
  xcallN0_i (na := 3) E [.int x0, .int x1, .int x2] (fun v ξ1 ho => met_x0_in l g N   x0 x1 x2 ξ ho) (lw_meth q417) (by decide +kernel) (host := "HatsDecide") q1448 q96 q416 rfl rfl hR rfl rfl hcat hf d h hn k
theorem xclX5_30p (E : EV p s m args c cc nL RX5) {N : Nat} {t0 : Nat} (ht0 : t0 < 6)  {kk : Int32 → XS → Prop} (hR : 1 ≤ R.frames ∧ 22 ≤ R.locals) (hcat : (st.map fun v => v.category).sum ≤ 8) (hf : cells ≤ R.cells ∧ slots ≤ R.slots) (d : decode cc pc = .ok (.invokevirtual 30, 3)) (h : bndp (x5_size N g t0  ξ) kk) (hn : pc + 3 = n) (k : ∀ (v : Int32) (ξ1 : XS), kk v ξ1 → CF p l e R s m args below meth c nL cells slots (XB g A s ξ1) Q n lv (.int v :: st)) : CF p l e R s m args below meth c nL cells slots (XB g A s ξ) Q pc lv (.ref (xa g (320 + t0)) :: st) :=
  xcallV0_ip (na := 0) E [] (fun v ξ1 ho => met_x5_size l g N t0 ht0  ξ ho) (C := RX5) (lw_V q1439 q1441 qs35 q104 q1442) (by decide +kernel) (xrecvP ht0) rfl rfl hR rfl rfl hcat hf d h hn k
theorem xclX5_34p (E : EV p s m args c cc nL RX5) {N : Nat}   {x0 : Int32} {x1 : Int32} {x2 : Int32} {kk : Int32 → XS → Prop} (hR : 1 ≤ R.frames ∧ 22 ≤ R.locals) (hcat : (st.map fun v => v.category).sum ≤ 8) (hf : cells ≤ R.cells ∧ slots ≤ R.slots) (d : decode cc pc = .ok (.invokestatic 34, 3)) (h : bndp (x0_in N g  x0 x1 x2 ξ) kk) (hn : pc + 3 = n) (k : ∀ (v : Int32) (ξ1 : XS), kk v ξ1 → CF p l e R s m args below meth c nL cells slots (XB g A s ξ1) Q n lv (.int v :: st)) : CF p l e R s m args below meth c nL cells slots (XB g A s ξ) Q pc lv (.int x2 :: .int x1 :: .int x0 :: st) :=
  xcallN0_ip (na := 3) E [.int x0, .int x1, .int x2] (fun v ξ1 ho => met_x0_in l g N   x0 x1 x2 ξ ho) (lw_meth q417) (by decide +kernel) (host := "HatsDecide") q1448 q96 q416 rfl rfl hR rfl rfl hcat hf d h hn k
end XC
set_option maxHeartbeats 4000000 in
theorem met_y5_has (l : Launch) (g : XG) (N : Nat) (t0 : Nat) (ht0 : t0 < 6) (x1 : Int32) (ξ : XS) (mc ms : Nat) (K : XS → Prop) (KX : String → Nat → XS → Prop) (hlt : l.stackTraces = false) (h : y5_has N g t0 x1 ξ mc ms K KX) : MetZv l g yX5_has (ws_ yX5_has cX5_has 2 none) 6 121 [.ref (xa g (320 + t0)), .int x1] ξ mc ms K KX := by
  refine met_zv (lv0 := [(0, .ref (xa g (320 + t0))), (1, .int x1)]) (own := RX5) (by decide) rfl (Nat.le_of_ble_eq_true rfl) rfl ?_
  intro p e s m below meth c A Q E hmn hlk hx hq
  have hR : 6 ≤ ({ frames := 6, cells := mc, slots := ms, locals := 121 } : Room).frames ∧ 121 ≤ ({ frames := 6, cells := mc, slots := ms, locals := 121 } : Room).locals := ⟨Nat.le_refl _, Nat.le_refl _⟩
  have hb : 0 + mc ≤ ({ frames := 6, cells := mc, slots := ms, locals := 121 } : Room).cells ∧ 0 + ms ≤ ({ frames := 6, cells := mc, slots := ms, locals := 121 } : Room).slots := ⟨Nat.le_of_eq (Nat.zero_add _), Nat.le_of_eq (Nat.zero_add _)⟩
  unfold y5_has at h
  refine cf_aload_n E dX5_has_0 0 rfl rfl ?_
  refine xgX5_9 E ht0 dX5_has_1 rfl ?_
  refine xnnp E dX5_has_4 h rfl rfl (fun h => ?_) (fun h => ?_)
  · refine cf_iload_n E dX5_has_17 1 rfl rfl ?_
    refine cf_iconst E dX5_has_18 ic_0 rfl ?_
    refine cf_aload_n E dX5_has_19 0 rfl rfl ?_
    refine xclX5_30p (t0 := t0) E ht0 (rmle hR rfl rfl) (Nat.le_of_ble_eq_true rfl) (hb0 hb) dX5_has_20 h rfl (fun v_2 s_1 h => ?_)
    refine cf_iconst E dX5_has_23 ic_1 rfl ?_
    refine cf_isub E dX5_has_24 rfl ?_
    refine xclX5_34p E (rmle hR rfl rfl) (Nat.le_of_ble_eq_true rfl) (hb0 hb) dX5_has_25 h rfl (fun v_4 s_3 h => ?_)
    refine cf_if_nep E dX5_has_28 h rfl rfl (fun h => ?_) (fun h => ?_)
    · exact hq _ _ _ _ _ (hb0 hb).1 (hb0 hb).2 dX5_has_41 h
    · obtain ⟨hm9, hs9, h⟩ := h
      refine xnewO E q1437 hb hm9 hs9 dX5_has_31 rfl (fun q_5 hq9 hb => ?_)
      refine cf_dup E dX5_has_34 rfl rfl ?_
      refine cf_bipush E dX5_has_35 bp_m13 rfl ?_
      refine xinitO E hlt hq9 q1438 (rmle hR rfl rfl) (hb0 hb) (Nat.le_of_ble_eq_true rfl) dX5_has_37 rfl (fun fs_6 h19 h29 => ?_)
      have h := h q_5 fs_6 hq9 h19 h29
      generalize (pXd s_3 q_5 (.inr (16, fs_6))) = s_7 at h ⊢
      refine cx_athrowC E dX5_has_40 h (fun h => ?_)
      exact hx _ _ _ _ _ _ _ (hb0 hb).1 (hb0 hb).2 h
  · obtain ⟨hm9, hs9, h⟩ := h
    refine xnewO E q1437 hb hm9 hs9 dX5_has_7 rfl (fun q_8 hq9 hb => ?_)
    refine cf_dup E dX5_has_10 rfl rfl ?_
    refine cf_bipush E dX5_has_11 bp_m11 rfl ?_
    refine xinitO E hlt hq9 q1438 (rmle hR rfl rfl) (hb0 hb) (Nat.le_of_ble_eq_true rfl) dX5_has_13 rfl (fun fs_9 h19 h29 => ?_)
    have h := h q_8 fs_9 hq9 h19 h29
    generalize (pXd ξ q_8 (.inr (16, fs_9))) = s_10 at h ⊢
    refine cx_athrowC E dX5_has_16 h (fun h => ?_)
    exact hx _ _ _ _ _ _ _ (hb0 hb).1 (hb0 hb).2 h
def y0_item_179 (N : Nat) (g : XG)  (K : Int32 → XS → Prop)  (z0 : Int32) (z1 : Int32) (b2 : Nat) (ξ : XS) (mc ms : Nat) : Prop :=
  bndp (dA ξ b2 (xc g 2)) fun n_2 f_3 => if inb z1 n_2 = true then nx (sXd ξ b2 (.inl (xc g 2, n_2, .inl (upd f_3 z1.toNatClampNeg (vp_nar .boolean z0))))) (fun s_1 =>
  K (1 : Int32) s_1) else False
def y0_item (N : Nat) (g : XG)  (x1 : Int32) (x2 : Int32) (x3 : Int64) (ξ : XS) (mc ms : Nat) (K : Int32 → XS → Prop) : Prop :=
  bndp (x0_isTape N g x1 ξ) fun v_2 s_1 =>
  if v_2 = 0 then (
    K (-1 : Int32) s_1)
  else (
    if inb x1 6 = true then (
    bnyvx (y5_has N g x1.toNatClampNeg x2 s_1) mc ms (fun m_4 n_5 e_8 q_9 s_10 =>
      e_8 = "HatsDecide$Off" ∧ (
      bnop (dI s_10 q_9 16 16 6) fun v_11 =>
      K v_11 s_10)) fun m_4 n_5 s_6 =>
    if okRow g s_6 (xo s_6 (100 + x1.toNatClampNeg)) = true then (
    if (inA g s_6 (xo s_6 (100 + x1.toNatClampNeg)) 1) = 0 then (
      if okRow g s_6 (xo s_6 (100 + x1.toNatClampNeg)) = true then (
      if (inA g s_6 (xo s_6 (100 + x1.toNatClampNeg)) 4) = 0 then (
        if okRow g s_6 (xo s_6 (100 + x1.toNatClampNeg)) = true then (
        if (inA g s_6 (xo s_6 (100 + x1.toNatClampNeg)) 0) = 0 then (
          if okRow g s_6 (xo s_6 (100 + x1.toNatClampNeg)) = true then (
          if (inA g s_6 (xo s_6 (100 + x1.toNatClampNeg)) 3) = 0 then (
            bnop (xo s_6 (100 + x1.toNatClampNeg)) fun b_12 => if (dLen s_6 b_12 (xc g 2)).isSome = true then (
            if (lg_cmp x3 (0 : Int64)) = 0 then (
              y0_item_179 N g K (0 : Int32) x2 b_12 s_6 (mc - m_4) (ms - n_5))
            else (
              y0_item_179 N g K (1 : Int32) x2 b_12 s_6 (mc - m_4) (ms - n_5))) else False)
          else (
            bnop (xo s_6 (100 + x1.toNatClampNeg)) fun b_13 => if (dLen s_6 b_13 (xc g 3)).isSome = true then (
            bndp (dAl s_6 b_13 (xc g 3)) fun n_15 f_16 => if inb x2 n_15 = true then nx (sXd s_6 b_13 (.inl (xc g 3, n_15, .inr (.inl (vp_updL f_16 x2.toNatClampNeg x3))))) (fun s_14 =>
            K (1 : Int32) s_14) else False) else False)) else False)
        else (
          bnop (xo s_6 (100 + x1.toNatClampNeg)) fun b_17 => if (dLen s_6 b_17 (xc g 0)).isSome = true then (
          bndp (dA s_6 b_17 (xc g 0)) fun n_19 f_20 => if inb x2 n_19 = true then nx (sXd s_6 b_17 (.inl (xc g 0, n_19, .inl (upd f_20 x2.toNatClampNeg (x3.toInt32))))) (fun s_18 =>
          K (1 : Int32) s_18) else False) else False)) else False)
      else (
        bnop (xo s_6 (100 + x1.toNatClampNeg)) fun b_21 => if (dLen s_6 b_21 (xc g 4)).isSome = true then (
        bndp (dA s_6 b_21 (xc g 4)) fun n_23 f_24 => if inb x2 n_23 = true then nx (sXd s_6 b_21 (.inl (xc g 4, n_23, .inl (upd f_24 x2.toNatClampNeg (vp_nar .short ((x3.toInt32).toInt16.toInt32)))))) (fun s_22 =>
        K (1 : Int32) s_22) else False) else False)) else False)
    else (
      bnop (xo s_6 (100 + x1.toNatClampNeg)) fun b_25 => if (dLen s_6 b_25 (xc g 1)).isSome = true then (
      bndp (dA s_6 b_25 (xc g 1)) fun n_27 f_28 => if inb x2 n_27 = true then nx (sXd s_6 b_25 (.inl (xc g 1, n_27, .inl (upd f_28 x2.toNatClampNeg (vp_nar .byte ((x3.toInt32).toInt8.toInt32)))))) (fun s_26 =>
      K (1 : Int32) s_26) else False) else False)) else False) else False)
section XC
variable {p : Program} {l : Launch} {e : Env} {R : Room} {s : State} {m : MethodId} {args : Array Value} {below : List Frame} {meth : Method} {c : Code} {nL cells slots : Nat} {A : Nat → Prop} {g : XG} {ξ : XS} {Q : State → Prop} {pc n : Nat} {lv : List (Nat × Value)} {st : List Value} {cc : ByteArray} {ρ : Type} {res : ρ}
theorem zclX0_398 (E : EV p s m args c cc nL RX0) (hlt : l.stackTraces = false) {N mc ms : Nat} {t0 : Nat} (ht0 : t0 < 6) {x1 : Int32} {kx : Nat → Nat → String → Nat → XS → Prop} {kk : Nat → Nat → XS → Prop} (hR : 7 ≤ R.frames ∧ 142 ≤ R.locals) (hcat : (st.map fun v => v.category).sum ≤ 8) (hb : cells + mc ≤ R.cells ∧ slots + ms ≤ R.slots) (d : decode cc pc = .ok (.invokevirtual 398, 3)) (h : bnyvx (y5_has N g t0 x1 ξ) mc ms kx kk) (hn : pc + 3 = n) (kX : ∀ (m1 n1 : Nat) (E9 : String) (q : Nat) (ξ1 : XS), (cells + m1 + (mc - m1) ≤ R.cells ∧ slots + n1 + (ms - n1) ≤ R.slots) → kx m1 n1 E9 q ξ1 → CX p l e R s m args below meth c nL (cells + m1) (slots + n1) (XB g A s ξ1) Q pc lv E9 q) (k : ∀ (m1 n1 : Nat) (ξ1 : XS), (cells + m1 + (mc - m1) ≤ R.cells ∧ slots + n1 + (ms - n1) ≤ R.slots) → kk m1 n1 ξ1 → CF p l e R s m args below meth c nL (cells + m1) (slots + n1) (XB g A s ξ1) Q n lv st) : CF p l e R s m args below meth c nL cells slots (XB g A s ξ) Q pc lv (.int x1 :: .ref (xa g (320 + t0)) :: st) := by
  obtain ⟨m1, n1, h1, h2, h⟩ := h
  exact zcallN_v (na := 1) E [.int x1] (met_y5_has l g N t0 ht0 x1 ξ m1 n1 _ _ hlt h) (C9 := RX5) (host := "HatsDecide") (lw_meth q1436) q104 q1433 q1435 qs34 (by decide +kernel) (xrecvP ht0) hR rfl rfl hcat ⟨by omega, by omega⟩ d hn (fun ξ1 hk => k m1 n1 ξ1 ⟨by omega, by omega⟩ hk) (fun E9 q ξ1 hk => kX m1 n1 E9 q ξ1 ⟨by omega, by omega⟩ hk)
theorem xclX0_348p (E : EV p s m args c cc nL RX0) {N : Nat}   {x0 : Int32} {kk : Int32 → XS → Prop} (hR : 2 ≤ R.frames ∧ 42 ≤ R.locals) (hcat : (st.map fun v => v.category).sum ≤ 8) (hf : cells ≤ R.cells ∧ slots ≤ R.slots) (d : decode cc pc = .ok (.invokestatic 348, 3)) (h : bndp (x0_isTape N g  x0 ξ) kk) (hn : pc + 3 = n) (k : ∀ (v : Int32) (ξ1 : XS), kk v ξ1 → CF p l e R s m args below meth c nL cells slots (XB g A s ξ1) Q n lv (.int v :: st)) : CF p l e R s m args below meth c nL cells slots (XB g A s ξ) Q pc lv (.int x0 :: st) :=
  xcallS0_ip (na := 1) E [.int x0] (fun v ξ1 ho => met_x0_isTape l g N   x0 ξ ho) (lw_S q1271 q1272 q96 q1273) (by decide +kernel) rfl rfl hR rfl rfl hcat hf d h hn k
end XC
set_option maxHeartbeats 4000000 in
theorem wy0_item_179 {p : Program} {l : Launch} {e : Env} {R : Room} {s : State} {m : MethodId} {args : Array Value} {below : List Frame} {meth : Method} {c : Code} {A : Nat → Prop} {g : XG} {Q : State → Prop} {K : Int32 → XS → Prop} (E : EV p s m args c cX0_item 11 RX0) (hlt : l.stackTraces = false) (hlk : meth.locks = false) (htab : c.exceptionTable.toList = tableOf [((17 : Nat), (23 : Nat), (26 : Nat), (242 : Nat))]) (hR : 7 ≤ R.frames ∧ 142 ≤ R.locals) (hq : YTi p l e R s m args below meth c cX0_item 11 A g .int Q K) (N : Nat)    (z0 : Int32) (z1 : Int32) (b2 : Nat) (ξ : XS) (mc ms cells slots : Nat) (hb : cells + mc ≤ R.cells ∧ slots + ms ≤ R.slots) (h : y0_item_179 N g  K  z0 z1 b2 ξ mc ms) : CF p l e R s m args below meth c 11 cells slots (XB g A s ξ) Q 179 [] [.int z0, .int z1, .ref b2] := by
  unfold y0_item_179 at h
  refine xdast_zp E dX0_item_179 h rfl (fun s_1 h => ?_)
  refine cf_iconst E dX0_item_180 ic_1 rfl ?_
  exact hq _ _ _ _ _ _ (hb0 hb).1 (hb0 hb).2 dX0_item_181 rfl h
set_option maxHeartbeats 4000000 in
theorem met_y0_item (l : Launch) (g : XG) (N : Nat)   (x1 : Int32) (x2 : Int32) (x3 : Int64) (ξ : XS) (mc ms : Nat) (K : Int32 → XS → Prop) (hlt : l.stackTraces = false) (h : y0_item N g  x1 x2 x3 ξ mc ms K) : MetZi l g yX0_item (wsW_ yX0_item cX0_item 11 (some .int) [((17 : Nat), (23 : Nat), (26 : Nat), (242 : Nat))]) 7 142 [.ref (xa g 0), .int x1, .int x2, .long x3] ξ mc ms K (fun _ _ _ => False) := by
  refine met_zhi (lv0 := [(0, .ref (xa g 0)), (1, .int x1), (2, .int x2), (3, .long x3)]) (own := RX0) (by decide) rfl (Nat.le_of_ble_eq_true rfl) rfl ?_
  intro p e s m below meth c A Q E hmn hlk htab hq
  have hR : 7 ≤ ({ frames := 7, cells := mc, slots := ms, locals := 142 } : Room).frames ∧ 142 ≤ ({ frames := 7, cells := mc, slots := ms, locals := 142 } : Room).locals := ⟨Nat.le_refl _, Nat.le_refl _⟩
  have hb : 0 + mc ≤ ({ frames := 7, cells := mc, slots := ms, locals := 142 } : Room).cells ∧ 0 + ms ≤ ({ frames := 7, cells := mc, slots := ms, locals := 142 } : Room).slots := ⟨Nat.le_of_eq (Nat.zero_add _), Nat.le_of_eq (Nat.zero_add _)⟩
  unfold y0_item at h
  refine cf_iload_n E dX0_item_0 1 rfl rfl ?_
  refine xclX0_348p E (rmle hR rfl rfl) (Nat.le_of_ble_eq_true rfl) (hb0 hb) dX0_item_1 h rfl (fun v_2 s_1 h => ?_)
  refine cf_if_nep E dX0_item_4 h rfl rfl (fun h => ?_) (fun h => ?_)
  · refine cf_aload_n E dX0_item_9 0 rfl rfl ?_
    refine xgX0_79 E dX0_item_10 rfl ?_
    refine cf_iload_n E dX0_item_13 1 rfl rfl ?_
    refine xaltp E dX0_item_14 h rfl (fun ht_3 h => ?_)
    refine cf_astore E dX0_item_15 [(5, .ref (xa g (320 + x1.toNatClampNeg))), (0, .ref (xa g 0)), (1, .int x1), (2, .int x2), (3, .long x3)] (Nat.le_of_ble_eq_true rfl) rfl rfl ?_
    refine cf_aload E dX0_item_17 0 rfl rfl ?_
    refine cf_iload_n E dX0_item_19 3 rfl rfl ?_
    refine zclX0_398 (t0 := x1.toNatClampNeg) E hlt ht_3 (rmle hR rfl rfl) (Nat.le_of_ble_eq_true rfl) hb dX0_item_20 h rfl (fun m_4 n_5 e_8 q_9 s_10 hb h => ?_) (fun m_4 n_5 s_6 hb h => ?_)
    · obtain ⟨hE9, h⟩ := h
      subst hE9
      refine cx_catch E htab [] ⟨17, 23, 26, 242⟩ [] rfl (fun z hz => nomatch hz) rfl (by decide) q718 q820 rfl ?_
      refine cf_astore E dX0_item_26 [(6, .ref q_9), (5, .ref (xa g (320 + x1.toNatClampNeg))), (0, .ref (xa g 0)), (1, .int x1), (2, .int x2), (3, .long x3)] (Nat.le_of_ble_eq_true rfl) rfl rfl ?_
      refine cf_aload E dX0_item_28 0 rfl rfl ?_
      refine xdgX0_244p E dX0_item_30 h rfl (fun v_11 h => ?_)
      exact hq _ _ _ _ _ _ (hb0 hb).1 (hb0 hb).2 dX0_item_33 rfl h
    refine cf_goto E dX0_item_23 rfl ?_
    refine cf_aload E dX0_item_34 0 rfl rfl ?_
    refine xgX0_351 E ht_3 dX0_item_36 rfl ?_
    refine cf_astoreQ E dX0_item_39 [(10, va_rf (xo s_6 (100 + x1.toNatClampNeg))), (5, .ref (xa g (320 + x1.toNatClampNeg))), (0, .ref (xa g 0)), (1, .int x1), (2, .int x2), (3, .long x3)] (Nat.le_of_ble_eq_true rfl) rfl rfl ?_
    refine cf_aloadQ E dX0_item_41 0 rfl rfl ?_
    refine xinA_1p E q1274 dX0_item_43 h rfl (fun h => ?_)
    refine cf_if_eqp E dX0_item_46 h rfl rfl (fun h => ?_) (fun h => ?_)
    · refine cf_aload E dX0_item_66 1 rfl rfl ?_
      refine xgX0_351 E ht_3 dX0_item_68 rfl ?_
      refine cf_astoreQ E dX0_item_71 [(10, va_rf (xo s_6 (100 + x1.toNatClampNeg))), (5, .ref (xa g (320 + x1.toNatClampNeg))), (0, .ref (xa g 0)), (1, .int x1), (2, .int x2), (3, .long x3)] (Nat.le_of_ble_eq_true rfl) rfl rfl ?_
      refine cf_aloadQ E dX0_item_73 0 rfl rfl ?_
      refine xinA_4p E q1449 dX0_item_75 h rfl (fun h => ?_)
      refine cf_if_eqp E dX0_item_78 h rfl rfl (fun h => ?_) (fun h => ?_)
      · refine cf_aload E dX0_item_98 1 rfl rfl ?_
        refine xgX0_351 E ht_3 dX0_item_100 rfl ?_
        refine cf_astoreQ E dX0_item_103 [(10, va_rf (xo s_6 (100 + x1.toNatClampNeg))), (5, .ref (xa g (320 + x1.toNatClampNeg))), (0, .ref (xa g 0)), (1, .int x1), (2, .int x2), (3, .long x3)] (Nat.le_of_ble_eq_true rfl) rfl rfl ?_
        refine cf_aloadQ E dX0_item_105 0 rfl rfl ?_
        refine xinA_0p E q1450 dX0_item_107 h rfl (fun h => ?_)
        refine cf_if_eqp E dX0_item_110 h rfl rfl (fun h => ?_) (fun h => ?_)
        · refine cf_aload E dX0_item_129 1 rfl rfl ?_
          refine xgX0_351 E ht_3 dX0_item_131 rfl ?_
          refine cf_astoreQ E dX0_item_134 [(10, va_rf (xo s_6 (100 + x1.toNatClampNeg))), (5, .ref (xa g (320 + x1.toNatClampNeg))), (0, .ref (xa g 0)), (1, .int x1), (2, .int x2), (3, .long x3)] (Nat.le_of_ble_eq_true rfl) rfl rfl ?_
          refine cf_aloadQ E dX0_item_136 0 rfl rfl ?_
          refine xinA_3p E q1451 dX0_item_138 h rfl (fun h => ?_)
          refine cf_if_eqp E dX0_item_141 h rfl rfl (fun h => ?_) (fun h => ?_)
          · refine cf_aload E dX0_item_159 1 rfl rfl ?_
            refine xgX0_351 E ht_3 dX0_item_161 rfl ?_
            refine xka_2p E q1452 dX0_item_164 h rfl (fun b_12 h => ?_)
            refine cf_iload_n E dX0_item_167 4 rfl rfl ?_
            refine cf_lload_n E dX0_item_168 5 rfl rfl ?_
            refine cf_lconst E dX0_item_169 lc_0 rfl ?_
            refine cf_lcmp E dX0_item_170 rfl ?_
            refine cf_if_eqp E dX0_item_171 h rfl rfl (fun h => ?_) (fun h => ?_)
            · refine cf_iconst E dX0_item_178 ic_0 rfl ?_
              exact CF.sub [] rfl (wy0_item_179 E hlt hlk htab hR hq N (0 : Int32) x2 b_12 s_6 (mc - m_4) (ms - n_5) _ _ hb h)
            · refine cf_iconst E dX0_item_174 ic_1 rfl ?_
              refine cf_goto E dX0_item_175 rfl ?_
              exact CF.sub [] rfl (wy0_item_179 E hlt hlk htab hR hq N (1 : Int32) x2 b_12 s_6 (mc - m_4) (ms - n_5) _ _ hb h)
          · refine cf_aloadQ E dX0_item_144 0 rfl rfl ?_
            refine xka_3p E q1451 dX0_item_146 h rfl (fun b_13 h => ?_)
            refine cf_astore E dX0_item_149 [(9, .ref b_13), (10, va_rf (xo s_6 (100 + x1.toNatClampNeg))), (5, .ref (xa g (320 + x1.toNatClampNeg))), (0, .ref (xa g 0)), (1, .int x1), (2, .int x2), (3, .long x3)] (Nat.le_of_ble_eq_true rfl) rfl rfl ?_
            refine cf_aload E dX0_item_151 0 rfl rfl ?_
            refine cf_iload_n E dX0_item_153 5 rfl rfl ?_
            refine cf_lload_n E dX0_item_154 6 rfl rfl ?_
            refine xdast_lp E dX0_item_155 h rfl (fun s_14 h => ?_)
            refine cf_goto E dX0_item_156 rfl ?_
            refine cf_iconst E dX0_item_180 ic_1 rfl ?_
            exact hq _ _ _ _ _ _ (hb0 hb).1 (hb0 hb).2 dX0_item_181 rfl h
        · refine cf_aloadQ E dX0_item_113 0 rfl rfl ?_
          refine xka_0p E q1450 dX0_item_115 h rfl (fun b_17 h => ?_)
          refine cf_astore E dX0_item_118 [(8, .ref b_17), (10, va_rf (xo s_6 (100 + x1.toNatClampNeg))), (5, .ref (xa g (320 + x1.toNatClampNeg))), (0, .ref (xa g 0)), (1, .int x1), (2, .int x2), (3, .long x3)] (Nat.le_of_ble_eq_true rfl) rfl rfl ?_
          refine cf_aload E dX0_item_120 0 rfl rfl ?_
          refine cf_iload_n E dX0_item_122 5 rfl rfl ?_
          refine cf_lload_n E dX0_item_123 6 rfl rfl ?_
          refine cf_l2i E dX0_item_124 rfl ?_
          refine xdast_ip E dX0_item_125 h rfl (fun s_18 h => ?_)
          refine cf_goto E dX0_item_126 rfl ?_
          refine cf_iconst E dX0_item_180 ic_1 rfl ?_
          exact hq _ _ _ _ _ _ (hb0 hb).1 (hb0 hb).2 dX0_item_181 rfl h
      · refine cf_aloadQ E dX0_item_81 0 rfl rfl ?_
        refine xka_4p E q1449 dX0_item_83 h rfl (fun b_21 h => ?_)
        refine cf_astore E dX0_item_86 [(7, .ref b_21), (10, va_rf (xo s_6 (100 + x1.toNatClampNeg))), (5, .ref (xa g (320 + x1.toNatClampNeg))), (0, .ref (xa g 0)), (1, .int x1), (2, .int x2), (3, .long x3)] (Nat.le_of_ble_eq_true rfl) rfl rfl ?_
        refine cf_aload E dX0_item_88 0 rfl rfl ?_
        refine cf_iload_n E dX0_item_90 5 rfl rfl ?_
        refine cf_lload_n E dX0_item_91 6 rfl rfl ?_
        refine cf_l2i E dX0_item_92 rfl ?_
        refine cf_i2s E dX0_item_93 rfl ?_
        refine xdast_sp E dX0_item_94 h rfl (fun s_22 h => ?_)
        refine cf_goto E dX0_item_95 rfl ?_
        refine cf_iconst E dX0_item_180 ic_1 rfl ?_
        exact hq _ _ _ _ _ _ (hb0 hb).1 (hb0 hb).2 dX0_item_181 rfl h
    · refine cf_aloadQ E dX0_item_49 0 rfl rfl ?_
      refine xka_1p E q1274 dX0_item_51 h rfl (fun b_25 h => ?_)
      refine cf_astore E dX0_item_54 [(6, .ref b_25), (10, va_rf (xo s_6 (100 + x1.toNatClampNeg))), (5, .ref (xa g (320 + x1.toNatClampNeg))), (0, .ref (xa g 0)), (1, .int x1), (2, .int x2), (3, .long x3)] (Nat.le_of_ble_eq_true rfl) rfl rfl ?_
      refine cf_aload E dX0_item_56 0 rfl rfl ?_
      refine cf_iload_n E dX0_item_58 5 rfl rfl ?_
      refine cf_lload_n E dX0_item_59 6 rfl rfl ?_
      refine cf_l2i E dX0_item_60 rfl ?_
      refine cf_i2b E dX0_item_61 rfl ?_
      refine xdast_bp E dX0_item_62 h rfl (fun s_26 h => ?_)
      refine cf_goto E dX0_item_63 rfl ?_
      refine cf_iconst E dX0_item_180 ic_1 rfl ?_
      exact hq _ _ _ _ _ _ (hb0 hb).1 (hb0 hb).2 dX0_item_181 rfl h
  · refine cf_iconst E dX0_item_7 ic_m1 rfl ?_
    exact hq _ _ _ _ _ _ (hb0 hb).1 (hb0 hb).2 dX0_item_8 rfl h
