/-! HatsDecide, group r4: rows, functions, walks -/
set_option maxRecDepth 100000
section XC
variable {p : Program} {l : Launch} {e : Env} {R : Room} {s : State} {m : MethodId} {args : Array Value} {below : List Frame} {meth : Method} {c : Code} {nL cells slots : Nat} {A : Nat → Prop} {g : XG} {ξ : XS} {Q : State → Prop} {pc n : Nat} {lv : List (Nat × Value)} {st : List Value} {cc : ByteArray} {ρ : Type} {res : ρ}
theorem xnwX0_234 (E : EV p s m args c cc nL RX0) {mc ms : Nat} (hb : cells + mc ≤ R.cells ∧ slots + ms ≤ R.slots) {kk : Nat → Prop} (d : decode cc pc = .ok (.new 234, 3)) (h : mkc ξ 5 mc ms kk) (hn : pc + 3 = n) (k : ∀ q, (cells + 1 + (mc - 1) ≤ R.cells ∧ slots + 5 + (ms - 5) ≤ R.slots) → kk q → CF p l e R s m args below meth c nL (cells + 1) (slots + 5) (XB g A s (pXd ξ q (.inr (15, [.null, .int 0, .int 0, .int 0, .null])))) Q n lv (.ref q :: st)) : CF p l e R s m args below meth c nL cells slots (XB g A s ξ) Q pc lv st :=
  xnew (C9 := RX14) (T := TX14) E in_X14 tyX14 tyX14_ok q719 q720 q116 rfl (fun j hj => by rcases (show j = 0 ∨ j = 1 ∨ j = 2 ∨ j = 3 ∨ j = 4 by omega) with rfl | rfl | rfl | rfl | rfl <;> rfl) hb d h hn k
theorem xpX0_231 (E : EV p s m args c cc nL RX0) {v : Int32} {kk : XS → Option ρ} (d : decode cc pc = .ok (.putfield 231, 3)) (h : nx (sXF ξ 10 v) kk = some res) (hn : pc + 3 = n) (k : ∀ ξ1 : XS, kk ξ1 = some res → CF p l e R s m args below meth c nL cells slots (XB g A s ξ1) Q n lv st) : CF p l e R s m args below meth c nL cells slots (XB g A s ξ) Q pc lv (.int v :: .ref (xa g 0) :: st) := by
  subst hn
  intro H locs ls hB hl
  exact va_put (D := g.1) (ci := 1) (v := .int v) (ty := .int) (C := RX0) (T := TX0) (N := 40) E.1 E.2.1 E.2.2.2.2 in_X0 tyX0 tyX0_ok nmX0 E.2.2.2.1 hB.2.2.2.1 hB.1 hB.2.1 hB.2.2.1 0 rfl rfl 10 (Nat.le_of_ble_eq_true rfl) (E.2.2.2.2 _ q292) (fun _ h9 => h9) rfl (by decide +kernel) rfl rfl (Nat.le_of_ble_eq_true rfl) d (fun H1 locs1 hP hD hS => k _ h H1 locs1 ls ⟨hP, hD, hS, hB.2.2.2⟩ hl)
theorem xpX0_228p (E : EV p s m args c cc nL RX0) {v : Int32} {kk : XS → Prop} (d : decode cc pc = .ok (.putfield 228, 3)) (h : nx (sXF ξ 9 v) kk) (hn : pc + 3 = n) (k : ∀ ξ1 : XS, kk ξ1 → CF p l e R s m args below meth c nL cells slots (XB g A s ξ1) Q n lv st) : CF p l e R s m args below meth c nL cells slots (XB g A s ξ) Q pc lv (.int v :: .ref (xa g 0) :: st) := by
  subst hn
  intro H locs ls hB hl
  exact va_put (D := g.1) (ci := 1) (v := .int v) (ty := .int) (C := RX0) (T := TX0) (N := 40) E.1 E.2.1 E.2.2.2.2 in_X0 tyX0 tyX0_ok nmX0 E.2.2.2.1 hB.2.2.2.1 hB.1 hB.2.1 hB.2.2.1 0 rfl rfl 9 (Nat.le_of_ble_eq_true rfl) (E.2.2.2.2 _ q291) (fun _ h9 => h9) rfl (by decide +kernel) rfl rfl (Nat.le_of_ble_eq_true rfl) d (fun H1 locs1 hP hD hS => k _ h H1 locs1 ls ⟨hP, hD, hS, hB.2.2.2⟩ hl)
theorem xpoX0_47p (E : EV p s m args c cc nL RX0) {v : Option Nat} {kk : XS → Prop} (d : decode cc pc = .ok (.putfield 47, 3)) (h : nx (sXo ξ 11 v) kk) (hn : pc + 3 = n) (k : ∀ ξ1 : XS, kk ξ1 → CF p l e R s m args below meth c nL cells slots (XB g A s ξ1) Q n lv st) : CF p l e R s m args below meth c nL cells slots (XB g A s ξ) Q pc lv (va_rf v :: .ref (xa g 0) :: st) := by
  subst hn
  intro H locs ls hB hl
  exact va_put (D := g.1) (ci := 1) (v := va_rf v) (ty := .object "HatsDecide$Town") (C := RX0) (T := TX0) (N := 40) E.1 E.2.1 E.2.2.2.2 in_X0 tyX0 tyX0_ok nmX0 E.2.2.2.1 hB.2.2.2.1 hB.1 hB.2.1 hB.2.2.1 0 rfl rfl 11 (Nat.le_of_ble_eq_true rfl) (E.2.2.2.2 _ q294) (fun _ h9 => h9) rfl (by decide +kernel) (narq v) (fitq v) (Nat.le_of_ble_eq_true rfl) d (fun H1 locs1 hP hD hS => k _ h H1 locs1 ls ⟨hP, hD, hS, hB.2.2.2⟩ hl)
theorem xpX0_231p (E : EV p s m args c cc nL RX0) {v : Int32} {kk : XS → Prop} (d : decode cc pc = .ok (.putfield 231, 3)) (h : nx (sXF ξ 10 v) kk) (hn : pc + 3 = n) (k : ∀ ξ1 : XS, kk ξ1 → CF p l e R s m args below meth c nL cells slots (XB g A s ξ1) Q n lv st) : CF p l e R s m args below meth c nL cells slots (XB g A s ξ) Q pc lv (.int v :: .ref (xa g 0) :: st) := by
  subst hn
  intro H locs ls hB hl
  exact va_put (D := g.1) (ci := 1) (v := .int v) (ty := .int) (C := RX0) (T := TX0) (N := 40) E.1 E.2.1 E.2.2.2.2 in_X0 tyX0 tyX0_ok nmX0 E.2.2.2.1 hB.2.2.2.1 hB.1 hB.2.1 hB.2.2.1 0 rfl rfl 10 (Nat.le_of_ble_eq_true rfl) (E.2.2.2.2 _ q292) (fun _ h9 => h9) rfl (by decide +kernel) rfl rfl (Nat.le_of_ble_eq_true rfl) d (fun H1 locs1 hP hD hS => k _ h H1 locs1 ls ⟨hP, hD, hS, hB.2.2.2⟩ hl)
end XC
def y0_town (N : Nat) (g : XG)   (ξ : XS) (mc ms : Nat) (K : Int32 → XS → Prop) : Prop :=
  if (xF ξ 10) = (6 : Int32) then (
    K (-4 : Int32) ξ)
  else (
    nx ((xF ξ 9) : Int32) fun x1_1 =>
    nx (sXF ξ 9 (0 : Int32)) fun s_2 =>
    mkc s_2 5 mc ms fun q_3 =>
    bnyv (y14_init N g q_3 x1_1 (pXd s_2 q_3 (.inr (15, [.null, .int 0, .int 0, .int 0, .null])))) (mc - 1) (ms - 5) fun m_4 n_5 s_6 =>
    if isC s_6 q_3 15 15 = true then (
    bnyx (y14_town N g q_3 s_6) ((mc - 1) - m_4) ((ms - 5) - n_5) (fun m_8 n_9 e_12 q_13 s_14 =>
      e_12 = "HatsDecide$Off" ∧ (
      bnop (dI s_14 q_13 16 16 6) fun v_15 =>
      K ((-10 : Int32) - v_15) s_14)) fun m_8 n_9 v_11 s_10 =>
    nx (sXo s_10 11 (some v_11)) fun s_16 =>
    nx (sXF s_16 10 ((xF s_16 10) + (1 : Int32))) fun s_17 =>
    K (xF s_16 10) s_17) else False)
section XC
variable {p : Program} {l : Launch} {e : Env} {R : Room} {s : State} {m : MethodId} {args : Array Value} {below : List Frame} {meth : Method} {c : Code} {nL cells slots : Nat} {A : Nat → Prop} {g : XG} {ξ : XS} {Q : State → Prop} {pc n : Nat} {lv : List (Nat × Value)} {st : List Value} {cc : ByteArray} {ρ : Type} {res : ρ}
theorem yclX0_236 (E : EV p s m args c cc nL RX0) {N mc ms : Nat} {a0 : Nat}  {x2 : Int32} {kk : Nat → Nat → XS → Prop} (hR : 6 ≤ R.frames ∧ 142 ≤ R.locals) (hcat : (st.map fun v => v.category).sum ≤ 8) (hb : cells + mc ≤ R.cells ∧ slots + ms ≤ R.slots) (d : decode cc pc = .ok (.invokespecial 236, 3)) (h : bnyv (y14_init N g a0 x2 ξ) mc ms kk) (hn : pc + 3 = n) (k : ∀ (m1 n1 : Nat) (ξ1 : XS), (cells + m1 + (mc - m1) ≤ R.cells ∧ slots + n1 + (ms - n1) ≤ R.slots) → kk m1 n1 ξ1 → CF p l e R s m args below meth c nL (cells + m1) (slots + n1) (XB g A s ξ1) Q n lv st) : CF p l e R s m args below meth c nL cells slots (XB g A s ξ) Q pc lv (.int x2 :: .ref (xa g 108) :: .ref a0 :: st) := by
  obtain ⟨m1, n1, h1, h2, h⟩ := h
  exact ycallI_v (na := 2) E [.ref (xa g 108), .int x2] (met_y14_init l g N a0  x2 ξ m1 n1 _ h) (lw_meth q723) q116 q721 q722 (by decide +kernel) hR rfl rfl hcat ⟨by omega, by omega⟩ d hn (fun ξ1 hk => k m1 n1 ξ1 ⟨by omega, by omega⟩ hk)
theorem zclX0_239 (E : EV p s m args c cc nL RX0) (hlt : l.stackTraces = false) {N mc ms : Nat} {a0 : Nat}   {kx : Nat → Nat → String → Nat → XS → Prop} {kk : Nat → Nat → Nat → XS → Prop} (hR : 36 ≤ R.frames ∧ 1011 ≤ R.locals) (hcat : (st.map fun v => v.category).sum ≤ 8) (hb : cells + mc ≤ R.cells ∧ slots + ms ≤ R.slots) (d : decode cc pc = .ok (.invokevirtual 239, 3)) (h : if isC ξ a0 15 15 = true then bnyx (y14_town N g a0  ξ) mc ms kx kk else False) (hn : pc + 3 = n) (kX : ∀ (m1 n1 : Nat) (E9 : String) (q : Nat) (ξ1 : XS), (cells + m1 + (mc - m1) ≤ R.cells ∧ slots + n1 + (ms - n1) ≤ R.slots) → kx m1 n1 E9 q ξ1 → CX p l e R s m args below meth c nL (cells + m1) (slots + n1) (XB g A s ξ1) Q pc lv E9 q) (k : ∀ (m1 n1 : Nat) (v : Nat) (ξ1 : XS), (cells + m1 + (mc - m1) ≤ R.cells ∧ slots + n1 + (ms - n1) ≤ R.slots) → kk m1 n1 v ξ1 → CF p l e R s m args below meth c nL (cells + m1) (slots + n1) (XB g A s ξ1) Q n lv (.ref v :: st)) : CF p l e R s m args below meth c nL cells slots (XB g A s ξ) Q pc lv (.ref a0 :: st) := by
  by_cases hi : ¬ isC ξ a0 15 15 = true
  · rw [if_neg hi] at h; cases h
  have hi : isC ξ a0 15 15 = true := Decidable.not_not.mp hi
  rw [if_pos hi] at h
  obtain ⟨ci, hci, h8, h9⟩ := isC_at hi
  have e9 : ci = 15 := by omega
  subst e9
  obtain ⟨m1, n1, h1, h2, h⟩ := h
  exact zcallV_r (na := 0) E [] (met_y14_town l g N a0   ξ m1 n1 _ _ hlt h) (C9 := RX14) (lw_V q743 q744 q745 q116 q746) (by decide +kernel) (xrecv_d (q := (RX14, TX14, 5)) hci rfl) hR rfl rfl hcat ⟨by omega, by omega⟩ d hn (fun v ξ1 hk => k m1 n1 v ξ1 ⟨by omega, by omega⟩ hk) (fun E9 q ξ1 hk => kX m1 n1 E9 q ξ1 ⟨by omega, by omega⟩ hk)
end XC
set_option maxHeartbeats 4000000 in
theorem met_y0_town (l : Launch) (g : XG) (N : Nat)    (ξ : XS) (mc ms : Nat) (K : Int32 → XS → Prop) (hlt : l.stackTraces = false) (h : y0_town N g   ξ mc ms K) : MetZi l g yX0_town (wsW_ yX0_town cX0_town 3 (some .int) [((22 : Nat), (52 : Nat), (53 : Nat), (242 : Nat))]) 36 1011 [.ref (xa g 0)] ξ mc ms K (fun _ _ _ => False) := by
  refine met_zhi (lv0 := [(0, .ref (xa g 0))]) (own := RX0) (by decide) rfl (Nat.le_of_ble_eq_true rfl) rfl ?_
  intro p e s m below meth c A Q E hmn hlk htab hq
  have hR : 36 ≤ ({ frames := 36, cells := mc, slots := ms, locals := 1011 } : Room).frames ∧ 1011 ≤ ({ frames := 36, cells := mc, slots := ms, locals := 1011 } : Room).locals := ⟨Nat.le_refl _, Nat.le_refl _⟩
  have hb : 0 + mc ≤ ({ frames := 36, cells := mc, slots := ms, locals := 1011 } : Room).cells ∧ 0 + ms ≤ ({ frames := 36, cells := mc, slots := ms, locals := 1011 } : Room).slots := ⟨Nat.le_of_eq (Nat.zero_add _), Nat.le_of_eq (Nat.zero_add _)⟩
  unfold y0_town at h
  refine cf_aload_n E dX0_town_0 0 rfl rfl ?_
  refine xgX0_231 E dX0_town_1 rfl ?_
  refine cf_bipush E dX0_town_4 bp_6 rfl ?_
  refine cf_icmp_nep E dX0_town_6 h rfl rfl (fun h => ?_) (fun h => ?_)
  · refine cf_aload_n E dX0_town_12 0 rfl rfl ?_
    refine xgX0_228 E dX0_town_13 rfl ?_
    refine cf_istore_np E dX0_town_16 h (fun x1_1 => [(1, .int x1_1), (0, .ref (xa g 0))]) (Nat.le_of_ble_eq_true rfl) (fun _ => rfl) rfl (fun x1_1 h => ?_)
    refine cf_aload_n E dX0_town_17 1 rfl rfl ?_
    refine cf_iconst E dX0_town_18 ic_0 rfl ?_
    refine xpX0_228p E dX0_town_19 h rfl (fun s_2 h => ?_)
    refine cf_aload_n E dX0_town_22 1 rfl rfl ?_
    refine xnwX0_234 E hb dX0_town_23 h rfl (fun q_3 hb h => ?_)
    refine cf_dup E dX0_town_26 rfl rfl ?_
    refine cf_aload_n E dX0_town_27 1 rfl rfl ?_
    refine xgX0_40 E dX0_town_28 rfl ?_
    refine cf_iload_n E dX0_town_31 0 rfl rfl ?_
    refine yclX0_236 E (rmle hR rfl rfl) (Nat.le_of_ble_eq_true rfl) hb dX0_town_32 h rfl (fun m_4 n_5 s_6 hb h => ?_)
    refine zclX0_239 E hlt (rmle hR rfl rfl) (Nat.le_of_ble_eq_true rfl) hb dX0_town_35 h rfl (fun m_8 n_9 e_12 q_13 s_14 hb h => ?_) (fun m_8 n_9 v_11 s_10 hb h => ?_)
    · obtain ⟨hE9, h⟩ := h
      subst hE9
      refine cx_catch E htab [] ⟨22, 52, 53, 242⟩ [] rfl (fun z hz => nomatch hz) rfl (by decide) q718 q820 rfl ?_
      refine cf_astore_n E dX0_town_53 [(2, .ref q_13), (1, .int x1_1), (0, .ref (xa g 0))] (Nat.le_of_ble_eq_true rfl) rfl rfl ?_
      refine cf_bipush E dX0_town_54 bp_m10 rfl ?_
      refine cf_aload_n E dX0_town_56 0 rfl rfl ?_
      refine xdgX0_244p E dX0_town_57 h rfl (fun v_15 h => ?_)
      refine cf_isub E dX0_town_60 rfl ?_
      exact hq _ _ _ _ _ _ (hb0 hb).1 (hb0 hb).2 dX0_town_61 rfl h
    refine xpoX0_47p (v := some v_11) E dX0_town_38 h rfl (fun s_16 h => ?_)
    refine cf_aload_n E dX0_town_41 1 rfl rfl ?_
    refine cf_dup E dX0_town_42 rfl rfl ?_
    refine xgX0_231 E dX0_town_43 rfl ?_
    refine cf_dup_x1 E dX0_town_46 rfl rfl rfl ?_
    refine cf_iconst E dX0_town_47 ic_1 rfl ?_
    refine cf_iadd E dX0_town_48 rfl ?_
    refine xpX0_231p E dX0_town_49 h rfl (fun s_17 h => ?_)
    exact hq _ _ _ _ _ _ (hb0 hb).1 (hb0 hb).2 dX0_town_52 rfl h
  · refine cf_bipush E dX0_town_9 bp_m4 rfl ?_
    exact hq _ _ _ _ _ _ (hb0 hb).1 (hb0 hb).2 dX0_town_11 rfl h
