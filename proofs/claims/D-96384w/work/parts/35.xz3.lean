/-! HatsDecide, group z3: rows, functions, walks -/
set_option maxRecDepth 100000
section XC
variable {p : Program} {l : Launch} {e : Env} {R : Room} {s : State} {m : MethodId} {args : Array Value} {below : List Frame} {meth : Method} {c : Code} {nL cells slots : Nat} {A : Nat → Prop} {g : XG} {ξ : XS} {Q : State → Prop} {pc n : Nat} {lv : List (Nat × Value)} {st : List Value} {cc : ByteArray} {ρ : Type} {res : ρ}
theorem xaldq_3p {own : String} (E : EV p s m args c cc nL own) {i : Int32} {kk : Nat → Prop} (d : decode cc pc = .ok (.aaload, 1)) (h : (if inb i 6 = true then bnop (xQ ξ 3 i.toNatClampNeg) kk else False)) (hn : pc + 1 = n) (k : ∀ a, kk a → CF p l e R s m args below meth c nL cells slots (XB g A s ξ) Q n lv (.ref a :: st)) : CF p l e R s m args below meth c nL cells slots (XB g A s ξ) Q pc lv (.int i :: .ref (xa g 103) :: st) := by
  subst hn
  by_cases hi : inb i 6 = true
  · rw [if_pos hi] at h
    obtain ⟨a, ha, h2⟩ := h
    intro H locs ls hB hl
    refine va_aldq E.1 E.2.1 hB.2.2.2.1 hB.1 4 5 rfl rfl (inb_in hi) d ?_
    rw [ha]
    exact k a h2 H locs ls hB hl
  · rw [if_neg hi] at h; cases h
end XC
def y0_judge (N : Nat) (g : XG)  (x1 : Int32) (x2 : Int32) (ξ : XS) (mc ms : Nat) (K : Int32 → XS → Prop) : Prop :=
  bndp (x0_isTape N g x1 ξ) fun v_2 s_1 =>
  if v_2 = 0 then (
    K (-1 : Int32) s_1)
  else (
    if inb x1 6 = true then (
    if okRow g s_1 (xo s_1 (100 + x1.toNatClampNeg)) = true then (
    if canA g s_1 (xo s_1 (100 + x1.toNatClampNeg)) 1 = true then (
    bny (y0_firstOther N g (xo s_1 (100 + x1.toNatClampNeg)) x2 s_1) mc ms fun m_5 n_6 v_8 s_7 =>
    K v_8 s_7)
    else mkX 3 850 mc ms (fun q_4 =>
      K (-12 : Int32) s_1)) else False) else False)
section XC
variable {p : Program} {l : Launch} {e : Env} {R : Room} {s : State} {m : MethodId} {args : Array Value} {below : List Frame} {meth : Method} {c : Code} {nL cells slots : Nat} {A : Nat → Prop} {g : XG} {ξ : XS} {Q : State → Prop} {pc n : Nat} {lv : List (Nat × Value)} {st : List Value} {cc : ByteArray} {ρ : Type} {res : ρ}
theorem zhlX0_355 (E : EV p s m args c cc nL RX0) (hlt : l.stackTraces = false) {N mc ms : Nat} {x1 : Option Nat} {x2 : Int32} {kk : Nat → Nat → Int32 → XS → Prop} (hR : 9 ≤ R.frames ∧ 10273 ≤ R.locals) (hcat : (st.map fun v => v.category).sum ≤ 8) (hb : cells + mc ≤ R.cells ∧ slots + ms ≤ R.slots) (d : decode cc pc = .ok (.invokevirtual 355, 3)) (h : bny (y0_firstOther N g x1 x2 ξ) mc ms kk) (hn : pc + 3 = n) (k : ∀ (m1 n1 : Nat) (v : Int32) (ξ1 : XS), (cells + m1 + (mc - m1) ≤ R.cells ∧ slots + n1 + (ms - n1) ≤ R.slots) → kk m1 n1 v ξ1 → CF p l e R s m args below meth c nL (cells + m1) (slots + n1) (XB g A s ξ1) Q n lv (.int v :: st)) : CF p l e R s m args below meth c nL cells slots (XB g A s ξ) Q pc lv (.int x2 :: va_rf x1 :: .ref (xa g 0) :: st) := by
  obtain ⟨m1, n1, h1, h2, h⟩ := h
  exact zcallX_i (na := 2) E [va_rf x1, .int x2] (met_y0_firstOther l g N x1 x2 ξ m1 n1 _ hlt h) (C9 := RX0) (lw_VW q1275 q1277 qs33 q96 q1278) (by decide +kernel) ⟨0, 1, _, _, rfl, rfl, rfl⟩ hR rfl rfl hcat ⟨by omega, by omega⟩ d hn (fun v ξ1 hk => k m1 n1 v ξ1 ⟨by omega, by omega⟩ hk) (fun _ _ _ hk => hk.elim)
end XC
set_option maxHeartbeats 4000000 in
theorem met_y0_judge (l : Launch) (g : XG) (N : Nat)   (x1 : Int32) (x2 : Int32) (ξ : XS) (mc ms : Nat) (K : Int32 → XS → Prop) (hlt : l.stackTraces = false) (h : y0_judge N g  x1 x2 ξ mc ms K) : MetZi l g yX0_judge (wsW_ yX0_judge cX0_judge 4 (some .int) [((9 : Nat), (26 : Nat), (27 : Nat), (359 : Nat))]) 9 10273 [.ref (xa g 0), .int x1, .int x2] ξ mc ms K (fun _ _ _ => False) := by
  refine met_zhi (lv0 := [(0, .ref (xa g 0)), (1, .int x1), (2, .int x2)]) (own := RX0) (by decide) rfl (Nat.le_of_ble_eq_true rfl) rfl ?_
  intro p e s m below meth c A Q E hmn hlk htab hq
  have hR : 9 ≤ ({ frames := 9, cells := mc, slots := ms, locals := 10273 } : Room).frames ∧ 10273 ≤ ({ frames := 9, cells := mc, slots := ms, locals := 10273 } : Room).locals := ⟨Nat.le_refl _, Nat.le_refl _⟩
  have hb : 0 + mc ≤ ({ frames := 9, cells := mc, slots := ms, locals := 10273 } : Room).cells ∧ 0 + ms ≤ ({ frames := 9, cells := mc, slots := ms, locals := 10273 } : Room).slots := ⟨Nat.le_of_eq (Nat.zero_add _), Nat.le_of_eq (Nat.zero_add _)⟩
  unfold y0_judge at h
  refine cf_iload_n E dX0_judge_0 1 rfl rfl ?_
  refine xclX0_348p E (rmle hR rfl rfl) (Nat.le_of_ble_eq_true rfl) (hb0 hb) dX0_judge_1 h rfl (fun v_2 s_1 h => ?_)
  refine cf_if_nep E dX0_judge_4 h rfl rfl (fun h => ?_) (fun h => ?_)
  · refine cf_aload_n E dX0_judge_9 0 rfl rfl ?_
    refine cf_aload_n E dX0_judge_10 0 rfl rfl ?_
    refine xgX0_79 E dX0_judge_11 rfl ?_
    refine cf_iload_n E dX0_judge_14 1 rfl rfl ?_
    refine xaltp E dX0_judge_15 h rfl (fun ht_3 h => ?_)
    refine xgX0_351 E ht_3 dX0_judge_16 rfl ?_
    refine xkB E hlt hlk q1274 hb (rmle hR rfl rfl) (Nat.le_of_ble_eq_true rfl) dX0_judge_19 h rfl (fun q_4 hb h => ?_) (fun h => ?_)
    · refine cx_catch E htab [] ⟨9, 26, 27, 359⟩ [] rfl (fun z hz => nomatch hz) rfl (by decide) q1244 q1264 rfl ?_
      refine cf_astore_n E dX0_judge_27 [(3, .ref q_4), (0, .ref (xa g 0)), (1, .int x1), (2, .int x2)] (Nat.le_of_ble_eq_true rfl) rfl rfl ?_
      refine cf_bipush E dX0_judge_28 bp_m12 rfl ?_
      exact hq _ _ _ _ _ _ (hb0 hb).1 (hb0 hb).2 dX0_judge_30 rfl h
    refine cf_iload_n E dX0_judge_22 2 rfl rfl ?_
    refine zhlX0_355 (x1 := (xo s_1 (100 + x1.toNatClampNeg))) E hlt (rmle hR rfl rfl) (Nat.le_of_ble_eq_true rfl) hb dX0_judge_23 h rfl (fun m_5 n_6 v_8 s_7 hb h => ?_)
    exact hq _ _ _ _ _ _ (hb0 hb).1 (hb0 hb).2 dX0_judge_26 rfl h
  · refine cf_iconst E dX0_judge_7 ic_m1 rfl ?_
    exact hq _ _ _ _ _ _ (hb0 hb).1 (hb0 hb).2 dX0_judge_8 rfl h
def y0_takenFor (N : Nat) (g : XG)  (x0 : Option Nat) (x1 : Int32) (ξ : XS) (mc ms : Nat) (K : Option Nat → XS → Prop) (KX : String → Nat → XS → Prop) : Prop :=
  if x1 = (0 : Int32) then (
    if okH ξ x0 = true then (
    if canH ξ x0 [8, 9, 10, 11, 12, 13, 14] = true then (
    K (x0) ξ)
    else mkX 3 850 mc ms (fun q_2 =>
      KX "java/lang/ClassCastException" q_2 ξ)) else False)
  else
  if x1 = (1 : Int32) then (
    if okH ξ x0 = true then (
    if canH ξ x0 [9, 12] = true then (
    K (x0) ξ)
    else mkX 3 850 mc ms (fun q_4 =>
      KX "java/lang/ClassCastException" q_4 ξ)) else False)
  else
  if x1 = (2 : Int32) then (
    if okH ξ x0 = true then (
    if canH ξ x0 [10, 13] = true then (
    K (x0) ξ)
    else mkX 3 850 mc ms (fun q_6 =>
      KX "java/lang/ClassCastException" q_6 ξ)) else False)
  else
  if x1 = (3 : Int32) then (
    if okH ξ x0 = true then (
    if canH ξ x0 [11, 14] = true then (
    K (x0) ξ)
    else mkX 3 850 mc ms (fun q_8 =>
      KX "java/lang/ClassCastException" q_8 ξ)) else False)
  else
  if x1 = (4 : Int32) then (
    if okH ξ x0 = true then (
    if canH ξ x0 [12] = true then (
    K (x0) ξ)
    else mkX 3 850 mc ms (fun q_10 =>
      KX "java/lang/ClassCastException" q_10 ξ)) else False)
  else
  if x1 = (5 : Int32) then (
    if okH ξ x0 = true then (
    if canH ξ x0 [13] = true then (
    K (x0) ξ)
    else mkX 3 850 mc ms (fun q_12 =>
      KX "java/lang/ClassCastException" q_12 ξ)) else False)
  else
  if okH ξ x0 = true then (
  if canH ξ x0 [14] = true then (
  K (x0) ξ)
  else mkX 3 850 mc ms (fun q_13 =>
    KX "java/lang/ClassCastException" q_13 ξ)) else False
set_option maxHeartbeats 4000000 in
theorem met_y0_takenFor (l : Launch) (g : XG) (N : Nat)   (x0 : Option Nat) (x1 : Int32) (ξ : XS) (mc ms : Nat) (K : Option Nat → XS → Prop) (KX : String → Nat → XS → Prop) (hlt : l.stackTraces = false) (h : y0_takenFor N g  x0 x1 ξ mc ms K KX) : MetZq l g yX0_takenFor (ws_ yX0_takenFor cX0_takenFor 2 (some (.object "HatsDecide$Hat"))) 8 10248 [va_rf x0, .int x1] ξ mc ms K KX := by
  refine met_zq (Or.inl ⟨_, rfl⟩) (lv0 := [(0, va_rf x0), (1, .int x1)]) (own := RX0) (by decide) rfl (by cases x0 <;> exact Nat.le_of_ble_eq_true rfl) (by cases x0 <;> rfl) ?_
  intro p e s m below meth c A Q E hmn hlk hx hq
  have hR : 8 ≤ ({ frames := 8, cells := mc, slots := ms, locals := 10248 } : Room).frames ∧ 10248 ≤ ({ frames := 8, cells := mc, slots := ms, locals := 10248 } : Room).locals := ⟨Nat.le_refl _, Nat.le_refl _⟩
  have hb : 0 + mc ≤ ({ frames := 8, cells := mc, slots := ms, locals := 10248 } : Room).cells ∧ 0 + ms ≤ ({ frames := 8, cells := mc, slots := ms, locals := 10248 } : Room).slots := ⟨Nat.le_of_eq (Nat.zero_add _), Nat.le_of_eq (Nat.zero_add _)⟩
  unfold y0_takenFor at h
  refine cf_iload_n E dX0_takenFor_0 1 rfl rfl ?_
  by_cases hx_1 : x1 = (0 : Int32)
  · rw [if_pos hx_1] at h
    refine cf_tabIn E 0 dX0_takenFor_1 (i32_eqZ hx_1 (by decide)) (by decide) (by decide) rfl rfl ?_
    refine cf_aload_nQ E dX0_takenFor_40 0 rfl rfl ?_
    refine xkH_21 E hlt hlk hb (rmle hR rfl rfl) (Nat.le_of_ble_eq_true rfl) dX0_takenFor_41 h rfl (fun q_2 hb h => ?_) (fun h => ?_)
    · exact hx _ _ _ _ _ _ _ (hb0 hb).1 (hb0 hb).2 h
    exact hq _ _ _ _ _ _ (hb0 hb).1 (hb0 hb).2 dX0_takenFor_44 h
  rw [if_neg hx_1] at h
  by_cases hx_3 : x1 = (1 : Int32)
  · rw [if_pos hx_3] at h
    refine cf_tabIn E 1 dX0_takenFor_1 (i32_eqZ hx_3 (by decide)) (by decide) (by decide) rfl rfl ?_
    refine cf_aload_nQ E dX0_takenFor_45 0 rfl rfl ?_
    refine xkH_140 E hlt hlk hb (rmle hR rfl rfl) (Nat.le_of_ble_eq_true rfl) dX0_takenFor_46 h rfl (fun q_4 hb h => ?_) (fun h => ?_)
    · exact hx _ _ _ _ _ _ _ (hb0 hb).1 (hb0 hb).2 h
    exact hq _ _ _ _ _ _ (hb0 hb).1 (hb0 hb).2 dX0_takenFor_49 h
  rw [if_neg hx_3] at h
  by_cases hx_5 : x1 = (2 : Int32)
  · rw [if_pos hx_5] at h
    refine cf_tabIn E 2 dX0_takenFor_1 (i32_eqZ hx_5 (by decide)) (by decide) (by decide) rfl rfl ?_
    refine cf_aload_nQ E dX0_takenFor_50 0 rfl rfl ?_
    refine xkH_145 E hlt hlk hb (rmle hR rfl rfl) (Nat.le_of_ble_eq_true rfl) dX0_takenFor_51 h rfl (fun q_6 hb h => ?_) (fun h => ?_)
    · exact hx _ _ _ _ _ _ _ (hb0 hb).1 (hb0 hb).2 h
    exact hq _ _ _ _ _ _ (hb0 hb).1 (hb0 hb).2 dX0_takenFor_54 h
  rw [if_neg hx_5] at h
  by_cases hx_7 : x1 = (3 : Int32)
  · rw [if_pos hx_7] at h
    refine cf_tabIn E 3 dX0_takenFor_1 (i32_eqZ hx_7 (by decide)) (by decide) (by decide) rfl rfl ?_
    refine cf_aload_nQ E dX0_takenFor_55 0 rfl rfl ?_
    refine xkH_148 E hlt hlk hb (rmle hR rfl rfl) (Nat.le_of_ble_eq_true rfl) dX0_takenFor_56 h rfl (fun q_8 hb h => ?_) (fun h => ?_)
    · exact hx _ _ _ _ _ _ _ (hb0 hb).1 (hb0 hb).2 h
    exact hq _ _ _ _ _ _ (hb0 hb).1 (hb0 hb).2 dX0_takenFor_59 h
  rw [if_neg hx_7] at h
  by_cases hx_9 : x1 = (4 : Int32)
  · rw [if_pos hx_9] at h
    refine cf_tabIn E 4 dX0_takenFor_1 (i32_eqZ hx_9 (by decide)) (by decide) (by decide) rfl rfl ?_
    refine cf_aload_nQ E dX0_takenFor_60 0 rfl rfl ?_
    refine xkH_151 E hlt hlk hb (rmle hR rfl rfl) (Nat.le_of_ble_eq_true rfl) dX0_takenFor_61 h rfl (fun q_10 hb h => ?_) (fun h => ?_)
    · exact hx _ _ _ _ _ _ _ (hb0 hb).1 (hb0 hb).2 h
    exact hq _ _ _ _ _ _ (hb0 hb).1 (hb0 hb).2 dX0_takenFor_64 h
  rw [if_neg hx_9] at h
  by_cases hx_11 : x1 = (5 : Int32)
  · rw [if_pos hx_11] at h
    refine cf_tabIn E 5 dX0_takenFor_1 (i32_eqZ hx_11 (by decide)) (by decide) (by decide) rfl rfl ?_
    refine cf_aload_nQ E dX0_takenFor_65 0 rfl rfl ?_
    refine xkH_154 E hlt hlk hb (rmle hR rfl rfl) (Nat.le_of_ble_eq_true rfl) dX0_takenFor_66 h rfl (fun q_12 hb h => ?_) (fun h => ?_)
    · exact hx _ _ _ _ _ _ _ (hb0 hb).1 (hb0 hb).2 h
    exact hq _ _ _ _ _ _ (hb0 hb).1 (hb0 hb).2 dX0_takenFor_69 h
  rw [if_neg hx_11] at h
  have hx_1 := i32_neZ (z := 0) hx_1 (by decide)
  have hx_3 := i32_neZ (z := 1) hx_3 (by decide)
  have hx_5 := i32_neZ (z := 2) hx_5 (by decide)
  have hx_7 := i32_neZ (z := 3) hx_7 (by decide)
  have hx_9 := i32_neZ (z := 4) hx_9 (by decide)
  have hx_11 := i32_neZ (z := 5) hx_11 (by decide)
  refine cf_tabOut E dX0_takenFor_1 (by omega) rfl ?_
  refine cf_aload_nQ E dX0_takenFor_70 0 rfl rfl ?_
  refine xkH_157 E hlt hlk hb (rmle hR rfl rfl) (Nat.le_of_ble_eq_true rfl) dX0_takenFor_71 h rfl (fun q_13 hb h => ?_) (fun h => ?_)
  · exact hx _ _ _ _ _ _ _ (hb0 hb).1 (hb0 hb).2 h
  exact hq _ _ _ _ _ _ (hb0 hb).1 (hb0 hb).2 dX0_takenFor_74 h
def y0_taken (N : Nat) (g : XG)  (x1 : Int32) (x2 : Int32) (ξ : XS) (mc ms : Nat) (K : Int32 → XS → Prop) : Prop :=
  bndp (x0_in N g x2 (0 : Int32) (6 : Int32) ξ) fun v_2 s_1 =>
  if v_2 = 0 then (
    K (-2 : Int32) s_1)
  else (
    bndp (x0_isHat N g x1 s_1) fun v_4 s_3 =>
    if v_4 = 0 then (
      bnyx (y0_takenFor N g none x2 s_3) mc ms (fun m_5 n_6 e_9 q_10 s_11 =>
        e_9 = "java/lang/ClassCastException" ∧ (
        K (-12 : Int32) s_11)) fun m_5 n_6 v_8 s_7 =>
      bnulx v_8 (mkX 1 8 (mc - m_5) (ms - n_6) fun q_12 =>
        K (-11 : Int32) s_7) fun b_13 =>
      bndp (xv_kind N g b_13 s_7) fun v_15 s_14 =>
      K v_15 s_14)
    else (
      if inb x1 6 = true then bnop (xQ s_3 3 x1.toNatClampNeg) (fun b_16 =>
      bnyx (y0_takenFor N g (some b_16) x2 s_3) mc ms (fun m_17 n_18 e_21 q_22 s_23 =>
        e_21 = "java/lang/ClassCastException" ∧ (
        K (-12 : Int32) s_23)) fun m_17 n_18 v_20 s_19 =>
      bnulx v_20 (mkX 1 8 (mc - m_17) (ms - n_18) fun q_24 =>
        K (-11 : Int32) s_19) fun b_25 =>
      bndp (xv_kind N g b_25 s_19) fun v_27 s_26 =>
      K v_27 s_26) else False))
section XC
variable {p : Program} {l : Launch} {e : Env} {R : Room} {s : State} {m : MethodId} {args : Array Value} {below : List Frame} {meth : Method} {c : Code} {nL cells slots : Nat} {A : Nat → Prop} {g : XG} {ξ : XS} {Q : State → Prop} {pc n : Nat} {lv : List (Nat × Value)} {st : List Value} {cc : ByteArray} {ρ : Type} {res : ρ}
theorem zclX0_388 (E : EV p s m args c cc nL RX0) (hlt : l.stackTraces = false) {N mc ms : Nat}   {x0 : Option Nat} {x1 : Int32} {kx : Nat → Nat → String → Nat → XS → Prop} {kk : Nat → Nat → Option Nat → XS → Prop} (hR : 9 ≤ R.frames ∧ 10269 ≤ R.locals) (hcat : (st.map fun v => v.category).sum ≤ 8) (hb : cells + mc ≤ R.cells ∧ slots + ms ≤ R.slots) (d : decode cc pc = .ok (.invokestatic 388, 3)) (h : bnyx (y0_takenFor N g  x0 x1 ξ) mc ms kx kk) (hn : pc + 3 = n) (kX : ∀ (m1 n1 : Nat) (E9 : String) (q : Nat) (ξ1 : XS), (cells + m1 + (mc - m1) ≤ R.cells ∧ slots + n1 + (ms - n1) ≤ R.slots) → kx m1 n1 E9 q ξ1 → CX p l e R s m args below meth c nL (cells + m1) (slots + n1) (XB g A s ξ1) Q pc lv E9 q) (k : ∀ (m1 n1 : Nat) (v : Option Nat) (ξ1 : XS), (cells + m1 + (mc - m1) ≤ R.cells ∧ slots + n1 + (ms - n1) ≤ R.slots) → kk m1 n1 v ξ1 → CF p l e R s m args below meth c nL (cells + m1) (slots + n1) (XB g A s ξ1) Q n lv (va_rf v :: st)) : CF p l e R s m args below meth c nL cells slots (XB g A s ξ) Q pc lv (.int x1 :: va_rf x0 :: st) := by
  obtain ⟨m1, n1, h1, h2, h⟩ := h
  exact zcallS_q (na := 2) E [va_rf x0, .int x1] (met_y0_takenFor l g N   x0 x1 ξ m1 n1 _ _ hlt h) (lw_S q1398 q1399 q96 q1400) (by decide +kernel) hR rfl rfl hcat ⟨by omega, by omega⟩ d hn (fun v ξ1 hk => k m1 n1 v ξ1 ⟨by omega, by omega⟩ hk) (fun E9 q ξ1 hk => kX m1 n1 E9 q ξ1 ⟨by omega, by omega⟩ hk)
theorem xclX0_202p (E : EV p s m args c cc nL RX0) {N : Nat}   {x1 : Int32} {kk : Int32 → XS → Prop} (hR : 2 ≤ R.frames ∧ 43 ≤ R.locals) (hcat : (st.map fun v => v.category).sum ≤ 8) (hf : cells ≤ R.cells ∧ slots ≤ R.slots) (d : decode cc pc = .ok (.invokevirtual 202, 3)) (h : bndp (x0_isHat N g  x1 ξ) kk) (hn : pc + 3 = n) (k : ∀ (v : Int32) (ξ1 : XS), kk v ξ1 → CF p l e R s m args below meth c nL cells slots (XB g A s ξ1) Q n lv (.int v :: st)) : CF p l e R s m args below meth c nL cells slots (XB g A s ξ) Q pc lv (.int x1 :: .ref (xa g 0) :: st) :=
  xcallV0_ip (na := 1) E [.int x1] (fun v ξ1 ho => met_x0_isHat l g N   x1 ξ ho) (C := RX0) (lw_V q566 q568 qs1 q96 q569) (by decide +kernel) ⟨0, 1, _, _, rfl, rfl, rfl⟩ rfl rfl hR rfl rfl hcat hf d h hn k
theorem xvcX0_178p (E : EV p s m args c cc nL RX0) {N a0 : Nat}  {kk : Int32 → XS → Prop} (hR : 1 ≤ R.frames ∧ 20 ≤ R.locals) (hcat : (st.map fun v => v.category).sum ≤ 8) (hf : cells ≤ R.cells ∧ slots ≤ R.slots) (d : decode cc pc = .ok (.invokevirtual 178, 3)) (h : bndp (xv_kind N g a0  ξ) kk) (hn : pc + 3 = n) (k : ∀ (v : Int32) (ξ1 : XS), kk v ξ1 → CF p l e R s m args below meth c nL cells slots (XB g A s ξ1) Q n lv (.int v :: st)) : CF p l e R s m args below meth c nL cells slots (XB g A s ξ) Q pc lv (.ref a0 :: st) := by
  obtain ⟨v, ξ1, ho, hk⟩ := h
  unfold xv_kind at ho
  obtain ⟨ci, hci, ho⟩ := bno_some ho
  by_cases e8 : ci = 8
  · subst e8
    have ho : x7_kind N g a0  ξ = some (v, ξ1) := by
      simpa using ho
    exact xcallV0_ip (na := 0) E [] (fun v ξ1 ho => met_x7_kind l g N a0  ξ ho) (C := RX7) (lw_V q570 q571 q572 q106 q592) (by decide +kernel) (xrecv_d (q := (RX7, TX7, 5)) hci rfl) rfl rfl (rmle hR rfl rfl) rfl rfl hcat hf d (o := x7_kind N g a0  ξ) (by rw [ho]; exact ⟨_, _, rfl, hk⟩) hn k
  by_cases e9 : ci = 9
  · subst e9
    have ho : x8_kind N g a0  ξ = some (v, ξ1) := by
      simpa using ho
    exact xcallO0_ip (na := 0) (x := ⟨"HatsDecide$Hat", "kind", "()I"⟩) (owner := "HatsDecide$Hat") E [] (fun v ξ1 ho => met_x8_kind l g N a0  ξ ho) (C := RX8) (lw_O q570 q573 q571 q583 q584 q107 q585) q592 (by decide +kernel) (xrecv_d (q := (RX8, TX8, 6)) hci rfl) rfl rfl (rmle hR rfl rfl) rfl rfl hcat hf d (o := x8_kind N g a0  ξ) (by rw [ho]; exact ⟨_, _, rfl, hk⟩) hn k
  by_cases e10 : ci = 10
  · subst e10
    have ho : x9_kind N g a0  ξ = some (v, ξ1) := by
      simpa using ho
    exact xcallO0_ip (na := 0) (x := ⟨"HatsDecide$Hat", "kind", "()I"⟩) (owner := "HatsDecide$Hat") E [] (fun v ξ1 ho => met_x9_kind l g N a0  ξ ho) (C := RX9) (lw_O q570 q573 q571 q589 q590 q108 q591) q592 (by decide +kernel) (xrecv_d (q := (RX9, TX9, 6)) hci rfl) rfl rfl (rmle hR rfl rfl) rfl rfl hcat hf d (o := x9_kind N g a0  ξ) (by rw [ho]; exact ⟨_, _, rfl, hk⟩) hn k
  by_cases e11 : ci = 11
  · subst e11
    have ho : x10_kind N g a0  ξ = some (v, ξ1) := by
      simpa using ho
    exact xcallO0_ip (na := 0) (x := ⟨"HatsDecide$Hat", "kind", "()I"⟩) (owner := "HatsDecide$Hat") E [] (fun v ξ1 ho => met_x10_kind l g N a0  ξ ho) (C := RX10) (lw_O q570 q573 q571 q574 q575 q109 q576) q592 (by decide +kernel) (xrecv_d (q := (RX10, TX10, 6)) hci rfl) rfl rfl (rmle hR rfl rfl) rfl rfl hcat hf d (o := x10_kind N g a0  ξ) (by rw [ho]; exact ⟨_, _, rfl, hk⟩) hn k
  by_cases e12 : ci = 12
  · subst e12
    have ho : x11_kind N g a0  ξ = some (v, ξ1) := by
      simpa using ho
    exact xcallO0_ip (na := 0) (x := ⟨"HatsDecide$Hat", "kind", "()I"⟩) (owner := "HatsDecide$Hat") E [] (fun v ξ1 ho => met_x11_kind l g N a0  ξ ho) (C := RX11) (lw_O q570 q573 q571 q580 q581 q110 q582) q592 (by decide +kernel) (xrecv_d (q := (RX11, TX11, 7)) hci rfl) rfl rfl (rmle hR rfl rfl) rfl rfl hcat hf d (o := x11_kind N g a0  ξ) (by rw [ho]; exact ⟨_, _, rfl, hk⟩) hn k
  by_cases e13 : ci = 13
  · subst e13
    have ho : x12_kind N g a0  ξ = some (v, ξ1) := by
      simpa using ho
    exact xcallO0_ip (na := 0) (x := ⟨"HatsDecide$Hat", "kind", "()I"⟩) (owner := "HatsDecide$Hat") E [] (fun v ξ1 ho => met_x12_kind l g N a0  ξ ho) (C := RX12) (lw_O q570 q573 q571 q577 q578 q111 q579) q592 (by decide +kernel) (xrecv_d (q := (RX12, TX12, 7)) hci rfl) rfl rfl (rmle hR rfl rfl) rfl rfl hcat hf d (o := x12_kind N g a0  ξ) (by rw [ho]; exact ⟨_, _, rfl, hk⟩) hn k
  by_cases e14 : ci = 14
  · subst e14
    have ho : x13_kind N g a0  ξ = some (v, ξ1) := by
      simpa using ho
    exact xcallO0_ip (na := 0) (x := ⟨"HatsDecide$Hat", "kind", "()I"⟩) (owner := "HatsDecide$Hat") E [] (fun v ξ1 ho => met_x13_kind l g N a0  ξ ho) (C := RX13) (lw_O q570 q573 q571 q586 q587 q112 q588) q592 (by decide +kernel) (xrecv_d (q := (RX13, TX13, 8)) hci rfl) rfl rfl (rmle hR rfl rfl) rfl rfl hcat hf d (o := x13_kind N g a0  ξ) (by rw [ho]; exact ⟨_, _, rfl, hk⟩) hn k
  · simp [e8, e9, e10, e11, e12, e13, e14] at ho
end XC
set_option maxHeartbeats 4000000 in
theorem met_y0_taken (l : Launch) (g : XG) (N : Nat)   (x1 : Int32) (x2 : Int32) (ξ : XS) (mc ms : Nat) (K : Int32 → XS → Prop) (hlt : l.stackTraces = false) (h : y0_taken N g  x1 x2 ξ mc ms K) : MetZi l g yX0_taken (wsW_ yX0_taken cX0_taken 4 (some .int) [((13 : Nat), (38 : Nat), (39 : Nat), (346 : Nat)), ((13 : Nat), (38 : Nat), (43 : Nat), (359 : Nat))]) 9 10269 [.ref (xa g 0), .int x1, .int x2] ξ mc ms K (fun _ _ _ => False) := by
  refine met_zhi (lv0 := [(0, .ref (xa g 0)), (1, .int x1), (2, .int x2)]) (own := RX0) (by decide) rfl (Nat.le_of_ble_eq_true rfl) rfl ?_
  intro p e s m below meth c A Q E hmn hlk htab hq
  have hR : 9 ≤ ({ frames := 9, cells := mc, slots := ms, locals := 10269 } : Room).frames ∧ 10269 ≤ ({ frames := 9, cells := mc, slots := ms, locals := 10269 } : Room).locals := ⟨Nat.le_refl _, Nat.le_refl _⟩
  have hb : 0 + mc ≤ ({ frames := 9, cells := mc, slots := ms, locals := 10269 } : Room).cells ∧ 0 + ms ≤ ({ frames := 9, cells := mc, slots := ms, locals := 10269 } : Room).slots := ⟨Nat.le_of_eq (Nat.zero_add _), Nat.le_of_eq (Nat.zero_add _)⟩
  unfold y0_taken at h
  refine cf_iload_n E dX0_taken_0 2 rfl rfl ?_
  refine cf_iconst E dX0_taken_1 ic_0 rfl ?_
  refine cf_bipush E dX0_taken_2 bp_6 rfl ?_
  refine xclX0_130p E (rmle hR rfl rfl) (Nat.le_of_ble_eq_true rfl) (hb0 hb) dX0_taken_4 h rfl (fun v_2 s_1 h => ?_)
  refine cf_if_nep E dX0_taken_7 h rfl rfl (fun h => ?_) (fun h => ?_)
  · refine cf_aload_n E dX0_taken_13 0 rfl rfl ?_
    refine cf_iload_n E dX0_taken_14 1 rfl rfl ?_
    refine xclX0_202p E (rmle hR rfl rfl) (Nat.le_of_ble_eq_true rfl) (hb0 hb) dX0_taken_15 h rfl (fun v_4 s_3 h => ?_)
    refine cf_if_eqp E dX0_taken_18 h rfl rfl (fun h => ?_) (fun h => ?_)
    · refine cf_null E dX0_taken_30 rfl ?_
      refine cf_iload_n E dX0_taken_31 2 rfl rfl ?_
      refine zclX0_388 (x0 := none) E hlt (rmle hR rfl rfl) (Nat.le_of_ble_eq_true rfl) hb dX0_taken_32 h rfl (fun m_5 n_6 e_9 q_10 s_11 hb h => ?_) (fun m_5 n_6 v_8 s_7 hb h => ?_)
      · obtain ⟨hE9, h⟩ := h
        subst hE9
        refine cx_catch E htab [⟨13, 38, 39, 346⟩] ⟨13, 38, 43, 359⟩ [] rfl (fun z hz => by
            simp only [List.mem_cons, List.not_mem_nil, or_false] at hz
            rcases hz with rfl
            · exact Or.inr ⟨by decide, "java/lang/NullPointerException", q1279, by decide +kernel⟩) rfl (by decide) q1244 q1264 rfl ?_
        refine cf_astore_n E dX0_taken_43 [(3, .ref q_10), (0, .ref (xa g 0)), (1, .int x1), (2, .int x2)] (Nat.le_of_ble_eq_true rfl) rfl rfl ?_
        refine cf_bipush E dX0_taken_44 bp_m12 rfl ?_
        exact hq _ _ _ _ _ _ (hb0 hb).1 (hb0 hb).2 dX0_taken_46 rfl h
      refine xsplitx h (fun hv9 h => ?_) (fun b_13 hv9 h => ?_)
      · refine xkindN E hlt hlk hb (rmle hR rfl rfl) (Nat.le_of_ble_eq_true rfl) dX0_taken_35 h (fun q_12 hb h => ?_)
        refine cx_catch E htab [] ⟨13, 38, 39, 346⟩ [⟨13, 38, 43, 359⟩] rfl (fun z hz => nomatch hz) rfl (by decide) q1279 q1295 rfl ?_
        refine cf_astore_n E dX0_taken_39 [(3, .ref q_12), (0, .ref (xa g 0)), (1, .int x1), (2, .int x2)] (Nat.le_of_ble_eq_true rfl) rfl rfl ?_
        refine cf_bipush E dX0_taken_40 bp_m11 rfl ?_
        exact hq _ _ _ _ _ _ (hb0 hb).1 (hb0 hb).2 dX0_taken_42 rfl h
      refine xvcX0_178p E (rmle hR rfl rfl) (Nat.le_of_ble_eq_true rfl) (hb0 hb) dX0_taken_35 h rfl (fun v_15 s_14 h => ?_)
      exact hq _ _ _ _ _ _ (hb0 hb).1 (hb0 hb).2 dX0_taken_38 rfl h
    · refine cf_aload_n E dX0_taken_21 0 rfl rfl ?_
      refine xgX0_23 E dX0_taken_22 rfl ?_
      refine cf_iload_n E dX0_taken_25 1 rfl rfl ?_
      refine xaldq_3p E dX0_taken_26 h rfl (fun b_16 h => ?_)
      refine cf_goto E dX0_taken_27 rfl ?_
      refine cf_iload_n E dX0_taken_31 2 rfl rfl ?_
      refine zclX0_388 (x0 := (some b_16)) E hlt (rmle hR rfl rfl) (Nat.le_of_ble_eq_true rfl) hb dX0_taken_32 h rfl (fun m_17 n_18 e_21 q_22 s_23 hb h => ?_) (fun m_17 n_18 v_20 s_19 hb h => ?_)
      · obtain ⟨hE9, h⟩ := h
        subst hE9
        refine cx_catch E htab [⟨13, 38, 39, 346⟩] ⟨13, 38, 43, 359⟩ [] rfl (fun z hz => by
            simp only [List.mem_cons, List.not_mem_nil, or_false] at hz
            rcases hz with rfl
            · exact Or.inr ⟨by decide, "java/lang/NullPointerException", q1279, by decide +kernel⟩) rfl (by decide) q1244 q1264 rfl ?_
        refine cf_astore_n E dX0_taken_43 [(3, .ref q_22), (0, .ref (xa g 0)), (1, .int x1), (2, .int x2)] (Nat.le_of_ble_eq_true rfl) rfl rfl ?_
        refine cf_bipush E dX0_taken_44 bp_m12 rfl ?_
        exact hq _ _ _ _ _ _ (hb0 hb).1 (hb0 hb).2 dX0_taken_46 rfl h
      refine xsplitx h (fun hv9 h => ?_) (fun b_25 hv9 h => ?_)
      · refine xkindN E hlt hlk hb (rmle hR rfl rfl) (Nat.le_of_ble_eq_true rfl) dX0_taken_35 h (fun q_24 hb h => ?_)
        refine cx_catch E htab [] ⟨13, 38, 39, 346⟩ [⟨13, 38, 43, 359⟩] rfl (fun z hz => nomatch hz) rfl (by decide) q1279 q1295 rfl ?_
        refine cf_astore_n E dX0_taken_39 [(3, .ref q_24), (0, .ref (xa g 0)), (1, .int x1), (2, .int x2)] (Nat.le_of_ble_eq_true rfl) rfl rfl ?_
        refine cf_bipush E dX0_taken_40 bp_m11 rfl ?_
        exact hq _ _ _ _ _ _ (hb0 hb).1 (hb0 hb).2 dX0_taken_42 rfl h
      refine xvcX0_178p E (rmle hR rfl rfl) (Nat.le_of_ble_eq_true rfl) (hb0 hb) dX0_taken_35 h rfl (fun v_27 s_26 h => ?_)
      exact hq _ _ _ _ _ _ (hb0 hb).1 (hb0 hb).2 dX0_taken_38 rfl h
  · refine cf_bipush E dX0_taken_10 bp_m2 rfl ?_
    exact hq _ _ _ _ _ _ (hb0 hb).1 (hb0 hb).2 dX0_taken_12 rfl h
