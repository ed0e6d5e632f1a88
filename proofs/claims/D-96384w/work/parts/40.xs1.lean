/-! HatsDecide, group s1: rows, functions, walks -/
set_option maxRecDepth 100000
section XC
variable {p : Program} {l : Launch} {e : Env} {R : Room} {s : State} {m : MethodId} {args : Array Value} {below : List Frame} {meth : Method} {c : Code} {nL cells slots : Nat} {A : Nat → Prop} {g : XG} {ξ : XS} {Q : State → Prop} {pc n : Nat} {lv : List (Nat × Value)} {st : List Value} {cc : ByteArray} {ρ : Type} {res : ρ}
theorem sp_255 : (Int16.ofInt 255).toInt32 = 255 := by decide +kernel
end XC
set_option maxHeartbeats 4000000 in
theorem met_x4r_checkIndex (l : Launch) (g : XG) (N : Nat) (y2 : Nat)   (x0 : Int32) (x1 : Int32) (ξ : XS) {v : Int32} {ξ1 : XS} (h : x4_checkIndex N g  x0 x1 ξ = some (v, ξ1)) : MetXi l g yJ4_checkIndex (ws_ yJ4_checkIndex cJ4_checkIndex 3 (some .int)) { frames := 0, cells := 0, slots := 0, locals := 0 } [.int x0, .int x1, .ref y2] ξ v ξ1 0 0 := by
  refine met_xi (lv0 := [(0, .int x0), (1, .int x1), (2, .ref y2)]) (own := RJ4) (by decide) rfl (Nat.le_of_ble_eq_true rfl) rfl ?_
  intro p e s m below meth c A Q E hq
  have hR : 0 ≤ ({ frames := 0, cells := 0, slots := 0, locals := 0 } : Room).frames ∧ 0 ≤ ({ frames := 0, cells := 0, slots := 0, locals := 0 } : Room).locals := ⟨Nat.le_refl _, Nat.le_refl _⟩
  unfold x4_checkIndex at h
  refine cf_iload_n E dJ4_checkIndex_0 0 rfl rfl ?_
  refine cf_if_lt E dJ4_checkIndex_1 h rfl rfl (fun h => ?_) (fun h => ?_)
  · cases h
  · refine cf_iload_n E dJ4_checkIndex_4 0 rfl rfl ?_
    refine cf_iload_n E dJ4_checkIndex_5 1 rfl rfl ?_
    refine cf_icmp_lt E dJ4_checkIndex_6 h rfl rfl (fun h => ?_) (fun h => ?_)
    · refine cf_iload_n E dJ4_checkIndex_16 0 rfl rfl ?_
      exact xret_i dJ4_checkIndex_17 h rfl hq
    · cases h
theorem met_x4q_checkIndex (l : Launch) (g : XG) (N : Nat) (x0 x1 : Int32) (y2 : Option Nat) (ξ : XS) {v : Int32} {ξ1 : XS} (h : x4_checkIndex N g x0 x1 ξ = some (v, ξ1)) : MetXi l g yJ4_checkIndex (ws_ yJ4_checkIndex cJ4_checkIndex 3 (some .int)) { frames := 0, cells := 0, slots := 0, locals := 0 } [.int x0, .int x1, va_rf y2] ξ v ξ1 0 0 := by
  cases y2 with
  | none => exact met_x4_checkIndex l g N x0 x1 ξ h
  | some b => exact met_x4r_checkIndex l g N b x0 x1 ξ h
def x6_coder (N : Nat) (g : XG) (t0 : Nat)   (ξ : XS) : Option (Int32 × XS) :=
  if (1 : Int32) = 0 then (
    some ((1 : Int32), ξ))
  else (
    some ((0 : Int32), ξ))
set_option maxHeartbeats 4000000 in
theorem met_x6_coder (l : Launch) (g : XG) (N : Nat) (t0 : Nat) (ht0 : t0 < 4)  (ξ : XS) {v : Int32} {ξ1 : XS} (h : x6_coder N g t0  ξ = some (v, ξ1)) : MetXi l g yJ6_coder (ws_ yJ6_coder cJ6_coder 1 (some .byte)) { frames := 0, cells := 0, slots := 0, locals := 0 } [.ref (xa g (410 + t0))] ξ v ξ1 0 0 := by
  refine met_xi (lv0 := [(0, .ref (xa g (410 + t0)))]) (own := RJ6) (by decide) rfl (Nat.le_of_ble_eq_true rfl) rfl ?_
  intro p e s m below meth c A Q E hq
  have hR : 0 ≤ ({ frames := 0, cells := 0, slots := 0, locals := 0 } : Room).frames ∧ 0 ≤ ({ frames := 0, cells := 0, slots := 0, locals := 0 } : Room).locals := ⟨Nat.le_refl _, Nat.le_refl _⟩
  unfold x6_coder at h
  refine xgsC E dJ6_coder_0 rfl ?_
  refine cf_if_eq E dJ6_coder_3 h rfl rfl (fun h => ?_) (fun h => ?_)
  · refine cf_iconst E dJ6_coder_13 ic_1 rfl ?_
    exact xret_i dJ6_coder_14 h (by decide +kernel) hq
  · refine cf_aload_n E dJ6_coder_6 0 rfl rfl ?_
    refine xgSC E ht0 dJ6_coder_7 rfl ?_
    refine cf_goto E dJ6_coder_10 rfl ?_
    exact xret_i dJ6_coder_14 h (by decide +kernel) hq
def x6_length (N : Nat) (g : XG) (t0 : Nat)   (ξ : XS) : Option (Int32 × XS) :=
  bnd (x6_coder N g t0 ξ) fun v_2 s_1 =>
  some (((Int32.ofNat (strL.getD t0 0)) >>> (v_2 &&& 31)), s_1)
section XC
variable {p : Program} {l : Launch} {e : Env} {R : Room} {s : State} {m : MethodId} {args : Array Value} {below : List Frame} {meth : Method} {c : Code} {nL cells slots : Nat} {A : Nat → Prop} {g : XG} {ξ : XS} {Q : State → Prop} {pc n : Nat} {lv : List (Nat × Value)} {st : List Value} {cc : ByteArray} {ρ : Type} {res : ρ}
theorem xclJ6_335 (E : EV p s m args c cc nL RJ6) {N : Nat} {t0 : Nat} (ht0 : t0 < 4)  {kk : Int32 → XS → Option ρ} (hR : 1 ≤ R.frames ∧ 20 ≤ R.locals) (hcat : (st.map fun v => v.category).sum ≤ 8) (hf : cells ≤ R.cells ∧ slots ≤ R.slots) (d : decode cc pc = .ok (.invokevirtual 335, 3)) (h : bnd (x6_coder N g t0  ξ) kk = some res) (hn : pc + 3 = n) (k : ∀ (v : Int32) (ξ1 : XS), kk v ξ1 = some res → CF p l e R s m args below meth c nL cells slots (XB g A s ξ1) Q n lv (.int v :: st)) : CF p l e R s m args below meth c nL cells slots (XB g A s ξ) Q pc lv (.ref (xa g (410 + t0)) :: st) :=
  xcallW0_i (na := 0) E [] (fun v ξ1 ho => met_x6_coder l g N t0 ht0  ξ ho) (C := RJ6) (lw_V q768 q769 q770 q117 q771) (by decide +kernel) (fun H locs hB => vk_recv (adK := fun i => xa g (410 + i)) (i := t0) hB.2.2.2.2.2.2.2.2.2.2.2.2.1 ht0 hB.2.2.1) rfl rfl hR rfl rfl hcat hf d h hn k
end XC
set_option maxHeartbeats 4000000 in
theorem met_x6_length (l : Launch) (g : XG) (N : Nat) (t0 : Nat) (ht0 : t0 < 4)  (ξ : XS) {v : Int32} {ξ1 : XS} (h : x6_length N g t0  ξ = some (v, ξ1)) : MetXi l g yJ6_length (ws_ yJ6_length cJ6_length 1 (some .int)) { frames := 1, cells := 0, slots := 0, locals := 20 } [.ref (xa g (410 + t0))] ξ v ξ1 0 0 := by
  refine met_xi (lv0 := [(0, .ref (xa g (410 + t0)))]) (own := RJ6) (by decide) rfl (Nat.le_of_ble_eq_true rfl) rfl ?_
  intro p e s m below meth c A Q E hq
  have hR : 1 ≤ ({ frames := 1, cells := 0, slots := 0, locals := 20 } : Room).frames ∧ 20 ≤ ({ frames := 1, cells := 0, slots := 0, locals := 20 } : Room).locals := ⟨Nat.le_refl _, Nat.le_refl _⟩
  unfold x6_length at h
  refine cf_aload_n E dJ6_length_0 0 rfl rfl ?_
  refine xgSV E ht0 dJ6_length_1 rfl ?_
  refine xlenS E ht0 dJ6_length_4 rfl ?_
  refine cf_aload_n E dJ6_length_5 0 rfl rfl ?_
  refine xclJ6_335 (t0 := t0) E ht0 (rmle hR rfl rfl) (Nat.le_of_ble_eq_true rfl) ⟨Nat.zero_le _, Nat.zero_le _⟩ dJ6_length_6 h rfl (fun v_2 s_1 h => ?_)
  refine cf_ishr E dJ6_length_9 rfl ?_
  exact xret_i dJ6_length_10 h rfl hq
def x6_isLatin1 (N : Nat) (g : XG) (t0 : Nat)   (ξ : XS) : Option (Int32 × XS) :=
  if (1 : Int32) = 0 then (
    some ((0 : Int32), ξ))
  else (
    if (0 : Int32) = 0 then (
      some ((1 : Int32), ξ))
    else (
      some ((0 : Int32), ξ)))
set_option maxHeartbeats 4000000 in
theorem met_x6_isLatin1 (l : Launch) (g : XG) (N : Nat) (t0 : Nat) (ht0 : t0 < 4)  (ξ : XS) {v : Int32} {ξ1 : XS} (h : x6_isLatin1 N g t0  ξ = some (v, ξ1)) : MetXi l g yJ6_isLatin1 (ws_ yJ6_isLatin1 cJ6_isLatin1 1 (some .boolean)) { frames := 0, cells := 0, slots := 0, locals := 0 } [.ref (xa g (410 + t0))] ξ v ξ1 0 0 := by
  refine met_xi (lv0 := [(0, .ref (xa g (410 + t0)))]) (own := RJ6) (by decide) rfl (Nat.le_of_ble_eq_true rfl) rfl ?_
  intro p e s m below meth c A Q E hq
  have hR : 0 ≤ ({ frames := 0, cells := 0, slots := 0, locals := 0 } : Room).frames ∧ 0 ≤ ({ frames := 0, cells := 0, slots := 0, locals := 0 } : Room).locals := ⟨Nat.le_refl _, Nat.le_refl _⟩
  unfold x6_isLatin1 at h
  refine xgsC E dJ6_isLatin1_0 rfl ?_
  refine cf_if_eq E dJ6_isLatin1_3 h rfl rfl (fun h => ?_) (fun h => ?_)
  · refine cf_iconst E dJ6_isLatin1_17 ic_0 rfl ?_
    exact xret_i dJ6_isLatin1_18 h nzb0 hq
  · refine cf_aload_n E dJ6_isLatin1_6 0 rfl rfl ?_
    refine xgSC E ht0 dJ6_isLatin1_7 rfl ?_
    refine cf_if_ne E dJ6_isLatin1_10 h rfl rfl (fun h => ?_) (fun h => ?_)
    · refine cf_iconst E dJ6_isLatin1_17 ic_0 rfl ?_
      exact xret_i dJ6_isLatin1_18 h nzb0 hq
    · refine cf_iconst E dJ6_isLatin1_13 ic_1 rfl ?_
      refine cf_goto E dJ6_isLatin1_14 rfl ?_
      exact xret_i dJ6_isLatin1_18 h nzb1 hq
def x6_checkIndex (N : Nat) (g : XG)   (x0 : Int32) (x1 : Int32) (ξ : XS) : Option (XS) :=
  bnd (x4_checkIndex N g x0 x1 ξ) fun v_3 s_2 =>
  some s_2
section XC
variable {p : Program} {l : Launch} {e : Env} {R : Room} {s : State} {m : MethodId} {args : Array Value} {below : List Frame} {meth : Method} {c : Code} {nL cells slots : Nat} {A : Nat → Prop} {g : XG} {ξ : XS} {Q : State → Prop} {pc n : Nat} {lv : List (Nat × Value)} {st : List Value} {cc : ByteArray} {ρ : Type} {res : ρ}
theorem xclJ6_1059 (E : EV p s m args c cc nL RJ6) {N : Nat} {y2 : Option Nat}   {x0 : Int32} {x1 : Int32} {kk : Int32 → XS → Option ρ} (hR : 1 ≤ R.frames ∧ 22 ≤ R.locals) (hcat : (st.map fun v => v.category).sum ≤ 8) (hf : cells ≤ R.cells ∧ slots ≤ R.slots) (d : decode cc pc = .ok (.invokestatic 1059, 3)) (h : bnd (x4_checkIndex N g  x0 x1 ξ) kk = some res) (hn : pc + 3 = n) (k : ∀ (v : Int32) (ξ1 : XS), kk v ξ1 = some res → CF p l e R s m args below meth c nL cells slots (XB g A s ξ1) Q n lv (.int v :: st)) : CF p l e R s m args below meth c nL cells slots (XB g A s ξ) Q pc lv (va_rf y2 :: .int x1 :: .int x0 :: st) :=
  xcallS0_i (na := 3) E [.int x0, .int x1, va_rf y2] (fun v ξ1 ho => met_x4q_checkIndex l g N x0 x1 y2 ξ ho) (lw_S q790 q624 q114 q625) (by decide +kernel) rfl rfl hR rfl rfl hcat hf d h hn k
end XC
set_option maxHeartbeats 4000000 in
theorem met_x6_checkIndex (l : Launch) (g : XG) (N : Nat)   (x0 : Int32) (x1 : Int32) (ξ : XS) {ξ1 : XS} (h : x6_checkIndex N g  x0 x1 ξ = some ξ1) : MetXv l g yJ6_checkIndex (ws_ yJ6_checkIndex cJ6_checkIndex 2 (none)) { frames := 1, cells := 0, slots := 0, locals := 22 } [.int x0, .int x1] ξ ξ1 0 0 := by
  refine met_xv (lv0 := [(0, .int x0), (1, .int x1)]) (own := RJ6) (by decide) rfl (Nat.le_of_ble_eq_true rfl) rfl ?_
  intro p e s m below meth c A Q E hq
  have hR : 1 ≤ ({ frames := 1, cells := 0, slots := 0, locals := 22 } : Room).frames ∧ 22 ≤ ({ frames := 1, cells := 0, slots := 0, locals := 22 } : Room).locals := ⟨Nat.le_refl _, Nat.le_refl _⟩
  unfold x6_checkIndex at h
  refine cf_iload_n E dJ6_checkIndex_0 0 rfl rfl ?_
  refine cf_iload_n E dJ6_checkIndex_1 1 rfl rfl ?_
  refine xgsQ E dJ6_checkIndex_2 rfl (fun y_1 => ?_)
  refine xclJ6_1059 E (rmle hR rfl rfl) (Nat.le_of_ble_eq_true rfl) ⟨Nat.zero_le _, Nat.zero_le _⟩ dJ6_checkIndex_5 h rfl (fun v_3 s_2 h => ?_)
  refine cf_pop E dJ6_checkIndex_8 rfl rfl ?_
  exact xret_v dJ6_checkIndex_9 h hq
def x7_charAt (N : Nat) (g : XG) (t0 : Nat)  (x1 : Int32) (ξ : XS) : Option (Int32 × XS) :=
  bnv (x6_checkIndex N g x1 (Int32.ofNat (strL.getD t0 0)) ξ) fun s_1 =>
  if inb x1 (strL.getD t0 0) = true then (
  if vp_nar .char (((((strB.getD t0 []).getD x1.toNatClampNeg 0) &&& (255 : Int32))).toUInt32 % 65536).toInt32 = (((((strB.getD t0 []).getD x1.toNatClampNeg 0) &&& (255 : Int32))).toUInt32 % 65536).toInt32 then some ((((((strB.getD t0 []).getD x1.toNatClampNeg 0) &&& (255 : Int32))).toUInt32 % 65536).toInt32, s_1) else none) else none
section XC
variable {p : Program} {l : Launch} {e : Env} {R : Room} {s : State} {m : MethodId} {args : Array Value} {below : List Frame} {meth : Method} {c : Code} {nL cells slots : Nat} {A : Nat → Prop} {g : XG} {ξ : XS} {Q : State → Prop} {pc n : Nat} {lv : List (Nat × Value)} {st : List Value} {cc : ByteArray} {ρ : Type} {res : ρ}
theorem xclJ7_9 (E : EV p s m args c cc nL RJ7) {N : Nat}   {x0 : Int32} {x1 : Int32} {kk : XS → Option ρ} (hR : 2 ≤ R.frames ∧ 43 ≤ R.locals) (hcat : (st.map fun v => v.category).sum ≤ 8) (hf : cells ≤ R.cells ∧ slots ≤ R.slots) (d : decode cc pc = .ok (.invokestatic 9, 3)) (h : bnv (x6_checkIndex N g  x0 x1 ξ) kk = some res) (hn : pc + 3 = n) (k : ∀ (ξ1 : XS), kk ξ1 = some res → CF p l e R s m args below meth c nL cells slots (XB g A s ξ1) Q n lv st) : CF p l e R s m args below meth c nL cells slots (XB g A s ξ) Q pc lv (.int x1 :: .int x0 :: st) :=
  xcallS0_v (na := 2) E [.int x0, .int x1] (fun ξ1 ho => met_x6_checkIndex l g N   x0 x1 ξ ho) (lw_S q785 q786 q117 q787) (by decide +kernel) rfl rfl hR rfl rfl hcat hf d h hn k
end XC
set_option maxHeartbeats 4000000 in
theorem met_x7_charAt (l : Launch) (g : XG) (N : Nat) (t0 : Nat) (ht0 : t0 < 4) (x1 : Int32) (ξ : XS) {v : Int32} {ξ1 : XS} (h : x7_charAt N g t0 x1 ξ = some (v, ξ1)) : MetXi l g yJ7_charAt (ws_ yJ7_charAt cJ7_charAt 2 (some .char)) { frames := 2, cells := 0, slots := 0, locals := 43 } [.ref (xa g (420 + t0)), .int x1] ξ v ξ1 0 0 := by
  refine met_xi (lv0 := [(0, .ref (xa g (420 + t0))), (1, .int x1)]) (own := RJ7) (by decide) rfl (Nat.le_of_ble_eq_true rfl) rfl ?_
  intro p e s m below meth c A Q E hq
  have hR : 2 ≤ ({ frames := 2, cells := 0, slots := 0, locals := 43 } : Room).frames ∧ 43 ≤ ({ frames := 2, cells := 0, slots := 0, locals := 43 } : Room).locals := ⟨Nat.le_refl _, Nat.le_refl _⟩
  unfold x7_charAt at h
  refine cf_iload_n E dJ7_charAt_0 1 rfl rfl ?_
  refine cf_aload_n E dJ7_charAt_1 0 rfl rfl ?_
  refine xlenS E ht0 dJ7_charAt_2 rfl ?_
  refine xclJ7_9 E (rmle hR rfl rfl) (Nat.le_of_ble_eq_true rfl) ⟨Nat.zero_le _, Nat.zero_le _⟩ dJ7_charAt_3 h rfl (fun s_1 h => ?_)
  refine cf_aload_n E dJ7_charAt_6 0 rfl rfl ?_
  refine cf_iload_n E dJ7_charAt_7 1 rfl rfl ?_
  refine xaldS E ht0 dJ7_charAt_8 h rfl (fun h => ?_)
  refine cf_sipush E dJ7_charAt_9 sp_255 rfl ?_
  refine cf_iand E dJ7_charAt_12 rfl ?_
  refine xi2c E dJ7_charAt_13 rfl ?_
  exact xret_c dJ7_charAt_14 h hq
def x6_charAt (N : Nat) (g : XG) (t0 : Nat)  (x1 : Int32) (ξ : XS) : Option (Int32 × XS) :=
  bnd (x6_isLatin1 N g t0 ξ) fun v_2 s_1 =>
  if v_2 = 0 then (
    none)
  else (
    bnd (x7_charAt N g t0 x1 s_1) fun v_4 s_3 =>
    if vp_nar .char v_4 = v_4 then some (v_4, s_3) else none)
section XC
variable {p : Program} {l : Launch} {e : Env} {R : Room} {s : State} {m : MethodId} {args : Array Value} {below : List Frame} {meth : Method} {c : Code} {nL cells slots : Nat} {A : Nat → Prop} {g : XG} {ξ : XS} {Q : State → Prop} {pc n : Nat} {lv : List (Nat × Value)} {st : List Value} {cc : ByteArray} {ρ : Type} {res : ρ}
theorem xclJ6_492 (E : EV p s m args c cc nL RJ6) {N : Nat} {t0 : Nat} (ht0 : t0 < 4)  {kk : Int32 → XS → Option ρ} (hR : 1 ≤ R.frames ∧ 20 ≤ R.locals) (hcat : (st.map fun v => v.category).sum ≤ 8) (hf : cells ≤ R.cells ∧ slots ≤ R.slots) (d : decode cc pc = .ok (.invokevirtual 492, 3)) (h : bnd (x6_isLatin1 N g t0  ξ) kk = some res) (hn : pc + 3 = n) (k : ∀ (v : Int32) (ξ1 : XS), kk v ξ1 = some res → CF p l e R s m args below meth c nL cells slots (XB g A s ξ1) Q n lv (.int v :: st)) : CF p l e R s m args below meth c nL cells slots (XB g A s ξ) Q pc lv (.ref (xa g (410 + t0)) :: st) :=
  xcallW0_i (na := 0) E [] (fun v ξ1 ho => met_x6_isLatin1 l g N t0 ht0  ξ ho) (C := RJ6) (lw_V q778 q779 q780 q117 q781) (by decide +kernel) (fun H locs hB => vk_recv (adK := fun i => xa g (410 + i)) (i := t0) hB.2.2.2.2.2.2.2.2.2.2.2.2.1 ht0 hB.2.2.1) rfl rfl hR rfl rfl hcat hf d h hn k
theorem xclJ6_495 (E : EV p s m args c cc nL RJ6) {N : Nat} {t0 : Nat} (ht0 : t0 < 4) {x1 : Int32} {kk : Int32 → XS → Option ρ} (hR : 3 ≤ R.frames ∧ 64 ≤ R.locals) (hcat : (st.map fun v => v.category).sum ≤ 8) (hf : cells ≤ R.cells ∧ slots ≤ R.slots) (d : decode cc pc = .ok (.invokestatic 495, 3)) (h : bnd (x7_charAt N g t0 x1 ξ) kk = some res) (hn : pc + 3 = n) (k : ∀ (v : Int32) (ξ1 : XS), kk v ξ1 = some res → CF p l e R s m args below meth c nL cells slots (XB g A s ξ1) Q n lv (.int v :: st)) : CF p l e R s m args below meth c nL cells slots (XB g A s ξ) Q pc lv (.int x1 :: .ref (xa g (420 + t0)) :: st) :=
  xcallS0_i (na := 2) E [.ref (xa g (420 + t0)), .int x1] (fun v ξ1 ho => met_x7_charAt l g N t0 ht0 x1 ξ ho) (lw_S q782 q783 q118 q784) (by decide +kernel) rfl rfl hR rfl rfl hcat hf d h hn k
end XC
set_option maxHeartbeats 4000000 in
theorem met_x6_charAt (l : Launch) (g : XG) (N : Nat) (t0 : Nat) (ht0 : t0 < 4) (x1 : Int32) (ξ : XS) {v : Int32} {ξ1 : XS} (h : x6_charAt N g t0 x1 ξ = some (v, ξ1)) : MetXi l g yJ6_charAt (ws_ yJ6_charAt cJ6_charAt 2 (some .char)) { frames := 3, cells := 0, slots := 0, locals := 64 } [.ref (xa g (410 + t0)), .int x1] ξ v ξ1 0 0 := by
  refine met_xi (lv0 := [(0, .ref (xa g (410 + t0))), (1, .int x1)]) (own := RJ6) (by decide) rfl (Nat.le_of_ble_eq_true rfl) rfl ?_
  intro p e s m below meth c A Q E hq
  have hR : 3 ≤ ({ frames := 3, cells := 0, slots := 0, locals := 64 } : Room).frames ∧ 64 ≤ ({ frames := 3, cells := 0, slots := 0, locals := 64 } : Room).locals := ⟨Nat.le_refl _, Nat.le_refl _⟩
  unfold x6_charAt at h
  refine cf_aload_n E dJ6_charAt_0 0 rfl rfl ?_
  refine xclJ6_492 (t0 := t0) E ht0 (rmle hR rfl rfl) (Nat.le_of_ble_eq_true rfl) ⟨Nat.zero_le _, Nat.zero_le _⟩ dJ6_charAt_1 h rfl (fun v_2 s_1 h => ?_)
  refine cf_if_eq E dJ6_charAt_4 h rfl rfl (fun h => ?_) (fun h => ?_)
  · cases h
  · refine cf_aload_n E dJ6_charAt_7 0 rfl rfl ?_
    refine xgSV E ht0 dJ6_charAt_8 rfl ?_
    refine cf_iload_n E dJ6_charAt_11 1 rfl rfl ?_
    refine xclJ6_495 (t0 := t0) E ht0 (rmle hR rfl rfl) (Nat.le_of_ble_eq_true rfl) ⟨Nat.zero_le _, Nat.zero_le _⟩ dJ6_charAt_12 h rfl (fun v_4 s_3 h => ?_)
    exact xret_c dJ6_charAt_15 h hq
