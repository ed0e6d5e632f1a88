/-! HatsDecide, group z4: rows, functions, walks -/
set_option maxRecDepth 100000
section XC
variable {p : Program} {l : Launch} {e : Env} {R : Room} {s : State} {m : MethodId} {args : Array Value} {below : List Frame} {meth : Method} {c : Code} {nL cells slots : Nat} {A : Nat → Prop} {g : XG} {ξ : XS} {Q : State → Prop} {pc n : Nat} {lv : List (Nat × Value)} {st : List Value} {cc : ByteArray} {ρ : Type} {res : ρ}
end XC
def y0_shift (N : Nat) (g : XG)  (x1 : Int32) (x2 : Int32) (x3 : Int32) (x4 : Int32) (x5 : Int32) (ξ : XS) (mc ms : Nat) (K : Int32 → XS → Prop) : Prop :=
  bndp (x0_isTape N g x1 ξ) fun v_2 s_1 =>
  if v_2 = 0 then (
    K (-1 : Int32) s_1)
  else (
    bndp (x0_isTape N g x3 s_1) fun v_4 s_3 =>
    if v_4 = 0 then (
      K (-1 : Int32) s_3)
    else (
      if inb x1 6 = true then (
      if inb x3 6 = true then (
      acK g s_3 (xo s_3 (100 + x1.toNatClampNeg)) (xo s_3 (100 + x3.toNatClampNeg)) x2 x4 x5 mc ms (fun q_8 =>
        K (-11 : Int32) s_3) (fun q_9 =>
        K (-12 : Int32) s_3) (fun q_10 =>
        K (-13 : Int32) s_3) fun s_7 =>
      K x5 s_7) else False) else False))
set_option maxHeartbeats 4000000 in
theorem met_y0_shift (l : Launch) (g : XG) (N : Nat)   (x1 : Int32) (x2 : Int32) (x3 : Int32) (x4 : Int32) (x5 : Int32) (ξ : XS) (mc ms : Nat) (K : Int32 → XS → Prop) (hlt : l.stackTraces = false) (h : y0_shift N g  x1 x2 x3 x4 x5 ξ mc ms K) : MetZi l g yX0_shift (wsW_ yX0_shift cX0_shift 7 (some .int) [((16 : Nat), (44 : Nat), (45 : Nat), (346 : Nat)), ((16 : Nat), (44 : Nat), (50 : Nat), (410 : Nat)), ((16 : Nat), (44 : Nat), (55 : Nat), (412 : Nat))]) 10 10248 [.ref (xa g 0), .int x1, .int x2, .int x3, .int x4, .int x5] ξ mc ms K (fun _ _ _ => False) := by
  refine met_zhi (lv0 := [(0, .ref (xa g 0)), (1, .int x1), (2, .int x2), (3, .int x3), (4, .int x4), (5, .int x5)]) (own := RX0) (by decide) rfl (Nat.le_of_ble_eq_true rfl) rfl ?_
  intro p e s m below meth c A Q E hmn hlk htab hq
  have hR : 10 ≤ ({ frames := 10, cells := mc, slots := ms, locals := 10248 } : Room).frames ∧ 10248 ≤ ({ frames := 10, cells := mc, slots := ms, locals := 10248 } : Room).locals := ⟨Nat.le_refl _, Nat.le_refl _⟩
  have hb : 0 + mc ≤ ({ frames := 10, cells := mc, slots := ms, locals := 10248 } : Room).cells ∧ 0 + ms ≤ ({ frames := 10, cells := mc, slots := ms, locals := 10248 } : Room).slots := ⟨Nat.le_of_eq (Nat.zero_add _), Nat.le_of_eq (Nat.zero_add _)⟩
  unfold y0_shift at h
  refine cf_iload_n E dX0_shift_0 1 rfl rfl ?_
  refine xclX0_348p E (rmle hR rfl rfl) (Nat.le_of_ble_eq_true rfl) (hb0 hb) dX0_shift_1 h rfl (fun v_2 s_1 h => ?_)
  refine cf_if_eqp E dX0_shift_4 h rfl rfl (fun h => ?_) (fun h => ?_)
  · refine cf_iconst E dX0_shift_14 ic_m1 rfl ?_
    exact hq _ _ _ _ _ _ (hb0 hb).1 (hb0 hb).2 dX0_shift_15 rfl h
  · refine cf_iload_n E dX0_shift_7 3 rfl rfl ?_
    refine xclX0_348p E (rmle hR rfl rfl) (Nat.le_of_ble_eq_true rfl) (hb0 hb) dX0_shift_8 h rfl (fun v_4 s_3 h => ?_)
    refine cf_if_nep E dX0_shift_11 h rfl rfl (fun h => ?_) (fun h => ?_)
    · refine cf_aload_n E dX0_shift_16 0 rfl rfl ?_
      refine xgX0_79 E dX0_shift_17 rfl ?_
      refine cf_iload_n E dX0_shift_20 1 rfl rfl ?_
      refine xaltp E dX0_shift_21 h rfl (fun ht_5 h => ?_)
      refine xgX0_351 E ht_5 dX0_shift_22 rfl ?_
      refine cf_iload_n E dX0_shift_25 2 rfl rfl ?_
      refine cf_aload_n E dX0_shift_26 0 rfl rfl ?_
      refine xgX0_79 E dX0_shift_27 rfl ?_
      refine cf_iload_n E dX0_shift_30 3 rfl rfl ?_
      refine xaltp E dX0_shift_31 h rfl (fun ht_6 h => ?_)
      refine xgX0_351 E ht_6 dX0_shift_32 rfl ?_
      refine cf_iload E dX0_shift_35 4 rfl rfl ?_
      refine cf_iload E dX0_shift_37 5 rfl rfl ?_
      refine xac (v1 := (xo s_3 (100 + x1.toNatClampNeg))) (v2 := (xo s_3 (100 + x3.toNatClampNeg))) E hlt hlk hb (rmle hR rfl rfl) (Nat.le_of_ble_eq_true rfl) dX0_shift_39 h rfl (fun q_8 hb h => ?_) (fun q_9 hb h => ?_) (fun q_10 hb h => ?_) (fun s_7 h => ?_)
      · refine cx_catch E htab [] ⟨16, 44, 45, 346⟩ [⟨16, 44, 50, 410⟩, ⟨16, 44, 55, 412⟩] rfl (fun z hz => nomatch hz) rfl (by decide) q1279 q1295 rfl ?_
        refine cf_astore E dX0_shift_45 [(6, .ref q_8), (0, .ref (xa g 0)), (1, .int x1), (2, .int x2), (3, .int x3), (4, .int x4), (5, .int x5)] (Nat.le_of_ble_eq_true rfl) rfl rfl ?_
        refine cf_bipush E dX0_shift_47 bp_m11 rfl ?_
        exact hq _ _ _ _ _ _ (hb0 hb).1 (hb0 hb).2 dX0_shift_49 rfl h
      · refine cx_catch E htab [⟨16, 44, 45, 346⟩] ⟨16, 44, 50, 410⟩ [⟨16, 44, 55, 412⟩] rfl (fun z hz => by
            simp only [List.mem_cons, List.not_mem_nil, or_false] at hz
            rcases hz with rfl
            · exact Or.inr ⟨by decide, "java/lang/NullPointerException", q1279, by decide +kernel⟩) rfl (by decide) q1462 q1474 rfl ?_
        refine cf_astore E dX0_shift_50 [(6, .ref q_9), (0, .ref (xa g 0)), (1, .int x1), (2, .int x2), (3, .int x3), (4, .int x4), (5, .int x5)] (Nat.le_of_ble_eq_true rfl) rfl rfl ?_
        refine cf_bipush E dX0_shift_52 bp_m12 rfl ?_
        exact hq _ _ _ _ _ _ (hb0 hb).1 (hb0 hb).2 dX0_shift_54 rfl h
      · refine cx_catch E htab [⟨16, 44, 45, 346⟩, ⟨16, 44, 50, 410⟩] ⟨16, 44, 55, 412⟩ [] rfl (fun z hz => by
            simp only [List.mem_cons, List.not_mem_nil, or_false] at hz
            rcases hz with rfl | rfl
            · exact Or.inr ⟨by decide, "java/lang/NullPointerException", q1279, by decide +kernel⟩
            · exact Or.inr ⟨by decide, "java/lang/ArrayStoreException", q1462, by decide +kernel⟩) rfl (by decide) q1476 q2161 rfl ?_
        refine cf_astore E dX0_shift_55 [(6, .ref q_10), (0, .ref (xa g 0)), (1, .int x1), (2, .int x2), (3, .int x3), (4, .int x4), (5, .int x5)] (Nat.le_of_ble_eq_true rfl) rfl rfl ?_
        refine cf_bipush E dX0_shift_57 bp_m13 rfl ?_
        exact hq _ _ _ _ _ _ (hb0 hb).1 (hb0 hb).2 dX0_shift_59 rfl h
      refine cf_iload E dX0_shift_42 5 rfl rfl ?_
      exact hq _ _ _ _ _ _ (hb0 hb).1 (hb0 hb).2 dX0_shift_44 rfl h
    · refine cf_iconst E dX0_shift_14 ic_m1 rfl ?_
      exact hq _ _ _ _ _ _ (hb0 hb).1 (hb0 hb).2 dX0_shift_15 rfl h
