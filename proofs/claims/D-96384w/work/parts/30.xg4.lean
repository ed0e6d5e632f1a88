/-! HatsDecide, group g4: rows, functions, walks -/
set_option maxRecDepth 100000
section XC
variable {p : Program} {l : Launch} {e : Env} {R : Room} {s : State} {m : MethodId} {args : Array Value} {below : List Frame} {meth : Method} {c : Code} {nL cells slots : Nat} {A : Nat → Prop} {g : XG} {ξ : XS} {Q : State → Prop} {pc n : Nat} {lv : List (Nat × Value)} {st : List Value} {cc : ByteArray} {ρ : Type} {res : ρ}
theorem xgX5_9 (E : EV p s m args c cc nL RX5) {τ : Nat} (hτ : τ < 6) (d : decode cc pc = .ok (.getfield 9, 3)) (hn : pc + 3 = n) (k : CF p l e R s m args below meth c nL cells slots (XB g A s ξ) Q n lv (va_rf (xo ξ (100 + τ)) :: st)) : CF p l e R s m args below meth c nL cells slots (XB g A s ξ) Q pc lv (.ref (xa g (320 + τ)) :: st) := by
  subst hn
  intro H locs ls hB hl
  rcases t6 hτ with rfl | rfl | rfl | rfl | rfl | rfl
  · exact va_get (D := g.1) (ci := 7) (C := RX5) (T := TX5) (N := 1) E.1 E.2.1 E.2.2.2.2 in_X5 E.2.2.2.1 hB.2.2.2.1 hB.1 37 rfl rfl 0 (Nat.le_of_ble_eq_true rfl) (E.2.2.2.2 _ q276) (fun _ h9 => h9) rfl d (k H locs ls hB hl)
  · exact va_get (D := g.1) (ci := 7) (C := RX5) (T := TX5) (N := 1) E.1 E.2.1 E.2.2.2.2 in_X5 E.2.2.2.1 hB.2.2.2.1 hB.1 38 rfl rfl 0 (Nat.le_of_ble_eq_true rfl) (E.2.2.2.2 _ q276) (fun _ h9 => h9) rfl d (k H locs ls hB hl)
  · exact va_get (D := g.1) (ci := 7) (C := RX5) (T := TX5) (N := 1) E.1 E.2.1 E.2.2.2.2 in_X5 E.2.2.2.1 hB.2.2.2.1 hB.1 39 rfl rfl 0 (Nat.le_of_ble_eq_true rfl) (E.2.2.2.2 _ q276) (fun _ h9 => h9) rfl d (k H locs ls hB hl)
  · exact va_get (D := g.1) (ci := 7) (C := RX5) (T := TX5) (N := 1) E.1 E.2.1 E.2.2.2.2 in_X5 E.2.2.2.1 hB.2.2.2.1 hB.1 40 rfl rfl 0 (Nat.le_of_ble_eq_true rfl) (E.2.2.2.2 _ q276) (fun _ h9 => h9) rfl d (k H locs ls hB hl)
  · exact va_get (D := g.1) (ci := 7) (C := RX5) (T := TX5) (N := 1) E.1 E.2.1 E.2.2.2.2 in_X5 E.2.2.2.1 hB.2.2.2.1 hB.1 41 rfl rfl 0 (Nat.le_of_ble_eq_true rfl) (E.2.2.2.2 _ q276) (fun _ h9 => h9) rfl d (k H locs ls hB hl)
  · exact va_get (D := g.1) (ci := 7) (C := RX5) (T := TX5) (N := 1) E.1 E.2.1 E.2.2.2.2 in_X5 E.2.2.2.1 hB.2.2.2.1 hB.1 42 rfl rfl 0 (Nat.le_of_ble_eq_true rfl) (E.2.2.2.2 _ q276) (fun _ h9 => h9) rfl d (k H locs ls hB hl)
theorem xgX0_79 (E : EV p s m args c cc nL RX0) (d : decode cc pc = .ok (.getfield 79, 3)) (hn : pc + 3 = n) (k : CF p l e R s m args below meth c nL cells slots (XB g A s ξ) Q n lv (.ref (xa g 120) :: st)) : CF p l e R s m args below meth c nL cells slots (XB g A s ξ) Q pc lv (.ref (xa g 0) :: st) := by
  subst hn
  intro H locs ls hB hl
  exact va_get (D := g.1) (ci := 1) (C := RX0) (T := TX0) (N := 40) E.1 E.2.1 E.2.2.2.2 in_X0 E.2.2.2.1 hB.2.2.2.1 hB.1 0 rfl rfl 20 (Nat.le_of_ble_eq_true rfl) (E.2.2.2.2 _ q310) (fun _ h9 => h9) rfl d (k H locs ls hB hl)
theorem xgX0_351 (E : EV p s m args c cc nL RX0) {τ : Nat} (hτ : τ < 6) (d : decode cc pc = .ok (.getfield 351, 3)) (hn : pc + 3 = n) (k : CF p l e R s m args below meth c nL cells slots (XB g A s ξ) Q n lv (va_rf (xo ξ (100 + τ)) :: st)) : CF p l e R s m args below meth c nL cells slots (XB g A s ξ) Q pc lv (.ref (xa g (320 + τ)) :: st) := by
  subst hn
  intro H locs ls hB hl
  rcases t6 hτ with rfl | rfl | rfl | rfl | rfl | rfl
  · exact va_getN (D := g.1) (ci := 7) (C := RX5) (T := TX5) (N := 1) E.1 E.2.1 E.2.2.2.2 in_X5 E.2.2.2.1 hB.2.2.2.1 hB.1 37 rfl rfl 0 (Nat.le_of_ble_eq_true rfl) (va_Nw.use rfl (hB.2.2.2.2.2.1 _ q277 rfl)) (fun _ h9 => h9) rfl d (k H locs ls hB hl)
  · exact va_getN (D := g.1) (ci := 7) (C := RX5) (T := TX5) (N := 1) E.1 E.2.1 E.2.2.2.2 in_X5 E.2.2.2.1 hB.2.2.2.1 hB.1 38 rfl rfl 0 (Nat.le_of_ble_eq_true rfl) (va_Nw.use rfl (hB.2.2.2.2.2.1 _ q277 rfl)) (fun _ h9 => h9) rfl d (k H locs ls hB hl)
  · exact va_getN (D := g.1) (ci := 7) (C := RX5) (T := TX5) (N := 1) E.1 E.2.1 E.2.2.2.2 in_X5 E.2.2.2.1 hB.2.2.2.1 hB.1 39 rfl rfl 0 (Nat.le_of_ble_eq_true rfl) (va_Nw.use rfl (hB.2.2.2.2.2.1 _ q277 rfl)) (fun _ h9 => h9) rfl d (k H locs ls hB hl)
  · exact va_getN (D := g.1) (ci := 7) (C := RX5) (T := TX5) (N := 1) E.1 E.2.1 E.2.2.2.2 in_X5 E.2.2.2.1 hB.2.2.2.1 hB.1 40 rfl rfl 0 (Nat.le_of_ble_eq_true rfl) (va_Nw.use rfl (hB.2.2.2.2.2.1 _ q277 rfl)) (fun _ h9 => h9) rfl d (k H locs ls hB hl)
  · exact va_getN (D := g.1) (ci := 7) (C := RX5) (T := TX5) (N := 1) E.1 E.2.1 E.2.2.2.2 in_X5 E.2.2.2.1 hB.2.2.2.1 hB.1 41 rfl rfl 0 (Nat.le_of_ble_eq_true rfl) (va_Nw.use rfl (hB.2.2.2.2.2.1 _ q277 rfl)) (fun _ h9 => h9) rfl d (k H locs ls hB hl)
  · exact va_getN (D := g.1) (ci := 7) (C := RX5) (T := TX5) (N := 1) E.1 E.2.1 E.2.2.2.2 in_X5 E.2.2.2.1 hB.2.2.2.1 hB.1 42 rfl rfl 0 (Nat.le_of_ble_eq_true rfl) (va_Nw.use rfl (hB.2.2.2.2.2.1 _ q277 rfl)) (fun _ h9 => h9) rfl d (k H locs ls hB hl)
end XC
def x5_size (N : Nat) (g : XG) (t0 : Nat)   (ξ : XS) : Option (Int32 × XS) :=
  if okRow g ξ (xo ξ (100 + t0)) = true then (
  if (inA g ξ (xo ξ (100 + t0)) 1) = 0 then (
    if okRow g ξ (xo ξ (100 + t0)) = true then (
    if (inA g ξ (xo ξ (100 + t0)) 4) = 0 then (
      if okRow g ξ (xo ξ (100 + t0)) = true then (
      if (inA g ξ (xo ξ (100 + t0)) 0) = 0 then (
        if okRow g ξ (xo ξ (100 + t0)) = true then (
        if (inA g ξ (xo ξ (100 + t0)) 3) = 0 then (
          bno (xo ξ (100 + t0)) fun b_1 => if (dLen ξ b_1 (xc g 2)).isSome = true then (
          bno (dLen ξ b_1 (xc g 2)) fun n_2 =>
          some ((Int32.ofNat n_2), ξ)) else none)
        else (
          bno (xo ξ (100 + t0)) fun b_3 => if (dLen ξ b_3 (xc g 3)).isSome = true then (
          bno (dLen ξ b_3 (xc g 3)) fun n_4 =>
          some ((Int32.ofNat n_4), ξ)) else none)) else none)
      else (
        bno (xo ξ (100 + t0)) fun b_5 => if (dLen ξ b_5 (xc g 0)).isSome = true then (
        bno (dLen ξ b_5 (xc g 0)) fun n_6 =>
        some ((Int32.ofNat n_6), ξ)) else none)) else none)
    else (
      bno (xo ξ (100 + t0)) fun b_7 => if (dLen ξ b_7 (xc g 4)).isSome = true then (
      bno (dLen ξ b_7 (xc g 4)) fun n_8 =>
      some ((Int32.ofNat n_8), ξ)) else none)) else none)
  else (
    bno (xo ξ (100 + t0)) fun b_9 => if (dLen ξ b_9 (xc g 1)).isSome = true then (
    bno (dLen ξ b_9 (xc g 1)) fun n_10 =>
    some ((Int32.ofNat n_10), ξ)) else none)) else none
set_option maxHeartbeats 4000000 in
theorem met_x5_size (l : Launch) (g : XG) (N : Nat) (t0 : Nat) (ht0 : t0 < 6)  (ξ : XS) {v : Int32} {ξ1 : XS} (h : x5_size N g t0  ξ = some (v, ξ1)) : MetXi l g yX5_size (ws_ yX5_size cX5_size 3 (some .int)) { frames := 0, cells := 0, slots := 0, locals := 0 } [.ref (xa g (320 + t0))] ξ v ξ1 0 0 := by
  refine met_xi (lv0 := [(0, .ref (xa g (320 + t0)))]) (own := RX5) (by decide) rfl (Nat.le_of_ble_eq_true rfl) rfl ?_
  intro p e s m below meth c A Q E hq
  have hR : 0 ≤ ({ frames := 0, cells := 0, slots := 0, locals := 0 } : Room).frames ∧ 0 ≤ ({ frames := 0, cells := 0, slots := 0, locals := 0 } : Room).locals := ⟨Nat.le_refl _, Nat.le_refl _⟩
  unfold x5_size at h
  refine cf_aload_n E dX5_size_0 0 rfl rfl ?_
  refine xgX5_9 E ht0 dX5_size_1 rfl ?_
  refine cf_astore_nQ E dX5_size_4 [(2, va_rf (xo ξ (100 + t0))), (0, .ref (xa g (320 + t0)))] (Nat.le_of_ble_eq_true rfl) rfl rfl ?_
  refine cf_aload_nQ E dX5_size_5 0 rfl rfl ?_
  refine xinA_1 E q1443 dX5_size_6 h rfl (fun h => ?_)
  refine cf_if_eq E dX5_size_9 h rfl rfl (fun h => ?_) (fun h => ?_)
  · refine cf_aload_n E dX5_size_20 1 rfl rfl ?_
    refine xgX5_9 E ht0 dX5_size_21 rfl ?_
    refine cf_astore_nQ E dX5_size_24 [(2, va_rf (xo ξ (100 + t0))), (0, .ref (xa g (320 + t0)))] (Nat.le_of_ble_eq_true rfl) rfl rfl ?_
    refine cf_aload_nQ E dX5_size_25 0 rfl rfl ?_
    refine xinA_4 E q1444 dX5_size_26 h rfl (fun h => ?_)
    refine cf_if_eq E dX5_size_29 h rfl rfl (fun h => ?_) (fun h => ?_)
    · refine cf_aload_n E dX5_size_40 1 rfl rfl ?_
      refine xgX5_9 E ht0 dX5_size_41 rfl ?_
      refine cf_astore_nQ E dX5_size_44 [(2, va_rf (xo ξ (100 + t0))), (0, .ref (xa g (320 + t0)))] (Nat.le_of_ble_eq_true rfl) rfl rfl ?_
      refine cf_aload_nQ E dX5_size_45 0 rfl rfl ?_
      refine xinA_0 E q1445 dX5_size_46 h rfl (fun h => ?_)
      refine cf_if_eq E dX5_size_49 h rfl rfl (fun h => ?_) (fun h => ?_)
      · refine cf_aload_n E dX5_size_60 1 rfl rfl ?_
        refine xgX5_9 E ht0 dX5_size_61 rfl ?_
        refine cf_astore_nQ E dX5_size_64 [(2, va_rf (xo ξ (100 + t0))), (0, .ref (xa g (320 + t0)))] (Nat.le_of_ble_eq_true rfl) rfl rfl ?_
        refine cf_aload_nQ E dX5_size_65 0 rfl rfl ?_
        refine xinA_3 E q1446 dX5_size_66 h rfl (fun h => ?_)
        refine cf_if_eq E dX5_size_69 h rfl rfl (fun h => ?_) (fun h => ?_)
        · refine cf_aload_n E dX5_size_82 1 rfl rfl ?_
          refine xgX5_9 E ht0 dX5_size_83 rfl ?_
          refine xka_2 E q1447 dX5_size_86 h rfl (fun b_1 h => ?_)
          refine xlenA_2 E dX5_size_89 h rfl (fun n_2 h => ?_)
          exact xret_i dX5_size_90 h rfl hq
        · refine cf_aload_nQ E dX5_size_72 0 rfl rfl ?_
          refine xka_3 E q1446 dX5_size_73 h rfl (fun b_3 h => ?_)
          refine cf_astore_n E dX5_size_76 [(1, .ref b_3), (2, va_rf (xo ξ (100 + t0))), (0, .ref (xa g (320 + t0)))] (Nat.le_of_ble_eq_true rfl) rfl rfl ?_
          refine cf_aload_n E dX5_size_77 0 rfl rfl ?_
          refine xlenA_3 E dX5_size_78 h rfl (fun n_4 h => ?_)
          refine cf_goto E dX5_size_79 rfl ?_
          exact xret_i dX5_size_90 h rfl hq
      · refine cf_aload_nQ E dX5_size_52 0 rfl rfl ?_
        refine xka_0 E q1445 dX5_size_53 h rfl (fun b_5 h => ?_)
        refine cf_astore_n E dX5_size_56 [(1, .ref b_5), (2, va_rf (xo ξ (100 + t0))), (0, .ref (xa g (320 + t0)))] (Nat.le_of_ble_eq_true rfl) rfl rfl ?_
        refine cf_aload_n E dX5_size_57 0 rfl rfl ?_
        refine xlenA_0 E dX5_size_58 h rfl (fun n_6 h => ?_)
        exact xret_i dX5_size_59 h rfl hq
    · refine cf_aload_nQ E dX5_size_32 0 rfl rfl ?_
      refine xka_4 E q1444 dX5_size_33 h rfl (fun b_7 h => ?_)
      refine cf_astore_n E dX5_size_36 [(1, .ref b_7), (2, va_rf (xo ξ (100 + t0))), (0, .ref (xa g (320 + t0)))] (Nat.le_of_ble_eq_true rfl) rfl rfl ?_
      refine cf_aload_n E dX5_size_37 0 rfl rfl ?_
      refine xlenA_4 E dX5_size_38 h rfl (fun n_8 h => ?_)
      exact xret_i dX5_size_39 h rfl hq
  · refine cf_aload_nQ E dX5_size_12 0 rfl rfl ?_
    refine xka_1 E q1443 dX5_size_13 h rfl (fun b_9 h => ?_)
    refine cf_astore_n E dX5_size_16 [(1, .ref b_9), (2, va_rf (xo ξ (100 + t0))), (0, .ref (xa g (320 + t0)))] (Nat.le_of_ble_eq_true rfl) rfl rfl ?_
    refine cf_aload_n E dX5_size_17 0 rfl rfl ?_
    refine xlenA_1 E dX5_size_18 h rfl (fun n_10 h => ?_)
    exact xret_i dX5_size_19 h rfl hq
def x0_read (N : Nat) (g : XG)   (x1 : Int32) (x2 : Int32) (ξ : XS) : Option (Int64 × XS) :=
  bnd (x0_isTape N g x1 ξ) fun v_2 s_1 =>
  if v_2 = 0 then (
    some ((-9223372036854775808 : Int64), s_1))
  else (
    if inb x1 6 = true then (
    if (xo s_1 (100 + x1.toNatClampNeg)).isSome = true then (
      if inb x1 6 = true then (
      bnd (x5_size N g x1.toNatClampNeg s_1) fun v_6 s_5 =>
      bnd (x0_in N g x2 (0 : Int32) (v_6 - (1 : Int32)) s_5) fun v_8 s_7 =>
      if v_8 = 0 then (
        some ((-9223372036854775808 : Int64), s_7))
      else (
        if inb x1 6 = true then (
        if okRow g s_7 (xo s_7 (100 + x1.toNatClampNeg)) = true then (
        if (inA g s_7 (xo s_7 (100 + x1.toNatClampNeg)) 1) = 0 then (
          if okRow g s_7 (xo s_7 (100 + x1.toNatClampNeg)) = true then (
          if (inA g s_7 (xo s_7 (100 + x1.toNatClampNeg)) 4) = 0 then (
            if okRow g s_7 (xo s_7 (100 + x1.toNatClampNeg)) = true then (
            if (inA g s_7 (xo s_7 (100 + x1.toNatClampNeg)) 0) = 0 then (
              if okRow g s_7 (xo s_7 (100 + x1.toNatClampNeg)) = true then (
              if (inA g s_7 (xo s_7 (100 + x1.toNatClampNeg)) 3) = 0 then (
                bno (xo s_7 (100 + x1.toNatClampNeg)) fun b_10 => if (dLen s_7 b_10 (xc g 2)).isSome = true then (
                bnd (dA s_7 b_10 (xc g 2)) fun n_11 f_12 =>
                if inb x2 n_11 = true then (
                if (f_12 x2.toNatClampNeg) = 0 then (
                  some ((0 : Int64), s_7))
                else (
                  some ((1 : Int64), s_7))) else none) else none)
              else (
                bno (xo s_7 (100 + x1.toNatClampNeg)) fun b_13 => if (dLen s_7 b_13 (xc g 3)).isSome = true then (
                bnd (dAl s_7 b_13 (xc g 3)) fun n_14 f_15 =>
                if inb x2 n_14 = true then (
                some ((f_15 x2.toNatClampNeg), s_7)) else none) else none)) else none)
            else (
              bno (xo s_7 (100 + x1.toNatClampNeg)) fun b_16 => if (dLen s_7 b_16 (xc g 0)).isSome = true then (
              bnd (dA s_7 b_16 (xc g 0)) fun n_17 f_18 =>
              if inb x2 n_17 = true then (
              some (((f_18 x2.toNatClampNeg).toInt64), s_7)) else none) else none)) else none)
          else (
            bno (xo s_7 (100 + x1.toNatClampNeg)) fun b_19 => if (dLen s_7 b_19 (xc g 4)).isSome = true then (
            bnd (dA s_7 b_19 (xc g 4)) fun n_20 f_21 =>
            if inb x2 n_20 = true then (
            some (((f_21 x2.toNatClampNeg).toInt64), s_7)) else none) else none)) else none)
        else (
          bno (xo s_7 (100 + x1.toNatClampNeg)) fun b_22 => if (dLen s_7 b_22 (xc g 1)).isSome = true then (
          bnd (dA s_7 b_22 (xc g 1)) fun n_23 f_24 =>
          if inb x2 n_23 = true then (
          some (((f_24 x2.toNatClampNeg).toInt64), s_7)) else none) else none)) else none) else none)) else none)
    else (
      some ((-9223372036854775808 : Int64), s_1))) else none)
section XC
variable {p : Program} {l : Launch} {e : Env} {R : Room} {s : State} {m : MethodId} {args : Array Value} {below : List Frame} {meth : Method} {c : Code} {nL cells slots : Nat} {A : Nat → Prop} {g : XG} {ξ : XS} {Q : State → Prop} {pc n : Nat} {lv : List (Nat × Value)} {st : List Value} {cc : ByteArray} {ρ : Type} {res : ρ}
theorem xclX0_348 (E : EV p s m args c cc nL RX0) {N : Nat}   {x0 : Int32} {kk : Int32 → XS → Option ρ} (hR : 2 ≤ R.frames ∧ 42 ≤ R.locals) (hcat : (st.map fun v => v.category).sum ≤ 8) (hf : cells ≤ R.cells ∧ slots ≤ R.slots) (d : decode cc pc = .ok (.invokestatic 348, 3)) (h : bnd (x0_isTape N g  x0 ξ) kk = some res) (hn : pc + 3 = n) (k : ∀ (v : Int32) (ξ1 : XS), kk v ξ1 = some res → CF p l e R s m args below meth c nL cells slots (XB g A s ξ1) Q n lv (.int v :: st)) : CF p l e R s m args below meth c nL cells slots (XB g A s ξ) Q pc lv (.int x0 :: st) :=
  xcallS0_i (na := 1) E [.int x0] (fun v ξ1 ho => met_x0_isTape l g N   x0 ξ ho) (lw_S q1271 q1272 q96 q1273) (by decide +kernel) rfl rfl hR rfl rfl hcat hf d h hn k
theorem xclX0_408 (E : EV p s m args c cc nL RX0) {N : Nat} {t0 : Nat} (ht0 : t0 < 6)  {kk : Int32 → XS → Option ρ} (hR : 1 ≤ R.frames ∧ 22 ≤ R.locals) (hcat : (st.map fun v => v.category).sum ≤ 8) (hf : cells ≤ R.cells ∧ slots ≤ R.slots) (d : decode cc pc = .ok (.invokevirtual 408, 3)) (h : bnd (x5_size N g t0  ξ) kk = some res) (hn : pc + 3 = n) (k : ∀ (v : Int32) (ξ1 : XS), kk v ξ1 = some res → CF p l e R s m args below meth c nL cells slots (XB g A s ξ1) Q n lv (.int v :: st)) : CF p l e R s m args below meth c nL cells slots (XB g A s ξ) Q pc lv (.ref (xa g (320 + t0)) :: st) :=
  xcallM0_i (na := 0) E [] (fun v ξ1 ho => met_x5_size l g N t0 ht0  ξ ho) (C := RX5) (host := "HatsDecide") (lw_meth q1442) (by decide +kernel) q1457 q104 q1441 qs35 (xrecvP ht0) rfl rfl hR rfl rfl hcat hf d h hn k
end XC
set_option maxHeartbeats 4000000 in
theorem met_x0_read (l : Launch) (g : XG) (N : Nat)   (x1 : Int32) (x2 : Int32) (ξ : XS) {v : Int64} {ξ1 : XS} (h : x0_read N g  x1 x2 ξ = some (v, ξ1)) : MetXl l g yX0_read (ws_ yX0_read cX0_read 6 (some .long)) { frames := 2, cells := 0, slots := 0, locals := 42 } [.ref (xa g 0), .int x1, .int x2] ξ v ξ1 0 0 := by
  refine met_xl (lv0 := [(0, .ref (xa g 0)), (1, .int x1), (2, .int x2)]) (own := RX0) (by decide) rfl (Nat.le_of_ble_eq_true rfl) rfl ?_
  intro p e s m below meth c A Q E hq
  have hR : 2 ≤ ({ frames := 2, cells := 0, slots := 0, locals := 42 } : Room).frames ∧ 42 ≤ ({ frames := 2, cells := 0, slots := 0, locals := 42 } : Room).locals := ⟨Nat.le_refl _, Nat.le_refl _⟩
  unfold x0_read at h
  refine cf_iload_n E dX0_read_0 1 rfl rfl ?_
  refine xclX0_348 E (rmle hR rfl rfl) (Nat.le_of_ble_eq_true rfl) ⟨Nat.zero_le _, Nat.zero_le _⟩ dX0_read_1 h rfl (fun v_2 s_1 h => ?_)
  refine cf_if_eq E dX0_read_4 h rfl rfl (fun h => ?_) (fun h => ?_)
  · refine cf_ldc2 E dX0_read_38 q1221 rfl ?_
    exact xret_l dX0_read_41 h hq
  · refine cf_aload_n E dX0_read_7 0 rfl rfl ?_
    refine xgX0_79 E dX0_read_8 rfl ?_
    refine cf_iload_n E dX0_read_11 1 rfl rfl ?_
    refine xalt E dX0_read_12 h rfl (fun ht_3 h => ?_)
    refine xgX0_351 E ht_3 dX0_read_13 rfl ?_
    refine xnul E dX0_read_16 h rfl rfl (fun h => ?_) (fun h => ?_)
    · refine cf_ldc2 E dX0_read_38 q1221 rfl ?_
      exact xret_l dX0_read_41 h hq
    · refine cf_iload_n E dX0_read_19 2 rfl rfl ?_
      refine cf_iconst E dX0_read_20 ic_0 rfl ?_
      refine cf_aload_n E dX0_read_21 0 rfl rfl ?_
      refine xgX0_79 E dX0_read_22 rfl ?_
      refine cf_iload_n E dX0_read_25 1 rfl rfl ?_
      refine xalt E dX0_read_26 h rfl (fun ht_4 h => ?_)
      refine xclX0_408 (t0 := x1.toNatClampNeg) E ht_4 (rmle hR rfl rfl) (Nat.le_of_ble_eq_true rfl) ⟨Nat.zero_le _, Nat.zero_le _⟩ dX0_read_27 h rfl (fun v_6 s_5 h => ?_)
      refine cf_iconst E dX0_read_30 ic_1 rfl ?_
      refine cf_isub E dX0_read_31 rfl ?_
      refine xclX0_130 E (rmle hR rfl rfl) (Nat.le_of_ble_eq_true rfl) ⟨Nat.zero_le _, Nat.zero_le _⟩ dX0_read_32 h rfl (fun v_8 s_7 h => ?_)
      refine cf_if_ne E dX0_read_35 h rfl rfl (fun h => ?_) (fun h => ?_)
      · refine cf_aload_n E dX0_read_42 0 rfl rfl ?_
        refine xgX0_79 E dX0_read_43 rfl ?_
        refine cf_iload_n E dX0_read_46 1 rfl rfl ?_
        refine xalt E dX0_read_47 h rfl (fun ht_9 h => ?_)
        refine cf_astore_n E dX0_read_48 [(3, .ref (xa g (320 + x1.toNatClampNeg))), (0, .ref (xa g 0)), (1, .int x1), (2, .int x2)] (Nat.le_of_ble_eq_true rfl) rfl rfl ?_
        refine cf_aload_n E dX0_read_49 0 rfl rfl ?_
        refine xgX0_351 E ht_9 dX0_read_50 rfl ?_
        refine cf_astoreQ E dX0_read_53 [(5, va_rf (xo s_7 (100 + x1.toNatClampNeg))), (3, .ref (xa g (320 + x1.toNatClampNeg))), (0, .ref (xa g 0)), (1, .int x1), (2, .int x2)] (Nat.le_of_ble_eq_true rfl) rfl rfl ?_
        refine cf_aloadQ E dX0_read_55 0 rfl rfl ?_
        refine xinA_1 E q1274 dX0_read_57 h rfl (fun h => ?_)
        refine cf_if_eq E dX0_read_60 h rfl rfl (fun h => ?_) (fun h => ?_)
        · refine cf_aload_n E dX0_read_76 1 rfl rfl ?_
          refine xgX0_351 E ht_9 dX0_read_77 rfl ?_
          refine cf_astoreQ E dX0_read_80 [(5, va_rf (xo s_7 (100 + x1.toNatClampNeg))), (3, .ref (xa g (320 + x1.toNatClampNeg))), (0, .ref (xa g 0)), (1, .int x1), (2, .int x2)] (Nat.le_of_ble_eq_true rfl) rfl rfl ?_
          refine cf_aloadQ E dX0_read_82 0 rfl rfl ?_
          refine xinA_4 E q1449 dX0_read_84 h rfl (fun h => ?_)
          refine cf_if_eq E dX0_read_87 h rfl rfl (fun h => ?_) (fun h => ?_)
          · refine cf_aload_n E dX0_read_103 1 rfl rfl ?_
            refine xgX0_351 E ht_9 dX0_read_104 rfl ?_
            refine cf_astoreQ E dX0_read_107 [(5, va_rf (xo s_7 (100 + x1.toNatClampNeg))), (3, .ref (xa g (320 + x1.toNatClampNeg))), (0, .ref (xa g 0)), (1, .int x1), (2, .int x2)] (Nat.le_of_ble_eq_true rfl) rfl rfl ?_
            refine cf_aloadQ E dX0_read_109 0 rfl rfl ?_
            refine xinA_0 E q1450 dX0_read_111 h rfl (fun h => ?_)
            refine cf_if_eq E dX0_read_114 h rfl rfl (fun h => ?_) (fun h => ?_)
            · refine cf_aload_n E dX0_read_130 1 rfl rfl ?_
              refine xgX0_351 E ht_9 dX0_read_131 rfl ?_
              refine cf_astoreQ E dX0_read_134 [(5, va_rf (xo s_7 (100 + x1.toNatClampNeg))), (3, .ref (xa g (320 + x1.toNatClampNeg))), (0, .ref (xa g 0)), (1, .int x1), (2, .int x2)] (Nat.le_of_ble_eq_true rfl) rfl rfl ?_
              refine cf_aloadQ E dX0_read_136 0 rfl rfl ?_
              refine xinA_3 E q1451 dX0_read_138 h rfl (fun h => ?_)
              refine cf_if_eq E dX0_read_141 h rfl rfl (fun h => ?_) (fun h => ?_)
              · refine cf_aload_n E dX0_read_158 1 rfl rfl ?_
                refine xgX0_351 E ht_9 dX0_read_159 rfl ?_
                refine xka_2 E q1452 dX0_read_162 h rfl (fun b_10 h => ?_)
                refine cf_iload_n E dX0_read_165 4 rfl rfl ?_
                refine xdald_z E dX0_read_166 h rfl (fun n_11 f_12 h => ?_)
                refine cf_if_eq E dX0_read_167 h rfl rfl (fun h => ?_) (fun h => ?_)
                · refine cf_lconst E dX0_read_174 lc_0 rfl ?_
                  exact xret_l dX0_read_175 h hq
                · refine cf_lconst E dX0_read_170 lc_1 rfl ?_
                  refine cf_goto E dX0_read_171 rfl ?_
                  exact xret_l dX0_read_175 h hq
              · refine cf_aloadQ E dX0_read_144 0 rfl rfl ?_
                refine xka_3 E q1451 dX0_read_146 h rfl (fun b_13 h => ?_)
                refine cf_astore E dX0_read_149 [(4, .ref b_13), (5, va_rf (xo s_7 (100 + x1.toNatClampNeg))), (3, .ref (xa g (320 + x1.toNatClampNeg))), (0, .ref (xa g 0)), (1, .int x1), (2, .int x2)] (Nat.le_of_ble_eq_true rfl) rfl rfl ?_
                refine cf_aload E dX0_read_151 0 rfl rfl ?_
                refine cf_iload_n E dX0_read_153 5 rfl rfl ?_
                refine xdald_l E dX0_read_154 h rfl (fun n_14 f_15 h => ?_)
                refine cf_goto E dX0_read_155 rfl ?_
                exact xret_l dX0_read_175 h hq
            · refine cf_aloadQ E dX0_read_117 0 rfl rfl ?_
              refine xka_0 E q1450 dX0_read_119 h rfl (fun b_16 h => ?_)
              refine cf_astore E dX0_read_122 [(4, .ref b_16), (5, va_rf (xo s_7 (100 + x1.toNatClampNeg))), (3, .ref (xa g (320 + x1.toNatClampNeg))), (0, .ref (xa g 0)), (1, .int x1), (2, .int x2)] (Nat.le_of_ble_eq_true rfl) rfl rfl ?_
              refine cf_aload E dX0_read_124 0 rfl rfl ?_
              refine cf_iload_n E dX0_read_126 5 rfl rfl ?_
              refine xdald_i E dX0_read_127 h rfl (fun n_17 f_18 h => ?_)
              refine cf_i2l E dX0_read_128 rfl ?_
              exact xret_l dX0_read_129 h hq
          · refine cf_aloadQ E dX0_read_90 0 rfl rfl ?_
            refine xka_4 E q1449 dX0_read_92 h rfl (fun b_19 h => ?_)
            refine cf_astore E dX0_read_95 [(4, .ref b_19), (5, va_rf (xo s_7 (100 + x1.toNatClampNeg))), (3, .ref (xa g (320 + x1.toNatClampNeg))), (0, .ref (xa g 0)), (1, .int x1), (2, .int x2)] (Nat.le_of_ble_eq_true rfl) rfl rfl ?_
            refine cf_aload E dX0_read_97 0 rfl rfl ?_
            refine cf_iload_n E dX0_read_99 5 rfl rfl ?_
            refine xdald_s E dX0_read_100 h rfl (fun n_20 f_21 h => ?_)
            refine cf_i2l E dX0_read_101 rfl ?_
            exact xret_l dX0_read_102 h hq
        · refine cf_aloadQ E dX0_read_63 0 rfl rfl ?_
          refine xka_1 E q1274 dX0_read_65 h rfl (fun b_22 h => ?_)
          refine cf_astore E dX0_read_68 [(4, .ref b_22), (5, va_rf (xo s_7 (100 + x1.toNatClampNeg))), (3, .ref (xa g (320 + x1.toNatClampNeg))), (0, .ref (xa g 0)), (1, .int x1), (2, .int x2)] (Nat.le_of_ble_eq_true rfl) rfl rfl ?_
          refine cf_aload E dX0_read_70 0 rfl rfl ?_
          refine cf_iload_n E dX0_read_72 5 rfl rfl ?_
          refine xdald_b E dX0_read_73 h rfl (fun n_23 f_24 h => ?_)
          refine cf_i2l E dX0_read_74 rfl ?_
          exact xret_l dX0_read_75 h hq
      · refine cf_ldc2 E dX0_read_38 q1221 rfl ?_
        exact xret_l dX0_read_41 h hq
