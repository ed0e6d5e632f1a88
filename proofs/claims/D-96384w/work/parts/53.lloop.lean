/-! THE LAW, its loop: printed by gen/law.py -/
set_option maxRecDepth 100000
theorem gt9 {P : Prop} [Decidable P] : if P then True else ¬ P := by
  by_cases h : P
  · rw [if_pos h]; trivial
  · rw [if_neg h]; exact h
theorem rm9 : room_1.cells = 603072 ∧ room_1.slots = 7262314 := ⟨rfl, rfl⟩
theorem bud9 {s k n T : Nat} (h : s + k * (n + 1) ≤ T) : s + k ≤ T ∧ (s + k) + k * n ≤ T := by
  rw [Nat.mul_succ] at h
  omega
theorem bud8 {s k n T : Nat} (h : s + k * n ≤ T) : s ≤ T := by omega
theorem ic_6 : Int32.ofInt 6 = 6 := by decide +kernel
def OPS (N : Nat) (g : XG) (Cp : XS → MS → Prop) : Prop := OP_0 N g Cp ∧ OP_1 N g Cp ∧ OP_2 N g Cp ∧ OP_3 N g Cp ∧ OP_4 N g Cp ∧ OP_5 N g Cp ∧ OP_6 N g Cp ∧ OP_7 N g Cp ∧ OP_8 N g Cp ∧ OP_9 N g Cp ∧ OP_10 N g Cp ∧ OP_11 N g Cp ∧ OP_12 N g Cp ∧ OP_13 N g Cp ∧ OP_14 N g Cp ∧ OP_15 N g Cp ∧ OP_16 N g Cp ∧ OP_17 N g Cp ∧ OP_18 N g Cp ∧ OP_19 N g Cp ∧ OP_20 N g Cp ∧ OP_21 N g Cp ∧ OP_22 N g Cp ∧ OP_23 N g Cp ∧ OP_24 N g Cp ∧ OP_25 N g Cp ∧ OP_26 N g Cp ∧ OP_27 N g Cp ∧ OP_28 N g Cp ∧ OP_29 N g Cp ∧ OP_30 N g Cp ∧ OP_31 N g Cp ∧ OP_32 N g Cp ∧ OP_33 N g Cp ∧ OP_34 N g Cp ∧ OP_35 N g Cp ∧ OP_36 N g Cp ∧ OP_37 N g Cp ∧ OP_38 N g Cp ∧ OP_39 N g Cp ∧ OP_40 N g Cp ∧ OP_41 N g Cp ∧ OP_42 N g Cp ∧ OP_43 N g Cp ∧ OP_44 N g Cp
theorem law_in {L j : Nat} (hL : L ≤ 384) (h : ¬ Int32.ofNat L - 6 < nI (6 * j)) (hj : j ≤ 64) : 6 * j + 6 ≤ L := by
  have h1 : nI (6 * j) ≤ Int32.ofNat L - 6 := Int32.not_lt.mp h
  have h2 := Int32.le_iff_toInt_le.mp h1
  rw [nI_toInt (by omega)] at h2
  have h3 : (Int32.ofNat L - 6).toInt = (L : Int) - 6 := by
    rw [Int32.toInt_sub]
    have e1 : (Int32.ofNat L).toInt = (L : Int) := nI_toInt (n := L) (by omega)
    rw [e1, show (6 : Int32).toInt = 6 by decide]
    exact Int.bmod_eq_of_le (by omega) (by omega)
  omega
theorem law_ix {L j : Nat} (hL : L ≤ 384) (h : 6 * j + 6 ≤ L) : ∀ z : Int32, 0 ≤ z → z ≤ 5 → inb (nI (6 * j) + z) L = true := by
  intro z h0 h5
  have a0 : (0 : Int) ≤ z.toInt := by simpa using Int32.le_iff_toInt_le.mp h0
  have a5 : z.toInt ≤ 5 := by simpa using Int32.le_iff_toInt_le.mp h5
  have hz : z = nI z.toInt.toNat := by
    apply Int32.toInt_inj.mp
    rw [nI_toInt (by omega)]
    omega
  rw [hz, nI_add]
  have hlt : 6 * j + z.toInt.toNat < L := by omega
  have h9 := vp_in_nI hlt (by omega)
  unfold inb
  rw [nI_clamp (by omega)]
  simp only [Bool.not_eq_true', Bool.or_eq_false_iff, decide_eq_false_iff_not]
  exact ⟨nI_pos (by omega), by omega⟩
set_option maxHeartbeats 4000000 in
theorem law_step {p : Program} {l : Launch} {e : Env} {s : State} {m : MethodId} {args : Array Value} {below : List Frame} {meth : Method} {c : Code} {A : Nat → Prop} {g : XG} {b L : Nat} {xs : Nat → Int32} {Q : State → Prop} (E : EV p s m args c code 4 R_law) (hlt : l.stackTraces = false) (N : Nat) (Cp : XS → MS → Prop) (hops : OPS N g Cp) (hL : L ≤ 384) {i : Int32} (hi : ∀ z : Int32, 0 ≤ z → z ≤ 5 → inb (i + z) L = true) {cells slots : Nat} {σ : MS} {ξ : XS} (hC : Cp ξ σ) (hb : cells + 9000 ≤ room_1.cells ∧ slots + 110000 ≤ room_1.slots) (k : ∀ (σ1 : MS) (ξ1 : XS), Cp ξ1 σ1 → CF p l e room_1 s m args below meth c 4 (cells + 9000) (slots + 110000) (LB g A s b L xs σ1 ξ1) Q 1506 [(0, .ref b), (1, .ref (xa g 0)), (2, .ref (xa g 500)), (3, .int i)] []) : CF p l e room_1 s m args below meth c 4 cells slots (LB g A s b L xs σ ξ) Q 27 [(0, .ref b), (1, .ref (xa g 0)), (2, .ref (xa g 500)), (3, .int i)] [] := by
  obtain ⟨h0, h1, h2, h3, h4, h5, h6, h7, h8, h9, h10, h11, h12, h13, h14, h15, h16, h17, h18, h19, h20, h21, h22, h23, h24, h25, h26, h27, h28, h29, h30, h31, h32, h33, h34, h35, h36, h37, h38, h39, h40, h41, h42, h43, h44⟩ := hops
  refine cf_aload_n E dL_law_27 0 rfl rfl ?_
  refine cf_iload_n E dL_law_28 3 rfl rfl ?_
  refine lsld E (by have := hi 0 (by decide) (by decide); rwa [show i + 0 = i by simp] at this) dL_law_29 rfl ?_
  refine cf_bipush E dL_law_30 bp_63 rfl ?_
  refine cf_iand E dL_law_32 rfl ?_
  generalize (xs i.toNatClampNeg &&& 63) = z
  by_cases e0 : z = (0 : Int32)
  · refine cf_tabIn E 0 dL_law_33 (i32_eqZ e0 (by decide)) (by decide) (by decide) rfl rfl ?_
    exact lcase_0 E hlt N Cp h0 hi hb hC k
  by_cases e1 : z = (1 : Int32)
  · refine cf_tabIn E 1 dL_law_33 (i32_eqZ e1 (by decide)) (by decide) (by decide) rfl rfl ?_
    exact lcase_1 E hlt N Cp h1 hi hb hC k
  by_cases e2 : z = (2 : Int32)
  · refine cf_tabIn E 2 dL_law_33 (i32_eqZ e2 (by decide)) (by decide) (by decide) rfl rfl ?_
    exact lcase_2 E hlt N Cp h2 hi hb hC k
  by_cases e3 : z = (3 : Int32)
  · refine cf_tabIn E 3 dL_law_33 (i32_eqZ e3 (by decide)) (by decide) (by decide) rfl rfl ?_
    exact lcase_3 E hlt N Cp h3 hi hb hC k
  by_cases e4 : z = (4 : Int32)
  · refine cf_tabIn E 4 dL_law_33 (i32_eqZ e4 (by decide)) (by decide) (by decide) rfl rfl ?_
    exact lcase_4 E hlt N Cp h4 hi hb hC k
  by_cases e5 : z = (5 : Int32)
  · refine cf_tabIn E 5 dL_law_33 (i32_eqZ e5 (by decide)) (by decide) (by decide) rfl rfl ?_
    exact lcase_5 E hlt N Cp h5 hi hb hC k
  by_cases e6 : z = (6 : Int32)
  · refine cf_tabIn E 6 dL_law_33 (i32_eqZ e6 (by decide)) (by decide) (by decide) rfl rfl ?_
    exact lcase_6 E hlt N Cp h6 hi hb hC k
  by_cases e7 : z = (7 : Int32)
  · refine cf_tabIn E 7 dL_law_33 (i32_eqZ e7 (by decide)) (by decide) (by decide) rfl rfl ?_
    exact lcase_7 E hlt N Cp h7 hi hb hC k
  by_cases e8 : z = (8 : Int32)
  · refine cf_tabIn E 8 dL_law_33 (i32_eqZ e8 (by decide)) (by decide) (by decide) rfl rfl ?_
    exact lcase_8 E hlt N Cp h8 hi hb hC k
  by_cases e9 : z = (9 : Int32)
  · refine cf_tabIn E 9 dL_law_33 (i32_eqZ e9 (by decide)) (by decide) (by decide) rfl rfl ?_
    exact lcase_9 E hlt N Cp h9 hi hb hC k
  by_cases e10 : z = (10 : Int32)
  · refine cf_tabIn E 10 dL_law_33 (i32_eqZ e10 (by decide)) (by decide) (by decide) rfl rfl ?_
    exact lcase_10 E hlt N Cp h10 hi hb hC k
  by_cases e11 : z = (11 : Int32)
  · refine cf_tabIn E 11 dL_law_33 (i32_eqZ e11 (by decide)) (by decide) (by decide) rfl rfl ?_
    exact lcase_11 E hlt N Cp h11 hi hb hC k
  by_cases e12 : z = (12 : Int32)
  · refine cf_tabIn E 12 dL_law_33 (i32_eqZ e12 (by decide)) (by decide) (by decide) rfl rfl ?_
    exact lcase_12 E hlt N Cp h12 hi hb hC k
  by_cases e13 : z = (13 : Int32)
  · refine cf_tabIn E 13 dL_law_33 (i32_eqZ e13 (by decide)) (by decide) (by decide) rfl rfl ?_
    exact lcase_13 E hlt N Cp h13 hi hb hC k
  by_cases e14 : z = (14 : Int32)
  · refine cf_tabIn E 14 dL_law_33 (i32_eqZ e14 (by decide)) (by decide) (by decide) rfl rfl ?_
    exact lcase_14 E hlt N Cp h14 hi hb hC k
  by_cases e15 : z = (15 : Int32)
  · refine cf_tabIn E 15 dL_law_33 (i32_eqZ e15 (by decide)) (by decide) (by decide) rfl rfl ?_
    exact lcase_15 E hlt N Cp h15 hi hb hC k
  by_cases e16 : z = (16 : Int32)
  · refine cf_tabIn E 16 dL_law_33 (i32_eqZ e16 (by decide)) (by decide) (by decide) rfl rfl ?_
    exact lcase_16 E hlt N Cp h16 hi hb hC k
  by_cases e17 : z = (17 : Int32)
  · refine cf_tabIn E 17 dL_law_33 (i32_eqZ e17 (by decide)) (by decide) (by decide) rfl rfl ?_
    exact lcase_17 E hlt N Cp h17 hi hb hC k
  by_cases e18 : z = (18 : Int32)
  · refine cf_tabIn E 18 dL_law_33 (i32_eqZ e18 (by decide)) (by decide) (by decide) rfl rfl ?_
    exact lcase_18 E hlt N Cp h18 hi hb hC k
  by_cases e19 : z = (19 : Int32)
  · refine cf_tabIn E 19 dL_law_33 (i32_eqZ e19 (by decide)) (by decide) (by decide) rfl rfl ?_
    exact lcase_19 E hlt N Cp h19 hi hb hC k
  by_cases e20 : z = (20 : Int32)
  · refine cf_tabIn E 20 dL_law_33 (i32_eqZ e20 (by decide)) (by decide) (by decide) rfl rfl ?_
    exact lcase_20 E hlt N Cp h20 hi hb hC k
  by_cases e21 : z = (21 : Int32)
  · refine cf_tabIn E 21 dL_law_33 (i32_eqZ e21 (by decide)) (by decide) (by decide) rfl rfl ?_
    exact lcase_21 E hlt N Cp h21 hi hb hC k
  by_cases e22 : z = (22 : Int32)
  · refine cf_tabIn E 22 dL_law_33 (i32_eqZ e22 (by decide)) (by decide) (by decide) rfl rfl ?_
    exact lcase_22 E hlt N Cp h22 hi hb hC k
  by_cases e23 : z = (23 : Int32)
  · refine cf_tabIn E 23 dL_law_33 (i32_eqZ e23 (by decide)) (by decide) (by decide) rfl rfl ?_
    exact lcase_23 E hlt N Cp h23 hi hb hC k
  by_cases e24 : z = (24 : Int32)
  · refine cf_tabIn E 24 dL_law_33 (i32_eqZ e24 (by decide)) (by decide) (by decide) rfl rfl ?_
    exact lcase_24 E hlt N Cp h24 hi hb hC k
  by_cases e25 : z = (25 : Int32)
  · refine cf_tabIn E 25 dL_law_33 (i32_eqZ e25 (by decide)) (by decide) (by decide) rfl rfl ?_
    exact lcase_25 E hlt N Cp h25 hi hb hC k
  by_cases e26 : z = (26 : Int32)
  · refine cf_tabIn E 26 dL_law_33 (i32_eqZ e26 (by decide)) (by decide) (by decide) rfl rfl ?_
    exact lcase_26 E hlt N Cp h26 hi hb hC k
  by_cases e27 : z = (27 : Int32)
  · refine cf_tabIn E 27 dL_law_33 (i32_eqZ e27 (by decide)) (by decide) (by decide) rfl rfl ?_
    exact lcase_27 E hlt N Cp h27 hi hb hC k
  by_cases e28 : z = (28 : Int32)
  · refine cf_tabIn E 28 dL_law_33 (i32_eqZ e28 (by decide)) (by decide) (by decide) rfl rfl ?_
    exact lcase_28 E hlt N Cp h28 hi hb hC k
  by_cases e29 : z = (29 : Int32)
  · refine cf_tabIn E 29 dL_law_33 (i32_eqZ e29 (by decide)) (by decide) (by decide) rfl rfl ?_
    exact lcase_29 E hlt N Cp h29 hi hb hC k
  by_cases e30 : z = (30 : Int32)
  · refine cf_tabIn E 30 dL_law_33 (i32_eqZ e30 (by decide)) (by decide) (by decide) rfl rfl ?_
    exact lcase_30 E hlt N Cp h30 hi hb hC k
  by_cases e31 : z = (31 : Int32)
  · refine cf_tabIn E 31 dL_law_33 (i32_eqZ e31 (by decide)) (by decide) (by decide) rfl rfl ?_
    exact lcase_31 E hlt N Cp h31 hi hb hC k
  by_cases e32 : z = (32 : Int32)
  · refine cf_tabIn E 32 dL_law_33 (i32_eqZ e32 (by decide)) (by decide) (by decide) rfl rfl ?_
    exact lcase_32 E hlt N Cp h32 hi hb hC k
  by_cases e33 : z = (33 : Int32)
  · refine cf_tabIn E 33 dL_law_33 (i32_eqZ e33 (by decide)) (by decide) (by decide) rfl rfl ?_
    exact lcase_33 E hlt N Cp h33 hi hb hC k
  by_cases e34 : z = (34 : Int32)
  · refine cf_tabIn E 34 dL_law_33 (i32_eqZ e34 (by decide)) (by decide) (by decide) rfl rfl ?_
    exact lcase_34 E hlt N Cp h34 hi hb hC k
  by_cases e35 : z = (35 : Int32)
  · refine cf_tabIn E 35 dL_law_33 (i32_eqZ e35 (by decide)) (by decide) (by decide) rfl rfl ?_
    exact lcase_35 E hlt N Cp h35 hi hb hC k
  by_cases e36 : z = (36 : Int32)
  · refine cf_tabIn E 36 dL_law_33 (i32_eqZ e36 (by decide)) (by decide) (by decide) rfl rfl ?_
    exact lcase_36 E hlt N Cp h36 hi hb hC k
  by_cases e37 : z = (37 : Int32)
  · refine cf_tabIn E 37 dL_law_33 (i32_eqZ e37 (by decide)) (by decide) (by decide) rfl rfl ?_
    exact lcase_37 E hlt N Cp h37 hi hb hC k
  by_cases e38 : z = (38 : Int32)
  · refine cf_tabIn E 38 dL_law_33 (i32_eqZ e38 (by decide)) (by decide) (by decide) rfl rfl ?_
    exact lcase_38 E hlt N Cp h38 hi hb hC k
  by_cases e39 : z = (39 : Int32)
  · refine cf_tabIn E 39 dL_law_33 (i32_eqZ e39 (by decide)) (by decide) (by decide) rfl rfl ?_
    exact lcase_39 E hlt N Cp h39 hi hb hC k
  by_cases e40 : z = (40 : Int32)
  · refine cf_tabIn E 40 dL_law_33 (i32_eqZ e40 (by decide)) (by decide) (by decide) rfl rfl ?_
    exact lcase_40 E hlt N Cp h40 hi hb hC k
  by_cases e41 : z = (41 : Int32)
  · refine cf_tabIn E 41 dL_law_33 (i32_eqZ e41 (by decide)) (by decide) (by decide) rfl rfl ?_
    exact lcase_41 E hlt N Cp h41 hi hb hC k
  by_cases e42 : z = (42 : Int32)
  · refine cf_tabIn E 42 dL_law_33 (i32_eqZ e42 (by decide)) (by decide) (by decide) rfl rfl ?_
    exact lcase_42 E hlt N Cp h42 hi hb hC k
  by_cases e43 : z = (43 : Int32)
  · refine cf_tabIn E 43 dL_law_33 (i32_eqZ e43 (by decide)) (by decide) (by decide) rfl rfl ?_
    exact lcase_43 E hlt N Cp h43 hi hb hC k
  by_cases e44 : z = (44 : Int32)
  · refine cf_tabIn E 44 dL_law_33 (i32_eqZ e44 (by decide)) (by decide) (by decide) rfl rfl ?_
    exact lcase_44 E hlt N Cp h44 hi hb hC k
  have e0 := i32_neZ (z := 0) e0 (by decide)
  have e1 := i32_neZ (z := 1) e1 (by decide)
  have e2 := i32_neZ (z := 2) e2 (by decide)
  have e3 := i32_neZ (z := 3) e3 (by decide)
  have e4 := i32_neZ (z := 4) e4 (by decide)
  have e5 := i32_neZ (z := 5) e5 (by decide)
  have e6 := i32_neZ (z := 6) e6 (by decide)
  have e7 := i32_neZ (z := 7) e7 (by decide)
  have e8 := i32_neZ (z := 8) e8 (by decide)
  have e9 := i32_neZ (z := 9) e9 (by decide)
  have e10 := i32_neZ (z := 10) e10 (by decide)
  have e11 := i32_neZ (z := 11) e11 (by decide)
  have e12 := i32_neZ (z := 12) e12 (by decide)
  have e13 := i32_neZ (z := 13) e13 (by decide)
  have e14 := i32_neZ (z := 14) e14 (by decide)
  have e15 := i32_neZ (z := 15) e15 (by decide)
  have e16 := i32_neZ (z := 16) e16 (by decide)
  have e17 := i32_neZ (z := 17) e17 (by decide)
  have e18 := i32_neZ (z := 18) e18 (by decide)
  have e19 := i32_neZ (z := 19) e19 (by decide)
  have e20 := i32_neZ (z := 20) e20 (by decide)
  have e21 := i32_neZ (z := 21) e21 (by decide)
  have e22 := i32_neZ (z := 22) e22 (by decide)
  have e23 := i32_neZ (z := 23) e23 (by decide)
  have e24 := i32_neZ (z := 24) e24 (by decide)
  have e25 := i32_neZ (z := 25) e25 (by decide)
  have e26 := i32_neZ (z := 26) e26 (by decide)
  have e27 := i32_neZ (z := 27) e27 (by decide)
  have e28 := i32_neZ (z := 28) e28 (by decide)
  have e29 := i32_neZ (z := 29) e29 (by decide)
  have e30 := i32_neZ (z := 30) e30 (by decide)
  have e31 := i32_neZ (z := 31) e31 (by decide)
  have e32 := i32_neZ (z := 32) e32 (by decide)
  have e33 := i32_neZ (z := 33) e33 (by decide)
  have e34 := i32_neZ (z := 34) e34 (by decide)
  have e35 := i32_neZ (z := 35) e35 (by decide)
  have e36 := i32_neZ (z := 36) e36 (by decide)
  have e37 := i32_neZ (z := 37) e37 (by decide)
  have e38 := i32_neZ (z := 38) e38 (by decide)
  have e39 := i32_neZ (z := 39) e39 (by decide)
  have e40 := i32_neZ (z := 40) e40 (by decide)
  have e41 := i32_neZ (z := 41) e41 (by decide)
  have e42 := i32_neZ (z := 42) e42 (by decide)
  have e43 := i32_neZ (z := 43) e43 (by decide)
  have e44 := i32_neZ (z := 44) e44 (by decide)
  refine cf_tabOut E dL_law_33 (by omega) rfl ?_
  exact CFwiden (show cells ≤ cells + 9000 from by omega) (show slots ≤ slots + 110000 from by omega) (k σ ξ hC)
theorem law_loop {p : Program} {l : Launch} {e : Env} {s : State} {m : MethodId} {args : Array Value} {below : List Frame} {meth : Method} {c : Code} {A : Nat → Prop} {g : XG} {b L : Nat} {xs : Nat → Int32} {Q : State → Prop} (E : EV p s m args c code 4 R_law) (hlt : l.stackTraces = false) (N : Nat) (Cp : XS → MS → Prop) (hops : OPS N g Cp) (hL : L ≤ 384) (hend : ∀ (i : Int32) (σ : MS) (ξ : XS), CF p l e room_1 s m args below meth c 4 603072 7262314 (LB g A s b L xs σ ξ) Q 1512 [(0, .ref b), (1, .ref (xa g 0)), (2, .ref (xa g 500)), (3, .int i)] []) : ∀ (n j cells slots : Nat) (σ : MS) (ξ : XS), Cp ξ σ → n + j = 64 → cells + 9000 * n ≤ 603072 → slots + 110000 * n ≤ 7262314 → CF p l e room_1 s m args below meth c 4 cells slots (LB g A s b L xs σ ξ) Q 18 [(0, .ref b), (1, .ref (xa g 0)), (2, .ref (xa g 500)), (3, .int (nI (6 * j)))] [] := by
  intro n
  induction n with
  | zero =>
    intro j cells slots σ ξ hC hj hc hs
    refine cf_iload_n E dL_law_18 3 rfl rfl ?_
    refine cf_aload_n E dL_law_19 0 rfl rfl ?_
    refine lslen E dL_law_20 rfl ?_
    refine cf_bipush E dL_law_21 bp_6 rfl ?_
    refine cf_isub E dL_law_23 rfl ?_
    refine cf_icmp_gtp (At := True) (Bf := ¬ Int32.ofNat L - 6 < nI (6 * j)) E dL_law_24 gt9 rfl rfl (fun _ => CFwiden (bud8 hc) (bud8 hs) (hend _ σ ξ)) (fun h => ?_)
    have := law_in hL h (by omega)
    omega
  | succ n ih =>
    intro j cells slots σ ξ hC hj hc hs
    refine cf_iload_n E dL_law_18 3 rfl rfl ?_
    refine cf_aload_n E dL_law_19 0 rfl rfl ?_
    refine lslen E dL_law_20 rfl ?_
    refine cf_bipush E dL_law_21 bp_6 rfl ?_
    refine cf_isub E dL_law_23 rfl ?_
    refine cf_icmp_gtp (At := True) (Bf := ¬ Int32.ofNat L - 6 < nI (6 * j)) E dL_law_24 gt9 rfl rfl (fun _ => CFwiden (bud8 hc) (bud8 hs) (hend _ σ ξ)) (fun h => ?_)
    have h6 := law_in hL h (by omega)
    refine law_step E hlt N Cp hops hL (law_ix hL h6) hC ⟨by rw [rm9.1]; exact (bud9 hc).1, by rw [rm9.2]; exact (bud9 hs).1⟩ (fun σ1 ξ1 hC1 => ?_)
    refine cf_iincp (x := nI (6 * j)) (y := 6) (kk := fun z => z = nI (6 * (j + 1))) E dL_law_1506 ic_6 (show nI (6 * j) + 6 = nI (6 * (j + 1)) from (nI_add (6 * j) 6).trans (by rw [Nat.mul_add])) 3 rfl (fun z => [(3, .int z), (0, .ref b), (1, .ref (xa g 0)), (2, .ref (xa g 500))]) (Nat.le_of_ble_eq_true rfl) (fun _ => rfl) rfl (fun z hz => ?_)
    subst hz
    refine cf_goto E dL_law_1509 rfl ?_
    exact CF.sub [1, 2, 3, 0] rfl (ih (j + 1) (cells + 9000) (slots + 110000) σ1 ξ1 hC1 (by omega) (bud9 hc).2 (bud9 hs).2)
