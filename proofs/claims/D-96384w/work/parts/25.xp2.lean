/-! HatsDecide, group p2: rows, functions, walks -/
set_option maxRecDepth 100000
section XC
variable {p : Program} {l : Launch} {e : Env} {R : Room} {s : State} {m : MethodId} {args : Array Value} {below : List Frame} {meth : Method} {c : Code} {nL cells slots : Nat} {A : Nat → Prop} {g : XG} {ξ : XS} {Q : State → Prop} {pc n : Nat} {lv : List (Nat × Value)} {st : List Value} {cc : ByteArray} {ρ : Type} {res : ρ}
theorem xastT_0p {own : String} (E : EV p s m args c cc nL own) {τ : Nat} (hτ : τ < 3) {i x : Int32} {kk : XS → Prop} (d : decode cc pc = .ok (.bastore, 1)) (h : (if inb i 6 = true then nx (sXR ξ (200 + 10 * τ) i.toNatClampNeg (vp_nar .byte x)) kk else False)) (hn : pc + 1 = n) (k : ∀ ξ1 : XS, kk ξ1 → CF p l e R s m args below meth c nL cells slots (XB g A s ξ1) Q n lv st) : CF p l e R s m args below meth c nL cells slots (XB g A s ξ) Q pc lv (.int x :: .int i :: .ref (xa g (201 + 10 * τ)) :: st) := by
  subst hn
  by_cases hi : inb i 6 = true
  · rw [if_pos hi] at h
    intro H locs ls hB hl
    rcases t3 hτ with rfl | rfl | rfl
    · exact va_bast E.1 E.2.1 hB.2.2.2.1 hB.1 hB.2.1 hB.2.2.1 26 1 rfl rfl (inb_in hi) d (fun H1 locs1 hP hD hS => k _ h H1 locs1 ls ⟨hP, hD, hS, hB.2.2.2⟩ hl)
    · exact va_bast E.1 E.2.1 hB.2.2.2.1 hB.1 hB.2.1 hB.2.2.1 29 1 rfl rfl (inb_in hi) d (fun H1 locs1 hP hD hS => k _ h H1 locs1 ls ⟨hP, hD, hS, hB.2.2.2⟩ hl)
    · exact va_bast E.1 E.2.1 hB.2.2.2.1 hB.1 hB.2.1 hB.2.2.1 32 1 rfl rfl (inb_in hi) d (fun H1 locs1 hP hD hS => k _ h H1 locs1 ls ⟨hP, hD, hS, hB.2.2.2⟩ hl)
  · rw [if_neg hi] at h; cases h
theorem xcnX1_32 (E : EV p s m args c cc nL RX1) {τ mc ms : Nat} (hτ : τ < 3) (hb : cells + mc ≤ R.cells ∧ slots + ms ≤ R.slots) {kk : Nat → Prop} (hR : 1 ≤ R.frames ∧ 40 ≤ R.locals) (hcat : (st.map fun v => v.category).sum ≤ 8) (d : decode cc pc = .ok (.invokevirtual 32, 3)) (h : if fitB (xR ξ (200 + 10 * τ)) 0 6 = true then mkc ξ 6 mc ms kk else False) (hn : pc + 3 = n) (k : ∀ q, (cells + 1 + (mc - 1) ≤ R.cells ∧ slots + 6 + (ms - 6) ≤ R.slots) → kk q → CF p l e R s m args below meth c nL (cells + 1) (slots + 6) (XB g A s (pXd ξ q (.inl (xc g 1, 6, .inl (xR ξ (200 + 10 * τ)))))) Q n lv (.ref q :: st)) : CF p l e R s m args below meth c nL cells slots (XB g A s ξ) Q pc lv (.ref (xa g (201 + 10 * τ)) :: st) := by
  subst hn
  by_cases hi : fitB (xR ξ (200 + 10 * τ)) 0 6 = true
  · rw [if_pos hi] at h
    obtain ⟨h1, h2, h3⟩ := h
    intro H locs ls hB hl
    rcases t3 hτ with rfl | rfl | rfl
    · refine va_clone (ty := .byte) (ad := "[B") E.1 E.2.1 (E.2.2.1.trans hl.1.symm) E.2.2.2.1 (E.2.2.2.2 _ q1087) (E.2.2.2.2 _ q1088) (E.2.2.2.2 _ q1089) (E.2.2.2.2 _ q1090) (E.2.2.2.2 _ q1091) (hB.2.2.2.2.2.1 _ q1092 rfl) hB.2.2.2.1 hB.1 hB.2.1 hB.2.2.1 hB.2.2.2.2.1 26 1 rfl rfl (arrCls hB.2.2.2.1 1 rfl (fun _ h9 => by cases h9)) (xfitA hi) hR.1 (by have := hR.2; omega) (by omega) (show slots + 6 ≤ _ by omega) d (fun q H1 _ hP hD hS => ?_)
      have hq := xpush hD
      rw [xcs_push hq] at hP hD
      exact k q ⟨by omega, by omega⟩ (h3 q hq) H1 locs ls ⟨hP, hD, hS, hB.2.2.2⟩ hl
    · refine va_clone (ty := .byte) (ad := "[B") E.1 E.2.1 (E.2.2.1.trans hl.1.symm) E.2.2.2.1 (E.2.2.2.2 _ q1087) (E.2.2.2.2 _ q1088) (E.2.2.2.2 _ q1089) (E.2.2.2.2 _ q1090) (E.2.2.2.2 _ q1091) (hB.2.2.2.2.2.1 _ q1092 rfl) hB.2.2.2.1 hB.1 hB.2.1 hB.2.2.1 hB.2.2.2.2.1 29 1 rfl rfl (arrCls hB.2.2.2.1 1 rfl (fun _ h9 => by cases h9)) (xfitA hi) hR.1 (by have := hR.2; omega) (by omega) (show slots + 6 ≤ _ by omega) d (fun q H1 _ hP hD hS => ?_)
      have hq := xpush hD
      rw [xcs_push hq] at hP hD
      exact k q ⟨by omega, by omega⟩ (h3 q hq) H1 locs ls ⟨hP, hD, hS, hB.2.2.2⟩ hl
    · refine va_clone (ty := .byte) (ad := "[B") E.1 E.2.1 (E.2.2.1.trans hl.1.symm) E.2.2.2.1 (E.2.2.2.2 _ q1087) (E.2.2.2.2 _ q1088) (E.2.2.2.2 _ q1089) (E.2.2.2.2 _ q1090) (E.2.2.2.2 _ q1091) (hB.2.2.2.2.2.1 _ q1092 rfl) hB.2.2.2.1 hB.1 hB.2.1 hB.2.2.1 hB.2.2.2.2.1 32 1 rfl rfl (arrCls hB.2.2.2.1 1 rfl (fun _ h9 => by cases h9)) (xfitA hi) hR.1 (by have := hR.2; omega) (by omega) (show slots + 6 ≤ _ by omega) d (fun q H1 _ hP hD hS => ?_)
      have hq := xpush hD
      rw [xcs_push hq] at hP hD
      exact k q ⟨by omega, by omega⟩ (h3 q hq) H1 locs ls ⟨hP, hD, hS, hB.2.2.2⟩ hl
  · rw [if_neg hi] at h; cases h
theorem xckX1_33 (E : EV p s m args c cc nL RX1) {a : Nat} {A9 : Option ρ} (d : decode cc pc = .ok (.checkcast 33, 3)) (h : (if (dA ξ a (xc g 1)).isSome = true then A9 else none) = some res) (hn : pc + 3 = n) (k : A9 = some res → CF p l e R s m args below meth c nL cells slots (XB g A s ξ) Q n lv (.ref a :: st)) : CF p l e R s m args below meth c nL cells slots (XB g A s ξ) Q pc lv (.ref a :: st) := by
  subst hn
  by_cases hi : (dA ξ a (xc g 1)).isSome = true
  · rw [if_pos hi] at h
    obtain ⟨⟨n9, f9⟩, h9⟩ := Option.isSome_iff_exists.mp hi
    obtain ⟨q0, hq⟩ := dE_at (g := g) (dA_at h9)
    intro H locs ls hB hl
    exact va_castA E.1 E.2.1 E.2.2.2.1 (E.2.2.2.2 _ q1093) hB.1 q0 hq (arrCls hB.2.2.2.1 1 rfl (fun _ h9 => by cases h9)) d (k h H locs ls hB hl)
  · rw [if_neg hi] at h; cases h
theorem xckX1_33p (E : EV p s m args c cc nL RX1) {a : Nat} {A9 : Prop} (d : decode cc pc = .ok (.checkcast 33, 3)) (h : (if (dA ξ a (xc g 1)).isSome = true then A9 else False)) (hn : pc + 3 = n) (k : A9 → CF p l e R s m args below meth c nL cells slots (XB g A s ξ) Q n lv (.ref a :: st)) : CF p l e R s m args below meth c nL cells slots (XB g A s ξ) Q pc lv (.ref a :: st) := by
  subst hn
  by_cases hi : (dA ξ a (xc g 1)).isSome = true
  · rw [if_pos hi] at h
    obtain ⟨⟨n9, f9⟩, h9⟩ := Option.isSome_iff_exists.mp hi
    obtain ⟨q0, hq⟩ := dE_at (g := g) (dA_at h9)
    intro H locs ls hB hl
    exact va_castA E.1 E.2.1 E.2.2.2.1 (E.2.2.2.2 _ q1093) hB.1 q0 hq (arrCls hB.2.2.2.1 1 rfl (fun _ h9 => by cases h9)) d (k h H locs ls hB hl)
  · rw [if_neg hi] at h; cases h
theorem xaldT_0_0p {own : String} (E : EV p s m args c cc nL own) {i : Int32} {A9 : Prop} (d : decode cc pc = .ok (.baload, 1)) (h : (if inb i 6 = true then A9 else False)) (hn : pc + 1 = n) (k : A9 → CF p l e R s m args below meth c nL cells slots (XB g A s ξ) Q n lv (.int (xR ξ 200 i.toNatClampNeg) :: st)) : CF p l e R s m args below meth c nL cells slots (XB g A s ξ) Q pc lv (.int i :: .ref (xa g 201) :: st) := by
  subst hn
  by_cases hi : inb i 6 = true
  · rw [if_pos hi] at h
    intro H locs ls hB hl
    exact va_bald E.1 E.2.1 hB.2.2.2.1 hB.1 26 1 rfl rfl (inb_in hi) d (k h H locs ls hB hl)
  · rw [if_neg hi] at h; cases h
theorem xdgX0_250p (E : EV p s m args c cc nL RX0) {a : Nat} {kk : Nat → Prop} (d : decode cc pc = .ok (.getfield 250, 3)) (h : bnop (dR ξ a 3 3 1) kk) (hn : pc + 3 = n) (k : ∀ v : Nat, kk v → CF p l e R s m args below meth c nL cells slots (XB g A s ξ) Q n lv (.ref v :: st)) : CF p l e R s m args below meth c nL cells slots (XB g A s ξ) Q pc lv (.ref a :: st) := by
  subst hn
  obtain ⟨v, hi, h⟩ := h
  obtain ⟨ci, fs, he, h1, h2, hv⟩ := dR_at hi
  obtain ⟨q0, hq⟩ := dE_at (g := g) he
  intro H locs ls hB hl
  have hci : ci = 3 := by omega
  subst hci
  exact va_getN (D := g.1) (ci := 3) (C := RX2) (T := TX2) (N := 4) E.1 E.2.1 E.2.2.2.2 in_X2 E.2.2.2.1 hB.2.2.2.1 hB.1 q0 hq rfl 1 (Nat.le_of_ble_eq_true rfl) (va_Nw.use rfl (hB.2.2.2.2.2.1 _ q209 rfl)) (fun _ h9 => h9) hv d (k v h H locs ls hB hl)
end XC
def y1_gusts_13b (N : Nat) (g : XG) (t0 : Nat) (K : XS → Prop)  (rec13 : Int32 → Nat → Int32 → XS → Nat → Nat → Prop) (x1 : Int32) (a2 : Nat) (x3 : Int32) (ξ : XS) (mc ms : Nat) : Prop :=
  if (xF ξ (202 + 10 * t0)) ≤ x3 then (
    K ξ)
  else (
    if (xF ξ (202 + 10 * t0)) = 0 then False else
    bndp (dA ξ a2 (xc g 1)) fun n_1 f_2 =>
    if inb x3 n_1 = true then (
    if inb ((x3 + x1) - (x3 + x1) / (xF ξ (202 + 10 * t0)) * (xF ξ (202 + 10 * t0))) 6 = true then nx (sXR ξ (200 + 10 * t0) ((x3 + x1) - (x3 + x1) / (xF ξ (202 + 10 * t0)) * (xF ξ (202 + 10 * t0))).toNatClampNeg (vp_nar .byte (f_2 x3.toNatClampNeg))) (fun s_3 =>
    nx (x3 + (1 : Int32)) fun x3_4 =>
    rec13 x1 a2 x3_4 s_3 mc ms) else False) else False)
def y1_gusts_13 (N : Nat) (g : XG) (t0 : Nat) (K : XS → Prop)  : Nat → Int32 → Nat → Int32 → XS → Nat → Nat → Prop
  | 0 => fun _ _ _ _ _ _ => False
  | k + 1 => fun x1 a2 x3 ξ mc ms => y1_gusts_13b N g t0 K  (y1_gusts_13 N g t0 K  k) x1 a2 x3 ξ mc ms
def y1_gusts (N : Nat) (g : XG) (t0 : Nat) (x1 : Int32) (ξ : XS) (mc ms : Nat) (K : XS → Prop) : Prop :=
  if fitB (xR ξ (200 + 10 * t0)) 0 6 = true then mkc ξ 6 mc ms (fun q_1 =>
  if (dA (pXd ξ q_1 (.inl (xc g 1, 6, .inl (xR ξ (200 + 10 * t0))))) q_1 (xc g 1)).isSome = true then (
  nx ((0 : Int32) : Int32) fun x3_2 =>
  y1_gusts_13 N g t0 K N x1 q_1 x3_2 (pXd ξ q_1 (.inl (xc g 1, 6, .inl (xR ξ (200 + 10 * t0))))) (mc - 1) (ms - 6)) else False) else False
set_option maxHeartbeats 4000000 in
theorem wy1_gusts_13b {p : Program} {l : Launch} {e : Env} {R : Room} {s : State} {m : MethodId} {args : Array Value} {below : List Frame} {meth : Method} {c : Code} {A : Nat → Prop} {g : XG} {Q : State → Prop} {K : XS → Prop} (E : EV p s m args c cX1_gusts 4 RX1) (hR : 1 ≤ R.frames ∧ 40 ≤ R.locals) (hq : YTv p l e R s m args below meth c cX1_gusts 4 A g Q K) (N : Nat) (t0 : Nat) (ht0 : t0 < 3)  {rec13 : Int32 → Nat → Int32 → XS → Nat → Nat → Prop} (ih13 : ∀ (x1 : Int32) (a2 : Nat) (x3 : Int32) (ξ : XS) (mc ms cells slots : Nat), (cells + mc ≤ R.cells ∧ slots + ms ≤ R.slots) → rec13 x1 a2 x3 ξ mc ms → CF p l e R s m args below meth c 4 cells slots (XB g A s ξ) Q 13 [(0, .ref (xa g (200 + 10 * t0))), (1, .int x1), (2, .ref a2), (3, .int x3)] []) (x1 : Int32) (a2 : Nat) (x3 : Int32) (ξ : XS) (mc ms cells slots : Nat) (hb : cells + mc ≤ R.cells ∧ slots + ms ≤ R.slots) (h : y1_gusts_13b N g t0 K  rec13 x1 a2 x3 ξ mc ms) : CF p l e R s m args below meth c 4 cells slots (XB g A s ξ) Q 13 [(0, .ref (xa g (200 + 10 * t0))), (1, .int x1), (2, .ref a2), (3, .int x3)] [] := by
  unfold y1_gusts_13b at h
  refine cf_iload_n E dX1_gusts_13 3 rfl rfl ?_
  refine cf_aload_n E dX1_gusts_14 0 rfl rfl ?_
  refine xgX1_25 E ht0 dX1_gusts_15 rfl ?_
  refine cf_icmp_gep E dX1_gusts_18 h rfl rfl (fun h => ?_) (fun h => ?_)
  · exact hq _ _ _ _ _ (hb0 hb).1 (hb0 hb).2 dX1_gusts_43 h
  · refine cf_aload_n E dX1_gusts_21 0 rfl rfl ?_
    refine xgX1_9 E ht0 dX1_gusts_22 rfl ?_
    refine cf_iload_n E dX1_gusts_25 3 rfl rfl ?_
    refine cf_iload_n E dX1_gusts_26 1 rfl rfl ?_
    refine cf_iadd E dX1_gusts_27 rfl ?_
    refine cf_aload_n E dX1_gusts_28 0 rfl rfl ?_
    refine xgX1_25 E ht0 dX1_gusts_29 rfl ?_
    refine cf_iremp E dX1_gusts_32 h rfl (fun h => ?_)
    refine cf_aload_n E dX1_gusts_33 2 rfl rfl ?_
    refine cf_iload_n E dX1_gusts_34 3 rfl rfl ?_
    refine xdald_bp E dX1_gusts_35 h rfl (fun n_1 f_2 h => ?_)
    refine xastT_0p E ht0 dX1_gusts_36 h rfl (fun s_3 h => ?_)
    refine cf_iincp E dX1_gusts_37 ic_1 h 3 rfl (fun x3_4 => [(3, .int x3_4), (0, .ref (xa g (200 + 10 * t0))), (1, .int x1), (2, .ref a2)]) (Nat.le_of_ble_eq_true rfl) (fun _ => rfl) rfl (fun x3_4 h => ?_)
    refine cf_goto E dX1_gusts_40 rfl ?_
    exact CF.sub [1, 2, 3, 0] rfl (ih13 x1 a2 x3_4 s_3 mc ms _ _ hb h)
set_option maxHeartbeats 4000000 in
theorem wy1_gusts_13 {p : Program} {l : Launch} {e : Env} {R : Room} {s : State} {m : MethodId} {args : Array Value} {below : List Frame} {meth : Method} {c : Code} {A : Nat → Prop} {g : XG} {Q : State → Prop} {K : XS → Prop} (E : EV p s m args c cX1_gusts 4 RX1) (hR : 1 ≤ R.frames ∧ 40 ≤ R.locals) (hq : YTv p l e R s m args below meth c cX1_gusts 4 A g Q K) (N : Nat) (t0 : Nat) (ht0 : t0 < 3)  : ∀ (k : Nat) (x1 : Int32) (a2 : Nat) (x3 : Int32) (ξ : XS) (mc ms cells slots : Nat), (cells + mc ≤ R.cells ∧ slots + ms ≤ R.slots) → y1_gusts_13 N g t0 K  k x1 a2 x3 ξ mc ms → CF p l e R s m args below meth c 4 cells slots (XB g A s ξ) Q 13 [(0, .ref (xa g (200 + 10 * t0))), (1, .int x1), (2, .ref a2), (3, .int x3)] [] := by
  intro k
  induction k with
  | zero => intro x1 a2 x3 ξ mc ms cells slots hb h; have h : False := h; cases h
  | succ k ih => intro x1 a2 x3 ξ mc ms cells slots hb h; exact wy1_gusts_13b E hR hq N t0 ht0  ih x1 a2 x3 ξ mc ms cells slots hb h
set_option maxHeartbeats 4000000 in
theorem met_y1_gusts (l : Launch) (g : XG) (N : Nat) (t0 : Nat) (ht0 : t0 < 3) (x1 : Int32) (ξ : XS) (mc ms : Nat) (K : XS → Prop) (h : y1_gusts N g t0 x1 ξ mc ms K) : MetYv l g yX1_gusts (ws_ yX1_gusts cX1_gusts 4 none) 1 40 [.ref (xa g (200 + 10 * t0)), .int x1] ξ mc ms K := by
  refine met_yv (lv0 := [(0, .ref (xa g (200 + 10 * t0))), (1, .int x1)]) (own := RX1) (by decide) rfl (Nat.le_of_ble_eq_true rfl) rfl ?_
  intro p e s m below meth c A Q E hmn hq
  have hR : 1 ≤ ({ frames := 1, cells := mc, slots := ms, locals := 40 } : Room).frames ∧ 40 ≤ ({ frames := 1, cells := mc, slots := ms, locals := 40 } : Room).locals := ⟨Nat.le_refl _, Nat.le_refl _⟩
  have hb : 0 + mc ≤ ({ frames := 1, cells := mc, slots := ms, locals := 40 } : Room).cells ∧ 0 + ms ≤ ({ frames := 1, cells := mc, slots := ms, locals := 40 } : Room).slots := ⟨Nat.le_of_eq (Nat.zero_add _), Nat.le_of_eq (Nat.zero_add _)⟩
  unfold y1_gusts at h
  refine cf_aload_n E dX1_gusts_0 0 rfl rfl ?_
  refine xgX1_9 E ht0 dX1_gusts_1 rfl ?_
  refine xcnX1_32 E ht0 hb (rmle hR rfl rfl) (Nat.le_of_ble_eq_true rfl) dX1_gusts_4 h rfl (fun q_1 hb h => ?_)
  refine xckX1_33p E dX1_gusts_7 h rfl (fun h => ?_)
  refine cf_astore_n E dX1_gusts_10 [(2, .ref q_1), (0, .ref (xa g (200 + 10 * t0))), (1, .int x1)] (Nat.le_of_ble_eq_true rfl) rfl rfl ?_
  refine cf_iconst E dX1_gusts_11 ic_0 rfl ?_
  refine cf_istore_np E dX1_gusts_12 h (fun x3_2 => [(3, .int x3_2), (2, .ref q_1), (0, .ref (xa g (200 + 10 * t0))), (1, .int x1)]) (Nat.le_of_ble_eq_true rfl) (fun _ => rfl) rfl (fun x3_2 h => ?_)
  exact CF.sub [2, 3, 1, 0] rfl (wy1_gusts_13 E hR hq N t0 ht0 N x1 q_1 x3_2 (pXd ξ q_1 (.inl (xc g 1, 6, .inl (xR ξ (200 + 10 * t0))))) (mc - 1) (ms - 6) _ _ hb h)
def y0_gust_43 (N : Nat) (g : XG)  (K : Int32 → XS → Prop) (rec16 : Int32 → Int32 → Int32 → XS → Nat → Nat → Prop) (x1 : Int32) (x2 : Int32) (x3 : Int32) (ξ : XS) (mc ms : Nat) : Prop :=
  nx (x3 + (1 : Int32)) fun x3_1 =>
  rec16 x1 x2 x3_1 ξ mc ms
def y0_gust_16b (N : Nat) (g : XG)  (K : Int32 → XS → Prop)  (rec16 : Int32 → Int32 → Int32 → XS → Nat → Nat → Prop) (x1 : Int32) (x2 : Int32) (x3 : Int32) (ξ : XS) (mc ms : Nat) : Prop :=
  if (xF ξ 202) ≤ x3 then (
    bnyv (y1_gusts N g 0 x1 ξ) mc ms fun m_1 n_2 s_3 =>
    K x2 s_3)
  else (
    if inb x3 6 = true then (
    if (xR ξ 200 x3.toNatClampNeg) = (-1 : Int32) then (
      y0_gust_43 N g K rec16 x1 x2 x3 ξ mc ms)
    else (
      nx (x2 + (1 : Int32)) fun x2_5 =>
      y0_gust_43 N g K rec16 x1 x2_5 x3 ξ mc ms)) else False)
def y0_gust_16 (N : Nat) (g : XG)  (K : Int32 → XS → Prop)  : Nat → Int32 → Int32 → Int32 → XS → Nat → Nat → Prop
  | 0 => fun _ _ _ _ _ _ => False
  | k + 1 => fun x1 x2 x3 ξ mc ms => y0_gust_16b N g  K  (y0_gust_16 N g  K  k) x1 x2 x3 ξ mc ms
def y0_gust (N : Nat) (g : XG)  (x1 : Int32) (ξ : XS) (mc ms : Nat) (K : Int32 → XS → Prop) : Prop :=
  bndp (x0_in N g x1 (0 : Int32) (5 : Int32) ξ) fun v_2 s_1 =>
  if v_2 = 0 then (
    K (-2 : Int32) s_1)
  else (
    nx ((0 : Int32) : Int32) fun x2_3 =>
    nx ((0 : Int32) : Int32) fun x3_4 =>
    y0_gust_16 N g K N x1 x2_3 x3_4 s_1 mc ms)
section XC
variable {p : Program} {l : Launch} {e : Env} {R : Room} {s : State} {m : MethodId} {args : Array Value} {below : List Frame} {meth : Method} {c : Code} {nL cells slots : Nat} {A : Nat → Prop} {g : XG} {ξ : XS} {Q : State → Prop} {pc n : Nat} {lv : List (Nat × Value)} {st : List Value} {cc : ByteArray} {ρ : Type} {res : ρ}
theorem yclX0_267 (E : EV p s m args c cc nL RX0) {N mc ms : Nat} {t0 : Nat} (ht0 : t0 < 3) {x1 : Int32} {kk : Nat → Nat → XS → Prop} (hR : 2 ≤ R.frames ∧ 63 ≤ R.locals) (hcat : (st.map fun v => v.category).sum ≤ 8) (hb : cells + mc ≤ R.cells ∧ slots + ms ≤ R.slots) (d : decode cc pc = .ok (.invokevirtual 267, 3)) (h : bnyv (y1_gusts N g t0 x1 ξ) mc ms kk) (hn : pc + 3 = n) (k : ∀ (m1 n1 : Nat) (ξ1 : XS), (cells + m1 + (mc - m1) ≤ R.cells ∧ slots + n1 + (ms - n1) ≤ R.slots) → kk m1 n1 ξ1 → CF p l e R s m args below meth c nL (cells + m1) (slots + n1) (XB g A s ξ1) Q n lv st) : CF p l e R s m args below meth c nL cells slots (XB g A s ξ) Q pc lv (.int x1 :: .ref (xa g (200 + 10 * t0)) :: st) := by
  obtain ⟨m1, n1, h1, h2, h⟩ := h
  exact ycallV_v (na := 1) E [.int x1] (met_y1_gusts l g N t0 ht0 x1 ξ m1 n1 _ h) (C9 := RX1) (lw_V q1083 q1084 q1085 q97 q1086) (by decide +kernel) (xrecvT ht0) hR rfl rfl hcat ⟨by omega, by omega⟩ d hn (fun ξ1 hk => k m1 n1 ξ1 ⟨by omega, by omega⟩ hk)
end XC
set_option maxHeartbeats 4000000 in
theorem wy0_gust_43 {p : Program} {l : Launch} {e : Env} {R : Room} {s : State} {m : MethodId} {args : Array Value} {below : List Frame} {meth : Method} {c : Code} {A : Nat → Prop} {g : XG} {Q : State → Prop} {K : Int32 → XS → Prop} (E : EV p s m args c cX0_gust 4 RX0) (hR : 2 ≤ R.frames ∧ 63 ≤ R.locals) (hq : YTi p l e R s m args below meth c cX0_gust 4 A g .int Q K) (N : Nat)   {rec16 : Int32 → Int32 → Int32 → XS → Nat → Nat → Prop} (ih16 : ∀ (x1 : Int32) (x2 : Int32) (x3 : Int32) (ξ : XS) (mc ms cells slots : Nat), (cells + mc ≤ R.cells ∧ slots + ms ≤ R.slots) → rec16 x1 x2 x3 ξ mc ms → CF p l e R s m args below meth c 4 cells slots (XB g A s ξ) Q 16 [(0, .ref (xa g 0)), (1, .int x1), (2, .int x2), (3, .int x3)] []) (x1 : Int32) (x2 : Int32) (x3 : Int32) (ξ : XS) (mc ms cells slots : Nat) (hb : cells + mc ≤ R.cells ∧ slots + ms ≤ R.slots) (h : y0_gust_43 N g  K rec16 x1 x2 x3 ξ mc ms) : CF p l e R s m args below meth c 4 cells slots (XB g A s ξ) Q 43 [(0, .ref (xa g 0)), (1, .int x1), (2, .int x2), (3, .int x3)] [] := by
  unfold y0_gust_43 at h
  refine cf_iincp E dX0_gust_43 ic_1 h 3 rfl (fun x3_1 => [(3, .int x3_1), (0, .ref (xa g 0)), (1, .int x1), (2, .int x2)]) (Nat.le_of_ble_eq_true rfl) (fun _ => rfl) rfl (fun x3_1 h => ?_)
  refine cf_goto E dX0_gust_46 rfl ?_
  exact CF.sub [1, 2, 3, 0] rfl (ih16 x1 x2 x3_1 ξ mc ms _ _ hb h)
set_option maxHeartbeats 4000000 in
theorem wy0_gust_16b {p : Program} {l : Launch} {e : Env} {R : Room} {s : State} {m : MethodId} {args : Array Value} {below : List Frame} {meth : Method} {c : Code} {A : Nat → Prop} {g : XG} {Q : State → Prop} {K : Int32 → XS → Prop} (E : EV p s m args c cX0_gust 4 RX0) (hR : 2 ≤ R.frames ∧ 63 ≤ R.locals) (hq : YTi p l e R s m args below meth c cX0_gust 4 A g .int Q K) (N : Nat)    {rec16 : Int32 → Int32 → Int32 → XS → Nat → Nat → Prop} (ih16 : ∀ (x1 : Int32) (x2 : Int32) (x3 : Int32) (ξ : XS) (mc ms cells slots : Nat), (cells + mc ≤ R.cells ∧ slots + ms ≤ R.slots) → rec16 x1 x2 x3 ξ mc ms → CF p l e R s m args below meth c 4 cells slots (XB g A s ξ) Q 16 [(0, .ref (xa g 0)), (1, .int x1), (2, .int x2), (3, .int x3)] []) (x1 : Int32) (x2 : Int32) (x3 : Int32) (ξ : XS) (mc ms cells slots : Nat) (hb : cells + mc ≤ R.cells ∧ slots + ms ≤ R.slots) (h : y0_gust_16b N g  K  rec16 x1 x2 x3 ξ mc ms) : CF p l e R s m args below meth c 4 cells slots (XB g A s ξ) Q 16 [(0, .ref (xa g 0)), (1, .int x1), (2, .int x2), (3, .int x3)] [] := by
  unfold y0_gust_16b at h
  refine cf_iload_n E dX0_gust_16 3 rfl rfl ?_
  refine cf_aload_n E dX0_gust_17 0 rfl rfl ?_
  refine xgX0_30 E dX0_gust_18 rfl ?_
  refine xgX0_126_0 E dX0_gust_21 rfl ?_
  refine cf_icmp_gep E dX0_gust_24 h rfl rfl (fun h => ?_) (fun h => ?_)
  · refine cf_aload_n E dX0_gust_49 0 rfl rfl ?_
    refine xgX0_30 E dX0_gust_50 rfl ?_
    refine cf_iload_n E dX0_gust_53 1 rfl rfl ?_
    refine yclX0_267 (t0 := 0) E (by decide) (rmle hR rfl rfl) (Nat.le_of_ble_eq_true rfl) hb dX0_gust_54 h rfl (fun m_1 n_2 s_3 hb h => ?_)
    refine cf_iload_n E dX0_gust_57 2 rfl rfl ?_
    exact hq _ _ _ _ _ _ (hb0 hb).1 (hb0 hb).2 dX0_gust_58 rfl h
  · refine cf_aload_n E dX0_gust_27 0 rfl rfl ?_
    refine xgX0_30 E dX0_gust_28 rfl ?_
    refine xgX0_137_0 E dX0_gust_31 rfl ?_
    refine cf_iload_n E dX0_gust_34 3 rfl rfl ?_
    refine xaldT_0_0p E dX0_gust_35 h rfl (fun h => ?_)
    refine cf_iconst E dX0_gust_36 ic_m1 rfl ?_
    refine cf_icmp_eqp E dX0_gust_37 h rfl rfl (fun h => ?_) (fun h => ?_)
    · exact CF.sub [0, 1, 2, 3] rfl (wy0_gust_43 E hR hq N ih16 x1 x2 x3 ξ mc ms _ _ hb h)
    · refine cf_iincp E dX0_gust_40 ic_1 h 2 rfl (fun x2_5 => [(2, .int x2_5), (0, .ref (xa g 0)), (1, .int x1), (3, .int x3)]) (Nat.le_of_ble_eq_true rfl) (fun _ => rfl) rfl (fun x2_5 h => ?_)
      exact CF.sub [1, 2, 0, 3] rfl (wy0_gust_43 E hR hq N ih16 x1 x2_5 x3 ξ mc ms _ _ hb h)
set_option maxHeartbeats 4000000 in
theorem wy0_gust_16 {p : Program} {l : Launch} {e : Env} {R : Room} {s : State} {m : MethodId} {args : Array Value} {below : List Frame} {meth : Method} {c : Code} {A : Nat → Prop} {g : XG} {Q : State → Prop} {K : Int32 → XS → Prop} (E : EV p s m args c cX0_gust 4 RX0) (hR : 2 ≤ R.frames ∧ 63 ≤ R.locals) (hq : YTi p l e R s m args below meth c cX0_gust 4 A g .int Q K) (N : Nat)    : ∀ (k : Nat) (x1 : Int32) (x2 : Int32) (x3 : Int32) (ξ : XS) (mc ms cells slots : Nat), (cells + mc ≤ R.cells ∧ slots + ms ≤ R.slots) → y0_gust_16 N g  K  k x1 x2 x3 ξ mc ms → CF p l e R s m args below meth c 4 cells slots (XB g A s ξ) Q 16 [(0, .ref (xa g 0)), (1, .int x1), (2, .int x2), (3, .int x3)] [] := by
  intro k
  induction k with
  | zero => intro x1 x2 x3 ξ mc ms cells slots hb h; have h : False := h; cases h
  | succ k ih => intro x1 x2 x3 ξ mc ms cells slots hb h; exact wy0_gust_16b E hR hq N    ih x1 x2 x3 ξ mc ms cells slots hb h
set_option maxHeartbeats 4000000 in
theorem met_y0_gust (l : Launch) (g : XG) (N : Nat)   (x1 : Int32) (ξ : XS) (mc ms : Nat) (K : Int32 → XS → Prop) (h : y0_gust N g  x1 ξ mc ms K) : MetYi l g yX0_gust (ws_ yX0_gust cX0_gust 4 (some .int)) 2 63 [.ref (xa g 0), .int x1] ξ mc ms K := by
  refine met_yi (lv0 := [(0, .ref (xa g 0)), (1, .int x1)]) (own := RX0) (by decide) rfl (Nat.le_of_ble_eq_true rfl) rfl ?_
  intro p e s m below meth c A Q E hmn hq
  have hR : 2 ≤ ({ frames := 2, cells := mc, slots := ms, locals := 63 } : Room).frames ∧ 63 ≤ ({ frames := 2, cells := mc, slots := ms, locals := 63 } : Room).locals := ⟨Nat.le_refl _, Nat.le_refl _⟩
  have hb : 0 + mc ≤ ({ frames := 2, cells := mc, slots := ms, locals := 63 } : Room).cells ∧ 0 + ms ≤ ({ frames := 2, cells := mc, slots := ms, locals := 63 } : Room).slots := ⟨Nat.le_of_eq (Nat.zero_add _), Nat.le_of_eq (Nat.zero_add _)⟩
  unfold y0_gust at h
  refine cf_iload_n E dX0_gust_0 1 rfl rfl ?_
  refine cf_iconst E dX0_gust_1 ic_0 rfl ?_
  refine cf_iconst E dX0_gust_2 ic_5 rfl ?_
  refine xclX0_130p E (rmle hR rfl rfl) (Nat.le_of_ble_eq_true rfl) (hb0 hb) dX0_gust_3 h rfl (fun v_2 s_1 h => ?_)
  refine cf_if_nep E dX0_gust_6 h rfl rfl (fun h => ?_) (fun h => ?_)
  · refine cf_iconst E dX0_gust_12 ic_0 rfl ?_
    refine cf_istore_np E dX0_gust_13 h (fun x2_3 => [(2, .int x2_3), (0, .ref (xa g 0)), (1, .int x1)]) (Nat.le_of_ble_eq_true rfl) (fun _ => rfl) rfl (fun x2_3 h => ?_)
    refine cf_iconst E dX0_gust_14 ic_0 rfl ?_
    refine cf_istore_np E dX0_gust_15 h (fun x3_4 => [(3, .int x3_4), (2, .int x2_3), (0, .ref (xa g 0)), (1, .int x1)]) (Nat.le_of_ble_eq_true rfl) (fun _ => rfl) rfl (fun x3_4 h => ?_)
    exact CF.sub [2, 3, 1, 0] rfl (wy0_gust_16 E hR hq N N x1 x2_3 x3_4 s_1 mc ms _ _ hb h)
  · refine cf_bipush E dX0_gust_9 bp_m2 rfl ?_
    exact hq _ _ _ _ _ _ (hb0 hb).1 (hb0 hb).2 dX0_gust_11 rfl h
def y0_gustedBy (N : Nat) (g : XG)  (x1 : Int32) (x2 : Int32) (ξ : XS) (mc ms : Nat) (K : Int32 → XS → Prop) : Prop :=
  bnvp (x1_takes N g 1 0 ξ) fun s_1 =>
  bnyv (y1_gusts N g 1 x1 s_1) mc ms fun m_2 n_3 s_4 =>
  bndp (x0_todayOf N g 1 x2 s_4) fun v_7 s_6 =>
  K v_7 s_6
section XC
variable {p : Program} {l : Launch} {e : Env} {R : Room} {s : State} {m : MethodId} {args : Array Value} {below : List Frame} {meth : Method} {c : Code} {nL cells slots : Nat} {A : Nat → Prop} {g : XG} {ξ : XS} {Q : State → Prop} {pc n : Nat} {lv : List (Nat × Value)} {st : List Value} {cc : ByteArray} {ρ : Type} {res : ρ}
theorem xclX0_279p (E : EV p s m args c cc nL RX0) {N : Nat} {t0 : Nat} {t1 : Nat} (ht0 : t0 < 3) (ht1 : t1 < 3)  {kk : XS → Prop} (hR : 2 ≤ R.frames ∧ 61 ≤ R.locals) (hcat : (st.map fun v => v.category).sum ≤ 8) (hf : cells ≤ R.cells ∧ slots ≤ R.slots) (d : decode cc pc = .ok (.invokevirtual 279, 3)) (h : bnvp (x1_takes N g t0 t1  ξ) kk) (hn : pc + 3 = n) (k : ∀ (ξ1 : XS), kk ξ1 → CF p l e R s m args below meth c nL cells slots (XB g A s ξ1) Q n lv st) : CF p l e R s m args below meth c nL cells slots (XB g A s ξ) Q pc lv (.ref (xa g (200 + 10 * t1)) :: .ref (xa g (200 + 10 * t0)) :: st) :=
  xcallV0_vp (na := 1) E [.ref (xa g (200 + 10 * t1))] (fun ξ1 ho => met_x1_takes l g N t0 t1 ht0 ht1  ξ ho) (C := RX1) (lw_V q1122 q1123 q1124 q97 q1125) (by decide +kernel) (xrecvT ht0) rfl rfl hR rfl rfl hcat hf d h hn k
theorem xclX0_253p (E : EV p s m args c cc nL RX0) {N : Nat} {t1 : Nat} (ht1 : t1 < 3) {x2 : Int32} {kk : Int32 → XS → Prop} (hR : 28 ≤ R.frames ∧ 654 ≤ R.locals) (hcat : (st.map fun v => v.category).sum ≤ 8) (hf : cells ≤ R.cells ∧ slots ≤ R.slots) (d : decode cc pc = .ok (.invokevirtual 253, 3)) (h : bndp (x0_todayOf N g t1 x2 ξ) kk) (hn : pc + 3 = n) (k : ∀ (v : Int32) (ξ1 : XS), kk v ξ1 → CF p l e R s m args below meth c nL cells slots (XB g A s ξ1) Q n lv (.int v :: st)) : CF p l e R s m args below meth c nL cells slots (XB g A s ξ) Q pc lv (.int x2 :: .ref (xa g (200 + 10 * t1)) :: .ref (xa g 0) :: st) :=
  xcallV0_ip (na := 2) E [.ref (xa g (200 + 10 * t1)), .int x2] (fun v ξ1 ho => met_x0_todayOf l g N t1 ht1 x2 ξ ho) (C := RX0) (lw_V q1069 q1071 qs21 q96 q1072) (by decide +kernel) ⟨0, 1, _, _, rfl, rfl, rfl⟩ rfl rfl hR rfl rfl hcat hf d h hn k
end XC
set_option maxHeartbeats 4000000 in
theorem met_y0_gustedBy (l : Launch) (g : XG) (N : Nat)   (x1 : Int32) (x2 : Int32) (ξ : XS) (mc ms : Nat) (K : Int32 → XS → Prop) (h : y0_gustedBy N g  x1 x2 ξ mc ms K) : MetYi l g yX0_gustedBy (ws_ yX0_gustedBy cX0_gustedBy 3 (some .int)) 28 654 [.ref (xa g 0), .int x1, .int x2] ξ mc ms K := by
  refine met_yi (lv0 := [(0, .ref (xa g 0)), (1, .int x1), (2, .int x2)]) (own := RX0) (by decide) rfl (Nat.le_of_ble_eq_true rfl) rfl ?_
  intro p e s m below meth c A Q E hmn hq
  have hR : 28 ≤ ({ frames := 28, cells := mc, slots := ms, locals := 654 } : Room).frames ∧ 654 ≤ ({ frames := 28, cells := mc, slots := ms, locals := 654 } : Room).locals := ⟨Nat.le_refl _, Nat.le_refl _⟩
  have hb : 0 + mc ≤ ({ frames := 28, cells := mc, slots := ms, locals := 654 } : Room).cells ∧ 0 + ms ≤ ({ frames := 28, cells := mc, slots := ms, locals := 654 } : Room).slots := ⟨Nat.le_of_eq (Nat.zero_add _), Nat.le_of_eq (Nat.zero_add _)⟩
  unfold y0_gustedBy at h
  refine cf_aload_n E dX0_gustedBy_0 0 rfl rfl ?_
  refine xgX0_34 E dX0_gustedBy_1 rfl ?_
  refine cf_aload_n E dX0_gustedBy_4 0 rfl rfl ?_
  refine xgX0_30 E dX0_gustedBy_5 rfl ?_
  refine xclX0_279p (t0 := 1) (t1 := 0) E (by decide) (by decide) (rmle hR rfl rfl) (Nat.le_of_ble_eq_true rfl) (hb0 hb) dX0_gustedBy_8 h rfl (fun s_1 h => ?_)
  refine cf_aload_n E dX0_gustedBy_11 0 rfl rfl ?_
  refine xgX0_34 E dX0_gustedBy_12 rfl ?_
  refine cf_iload_n E dX0_gustedBy_15 1 rfl rfl ?_
  refine yclX0_267 (t0 := 1) E (by decide) (rmle hR rfl rfl) (Nat.le_of_ble_eq_true rfl) hb dX0_gustedBy_16 h rfl (fun m_2 n_3 s_4 hb h => ?_)
  refine cf_aload_n E dX0_gustedBy_19 0 rfl rfl ?_
  refine cf_aload_n E dX0_gustedBy_20 0 rfl rfl ?_
  refine xgX0_34 E dX0_gustedBy_21 rfl ?_
  refine cf_iload_n E dX0_gustedBy_24 2 rfl rfl ?_
  refine xclX0_253p (t1 := 1) E (by decide) (rmle hR rfl rfl) (Nat.le_of_ble_eq_true rfl) (hb0 hb) dX0_gustedBy_25 h rfl (fun v_7 s_6 h => ?_)
  exact hq _ _ _ _ _ _ (hb0 hb).1 (hb0 hb).2 dX0_gustedBy_28 rfl h
def y0_gusted (N : Nat) (g : XG)  (x1 : Int32) (ξ : XS) (mc ms : Nat) (K : Int32 → XS → Prop) : Prop :=
  bndp (x0_in N g x1 (0 : Int32) (5 : Int32) ξ) fun v_2 s_1 =>
  if v_2 = 0 then (
    K (-2 : Int32) s_1)
  else (
    bny (y0_gustedBy N g x1 (-1 : Int32) s_1) mc ms fun m_3 n_4 v_6 s_5 =>
    K v_6 s_5)
section XC
variable {p : Program} {l : Launch} {e : Env} {R : Room} {s : State} {m : MethodId} {args : Array Value} {below : List Frame} {meth : Method} {c : Code} {nL cells slots : Nat} {A : Nat → Prop} {g : XG} {ξ : XS} {Q : State → Prop} {pc n : Nat} {lv : List (Nat × Value)} {st : List Value} {cc : ByteArray} {ρ : Type} {res : ρ}
theorem yclX0_312 (E : EV p s m args c cc nL RX0) {N mc ms : Nat}   {x1 : Int32} {x2 : Int32} {kk : Nat → Nat → Int32 → XS → Prop} (hR : 29 ≤ R.frames ∧ 676 ≤ R.locals) (hcat : (st.map fun v => v.category).sum ≤ 8) (hb : cells + mc ≤ R.cells ∧ slots + ms ≤ R.slots) (d : decode cc pc = .ok (.invokevirtual 312, 3)) (h : bny (y0_gustedBy N g  x1 x2 ξ) mc ms kk) (hn : pc + 3 = n) (k : ∀ (m1 n1 : Nat) (v : Int32) (ξ1 : XS), (cells + m1 + (mc - m1) ≤ R.cells ∧ slots + n1 + (ms - n1) ≤ R.slots) → kk m1 n1 v ξ1 → CF p l e R s m args below meth c nL (cells + m1) (slots + n1) (XB g A s ξ1) Q n lv (.int v :: st)) : CF p l e R s m args below meth c nL cells slots (XB g A s ξ) Q pc lv (.int x2 :: .int x1 :: .ref (xa g 0) :: st) := by
  obtain ⟨m1, n1, h1, h2, h⟩ := h
  exact ycallV_i (na := 2) E [.int x1, .int x2] (met_y0_gustedBy l g N   x1 x2 ξ m1 n1 _ h) (C9 := RX0) (lw_V q1169 q1171 qs28 q96 q1172) (by decide +kernel) ⟨0, 1, _, _, rfl, rfl, rfl⟩ hR rfl rfl hcat ⟨by omega, by omega⟩ d hn (fun v ξ1 hk => k m1 n1 v ξ1 ⟨by omega, by omega⟩ hk)
end XC
set_option maxHeartbeats 4000000 in
theorem met_y0_gusted (l : Launch) (g : XG) (N : Nat)   (x1 : Int32) (ξ : XS) (mc ms : Nat) (K : Int32 → XS → Prop) (h : y0_gusted N g  x1 ξ mc ms K) : MetYi l g yX0_gusted (ws_ yX0_gusted cX0_gusted 2 (some .int)) 29 676 [.ref (xa g 0), .int x1] ξ mc ms K := by
  refine met_yi (lv0 := [(0, .ref (xa g 0)), (1, .int x1)]) (own := RX0) (by decide) rfl (Nat.le_of_ble_eq_true rfl) rfl ?_
  intro p e s m below meth c A Q E hmn hq
  have hR : 29 ≤ ({ frames := 29, cells := mc, slots := ms, locals := 676 } : Room).frames ∧ 676 ≤ ({ frames := 29, cells := mc, slots := ms, locals := 676 } : Room).locals := ⟨Nat.le_refl _, Nat.le_refl _⟩
  have hb : 0 + mc ≤ ({ frames := 29, cells := mc, slots := ms, locals := 676 } : Room).cells ∧ 0 + ms ≤ ({ frames := 29, cells := mc, slots := ms, locals := 676 } : Room).slots := ⟨Nat.le_of_eq (Nat.zero_add _), Nat.le_of_eq (Nat.zero_add _)⟩
  unfold y0_gusted at h
  refine cf_iload_n E dX0_gusted_0 1 rfl rfl ?_
  refine cf_iconst E dX0_gusted_1 ic_0 rfl ?_
  refine cf_iconst E dX0_gusted_2 ic_5 rfl ?_
  refine xclX0_130p E (rmle hR rfl rfl) (Nat.le_of_ble_eq_true rfl) (hb0 hb) dX0_gusted_3 h rfl (fun v_2 s_1 h => ?_)
  refine cf_if_eqp E dX0_gusted_6 h rfl rfl (fun h => ?_) (fun h => ?_)
  · refine cf_bipush E dX0_gusted_18 bp_m2 rfl ?_
    exact hq _ _ _ _ _ _ (hb0 hb).1 (hb0 hb).2 dX0_gusted_20 rfl h
  · refine cf_aload_n E dX0_gusted_9 0 rfl rfl ?_
    refine cf_iload_n E dX0_gusted_10 1 rfl rfl ?_
    refine cf_iconst E dX0_gusted_11 ic_m1 rfl ?_
    refine yclX0_312 E (rmle hR rfl rfl) (Nat.le_of_ble_eq_true rfl) hb dX0_gusted_12 h rfl (fun m_3 n_4 v_6 s_5 hb h => ?_)
    refine cf_goto E dX0_gusted_15 rfl ?_
    exact hq _ _ _ _ _ _ (hb0 hb).1 (hb0 hb).2 dX0_gusted_20 rfl h
def y0_lucky_40 (N : Nat) (g : XG)  (K : Int32 → XS → Prop) (rec7 : Int32 → Int32 → Int32 → XS → Nat → Nat → Prop) (x1 : Int32) (x2 : Int32) (x3 : Int32) (ξ : XS) (mc ms : Nat) : Prop :=
  nx (x3 + (1 : Int32)) fun x3_1 =>
  rec7 x1 x2 x3_1 ξ mc ms
def y0_lucky_7b (N : Nat) (g : XG)  (K : Int32 → XS → Prop)  (rec7 : Int32 → Int32 → Int32 → XS → Nat → Nat → Prop) (x1 : Int32) (x2 : Int32) (x3 : Int32) (ξ : XS) (mc ms : Nat) : Prop :=
  if (xF ξ 202) ≤ x3 then (
    K x1 ξ)
  else (
    bny (y0_gustedBy N g x3 (-1 : Int32) ξ) mc ms fun m_1 n_2 v_4 s_3 =>
    nx (v_4 : Int32) fun x4_5 =>
    if x2 < x4_5 then (
      nx (x4_5 : Int32) fun x2_6 =>
      nx (x3 : Int32) fun x1_7 =>
      y0_lucky_40 N g K rec7 x1_7 x2_6 x3 s_3 (mc - m_1) (ms - n_2))
    else (
      y0_lucky_40 N g K rec7 x1 x2 x3 s_3 (mc - m_1) (ms - n_2)))
def y0_lucky_7 (N : Nat) (g : XG)  (K : Int32 → XS → Prop)  : Nat → Int32 → Int32 → Int32 → XS → Nat → Nat → Prop
  | 0 => fun _ _ _ _ _ _ => False
  | k + 1 => fun x1 x2 x3 ξ mc ms => y0_lucky_7b N g  K  (y0_lucky_7 N g  K  k) x1 x2 x3 ξ mc ms
def y0_lucky (N : Nat) (g : XG)   (ξ : XS) (mc ms : Nat) (K : Int32 → XS → Prop) : Prop :=
  nx ((-5 : Int32) : Int32) fun x1_1 =>
  nx ((-1 : Int32) : Int32) fun x2_2 =>
  nx ((0 : Int32) : Int32) fun x3_3 =>
  y0_lucky_7 N g K N x1_1 x2_2 x3_3 ξ mc ms
set_option maxHeartbeats 4000000 in
theorem wy0_lucky_40 {p : Program} {l : Launch} {e : Env} {R : Room} {s : State} {m : MethodId} {args : Array Value} {below : List Frame} {meth : Method} {c : Code} {A : Nat → Prop} {g : XG} {Q : State → Prop} {K : Int32 → XS → Prop} (E : EV p s m args c cX0_lucky 5 RX0) (hR : 29 ≤ R.frames ∧ 676 ≤ R.locals) (hq : YTi p l e R s m args below meth c cX0_lucky 5 A g .int Q K) (N : Nat)   {rec7 : Int32 → Int32 → Int32 → XS → Nat → Nat → Prop} (ih7 : ∀ (x1 : Int32) (x2 : Int32) (x3 : Int32) (ξ : XS) (mc ms cells slots : Nat), (cells + mc ≤ R.cells ∧ slots + ms ≤ R.slots) → rec7 x1 x2 x3 ξ mc ms → CF p l e R s m args below meth c 5 cells slots (XB g A s ξ) Q 7 [(0, .ref (xa g 0)), (1, .int x1), (2, .int x2), (3, .int x3)] []) (x1 : Int32) (x2 : Int32) (x3 : Int32) (ξ : XS) (mc ms cells slots : Nat) (hb : cells + mc ≤ R.cells ∧ slots + ms ≤ R.slots) (h : y0_lucky_40 N g  K rec7 x1 x2 x3 ξ mc ms) : CF p l e R s m args below meth c 5 cells slots (XB g A s ξ) Q 40 [(0, .ref (xa g 0)), (1, .int x1), (2, .int x2), (3, .int x3)] [] := by
  unfold y0_lucky_40 at h
  refine cf_iincp E dX0_lucky_40 ic_1 h 3 rfl (fun x3_1 => [(3, .int x3_1), (0, .ref (xa g 0)), (1, .int x1), (2, .int x2)]) (Nat.le_of_ble_eq_true rfl) (fun _ => rfl) rfl (fun x3_1 h => ?_)
  refine cf_goto E dX0_lucky_43 rfl ?_
  exact CF.sub [1, 2, 3, 0] rfl (ih7 x1 x2 x3_1 ξ mc ms _ _ hb h)
set_option maxHeartbeats 4000000 in
theorem wy0_lucky_7b {p : Program} {l : Launch} {e : Env} {R : Room} {s : State} {m : MethodId} {args : Array Value} {below : List Frame} {meth : Method} {c : Code} {A : Nat → Prop} {g : XG} {Q : State → Prop} {K : Int32 → XS → Prop} (E : EV p s m args c cX0_lucky 5 RX0) (hR : 29 ≤ R.frames ∧ 676 ≤ R.locals) (hq : YTi p l e R s m args below meth c cX0_lucky 5 A g .int Q K) (N : Nat)    {rec7 : Int32 → Int32 → Int32 → XS → Nat → Nat → Prop} (ih7 : ∀ (x1 : Int32) (x2 : Int32) (x3 : Int32) (ξ : XS) (mc ms cells slots : Nat), (cells + mc ≤ R.cells ∧ slots + ms ≤ R.slots) → rec7 x1 x2 x3 ξ mc ms → CF p l e R s m args below meth c 5 cells slots (XB g A s ξ) Q 7 [(0, .ref (xa g 0)), (1, .int x1), (2, .int x2), (3, .int x3)] []) (x1 : Int32) (x2 : Int32) (x3 : Int32) (ξ : XS) (mc ms cells slots : Nat) (hb : cells + mc ≤ R.cells ∧ slots + ms ≤ R.slots) (h : y0_lucky_7b N g  K  rec7 x1 x2 x3 ξ mc ms) : CF p l e R s m args below meth c 5 cells slots (XB g A s ξ) Q 7 [(0, .ref (xa g 0)), (1, .int x1), (2, .int x2), (3, .int x3)] [] := by
  unfold y0_lucky_7b at h
  refine cf_iload_n E dX0_lucky_7 3 rfl rfl ?_
  refine cf_aload_n E dX0_lucky_8 0 rfl rfl ?_
  refine xgX0_30 E dX0_lucky_9 rfl ?_
  refine xgX0_126_0 E dX0_lucky_12 rfl ?_
  refine cf_icmp_gep E dX0_lucky_15 h rfl rfl (fun h => ?_) (fun h => ?_)
  · refine cf_iload_n E dX0_lucky_46 1 rfl rfl ?_
    exact hq _ _ _ _ _ _ (hb0 hb).1 (hb0 hb).2 dX0_lucky_47 rfl h
  · refine cf_aload_n E dX0_lucky_18 0 rfl rfl ?_
    refine cf_iload_n E dX0_lucky_19 3 rfl rfl ?_
    refine cf_iconst E dX0_lucky_20 ic_m1 rfl ?_
    refine yclX0_312 E (rmle hR rfl rfl) (Nat.le_of_ble_eq_true rfl) hb dX0_lucky_21 h rfl (fun m_1 n_2 v_4 s_3 hb h => ?_)
    refine cf_istorep E dX0_lucky_24 h (fun x4_5 => [(4, .int x4_5), (0, .ref (xa g 0)), (1, .int x1), (2, .int x2), (3, .int x3)]) (Nat.le_of_ble_eq_true rfl) (fun _ => rfl) rfl (fun x4_5 h => ?_)
    refine cf_iload E dX0_lucky_26 0 rfl rfl ?_
    refine cf_iload_n E dX0_lucky_28 3 rfl rfl ?_
    refine cf_icmp_gtp E dX0_lucky_29 h rfl rfl (fun h => ?_) (fun h => ?_)
    · refine cf_iload E dX0_lucky_35 0 rfl rfl ?_
      refine cf_istore_np E dX0_lucky_37 h (fun x2_6 => [(2, .int x2_6), (4, .int x4_5), (0, .ref (xa g 0)), (1, .int x1), (3, .int x3)]) (Nat.le_of_ble_eq_true rfl) (fun _ => rfl) rfl (fun x2_6 h => ?_)
      refine cf_iload_n E dX0_lucky_38 4 rfl rfl ?_
      refine cf_istore_np E dX0_lucky_39 h (fun x1_7 => [(1, .int x1_7), (2, .int x2_6), (4, .int x4_5), (0, .ref (xa g 0)), (3, .int x3)]) (Nat.le_of_ble_eq_true rfl) (fun _ => rfl) rfl (fun x1_7 h => ?_)
      exact CF.sub [3, 0, 1, 4] rfl (wy0_lucky_40 E hR hq N ih7 x1_7 x2_6 x3 s_3 (mc - m_1) (ms - n_2) _ _ hb h)
    · refine cf_goto E dX0_lucky_32 rfl ?_
      exact CF.sub [1, 2, 3, 4] rfl (wy0_lucky_40 E hR hq N ih7 x1 x2 x3 s_3 (mc - m_1) (ms - n_2) _ _ hb h)
set_option maxHeartbeats 4000000 in
theorem wy0_lucky_7 {p : Program} {l : Launch} {e : Env} {R : Room} {s : State} {m : MethodId} {args : Array Value} {below : List Frame} {meth : Method} {c : Code} {A : Nat → Prop} {g : XG} {Q : State → Prop} {K : Int32 → XS → Prop} (E : EV p s m args c cX0_lucky 5 RX0) (hR : 29 ≤ R.frames ∧ 676 ≤ R.locals) (hq : YTi p l e R s m args below meth c cX0_lucky 5 A g .int Q K) (N : Nat)    : ∀ (k : Nat) (x1 : Int32) (x2 : Int32) (x3 : Int32) (ξ : XS) (mc ms cells slots : Nat), (cells + mc ≤ R.cells ∧ slots + ms ≤ R.slots) → y0_lucky_7 N g  K  k x1 x2 x3 ξ mc ms → CF p l e R s m args below meth c 5 cells slots (XB g A s ξ) Q 7 [(0, .ref (xa g 0)), (1, .int x1), (2, .int x2), (3, .int x3)] [] := by
  intro k
  induction k with
  | zero => intro x1 x2 x3 ξ mc ms cells slots hb h; have h : False := h; cases h
  | succ k ih => intro x1 x2 x3 ξ mc ms cells slots hb h; exact wy0_lucky_7b E hR hq N    ih x1 x2 x3 ξ mc ms cells slots hb h
set_option maxHeartbeats 4000000 in
theorem met_y0_lucky (l : Launch) (g : XG) (N : Nat)    (ξ : XS) (mc ms : Nat) (K : Int32 → XS → Prop) (h : y0_lucky N g   ξ mc ms K) : MetYi l g yX0_lucky (ws_ yX0_lucky cX0_lucky 5 (some .int)) 29 676 [.ref (xa g 0)] ξ mc ms K := by
  refine met_yi (lv0 := [(0, .ref (xa g 0))]) (own := RX0) (by decide) rfl (Nat.le_of_ble_eq_true rfl) rfl ?_
  intro p e s m below meth c A Q E hmn hq
  have hR : 29 ≤ ({ frames := 29, cells := mc, slots := ms, locals := 676 } : Room).frames ∧ 676 ≤ ({ frames := 29, cells := mc, slots := ms, locals := 676 } : Room).locals := ⟨Nat.le_refl _, Nat.le_refl _⟩
  have hb : 0 + mc ≤ ({ frames := 29, cells := mc, slots := ms, locals := 676 } : Room).cells ∧ 0 + ms ≤ ({ frames := 29, cells := mc, slots := ms, locals := 676 } : Room).slots := ⟨Nat.le_of_eq (Nat.zero_add _), Nat.le_of_eq (Nat.zero_add _)⟩
  unfold y0_lucky at h
  refine cf_bipush E dX0_lucky_0 bp_m5 rfl ?_
  refine cf_istore_np E dX0_lucky_2 h (fun x1_1 => [(1, .int x1_1), (0, .ref (xa g 0))]) (Nat.le_of_ble_eq_true rfl) (fun _ => rfl) rfl (fun x1_1 h => ?_)
  refine cf_iconst E dX0_lucky_3 ic_m1 rfl ?_
  refine cf_istore_np E dX0_lucky_4 h (fun x2_2 => [(2, .int x2_2), (1, .int x1_1), (0, .ref (xa g 0))]) (Nat.le_of_ble_eq_true rfl) (fun _ => rfl) rfl (fun x2_2 h => ?_)
  refine cf_iconst E dX0_lucky_5 ic_0 rfl ?_
  refine cf_istore_np E dX0_lucky_6 h (fun x3_3 => [(3, .int x3_3), (2, .int x2_2), (1, .int x1_1), (0, .ref (xa g 0))]) (Nat.le_of_ble_eq_true rfl) (fun _ => rfl) rfl (fun x3_3 h => ?_)
  exact CF.sub [3, 2, 1, 0] rfl (wy0_lucky_7 E hR hq N N x1_1 x2_2 x3_3 ξ mc ms _ _ hb h)
def y0_odds_70 (N : Nat) (g : XG)  (K : Int64 → XS → Prop) (rec35 : Int32 → Int32 → Int64 → Int32 → XS → Nat → Nat → Prop) (x1 : Int32) (x2 : Int32) (x3 : Int64) (x5 : Int32) (ξ : XS) (mc ms : Nat) : Prop :=
  nx (x5 + (1 : Int32)) fun x5_1 =>
  rec35 x1 x2 x3 x5_1 ξ mc ms
def y0_odds_35b (N : Nat) (g : XG)  (K : Int64 → XS → Prop)  (rec35 : Int32 → Int32 → Int64 → Int32 → XS → Nat → Nat → Prop) (x1 : Int32) (x2 : Int32) (x3 : Int64) (x5 : Int32) (ξ : XS) (mc ms : Nat) : Prop :=
  if (xF ξ 202) ≤ x5 then (
    bndp (x0_lowest N g x3 ((xF ξ 202).toInt64) x2 ξ) fun v_2 s_1 =>
    K v_2 s_1)
  else (
    bny (y0_gustedBy N g x5 x1 ξ) mc ms fun m_3 n_4 v_6 s_5 =>
    bnop (xo s_5 11) fun w_7 =>
    bnop (dR s_5 w_7 3 3 1) fun b_8 =>
    bndp (dA s_5 b_8 (xc g 0)) fun n_9 f_10 =>
    if inb x1 n_9 = true then (
    if v_6 < (f_10 x1.toNatClampNeg) then (
      y0_odds_70 N g K rec35 x1 x2 x3 x5 s_5 (mc - m_3) (ms - n_4))
    else (
      nx ((x3 + (1 : Int64)) : Int64) fun x3_11 =>
      y0_odds_70 N g K rec35 x1 x2 x3_11 x5 s_5 (mc - m_3) (ms - n_4))) else False)
def y0_odds_35 (N : Nat) (g : XG)  (K : Int64 → XS → Prop)  : Nat → Int32 → Int32 → Int64 → Int32 → XS → Nat → Nat → Prop
  | 0 => fun _ _ _ _ _ _ _ => False
  | k + 1 => fun x1 x2 x3 x5 ξ mc ms => y0_odds_35b N g  K  (y0_odds_35 N g  K  k) x1 x2 x3 x5 ξ mc ms
def y0_odds (N : Nat) (g : XG)  (x1 : Int32) (x2 : Int32) (ξ : XS) (mc ms : Nat) (K : Int64 → XS → Prop) : Prop :=
  bndp (x0_isTrade N g x1 ξ) fun v_2 s_1 =>
  if v_2 = 0 then (
    K (-9223372036854775808 : Int64) s_1)
  else (
    bndp (x0_in N g x2 (0 : Int32) (1 : Int32) s_1) fun v_4 s_3 =>
    if v_4 = 0 then (
      K (-9223372036854775808 : Int64) s_3)
    else (
      if (xF s_3 202) = 0 then (
        K (-9223372036854775808 : Int64) s_3)
      else (
        nx ((0 : Int64) : Int64) fun x3_5 =>
        nx ((0 : Int32) : Int32) fun x5_6 =>
        y0_odds_35 N g K N x1 x2 x3_5 x5_6 s_3 mc ms)))
section XC
variable {p : Program} {l : Launch} {e : Env} {R : Room} {s : State} {m : MethodId} {args : Array Value} {below : List Frame} {meth : Method} {c : Code} {nL cells slots : Nat} {A : Nat → Prop} {g : XG} {ξ : XS} {Q : State → Prop} {pc n : Nat} {lv : List (Nat × Value)} {st : List Value} {cc : ByteArray} {ρ : Type} {res : ρ}
theorem xclX0_337p (E : EV p s m args c cc nL RX0) {N : Nat}   {x0 : Int64} {x2 : Int64} {x4 : Int32} {kk : Int64 → XS → Prop} (hR : 2 ≤ R.frames ∧ 51 ≤ R.locals) (hcat : (st.map fun v => v.category).sum ≤ 8) (hf : cells ≤ R.cells ∧ slots ≤ R.slots) (d : decode cc pc = .ok (.invokestatic 337, 3)) (h : bndp (x0_lowest N g  x0 x2 x4 ξ) kk) (hn : pc + 3 = n) (k : ∀ (v : Int64) (ξ1 : XS), kk v ξ1 → CF p l e R s m args below meth c nL cells slots (XB g A s ξ1) Q n lv (.long v :: st)) : CF p l e R s m args below meth c nL cells slots (XB g A s ξ) Q pc lv (.int x4 :: .long x2 :: .long x0 :: st) :=
  xcallS0_lp (na := 3) E [.long x0, .long x2, .int x4] (fun v ξ1 ho => met_x0_lowest l g N   x0 x2 x4 ξ ho) (lw_S q1222 q1223 q96 q1224) (by decide +kernel) rfl rfl hR rfl rfl hcat hf d h hn k
end XC
set_option maxHeartbeats 4000000 in
theorem wy0_odds_70 {p : Program} {l : Launch} {e : Env} {R : Room} {s : State} {m : MethodId} {args : Array Value} {below : List Frame} {meth : Method} {c : Code} {A : Nat → Prop} {g : XG} {Q : State → Prop} {K : Int64 → XS → Prop} (E : EV p s m args c cX0_odds 6 RX0) (hR : 29 ≤ R.frames ∧ 676 ≤ R.locals) (hq : YTl p l e R s m args below meth c cX0_odds 6 A g Q K) (N : Nat)   {rec35 : Int32 → Int32 → Int64 → Int32 → XS → Nat → Nat → Prop} (ih35 : ∀ (x1 : Int32) (x2 : Int32) (x3 : Int64) (x5 : Int32) (ξ : XS) (mc ms cells slots : Nat), (cells + mc ≤ R.cells ∧ slots + ms ≤ R.slots) → rec35 x1 x2 x3 x5 ξ mc ms → CF p l e R s m args below meth c 6 cells slots (XB g A s ξ) Q 35 [(0, .ref (xa g 0)), (1, .int x1), (2, .int x2), (3, .long x3), (5, .int x5)] []) (x1 : Int32) (x2 : Int32) (x3 : Int64) (x5 : Int32) (ξ : XS) (mc ms cells slots : Nat) (hb : cells + mc ≤ R.cells ∧ slots + ms ≤ R.slots) (h : y0_odds_70 N g  K rec35 x1 x2 x3 x5 ξ mc ms) : CF p l e R s m args below meth c 6 cells slots (XB g A s ξ) Q 70 [(0, .ref (xa g 0)), (1, .int x1), (2, .int x2), (3, .long x3), (5, .int x5)] [] := by
  unfold y0_odds_70 at h
  refine cf_iincp E dX0_odds_70 ic_1 h 4 rfl (fun x5_1 => [(5, .int x5_1), (0, .ref (xa g 0)), (1, .int x1), (2, .int x2), (3, .long x3)]) (Nat.le_of_ble_eq_true rfl) (fun _ => rfl) rfl (fun x5_1 h => ?_)
  refine cf_goto E dX0_odds_73 rfl ?_
  exact CF.sub [1, 2, 3, 4, 0] rfl (ih35 x1 x2 x3 x5_1 ξ mc ms _ _ hb h)
set_option maxHeartbeats 4000000 in
theorem wy0_odds_35b {p : Program} {l : Launch} {e : Env} {R : Room} {s : State} {m : MethodId} {args : Array Value} {below : List Frame} {meth : Method} {c : Code} {A : Nat → Prop} {g : XG} {Q : State → Prop} {K : Int64 → XS → Prop} (E : EV p s m args c cX0_odds 6 RX0) (hR : 29 ≤ R.frames ∧ 676 ≤ R.locals) (hq : YTl p l e R s m args below meth c cX0_odds 6 A g Q K) (N : Nat)    {rec35 : Int32 → Int32 → Int64 → Int32 → XS → Nat → Nat → Prop} (ih35 : ∀ (x1 : Int32) (x2 : Int32) (x3 : Int64) (x5 : Int32) (ξ : XS) (mc ms cells slots : Nat), (cells + mc ≤ R.cells ∧ slots + ms ≤ R.slots) → rec35 x1 x2 x3 x5 ξ mc ms → CF p l e R s m args below meth c 6 cells slots (XB g A s ξ) Q 35 [(0, .ref (xa g 0)), (1, .int x1), (2, .int x2), (3, .long x3), (5, .int x5)] []) (x1 : Int32) (x2 : Int32) (x3 : Int64) (x5 : Int32) (ξ : XS) (mc ms cells slots : Nat) (hb : cells + mc ≤ R.cells ∧ slots + ms ≤ R.slots) (h : y0_odds_35b N g  K  rec35 x1 x2 x3 x5 ξ mc ms) : CF p l e R s m args below meth c 6 cells slots (XB g A s ξ) Q 35 [(0, .ref (xa g 0)), (1, .int x1), (2, .int x2), (3, .long x3), (5, .int x5)] [] := by
  unfold y0_odds_35b at h
  refine cf_iload E dX0_odds_35 4 rfl rfl ?_
  refine cf_aload_n E dX0_odds_37 0 rfl rfl ?_
  refine xgX0_30 E dX0_odds_38 rfl ?_
  refine xgX0_126_0 E dX0_odds_41 rfl ?_
  refine cf_icmp_gep E dX0_odds_44 h rfl rfl (fun h => ?_) (fun h => ?_)
  · refine cf_lload_n E dX0_odds_76 3 rfl rfl ?_
    refine cf_aload_n E dX0_odds_77 0 rfl rfl ?_
    refine xgX0_30 E dX0_odds_78 rfl ?_
    refine xgX0_126_0 E dX0_odds_81 rfl ?_
    refine cf_i2l E dX0_odds_84 rfl ?_
    refine cf_iload_n E dX0_odds_85 2 rfl rfl ?_
    refine xclX0_337p E (rmle hR rfl rfl) (Nat.le_of_ble_eq_true rfl) (hb0 hb) dX0_odds_86 h rfl (fun v_2 s_1 h => ?_)
    exact hq _ _ _ _ _ _ (hb0 hb).1 (hb0 hb).2 dX0_odds_89 h
  · refine cf_aload_n E dX0_odds_47 0 rfl rfl ?_
    refine cf_iload E dX0_odds_48 4 rfl rfl ?_
    refine cf_iload_n E dX0_odds_50 1 rfl rfl ?_
    refine yclX0_312 E (rmle hR rfl rfl) (Nat.le_of_ble_eq_true rfl) hb dX0_odds_51 h rfl (fun m_3 n_4 v_6 s_5 hb h => ?_)
    refine cf_aload_n E dX0_odds_54 0 rfl rfl ?_
    refine xgX0_47 E dX0_odds_55 rfl (xforcep h (fun w_7 h => ?_))
    refine xdgX0_250p E dX0_odds_58 h rfl (fun b_8 h => ?_)
    refine cf_iload_n E dX0_odds_61 1 rfl rfl ?_
    refine xdald_ip E dX0_odds_62 h rfl (fun n_9 f_10 h => ?_)
    refine cf_icmp_ltp E dX0_odds_63 h rfl rfl (fun h => ?_) (fun h => ?_)
    · exact CF.sub [0, 1, 2, 3, 4] rfl (wy0_odds_70 E hR hq N ih35 x1 x2 x3 x5 s_5 (mc - m_3) (ms - n_4) _ _ hb h)
    · refine cf_lload_n E dX0_odds_66 3 rfl rfl ?_
      refine cf_lconst E dX0_odds_67 lc_1 rfl ?_
      refine cf_ladd E dX0_odds_68 rfl ?_
      refine cf_lstore_np E dX0_odds_69 h (fun x3_11 => [(3, .long x3_11), (0, .ref (xa g 0)), (1, .int x1), (2, .int x2), (5, .int x5)]) (Nat.le_of_ble_eq_true rfl) (fun _ => rfl) rfl (fun x3_11 h => ?_)
      exact CF.sub [1, 2, 3, 0, 4] rfl (wy0_odds_70 E hR hq N ih35 x1 x2 x3_11 x5 s_5 (mc - m_3) (ms - n_4) _ _ hb h)
set_option maxHeartbeats 4000000 in
theorem wy0_odds_35 {p : Program} {l : Launch} {e : Env} {R : Room} {s : State} {m : MethodId} {args : Array Value} {below : List Frame} {meth : Method} {c : Code} {A : Nat → Prop} {g : XG} {Q : State → Prop} {K : Int64 → XS → Prop} (E : EV p s m args c cX0_odds 6 RX0) (hR : 29 ≤ R.frames ∧ 676 ≤ R.locals) (hq : YTl p l e R s m args below meth c cX0_odds 6 A g Q K) (N : Nat)    : ∀ (k : Nat) (x1 : Int32) (x2 : Int32) (x3 : Int64) (x5 : Int32) (ξ : XS) (mc ms cells slots : Nat), (cells + mc ≤ R.cells ∧ slots + ms ≤ R.slots) → y0_odds_35 N g  K  k x1 x2 x3 x5 ξ mc ms → CF p l e R s m args below meth c 6 cells slots (XB g A s ξ) Q 35 [(0, .ref (xa g 0)), (1, .int x1), (2, .int x2), (3, .long x3), (5, .int x5)] [] := by
  intro k
  induction k with
  | zero => intro x1 x2 x3 x5 ξ mc ms cells slots hb h; have h : False := h; cases h
  | succ k ih => intro x1 x2 x3 x5 ξ mc ms cells slots hb h; exact wy0_odds_35b E hR hq N    ih x1 x2 x3 x5 ξ mc ms cells slots hb h
set_option maxHeartbeats 4000000 in
theorem met_y0_odds (l : Launch) (g : XG) (N : Nat)   (x1 : Int32) (x2 : Int32) (ξ : XS) (mc ms : Nat) (K : Int64 → XS → Prop) (h : y0_odds N g  x1 x2 ξ mc ms K) : MetYl l g yX0_odds (ws_ yX0_odds cX0_odds 6 (some .long)) 29 676 [.ref (xa g 0), .int x1, .int x2] ξ mc ms K := by
  refine met_yl (lv0 := [(0, .ref (xa g 0)), (1, .int x1), (2, .int x2)]) (own := RX0) (by decide) rfl (Nat.le_of_ble_eq_true rfl) rfl ?_
  intro p e s m below meth c A Q E hmn hq
  have hR : 29 ≤ ({ frames := 29, cells := mc, slots := ms, locals := 676 } : Room).frames ∧ 676 ≤ ({ frames := 29, cells := mc, slots := ms, locals := 676 } : Room).locals := ⟨Nat.le_refl _, Nat.le_refl _⟩
  have hb : 0 + mc ≤ ({ frames := 29, cells := mc, slots := ms, locals := 676 } : Room).cells ∧ 0 + ms ≤ ({ frames := 29, cells := mc, slots := ms, locals := 676 } : Room).slots := ⟨Nat.le_of_eq (Nat.zero_add _), Nat.le_of_eq (Nat.zero_add _)⟩
  unfold y0_odds at h
  refine cf_iload_n E dX0_odds_0 1 rfl rfl ?_
  refine xclX0_161p E (rmle hR rfl rfl) (Nat.le_of_ble_eq_true rfl) (hb0 hb) dX0_odds_1 h rfl (fun v_2 s_1 h => ?_)
  refine cf_if_eqp E dX0_odds_4 h rfl rfl (fun h => ?_) (fun h => ?_)
  · refine cf_ldc2 E dX0_odds_26 q1221 rfl ?_
    exact hq _ _ _ _ _ _ (hb0 hb).1 (hb0 hb).2 dX0_odds_29 h
  · refine cf_iload_n E dX0_odds_7 2 rfl rfl ?_
    refine cf_iconst E dX0_odds_8 ic_0 rfl ?_
    refine cf_iconst E dX0_odds_9 ic_1 rfl ?_
    refine xclX0_130p E (rmle hR rfl rfl) (Nat.le_of_ble_eq_true rfl) (hb0 hb) dX0_odds_10 h rfl (fun v_4 s_3 h => ?_)
    refine cf_if_eqp E dX0_odds_13 h rfl rfl (fun h => ?_) (fun h => ?_)
    · refine cf_ldc2 E dX0_odds_26 q1221 rfl ?_
      exact hq _ _ _ _ _ _ (hb0 hb).1 (hb0 hb).2 dX0_odds_29 h
    · refine cf_aload_n E dX0_odds_16 0 rfl rfl ?_
      refine xgX0_30 E dX0_odds_17 rfl ?_
      refine xgX0_126_0 E dX0_odds_20 rfl ?_
      refine cf_if_nep E dX0_odds_23 h rfl rfl (fun h => ?_) (fun h => ?_)
      · refine cf_lconst E dX0_odds_30 lc_0 rfl ?_
        refine cf_lstore_np E dX0_odds_31 h (fun x3_5 => [(3, .long x3_5), (0, .ref (xa g 0)), (1, .int x1), (2, .int x2)]) (Nat.le_of_ble_eq_true rfl) (fun _ => rfl) rfl (fun x3_5 h => ?_)
        refine cf_iconst E dX0_odds_32 ic_0 rfl ?_
        refine cf_istorep E dX0_odds_33 h (fun x5_6 => [(5, .int x5_6), (3, .long x3_5), (0, .ref (xa g 0)), (1, .int x1), (2, .int x2)]) (Nat.le_of_ble_eq_true rfl) (fun _ => rfl) rfl (fun x5_6 h => ?_)
        exact CF.sub [2, 3, 4, 1, 0] rfl (wy0_odds_35 E hR hq N N x1 x2 x3_5 x5_6 s_3 mc ms _ _ hb h)
      · refine cf_ldc2 E dX0_odds_26 q1221 rfl ?_
        exact hq _ _ _ _ _ _ (hb0 hb).1 (hb0 hb).2 dX0_odds_29 h
