/-! THE WORLD OF HatsDecideModel: printed by gen/mworld.py -/
set_option maxRecDepth 100000
abbrev MS : Type := (Nat → Int32) × (Nat → Nat → Int32) × (Nat → Nat → Int64)
def gF (σ : MS) (k : Nat) : Int32 := σ.1 k
def gR (σ : MS) (k : Nat) : Nat → Int32 := σ.2.1 k
def gJ (σ : MS) (k : Nat) : Nat → Int64 := σ.2.2 k
def sF (σ : MS) (k : Nat) (v : Int32) : MS := (va_up σ.1 k v, σ.2.1, σ.2.2)
def sR (σ : MS) (k : Nat) (i : Nat) (v : Int32) : MS := (σ.1, va_up σ.2.1 k (upd (σ.2.1 k) i v), σ.2.2)
def sJ (σ : MS) (k : Nat) (i : Nat) (v : Int64) : MS := (σ.1, σ.2.1, va_up σ.2.2 k (vp_updL (σ.2.2 k) i v))
abbrev MG : Type := (va_G × List vw_C × Nat) × (Nat × (Nat → Nat)) × (ClassId × ClassId × ClassId)
def mh (g : MG) : Nat := g.2.1.1
def ma (g : MG) (k : Nat) : Nat := g.2.1.2 k
abbrev mty (g : MG) : List (ClassId × FieldType) := [(g.2.2.1, .int), (g.2.2.2.1, .boolean), (g.2.2.2.2, .long)]
def mfs (g : MG) (σ : MS) : List Value := [.int (gF σ 0), .int (gF σ 1), .int (gF σ 2), .ref (ma g 3), .ref (ma g 4), .ref (ma g 5), .ref (ma g 6), .ref (ma g 7), .ref (ma g 8), .ref (ma g 9), .ref (ma g 10), .ref (ma g 11), .ref (ma g 12), .ref (ma g 13), .int (gF σ 14), .int (gF σ 15), .int (gF σ 16), .int (gF σ 17), .int (gF σ 18), .ref (ma g 19), .ref (ma g 20), .ref (ma g 21), .ref (ma g 22), .ref (ma g 23), .ref (ma g 24), .ref (ma g 25), .ref (ma g 26), .ref (ma g 27), .int (gF σ 28), .int (gF σ 29), .int (gF σ 30), .ref (ma g 31), .ref (ma g 32), .int (gF σ 33), .ref (ma g 34), .int (gF σ 35), .ref (ma g 36), .ref (ma g 37), .ref (ma g 38), .ref (ma g 39), .int (gF σ 40), .ref (ma g 41), .ref (ma g 42), .int (gF σ 43), .ref (ma g 44), .ref (ma g 45), .ref (ma g 46), .int (gF σ 47), .ref (ma g 48), .ref (ma g 49), .int (gF σ 50), .int (gF σ 51), .int (gF σ 52), .int (gF σ 53), .int (gF σ 54), .int (gF σ 55), .int (gF σ 56), .ref (ma g 57), .ref (ma g 58), .ref (ma g 59), .ref (ma g 60), .ref (ma g 61), .ref (ma g 62), .ref (ma g 63), .ref (ma g 64), .ref (ma g 65), .ref (ma g 66), .ref (ma g 67), .ref (ma g 68), .ref (ma g 69), .ref (ma g 70), .ref (ma g 71), .int (gF σ 72), .ref (ma g 73), .ref (ma g 74), .ref (ma g 75), .ref (ma g 76), .ref (ma g 77)]
def mcs (g : MG) (σ : MS) : va_W := [(mh g, .inr (g.1.2.2, mfs g σ)), (ma g 3, .inl (g.2.2.1, 6, .inl (gR σ 3))), (ma g 4, .inl (g.2.2.1, 6, .inl (gR σ 4))), (ma g 5, .inl (g.2.2.1, 6, .inl (gR σ 5))), (ma g 6, .inl (g.2.2.1, 6, .inl (gR σ 6))), (ma g 7, .inl (g.2.2.1, 6, .inl (gR σ 7))), (ma g 8, .inl (g.2.2.1, 6, .inl (gR σ 8))), (ma g 9, .inl (g.2.2.1, 6, .inl (gR σ 9))), (ma g 10, .inl (g.2.2.1, 6, .inl (gR σ 10))), (ma g 11, .inl (g.2.2.1, 6, .inl (gR σ 11))), (ma g 12, .inl (g.2.2.1, 24, .inl (gR σ 12))), (ma g 13, .inl (g.2.2.1, 5, .inl (gR σ 13))), (ma g 19, .inl (g.2.2.1, 100, .inl (gR σ 19))), (ma g 20, .inl (g.2.2.1, 6, .inl (gR σ 20))), (ma g 21, .inl (g.2.2.1, 60, .inl (gR σ 21))), (ma g 22, .inl (g.2.2.1, 60, .inl (gR σ 22))), (ma g 23, .inl (g.2.2.1, 60, .inl (gR σ 23))), (ma g 24, .inl (g.2.2.1, 60, .inl (gR σ 24))), (ma g 25, .inl (g.2.2.1, 60, .inl (gR σ 25))), (ma g 26, .inl (g.2.2.1, 600, .inl (gR σ 26))), (ma g 27, .inl (g.2.2.1, 101, .inl (gR σ 27))), (ma g 31, .inl (g.2.2.1, 16, .inl (gR σ 31))), (ma g 32, .inl (g.2.2.2.1, 100, .inl (gR σ 32))), (ma g 34, .inl (g.2.2.1, 6, .inl (gR σ 34))), (ma g 36, .inl (g.2.2.1, 6, .inl (gR σ 36))), (ma g 37, .inl (g.2.2.1, 6, .inl (gR σ 37))), (ma g 38, .inl (g.2.2.1, 6, .inl (gR σ 38))), (ma g 39, .inl (g.2.2.1, 36, .inl (gR σ 39))), (ma g 41, .inl (g.2.2.1, 448, .inl (gR σ 41))), (ma g 42, .inl (g.2.2.1, 64, .inl (gR σ 42))), (ma g 44, .inl (g.2.2.1, 6, .inl (gR σ 44))), (ma g 45, .inl (g.2.2.1, 6, .inl (gR σ 45))), (ma g 46, .inl (g.2.2.1, 64, .inl (gR σ 46))), (ma g 48, .inl (g.2.2.1, 8, .inl (gR σ 48))), (ma g 49, .inl (g.2.2.1, 8, .inl (gR σ 49))), (ma g 57, .inl (g.2.2.1, 6, .inl (gR σ 57))), (ma g 58, .inl (g.2.2.1, 6, .inl (gR σ 58))), (ma g 59, .inl (g.2.2.1, 6, .inl (gR σ 59))), (ma g 60, .inl (g.2.2.1, 6, .inl (gR σ 60))), (ma g 61, .inl (g.2.2.1, 6, .inl (gR σ 61))), (ma g 62, .inl (g.2.2.1, 6, .inl (gR σ 62))), (ma g 63, .inl (g.2.2.1, 6, .inl (gR σ 63))), (ma g 64, .inl (g.2.2.1, 6, .inl (gR σ 64))), (ma g 65, .inl (g.2.2.1, 6, .inl (gR σ 65))), (ma g 66, .inl (g.2.2.1, 24, .inl (gR σ 66))), (ma g 67, .inl (g.2.2.1, 5, .inl (gR σ 67))), (ma g 68, .inl (g.2.2.1, 6, .inl (gR σ 68))), (ma g 69, .inl (g.2.2.1, 6, .inl (gR σ 69))), (ma g 70, .inl (g.2.2.1, 8, .inl (gR σ 70))), (ma g 71, .inl (g.2.2.1, 8, .inl (gR σ 71))), (ma g 73, .inl (g.2.2.1, 20, .inl (gR σ 73))), (ma g 74, .inl (g.2.2.1, 6, .inl (gR σ 74))), (ma g 75, .inl (g.2.2.1, 6, .inl (gR σ 75))), (ma g 76, .inl (g.2.2.2.2, 360, .inr (.inl (gJ σ 76)))), (ma g 77, .inl (g.2.2.2.2, 60, .inr (.inl (gJ σ 77))))]
def MB (g : MG) (A : Nat → Prop) (s : State) (σ : MS) (H : Heap) (locs : List Loc) : Prop :=
  g.1.2.1[g.1.2.2]? = some (RX6, TX6, 78) ∧ va_P g.1.1 g.1.2.1 (mcs g σ) H ∧ va_D A (mcs g σ) ∧ va_S A s.heap H locs ∧ va_K g.1.1 g.1.2.1 (mty g) s ∧ ∀ q, s.heap.size ≤ q → A q
def MPc (g : MG) (σ : MS) (As : List Value) (sz : Nat) : Array Value → State → Prop := va_Pc (.ref (mh g) :: As) (fun U => U.heap.size = sz ∧ g.1.2.1[g.1.2.2]? = some (RX6, TX6, 78) ∧ va_P g.1.1 g.1.2.1 (mcs g σ) U.heap ∧ va_K g.1.1 g.1.2.1 (mty g) U ∧ va_D (fun _ => True) (mcs g σ))
def MBt (g : MG) (u : MS) (t : State) : Prop := va_P g.1.1 g.1.2.1 (mcs g u) t.heap ∧ va_K g.1.1 g.1.2.1 (mty g) t
def MQi (g : MG) (σ : MS) (sz : Nat) (v : Int32) (σ1 : MS) : Array Value → State → Outcome → State → Prop := va_Qi (fun (r : Int32) (u : MS) => r = v ∧ u = σ1) (MBt g) (va_A (mcs g σ) sz)
def MQl (g : MG) (σ : MS) (sz : Nat) (v : Int64) (σ1 : MS) : Array Value → State → Outcome → State → Prop := va_Ql (fun (r : Int64) (u : MS) => r = v ∧ u = σ1) (MBt g) (va_A (mcs g σ) sz)
def MQv (g : MG) (σ : MS) (sz : Nat) (σ1 : MS) : Array Value → State → Outcome → State → Prop := va_Qv (fun (u : MS) => u = σ1) (MBt g) (va_A (mcs g σ) sz)
def MetMi (l : Launch) (g : MG) (y : MethodName) (ws : List Cond) (rm : Room) (As : List Value) (σ : MS) (v : Int32) (σ1 : MS) : Prop := ∀ sz, Met l y ws rm (MPc g σ As sz) (MQi g σ sz v σ1) 0 0 (va_A (mcs g σ) sz)
def MetMl (l : Launch) (g : MG) (y : MethodName) (ws : List Cond) (rm : Room) (As : List Value) (σ : MS) (v : Int64) (σ1 : MS) : Prop := ∀ sz, Met l y ws rm (MPc g σ As sz) (MQl g σ sz v σ1) 0 0 (va_A (mcs g σ) sz)
def MetMv (l : Launch) (g : MG) (y : MethodName) (ws : List Cond) (rm : Room) (As : List Value) (σ : MS) (σ1 : MS) : Prop := ∀ sz, Met l y ws rm (MPc g σ As sz) (MQv g σ sz σ1) 0 0 (va_A (mcs g σ) sz)
theorem va_D.same {A : Nat → Prop} {w w' : va_W} (h : va_D A w) (e : w'.map Prod.fst = w.map Prod.fst) : va_D A w' := by
  have key : ∀ (k : Nat) (q : Nat × va_E), w'[k]? = some q → ∃ q0, w[k]? = some q0 ∧ q0.1 = q.1 := by
    intro k q hk
    have h1 : (w'.map Prod.fst)[k]? = some q.1 := by rw [List.getElem?_map, hk]; rfl
    rw [e, List.getElem?_map] at h1
    cases hw : w[k]? with
    | none => rw [hw] at h1; cases h1
    | some q0 => rw [hw] at h1; exact ⟨q0, rfl, Option.some.inj h1⟩
  refine ⟨fun i j x y hi hj hxy => ?_, fun k q hk => ?_⟩
  · obtain ⟨x0, h1, h2⟩ := key i x hi
    obtain ⟨y0, h3, h4⟩ := key j y hj
    exact h.1 i j x0 y0 h1 h3 (h2.trans (hxy.trans h4.symm))
  · obtain ⟨q0, h1, h2⟩ := key k q hk
    rw [← h2]
    exact h.2 k q0 h1
theorem mcs_fst (g : MG) (σ σ1 : MS) : (mcs g σ1).map Prod.fst = (mcs g σ).map Prod.fst := rfl
section MR
variable {p : Program} {l : Launch} {e : Env} {R : Room} {s : State} {m : MethodId} {args : Array Value} {below : List Frame} {meth : Method} {c : Code} {nL : Nat} {A : Nat → Prop} {g : MG} {σ : MS} {Q : State → Prop} {pc n : Nat} {lv : List (Nat × Value)} {st : List Value} {cc : ByteArray} {ρ : Type} {res : ρ}
theorem mget_0 (E : EV p s m args c cc nL RX6) (d : decode cc pc = .ok (.getfield 7, 3)) (hn : pc + 3 = n) (k : CF p l e R s m args below meth c nL 0 0 (MB g A s σ) Q n lv (.int (gF σ 0) :: st)) : CF p l e R s m args below meth c nL 0 0 (MB g A s σ) Q pc lv (.ref (mh g) :: st) := by
  subst hn
  exact fun H locs ls hB hl => va_get (D := g.1.1) (ci := g.1.2.2) (v := .int (gF σ 0)) (fs := mfs g σ) (C := RX6) (T := TX6) (N := 78) E.1 E.2.1 E.2.2.2.2 in_X6 E.2.2.2.1 hB.2.2.2.2.1 hB.2.1 0 rfl hB.1 0 (Nat.le_of_ble_eq_true rfl) (E.2.2.2.2 _ q1501) (fun _ h9 => h9) rfl d (k H locs ls hB hl)
theorem mget_1 (E : EV p s m args c cc nL RX6) (d : decode cc pc = .ok (.getfield 13, 3)) (hn : pc + 3 = n) (k : CF p l e R s m args below meth c nL 0 0 (MB g A s σ) Q n lv (.int (gF σ 1) :: st)) : CF p l e R s m args below meth c nL 0 0 (MB g A s σ) Q pc lv (.ref (mh g) :: st) := by
  subst hn
  exact fun H locs ls hB hl => va_get (D := g.1.1) (ci := g.1.2.2) (v := .int (gF σ 1)) (fs := mfs g σ) (C := RX6) (T := TX6) (N := 78) E.1 E.2.1 E.2.2.2.2 in_X6 E.2.2.2.1 hB.2.2.2.2.1 hB.2.1 0 rfl hB.1 1 (Nat.le_of_ble_eq_true rfl) (E.2.2.2.2 _ q1502) (fun _ h9 => h9) rfl d (k H locs ls hB hl)
theorem mget_2 (E : EV p s m args c cc nL RX6) (d : decode cc pc = .ok (.getfield 16, 3)) (hn : pc + 3 = n) (k : CF p l e R s m args below meth c nL 0 0 (MB g A s σ) Q n lv (.int (gF σ 2) :: st)) : CF p l e R s m args below meth c nL 0 0 (MB g A s σ) Q pc lv (.ref (mh g) :: st) := by
  subst hn
  exact fun H locs ls hB hl => va_get (D := g.1.1) (ci := g.1.2.2) (v := .int (gF σ 2)) (fs := mfs g σ) (C := RX6) (T := TX6) (N := 78) E.1 E.2.1 E.2.2.2.2 in_X6 E.2.2.2.1 hB.2.2.2.2.1 hB.2.1 0 rfl hB.1 2 (Nat.le_of_ble_eq_true rfl) (E.2.2.2.2 _ q1503) (fun _ h9 => h9) rfl d (k H locs ls hB hl)
theorem mget_3 (E : EV p s m args c cc nL RX6) (d : decode cc pc = .ok (.getfield 19, 3)) (hn : pc + 3 = n) (k : CF p l e R s m args below meth c nL 0 0 (MB g A s σ) Q n lv (.ref (ma g 3) :: st)) : CF p l e R s m args below meth c nL 0 0 (MB g A s σ) Q pc lv (.ref (mh g) :: st) := by
  subst hn
  exact fun H locs ls hB hl => va_get (D := g.1.1) (ci := g.1.2.2) (v := .ref (ma g 3)) (fs := mfs g σ) (C := RX6) (T := TX6) (N := 78) E.1 E.2.1 E.2.2.2.2 in_X6 E.2.2.2.1 hB.2.2.2.2.1 hB.2.1 0 rfl hB.1 3 (Nat.le_of_ble_eq_true rfl) (E.2.2.2.2 _ q1504) (fun _ h9 => h9) rfl d (k H locs ls hB hl)
theorem mget_4 (E : EV p s m args c cc nL RX6) (d : decode cc pc = .ok (.getfield 23, 3)) (hn : pc + 3 = n) (k : CF p l e R s m args below meth c nL 0 0 (MB g A s σ) Q n lv (.ref (ma g 4) :: st)) : CF p l e R s m args below meth c nL 0 0 (MB g A s σ) Q pc lv (.ref (mh g) :: st) := by
  subst hn
  exact fun H locs ls hB hl => va_get (D := g.1.1) (ci := g.1.2.2) (v := .ref (ma g 4)) (fs := mfs g σ) (C := RX6) (T := TX6) (N := 78) E.1 E.2.1 E.2.2.2.2 in_X6 E.2.2.2.1 hB.2.2.2.2.1 hB.2.1 0 rfl hB.1 4 (Nat.le_of_ble_eq_true rfl) (E.2.2.2.2 _ q1505) (fun _ h9 => h9) rfl d (k H locs ls hB hl)
theorem mget_5 (E : EV p s m args c cc nL RX6) (d : decode cc pc = .ok (.getfield 26, 3)) (hn : pc + 3 = n) (k : CF p l e R s m args below meth c nL 0 0 (MB g A s σ) Q n lv (.ref (ma g 5) :: st)) : CF p l e R s m args below meth c nL 0 0 (MB g A s σ) Q pc lv (.ref (mh g) :: st) := by
  subst hn
  exact fun H locs ls hB hl => va_get (D := g.1.1) (ci := g.1.2.2) (v := .ref (ma g 5)) (fs := mfs g σ) (C := RX6) (T := TX6) (N := 78) E.1 E.2.1 E.2.2.2.2 in_X6 E.2.2.2.1 hB.2.2.2.2.1 hB.2.1 0 rfl hB.1 5 (Nat.le_of_ble_eq_true rfl) (E.2.2.2.2 _ q1506) (fun _ h9 => h9) rfl d (k H locs ls hB hl)
theorem mget_6 (E : EV p s m args c cc nL RX6) (d : decode cc pc = .ok (.getfield 29, 3)) (hn : pc + 3 = n) (k : CF p l e R s m args below meth c nL 0 0 (MB g A s σ) Q n lv (.ref (ma g 6) :: st)) : CF p l e R s m args below meth c nL 0 0 (MB g A s σ) Q pc lv (.ref (mh g) :: st) := by
  subst hn
  exact fun H locs ls hB hl => va_get (D := g.1.1) (ci := g.1.2.2) (v := .ref (ma g 6)) (fs := mfs g σ) (C := RX6) (T := TX6) (N := 78) E.1 E.2.1 E.2.2.2.2 in_X6 E.2.2.2.1 hB.2.2.2.2.1 hB.2.1 0 rfl hB.1 6 (Nat.le_of_ble_eq_true rfl) (E.2.2.2.2 _ q1507) (fun _ h9 => h9) rfl d (k H locs ls hB hl)
theorem mget_7 (E : EV p s m args c cc nL RX6) (d : decode cc pc = .ok (.getfield 32, 3)) (hn : pc + 3 = n) (k : CF p l e R s m args below meth c nL 0 0 (MB g A s σ) Q n lv (.ref (ma g 7) :: st)) : CF p l e R s m args below meth c nL 0 0 (MB g A s σ) Q pc lv (.ref (mh g) :: st) := by
  subst hn
  exact fun H locs ls hB hl => va_get (D := g.1.1) (ci := g.1.2.2) (v := .ref (ma g 7)) (fs := mfs g σ) (C := RX6) (T := TX6) (N := 78) E.1 E.2.1 E.2.2.2.2 in_X6 E.2.2.2.1 hB.2.2.2.2.1 hB.2.1 0 rfl hB.1 7 (Nat.le_of_ble_eq_true rfl) (E.2.2.2.2 _ q1508) (fun _ h9 => h9) rfl d (k H locs ls hB hl)
theorem mget_8 (E : EV p s m args c cc nL RX6) (d : decode cc pc = .ok (.getfield 35, 3)) (hn : pc + 3 = n) (k : CF p l e R s m args below meth c nL 0 0 (MB g A s σ) Q n lv (.ref (ma g 8) :: st)) : CF p l e R s m args below meth c nL 0 0 (MB g A s σ) Q pc lv (.ref (mh g) :: st) := by
  subst hn
  exact fun H locs ls hB hl => va_get (D := g.1.1) (ci := g.1.2.2) (v := .ref (ma g 8)) (fs := mfs g σ) (C := RX6) (T := TX6) (N := 78) E.1 E.2.1 E.2.2.2.2 in_X6 E.2.2.2.1 hB.2.2.2.2.1 hB.2.1 0 rfl hB.1 8 (Nat.le_of_ble_eq_true rfl) (E.2.2.2.2 _ q1509) (fun _ h9 => h9) rfl d (k H locs ls hB hl)
theorem mget_9 (E : EV p s m args c cc nL RX6) (d : decode cc pc = .ok (.getfield 38, 3)) (hn : pc + 3 = n) (k : CF p l e R s m args below meth c nL 0 0 (MB g A s σ) Q n lv (.ref (ma g 9) :: st)) : CF p l e R s m args below meth c nL 0 0 (MB g A s σ) Q pc lv (.ref (mh g) :: st) := by
  subst hn
  exact fun H locs ls hB hl => va_get (D := g.1.1) (ci := g.1.2.2) (v := .ref (ma g 9)) (fs := mfs g σ) (C := RX6) (T := TX6) (N := 78) E.1 E.2.1 E.2.2.2.2 in_X6 E.2.2.2.1 hB.2.2.2.2.1 hB.2.1 0 rfl hB.1 9 (Nat.le_of_ble_eq_true rfl) (E.2.2.2.2 _ q1510) (fun _ h9 => h9) rfl d (k H locs ls hB hl)
theorem mget_10 (E : EV p s m args c cc nL RX6) (d : decode cc pc = .ok (.getfield 41, 3)) (hn : pc + 3 = n) (k : CF p l e R s m args below meth c nL 0 0 (MB g A s σ) Q n lv (.ref (ma g 10) :: st)) : CF p l e R s m args below meth c nL 0 0 (MB g A s σ) Q pc lv (.ref (mh g) :: st) := by
  subst hn
  exact fun H locs ls hB hl => va_get (D := g.1.1) (ci := g.1.2.2) (v := .ref (ma g 10)) (fs := mfs g σ) (C := RX6) (T := TX6) (N := 78) E.1 E.2.1 E.2.2.2.2 in_X6 E.2.2.2.1 hB.2.2.2.2.1 hB.2.1 0 rfl hB.1 10 (Nat.le_of_ble_eq_true rfl) (E.2.2.2.2 _ q1511) (fun _ h9 => h9) rfl d (k H locs ls hB hl)
theorem mget_11 (E : EV p s m args c cc nL RX6) (d : decode cc pc = .ok (.getfield 44, 3)) (hn : pc + 3 = n) (k : CF p l e R s m args below meth c nL 0 0 (MB g A s σ) Q n lv (.ref (ma g 11) :: st)) : CF p l e R s m args below meth c nL 0 0 (MB g A s σ) Q pc lv (.ref (mh g) :: st) := by
  subst hn
  exact fun H locs ls hB hl => va_get (D := g.1.1) (ci := g.1.2.2) (v := .ref (ma g 11)) (fs := mfs g σ) (C := RX6) (T := TX6) (N := 78) E.1 E.2.1 E.2.2.2.2 in_X6 E.2.2.2.1 hB.2.2.2.2.1 hB.2.1 0 rfl hB.1 11 (Nat.le_of_ble_eq_true rfl) (E.2.2.2.2 _ q1512) (fun _ h9 => h9) rfl d (k H locs ls hB hl)
theorem mget_12 (E : EV p s m args c cc nL RX6) (d : decode cc pc = .ok (.getfield 47, 3)) (hn : pc + 3 = n) (k : CF p l e R s m args below meth c nL 0 0 (MB g A s σ) Q n lv (.ref (ma g 12) :: st)) : CF p l e R s m args below meth c nL 0 0 (MB g A s σ) Q pc lv (.ref (mh g) :: st) := by
  subst hn
  exact fun H locs ls hB hl => va_get (D := g.1.1) (ci := g.1.2.2) (v := .ref (ma g 12)) (fs := mfs g σ) (C := RX6) (T := TX6) (N := 78) E.1 E.2.1 E.2.2.2.2 in_X6 E.2.2.2.1 hB.2.2.2.2.1 hB.2.1 0 rfl hB.1 12 (Nat.le_of_ble_eq_true rfl) (E.2.2.2.2 _ q1513) (fun _ h9 => h9) rfl d (k H locs ls hB hl)
theorem mget_13 (E : EV p s m args c cc nL RX6) (d : decode cc pc = .ok (.getfield 50, 3)) (hn : pc + 3 = n) (k : CF p l e R s m args below meth c nL 0 0 (MB g A s σ) Q n lv (.ref (ma g 13) :: st)) : CF p l e R s m args below meth c nL 0 0 (MB g A s σ) Q pc lv (.ref (mh g) :: st) := by
  subst hn
  exact fun H locs ls hB hl => va_get (D := g.1.1) (ci := g.1.2.2) (v := .ref (ma g 13)) (fs := mfs g σ) (C := RX6) (T := TX6) (N := 78) E.1 E.2.1 E.2.2.2.2 in_X6 E.2.2.2.1 hB.2.2.2.2.1 hB.2.1 0 rfl hB.1 13 (Nat.le_of_ble_eq_true rfl) (E.2.2.2.2 _ q1514) (fun _ h9 => h9) rfl d (k H locs ls hB hl)
theorem mget_14 (E : EV p s m args c cc nL RX6) (d : decode cc pc = .ok (.getfield 53, 3)) (hn : pc + 3 = n) (k : CF p l e R s m args below meth c nL 0 0 (MB g A s σ) Q n lv (.int (gF σ 14) :: st)) : CF p l e R s m args below meth c nL 0 0 (MB g A s σ) Q pc lv (.ref (mh g) :: st) := by
  subst hn
  exact fun H locs ls hB hl => va_get (D := g.1.1) (ci := g.1.2.2) (v := .int (gF σ 14)) (fs := mfs g σ) (C := RX6) (T := TX6) (N := 78) E.1 E.2.1 E.2.2.2.2 in_X6 E.2.2.2.1 hB.2.2.2.2.1 hB.2.1 0 rfl hB.1 14 (Nat.le_of_ble_eq_true rfl) (E.2.2.2.2 _ q1515) (fun _ h9 => h9) rfl d (k H locs ls hB hl)
theorem mget_15 (E : EV p s m args c cc nL RX6) (d : decode cc pc = .ok (.getfield 56, 3)) (hn : pc + 3 = n) (k : CF p l e R s m args below meth c nL 0 0 (MB g A s σ) Q n lv (.int (gF σ 15) :: st)) : CF p l e R s m args below meth c nL 0 0 (MB g A s σ) Q pc lv (.ref (mh g) :: st) := by
  subst hn
  exact fun H locs ls hB hl => va_get (D := g.1.1) (ci := g.1.2.2) (v := .int (gF σ 15)) (fs := mfs g σ) (C := RX6) (T := TX6) (N := 78) E.1 E.2.1 E.2.2.2.2 in_X6 E.2.2.2.1 hB.2.2.2.2.1 hB.2.1 0 rfl hB.1 15 (Nat.le_of_ble_eq_true rfl) (E.2.2.2.2 _ q1516) (fun _ h9 => h9) rfl d (k H locs ls hB hl)
theorem mget_16 (E : EV p s m args c cc nL RX6) (d : decode cc pc = .ok (.getfield 59, 3)) (hn : pc + 3 = n) (k : CF p l e R s m args below meth c nL 0 0 (MB g A s σ) Q n lv (.int (gF σ 16) :: st)) : CF p l e R s m args below meth c nL 0 0 (MB g A s σ) Q pc lv (.ref (mh g) :: st) := by
  subst hn
  exact fun H locs ls hB hl => va_get (D := g.1.1) (ci := g.1.2.2) (v := .int (gF σ 16)) (fs := mfs g σ) (C := RX6) (T := TX6) (N := 78) E.1 E.2.1 E.2.2.2.2 in_X6 E.2.2.2.1 hB.2.2.2.2.1 hB.2.1 0 rfl hB.1 16 (Nat.le_of_ble_eq_true rfl) (E.2.2.2.2 _ q1517) (fun _ h9 => h9) rfl d (k H locs ls hB hl)
theorem mget_17 (E : EV p s m args c cc nL RX6) (d : decode cc pc = .ok (.getfield 62, 3)) (hn : pc + 3 = n) (k : CF p l e R s m args below meth c nL 0 0 (MB g A s σ) Q n lv (.int (gF σ 17) :: st)) : CF p l e R s m args below meth c nL 0 0 (MB g A s σ) Q pc lv (.ref (mh g) :: st) := by
  subst hn
  exact fun H locs ls hB hl => va_get (D := g.1.1) (ci := g.1.2.2) (v := .int (gF σ 17)) (fs := mfs g σ) (C := RX6) (T := TX6) (N := 78) E.1 E.2.1 E.2.2.2.2 in_X6 E.2.2.2.1 hB.2.2.2.2.1 hB.2.1 0 rfl hB.1 17 (Nat.le_of_ble_eq_true rfl) (E.2.2.2.2 _ q1518) (fun _ h9 => h9) rfl d (k H locs ls hB hl)
theorem mget_18 (E : EV p s m args c cc nL RX6) (d : decode cc pc = .ok (.getfield 65, 3)) (hn : pc + 3 = n) (k : CF p l e R s m args below meth c nL 0 0 (MB g A s σ) Q n lv (.int (gF σ 18) :: st)) : CF p l e R s m args below meth c nL 0 0 (MB g A s σ) Q pc lv (.ref (mh g) :: st) := by
  subst hn
  exact fun H locs ls hB hl => va_get (D := g.1.1) (ci := g.1.2.2) (v := .int (gF σ 18)) (fs := mfs g σ) (C := RX6) (T := TX6) (N := 78) E.1 E.2.1 E.2.2.2.2 in_X6 E.2.2.2.1 hB.2.2.2.2.1 hB.2.1 0 rfl hB.1 18 (Nat.le_of_ble_eq_true rfl) (E.2.2.2.2 _ q1519) (fun _ h9 => h9) rfl d (k H locs ls hB hl)
theorem mget_19 (E : EV p s m args c cc nL RX6) (d : decode cc pc = .ok (.getfield 68, 3)) (hn : pc + 3 = n) (k : CF p l e R s m args below meth c nL 0 0 (MB g A s σ) Q n lv (.ref (ma g 19) :: st)) : CF p l e R s m args below meth c nL 0 0 (MB g A s σ) Q pc lv (.ref (mh g) :: st) := by
  subst hn
  exact fun H locs ls hB hl => va_get (D := g.1.1) (ci := g.1.2.2) (v := .ref (ma g 19)) (fs := mfs g σ) (C := RX6) (T := TX6) (N := 78) E.1 E.2.1 E.2.2.2.2 in_X6 E.2.2.2.1 hB.2.2.2.2.1 hB.2.1 0 rfl hB.1 19 (Nat.le_of_ble_eq_true rfl) (E.2.2.2.2 _ q1520) (fun _ h9 => h9) rfl d (k H locs ls hB hl)
theorem mget_20 (E : EV p s m args c cc nL RX6) (d : decode cc pc = .ok (.getfield 71, 3)) (hn : pc + 3 = n) (k : CF p l e R s m args below meth c nL 0 0 (MB g A s σ) Q n lv (.ref (ma g 20) :: st)) : CF p l e R s m args below meth c nL 0 0 (MB g A s σ) Q pc lv (.ref (mh g) :: st) := by
  subst hn
  exact fun H locs ls hB hl => va_get (D := g.1.1) (ci := g.1.2.2) (v := .ref (ma g 20)) (fs := mfs g σ) (C := RX6) (T := TX6) (N := 78) E.1 E.2.1 E.2.2.2.2 in_X6 E.2.2.2.1 hB.2.2.2.2.1 hB.2.1 0 rfl hB.1 20 (Nat.le_of_ble_eq_true rfl) (E.2.2.2.2 _ q1521) (fun _ h9 => h9) rfl d (k H locs ls hB hl)
theorem mget_21 (E : EV p s m args c cc nL RX6) (d : decode cc pc = .ok (.getfield 74, 3)) (hn : pc + 3 = n) (k : CF p l e R s m args below meth c nL 0 0 (MB g A s σ) Q n lv (.ref (ma g 21) :: st)) : CF p l e R s m args below meth c nL 0 0 (MB g A s σ) Q pc lv (.ref (mh g) :: st) := by
  subst hn
  exact fun H locs ls hB hl => va_get (D := g.1.1) (ci := g.1.2.2) (v := .ref (ma g 21)) (fs := mfs g σ) (C := RX6) (T := TX6) (N := 78) E.1 E.2.1 E.2.2.2.2 in_X6 E.2.2.2.1 hB.2.2.2.2.1 hB.2.1 0 rfl hB.1 21 (Nat.le_of_ble_eq_true rfl) (E.2.2.2.2 _ q1522) (fun _ h9 => h9) rfl d (k H locs ls hB hl)
theorem mget_22 (E : EV p s m args c cc nL RX6) (d : decode cc pc = .ok (.getfield 77, 3)) (hn : pc + 3 = n) (k : CF p l e R s m args below meth c nL 0 0 (MB g A s σ) Q n lv (.ref (ma g 22) :: st)) : CF p l e R s m args below meth c nL 0 0 (MB g A s σ) Q pc lv (.ref (mh g) :: st) := by
  subst hn
  exact fun H locs ls hB hl => va_get (D := g.1.1) (ci := g.1.2.2) (v := .ref (ma g 22)) (fs := mfs g σ) (C := RX6) (T := TX6) (N := 78) E.1 E.2.1 E.2.2.2.2 in_X6 E.2.2.2.1 hB.2.2.2.2.1 hB.2.1 0 rfl hB.1 22 (Nat.le_of_ble_eq_true rfl) (E.2.2.2.2 _ q1523) (fun _ h9 => h9) rfl d (k H locs ls hB hl)
theorem mget_23 (E : EV p s m args c cc nL RX6) (d : decode cc pc = .ok (.getfield 80, 3)) (hn : pc + 3 = n) (k : CF p l e R s m args below meth c nL 0 0 (MB g A s σ) Q n lv (.ref (ma g 23) :: st)) : CF p l e R s m args below meth c nL 0 0 (MB g A s σ) Q pc lv (.ref (mh g) :: st) := by
  subst hn
  exact fun H locs ls hB hl => va_get (D := g.1.1) (ci := g.1.2.2) (v := .ref (ma g 23)) (fs := mfs g σ) (C := RX6) (T := TX6) (N := 78) E.1 E.2.1 E.2.2.2.2 in_X6 E.2.2.2.1 hB.2.2.2.2.1 hB.2.1 0 rfl hB.1 23 (Nat.le_of_ble_eq_true rfl) (E.2.2.2.2 _ q1524) (fun _ h9 => h9) rfl d (k H locs ls hB hl)
theorem mget_24 (E : EV p s m args c cc nL RX6) (d : decode cc pc = .ok (.getfield 83, 3)) (hn : pc + 3 = n) (k : CF p l e R s m args below meth c nL 0 0 (MB g A s σ) Q n lv (.ref (ma g 24) :: st)) : CF p l e R s m args below meth c nL 0 0 (MB g A s σ) Q pc lv (.ref (mh g) :: st) := by
  subst hn
  exact fun H locs ls hB hl => va_get (D := g.1.1) (ci := g.1.2.2) (v := .ref (ma g 24)) (fs := mfs g σ) (C := RX6) (T := TX6) (N := 78) E.1 E.2.1 E.2.2.2.2 in_X6 E.2.2.2.1 hB.2.2.2.2.1 hB.2.1 0 rfl hB.1 24 (Nat.le_of_ble_eq_true rfl) (E.2.2.2.2 _ q1525) (fun _ h9 => h9) rfl d (k H locs ls hB hl)
theorem mget_25 (E : EV p s m args c cc nL RX6) (d : decode cc pc = .ok (.getfield 86, 3)) (hn : pc + 3 = n) (k : CF p l e R s m args below meth c nL 0 0 (MB g A s σ) Q n lv (.ref (ma g 25) :: st)) : CF p l e R s m args below meth c nL 0 0 (MB g A s σ) Q pc lv (.ref (mh g) :: st) := by
  subst hn
  exact fun H locs ls hB hl => va_get (D := g.1.1) (ci := g.1.2.2) (v := .ref (ma g 25)) (fs := mfs g σ) (C := RX6) (T := TX6) (N := 78) E.1 E.2.1 E.2.2.2.2 in_X6 E.2.2.2.1 hB.2.2.2.2.1 hB.2.1 0 rfl hB.1 25 (Nat.le_of_ble_eq_true rfl) (E.2.2.2.2 _ q1526) (fun _ h9 => h9) rfl d (k H locs ls hB hl)
theorem mget_26 (E : EV p s m args c cc nL RX6) (d : decode cc pc = .ok (.getfield 89, 3)) (hn : pc + 3 = n) (k : CF p l e R s m args below meth c nL 0 0 (MB g A s σ) Q n lv (.ref (ma g 26) :: st)) : CF p l e R s m args below meth c nL 0 0 (MB g A s σ) Q pc lv (.ref (mh g) :: st) := by
  subst hn
  exact fun H locs ls hB hl => va_get (D := g.1.1) (ci := g.1.2.2) (v := .ref (ma g 26)) (fs := mfs g σ) (C := RX6) (T := TX6) (N := 78) E.1 E.2.1 E.2.2.2.2 in_X6 E.2.2.2.1 hB.2.2.2.2.1 hB.2.1 0 rfl hB.1 26 (Nat.le_of_ble_eq_true rfl) (E.2.2.2.2 _ q1527) (fun _ h9 => h9) rfl d (k H locs ls hB hl)
theorem mget_27 (E : EV p s m args c cc nL RX6) (d : decode cc pc = .ok (.getfield 92, 3)) (hn : pc + 3 = n) (k : CF p l e R s m args below meth c nL 0 0 (MB g A s σ) Q n lv (.ref (ma g 27) :: st)) : CF p l e R s m args below meth c nL 0 0 (MB g A s σ) Q pc lv (.ref (mh g) :: st) := by
  subst hn
  exact fun H locs ls hB hl => va_get (D := g.1.1) (ci := g.1.2.2) (v := .ref (ma g 27)) (fs := mfs g σ) (C := RX6) (T := TX6) (N := 78) E.1 E.2.1 E.2.2.2.2 in_X6 E.2.2.2.1 hB.2.2.2.2.1 hB.2.1 0 rfl hB.1 27 (Nat.le_of_ble_eq_true rfl) (E.2.2.2.2 _ q1528) (fun _ h9 => h9) rfl d (k H locs ls hB hl)
theorem mget_28 (E : EV p s m args c cc nL RX6) (d : decode cc pc = .ok (.getfield 95, 3)) (hn : pc + 3 = n) (k : CF p l e R s m args below meth c nL 0 0 (MB g A s σ) Q n lv (.int (gF σ 28) :: st)) : CF p l e R s m args below meth c nL 0 0 (MB g A s σ) Q pc lv (.ref (mh g) :: st) := by
  subst hn
  exact fun H locs ls hB hl => va_get (D := g.1.1) (ci := g.1.2.2) (v := .int (gF σ 28)) (fs := mfs g σ) (C := RX6) (T := TX6) (N := 78) E.1 E.2.1 E.2.2.2.2 in_X6 E.2.2.2.1 hB.2.2.2.2.1 hB.2.1 0 rfl hB.1 28 (Nat.le_of_ble_eq_true rfl) (E.2.2.2.2 _ q1529) (fun _ h9 => h9) rfl d (k H locs ls hB hl)
theorem mget_29 (E : EV p s m args c cc nL RX6) (d : decode cc pc = .ok (.getfield 98, 3)) (hn : pc + 3 = n) (k : CF p l e R s m args below meth c nL 0 0 (MB g A s σ) Q n lv (.int (gF σ 29) :: st)) : CF p l e R s m args below meth c nL 0 0 (MB g A s σ) Q pc lv (.ref (mh g) :: st) := by
  subst hn
  exact fun H locs ls hB hl => va_get (D := g.1.1) (ci := g.1.2.2) (v := .int (gF σ 29)) (fs := mfs g σ) (C := RX6) (T := TX6) (N := 78) E.1 E.2.1 E.2.2.2.2 in_X6 E.2.2.2.1 hB.2.2.2.2.1 hB.2.1 0 rfl hB.1 29 (Nat.le_of_ble_eq_true rfl) (E.2.2.2.2 _ q1530) (fun _ h9 => h9) rfl d (k H locs ls hB hl)
theorem mget_30 (E : EV p s m args c cc nL RX6) (d : decode cc pc = .ok (.getfield 101, 3)) (hn : pc + 3 = n) (k : CF p l e R s m args below meth c nL 0 0 (MB g A s σ) Q n lv (.int (gF σ 30) :: st)) : CF p l e R s m args below meth c nL 0 0 (MB g A s σ) Q pc lv (.ref (mh g) :: st) := by
  subst hn
  exact fun H locs ls hB hl => va_get (D := g.1.1) (ci := g.1.2.2) (v := .int (gF σ 30)) (fs := mfs g σ) (C := RX6) (T := TX6) (N := 78) E.1 E.2.1 E.2.2.2.2 in_X6 E.2.2.2.1 hB.2.2.2.2.1 hB.2.1 0 rfl hB.1 30 (Nat.le_of_ble_eq_true rfl) (E.2.2.2.2 _ q1531) (fun _ h9 => h9) rfl d (k H locs ls hB hl)
theorem mget_31 (E : EV p s m args c cc nL RX6) (d : decode cc pc = .ok (.getfield 104, 3)) (hn : pc + 3 = n) (k : CF p l e R s m args below meth c nL 0 0 (MB g A s σ) Q n lv (.ref (ma g 31) :: st)) : CF p l e R s m args below meth c nL 0 0 (MB g A s σ) Q pc lv (.ref (mh g) :: st) := by
  subst hn
  exact fun H locs ls hB hl => va_get (D := g.1.1) (ci := g.1.2.2) (v := .ref (ma g 31)) (fs := mfs g σ) (C := RX6) (T := TX6) (N := 78) E.1 E.2.1 E.2.2.2.2 in_X6 E.2.2.2.1 hB.2.2.2.2.1 hB.2.1 0 rfl hB.1 31 (Nat.le_of_ble_eq_true rfl) (E.2.2.2.2 _ q1532) (fun _ h9 => h9) rfl d (k H locs ls hB hl)
theorem mget_32 (E : EV p s m args c cc nL RX6) (d : decode cc pc = .ok (.getfield 107, 3)) (hn : pc + 3 = n) (k : CF p l e R s m args below meth c nL 0 0 (MB g A s σ) Q n lv (.ref (ma g 32) :: st)) : CF p l e R s m args below meth c nL 0 0 (MB g A s σ) Q pc lv (.ref (mh g) :: st) := by
  subst hn
  exact fun H locs ls hB hl => va_get (D := g.1.1) (ci := g.1.2.2) (v := .ref (ma g 32)) (fs := mfs g σ) (C := RX6) (T := TX6) (N := 78) E.1 E.2.1 E.2.2.2.2 in_X6 E.2.2.2.1 hB.2.2.2.2.1 hB.2.1 0 rfl hB.1 32 (Nat.le_of_ble_eq_true rfl) (E.2.2.2.2 _ q1533) (fun _ h9 => h9) rfl d (k H locs ls hB hl)
theorem mget_33 (E : EV p s m args c cc nL RX6) (d : decode cc pc = .ok (.getfield 111, 3)) (hn : pc + 3 = n) (k : CF p l e R s m args below meth c nL 0 0 (MB g A s σ) Q n lv (.int (gF σ 33) :: st)) : CF p l e R s m args below meth c nL 0 0 (MB g A s σ) Q pc lv (.ref (mh g) :: st) := by
  subst hn
  exact fun H locs ls hB hl => va_get (D := g.1.1) (ci := g.1.2.2) (v := .int (gF σ 33)) (fs := mfs g σ) (C := RX6) (T := TX6) (N := 78) E.1 E.2.1 E.2.2.2.2 in_X6 E.2.2.2.1 hB.2.2.2.2.1 hB.2.1 0 rfl hB.1 33 (Nat.le_of_ble_eq_true rfl) (E.2.2.2.2 _ q1534) (fun _ h9 => h9) rfl d (k H locs ls hB hl)
theorem mget_34 (E : EV p s m args c cc nL RX6) (d : decode cc pc = .ok (.getfield 114, 3)) (hn : pc + 3 = n) (k : CF p l e R s m args below meth c nL 0 0 (MB g A s σ) Q n lv (.ref (ma g 34) :: st)) : CF p l e R s m args below meth c nL 0 0 (MB g A s σ) Q pc lv (.ref (mh g) :: st) := by
  subst hn
  exact fun H locs ls hB hl => va_get (D := g.1.1) (ci := g.1.2.2) (v := .ref (ma g 34)) (fs := mfs g σ) (C := RX6) (T := TX6) (N := 78) E.1 E.2.1 E.2.2.2.2 in_X6 E.2.2.2.1 hB.2.2.2.2.1 hB.2.1 0 rfl hB.1 34 (Nat.le_of_ble_eq_true rfl) (E.2.2.2.2 _ q1535) (fun _ h9 => h9) rfl d (k H locs ls hB hl)
theorem mget_35 (E : EV p s m args c cc nL RX6) (d : decode cc pc = .ok (.getfield 117, 3)) (hn : pc + 3 = n) (k : CF p l e R s m args below meth c nL 0 0 (MB g A s σ) Q n lv (.int (gF σ 35) :: st)) : CF p l e R s m args below meth c nL 0 0 (MB g A s σ) Q pc lv (.ref (mh g) :: st) := by
  subst hn
  exact fun H locs ls hB hl => va_get (D := g.1.1) (ci := g.1.2.2) (v := .int (gF σ 35)) (fs := mfs g σ) (C := RX6) (T := TX6) (N := 78) E.1 E.2.1 E.2.2.2.2 in_X6 E.2.2.2.1 hB.2.2.2.2.1 hB.2.1 0 rfl hB.1 35 (Nat.le_of_ble_eq_true rfl) (E.2.2.2.2 _ q1536) (fun _ h9 => h9) rfl d (k H locs ls hB hl)
theorem mget_36 (E : EV p s m args c cc nL RX6) (d : decode cc pc = .ok (.getfield 120, 3)) (hn : pc + 3 = n) (k : CF p l e R s m args below meth c nL 0 0 (MB g A s σ) Q n lv (.ref (ma g 36) :: st)) : CF p l e R s m args below meth c nL 0 0 (MB g A s σ) Q pc lv (.ref (mh g) :: st) := by
  subst hn
  exact fun H locs ls hB hl => va_get (D := g.1.1) (ci := g.1.2.2) (v := .ref (ma g 36)) (fs := mfs g σ) (C := RX6) (T := TX6) (N := 78) E.1 E.2.1 E.2.2.2.2 in_X6 E.2.2.2.1 hB.2.2.2.2.1 hB.2.1 0 rfl hB.1 36 (Nat.le_of_ble_eq_true rfl) (E.2.2.2.2 _ q1537) (fun _ h9 => h9) rfl d (k H locs ls hB hl)
theorem mget_37 (E : EV p s m args c cc nL RX6) (d : decode cc pc = .ok (.getfield 123, 3)) (hn : pc + 3 = n) (k : CF p l e R s m args below meth c nL 0 0 (MB g A s σ) Q n lv (.ref (ma g 37) :: st)) : CF p l e R s m args below meth c nL 0 0 (MB g A s σ) Q pc lv (.ref (mh g) :: st) := by
  subst hn
  exact fun H locs ls hB hl => va_get (D := g.1.1) (ci := g.1.2.2) (v := .ref (ma g 37)) (fs := mfs g σ) (C := RX6) (T := TX6) (N := 78) E.1 E.2.1 E.2.2.2.2 in_X6 E.2.2.2.1 hB.2.2.2.2.1 hB.2.1 0 rfl hB.1 37 (Nat.le_of_ble_eq_true rfl) (E.2.2.2.2 _ q1538) (fun _ h9 => h9) rfl d (k H locs ls hB hl)
theorem mget_38 (E : EV p s m args c cc nL RX6) (d : decode cc pc = .ok (.getfield 126, 3)) (hn : pc + 3 = n) (k : CF p l e R s m args below meth c nL 0 0 (MB g A s σ) Q n lv (.ref (ma g 38) :: st)) : CF p l e R s m args below meth c nL 0 0 (MB g A s σ) Q pc lv (.ref (mh g) :: st) := by
  subst hn
  exact fun H locs ls hB hl => va_get (D := g.1.1) (ci := g.1.2.2) (v := .ref (ma g 38)) (fs := mfs g σ) (C := RX6) (T := TX6) (N := 78) E.1 E.2.1 E.2.2.2.2 in_X6 E.2.2.2.1 hB.2.2.2.2.1 hB.2.1 0 rfl hB.1 38 (Nat.le_of_ble_eq_true rfl) (E.2.2.2.2 _ q1539) (fun _ h9 => h9) rfl d (k H locs ls hB hl)
theorem mget_39 (E : EV p s m args c cc nL RX6) (d : decode cc pc = .ok (.getfield 129, 3)) (hn : pc + 3 = n) (k : CF p l e R s m args below meth c nL 0 0 (MB g A s σ) Q n lv (.ref (ma g 39) :: st)) : CF p l e R s m args below meth c nL 0 0 (MB g A s σ) Q pc lv (.ref (mh g) :: st) := by
  subst hn
  exact fun H locs ls hB hl => va_get (D := g.1.1) (ci := g.1.2.2) (v := .ref (ma g 39)) (fs := mfs g σ) (C := RX6) (T := TX6) (N := 78) E.1 E.2.1 E.2.2.2.2 in_X6 E.2.2.2.1 hB.2.2.2.2.1 hB.2.1 0 rfl hB.1 39 (Nat.le_of_ble_eq_true rfl) (E.2.2.2.2 _ q1540) (fun _ h9 => h9) rfl d (k H locs ls hB hl)
theorem mget_40 (E : EV p s m args c cc nL RX6) (d : decode cc pc = .ok (.getfield 132, 3)) (hn : pc + 3 = n) (k : CF p l e R s m args below meth c nL 0 0 (MB g A s σ) Q n lv (.int (gF σ 40) :: st)) : CF p l e R s m args below meth c nL 0 0 (MB g A s σ) Q pc lv (.ref (mh g) :: st) := by
  subst hn
  exact fun H locs ls hB hl => va_get (D := g.1.1) (ci := g.1.2.2) (v := .int (gF σ 40)) (fs := mfs g σ) (C := RX6) (T := TX6) (N := 78) E.1 E.2.1 E.2.2.2.2 in_X6 E.2.2.2.1 hB.2.2.2.2.1 hB.2.1 0 rfl hB.1 40 (Nat.le_of_ble_eq_true rfl) (E.2.2.2.2 _ q1541) (fun _ h9 => h9) rfl d (k H locs ls hB hl)
theorem mget_41 (E : EV p s m args c cc nL RX6) (d : decode cc pc = .ok (.getfield 135, 3)) (hn : pc + 3 = n) (k : CF p l e R s m args below meth c nL 0 0 (MB g A s σ) Q n lv (.ref (ma g 41) :: st)) : CF p l e R s m args below meth c nL 0 0 (MB g A s σ) Q pc lv (.ref (mh g) :: st) := by
  subst hn
  exact fun H locs ls hB hl => va_get (D := g.1.1) (ci := g.1.2.2) (v := .ref (ma g 41)) (fs := mfs g σ) (C := RX6) (T := TX6) (N := 78) E.1 E.2.1 E.2.2.2.2 in_X6 E.2.2.2.1 hB.2.2.2.2.1 hB.2.1 0 rfl hB.1 41 (Nat.le_of_ble_eq_true rfl) (E.2.2.2.2 _ q1542) (fun _ h9 => h9) rfl d (k H locs ls hB hl)
theorem mget_42 (E : EV p s m args c cc nL RX6) (d : decode cc pc = .ok (.getfield 138, 3)) (hn : pc + 3 = n) (k : CF p l e R s m args below meth c nL 0 0 (MB g A s σ) Q n lv (.ref (ma g 42) :: st)) : CF p l e R s m args below meth c nL 0 0 (MB g A s σ) Q pc lv (.ref (mh g) :: st) := by
  subst hn
  exact fun H locs ls hB hl => va_get (D := g.1.1) (ci := g.1.2.2) (v := .ref (ma g 42)) (fs := mfs g σ) (C := RX6) (T := TX6) (N := 78) E.1 E.2.1 E.2.2.2.2 in_X6 E.2.2.2.1 hB.2.2.2.2.1 hB.2.1 0 rfl hB.1 42 (Nat.le_of_ble_eq_true rfl) (E.2.2.2.2 _ q1543) (fun _ h9 => h9) rfl d (k H locs ls hB hl)
theorem mget_43 (E : EV p s m args c cc nL RX6) (d : decode cc pc = .ok (.getfield 141, 3)) (hn : pc + 3 = n) (k : CF p l e R s m args below meth c nL 0 0 (MB g A s σ) Q n lv (.int (gF σ 43) :: st)) : CF p l e R s m args below meth c nL 0 0 (MB g A s σ) Q pc lv (.ref (mh g) :: st) := by
  subst hn
  exact fun H locs ls hB hl => va_get (D := g.1.1) (ci := g.1.2.2) (v := .int (gF σ 43)) (fs := mfs g σ) (C := RX6) (T := TX6) (N := 78) E.1 E.2.1 E.2.2.2.2 in_X6 E.2.2.2.1 hB.2.2.2.2.1 hB.2.1 0 rfl hB.1 43 (Nat.le_of_ble_eq_true rfl) (E.2.2.2.2 _ q1544) (fun _ h9 => h9) rfl d (k H locs ls hB hl)
theorem mget_44 (E : EV p s m args c cc nL RX6) (d : decode cc pc = .ok (.getfield 144, 3)) (hn : pc + 3 = n) (k : CF p l e R s m args below meth c nL 0 0 (MB g A s σ) Q n lv (.ref (ma g 44) :: st)) : CF p l e R s m args below meth c nL 0 0 (MB g A s σ) Q pc lv (.ref (mh g) :: st) := by
  subst hn
  exact fun H locs ls hB hl => va_get (D := g.1.1) (ci := g.1.2.2) (v := .ref (ma g 44)) (fs := mfs g σ) (C := RX6) (T := TX6) (N := 78) E.1 E.2.1 E.2.2.2.2 in_X6 E.2.2.2.1 hB.2.2.2.2.1 hB.2.1 0 rfl hB.1 44 (Nat.le_of_ble_eq_true rfl) (E.2.2.2.2 _ q1545) (fun _ h9 => h9) rfl d (k H locs ls hB hl)
theorem mget_45 (E : EV p s m args c cc nL RX6) (d : decode cc pc = .ok (.getfield 147, 3)) (hn : pc + 3 = n) (k : CF p l e R s m args below meth c nL 0 0 (MB g A s σ) Q n lv (.ref (ma g 45) :: st)) : CF p l e R s m args below meth c nL 0 0 (MB g A s σ) Q pc lv (.ref (mh g) :: st) := by
  subst hn
  exact fun H locs ls hB hl => va_get (D := g.1.1) (ci := g.1.2.2) (v := .ref (ma g 45)) (fs := mfs g σ) (C := RX6) (T := TX6) (N := 78) E.1 E.2.1 E.2.2.2.2 in_X6 E.2.2.2.1 hB.2.2.2.2.1 hB.2.1 0 rfl hB.1 45 (Nat.le_of_ble_eq_true rfl) (E.2.2.2.2 _ q1546) (fun _ h9 => h9) rfl d (k H locs ls hB hl)
theorem mget_46 (E : EV p s m args c cc nL RX6) (d : decode cc pc = .ok (.getfield 150, 3)) (hn : pc + 3 = n) (k : CF p l e R s m args below meth c nL 0 0 (MB g A s σ) Q n lv (.ref (ma g 46) :: st)) : CF p l e R s m args below meth c nL 0 0 (MB g A s σ) Q pc lv (.ref (mh g) :: st) := by
  subst hn
  exact fun H locs ls hB hl => va_get (D := g.1.1) (ci := g.1.2.2) (v := .ref (ma g 46)) (fs := mfs g σ) (C := RX6) (T := TX6) (N := 78) E.1 E.2.1 E.2.2.2.2 in_X6 E.2.2.2.1 hB.2.2.2.2.1 hB.2.1 0 rfl hB.1 46 (Nat.le_of_ble_eq_true rfl) (E.2.2.2.2 _ q1547) (fun _ h9 => h9) rfl d (k H locs ls hB hl)
theorem mget_47 (E : EV p s m args c cc nL RX6) (d : decode cc pc = .ok (.getfield 153, 3)) (hn : pc + 3 = n) (k : CF p l e R s m args below meth c nL 0 0 (MB g A s σ) Q n lv (.int (gF σ 47) :: st)) : CF p l e R s m args below meth c nL 0 0 (MB g A s σ) Q pc lv (.ref (mh g) :: st) := by
  subst hn
  exact fun H locs ls hB hl => va_get (D := g.1.1) (ci := g.1.2.2) (v := .int (gF σ 47)) (fs := mfs g σ) (C := RX6) (T := TX6) (N := 78) E.1 E.2.1 E.2.2.2.2 in_X6 E.2.2.2.1 hB.2.2.2.2.1 hB.2.1 0 rfl hB.1 47 (Nat.le_of_ble_eq_true rfl) (E.2.2.2.2 _ q1548) (fun _ h9 => h9) rfl d (k H locs ls hB hl)
theorem mget_48 (E : EV p s m args c cc nL RX6) (d : decode cc pc = .ok (.getfield 156, 3)) (hn : pc + 3 = n) (k : CF p l e R s m args below meth c nL 0 0 (MB g A s σ) Q n lv (.ref (ma g 48) :: st)) : CF p l e R s m args below meth c nL 0 0 (MB g A s σ) Q pc lv (.ref (mh g) :: st) := by
  subst hn
  exact fun H locs ls hB hl => va_get (D := g.1.1) (ci := g.1.2.2) (v := .ref (ma g 48)) (fs := mfs g σ) (C := RX6) (T := TX6) (N := 78) E.1 E.2.1 E.2.2.2.2 in_X6 E.2.2.2.1 hB.2.2.2.2.1 hB.2.1 0 rfl hB.1 48 (Nat.le_of_ble_eq_true rfl) (E.2.2.2.2 _ q1549) (fun _ h9 => h9) rfl d (k H locs ls hB hl)
theorem mget_49 (E : EV p s m args c cc nL RX6) (d : decode cc pc = .ok (.getfield 159, 3)) (hn : pc + 3 = n) (k : CF p l e R s m args below meth c nL 0 0 (MB g A s σ) Q n lv (.ref (ma g 49) :: st)) : CF p l e R s m args below meth c nL 0 0 (MB g A s σ) Q pc lv (.ref (mh g) :: st) := by
  subst hn
  exact fun H locs ls hB hl => va_get (D := g.1.1) (ci := g.1.2.2) (v := .ref (ma g 49)) (fs := mfs g σ) (C := RX6) (T := TX6) (N := 78) E.1 E.2.1 E.2.2.2.2 in_X6 E.2.2.2.1 hB.2.2.2.2.1 hB.2.1 0 rfl hB.1 49 (Nat.le_of_ble_eq_true rfl) (E.2.2.2.2 _ q1550) (fun _ h9 => h9) rfl d (k H locs ls hB hl)
theorem mget_50 (E : EV p s m args c cc nL RX6) (d : decode cc pc = .ok (.getfield 162, 3)) (hn : pc + 3 = n) (k : CF p l e R s m args below meth c nL 0 0 (MB g A s σ) Q n lv (.int (gF σ 50) :: st)) : CF p l e R s m args below meth c nL 0 0 (MB g A s σ) Q pc lv (.ref (mh g) :: st) := by
  subst hn
  exact fun H locs ls hB hl => va_get (D := g.1.1) (ci := g.1.2.2) (v := .int (gF σ 50)) (fs := mfs g σ) (C := RX6) (T := TX6) (N := 78) E.1 E.2.1 E.2.2.2.2 in_X6 E.2.2.2.1 hB.2.2.2.2.1 hB.2.1 0 rfl hB.1 50 (Nat.le_of_ble_eq_true rfl) (E.2.2.2.2 _ q1551) (fun _ h9 => h9) rfl d (k H locs ls hB hl)
theorem mget_51 (E : EV p s m args c cc nL RX6) (d : decode cc pc = .ok (.getfield 166, 3)) (hn : pc + 3 = n) (k : CF p l e R s m args below meth c nL 0 0 (MB g A s σ) Q n lv (.int (gF σ 51) :: st)) : CF p l e R s m args below meth c nL 0 0 (MB g A s σ) Q pc lv (.ref (mh g) :: st) := by
  subst hn
  exact fun H locs ls hB hl => va_get (D := g.1.1) (ci := g.1.2.2) (v := .int (gF σ 51)) (fs := mfs g σ) (C := RX6) (T := TX6) (N := 78) E.1 E.2.1 E.2.2.2.2 in_X6 E.2.2.2.1 hB.2.2.2.2.1 hB.2.1 0 rfl hB.1 51 (Nat.le_of_ble_eq_true rfl) (E.2.2.2.2 _ q1552) (fun _ h9 => h9) rfl d (k H locs ls hB hl)
theorem mget_52 (E : EV p s m args c cc nL RX6) (d : decode cc pc = .ok (.getfield 169, 3)) (hn : pc + 3 = n) (k : CF p l e R s m args below meth c nL 0 0 (MB g A s σ) Q n lv (.int (gF σ 52) :: st)) : CF p l e R s m args below meth c nL 0 0 (MB g A s σ) Q pc lv (.ref (mh g) :: st) := by
  subst hn
  exact fun H locs ls hB hl => va_get (D := g.1.1) (ci := g.1.2.2) (v := .int (gF σ 52)) (fs := mfs g σ) (C := RX6) (T := TX6) (N := 78) E.1 E.2.1 E.2.2.2.2 in_X6 E.2.2.2.1 hB.2.2.2.2.1 hB.2.1 0 rfl hB.1 52 (Nat.le_of_ble_eq_true rfl) (E.2.2.2.2 _ q1553) (fun _ h9 => h9) rfl d (k H locs ls hB hl)
theorem mget_53 (E : EV p s m args c cc nL RX6) (d : decode cc pc = .ok (.getfield 172, 3)) (hn : pc + 3 = n) (k : CF p l e R s m args below meth c nL 0 0 (MB g A s σ) Q n lv (.int (gF σ 53) :: st)) : CF p l e R s m args below meth c nL 0 0 (MB g A s σ) Q pc lv (.ref (mh g) :: st) := by
  subst hn
  exact fun H locs ls hB hl => va_get (D := g.1.1) (ci := g.1.2.2) (v := .int (gF σ 53)) (fs := mfs g σ) (C := RX6) (T := TX6) (N := 78) E.1 E.2.1 E.2.2.2.2 in_X6 E.2.2.2.1 hB.2.2.2.2.1 hB.2.1 0 rfl hB.1 53 (Nat.le_of_ble_eq_true rfl) (E.2.2.2.2 _ q1554) (fun _ h9 => h9) rfl d (k H locs ls hB hl)
theorem mget_54 (E : EV p s m args c cc nL RX6) (d : decode cc pc = .ok (.getfield 175, 3)) (hn : pc + 3 = n) (k : CF p l e R s m args below meth c nL 0 0 (MB g A s σ) Q n lv (.int (gF σ 54) :: st)) : CF p l e R s m args below meth c nL 0 0 (MB g A s σ) Q pc lv (.ref (mh g) :: st) := by
  subst hn
  exact fun H locs ls hB hl => va_get (D := g.1.1) (ci := g.1.2.2) (v := .int (gF σ 54)) (fs := mfs g σ) (C := RX6) (T := TX6) (N := 78) E.1 E.2.1 E.2.2.2.2 in_X6 E.2.2.2.1 hB.2.2.2.2.1 hB.2.1 0 rfl hB.1 54 (Nat.le_of_ble_eq_true rfl) (E.2.2.2.2 _ q1555) (fun _ h9 => h9) rfl d (k H locs ls hB hl)
theorem mget_55 (E : EV p s m args c cc nL RX6) (d : decode cc pc = .ok (.getfield 178, 3)) (hn : pc + 3 = n) (k : CF p l e R s m args below meth c nL 0 0 (MB g A s σ) Q n lv (.int (gF σ 55) :: st)) : CF p l e R s m args below meth c nL 0 0 (MB g A s σ) Q pc lv (.ref (mh g) :: st) := by
  subst hn
  exact fun H locs ls hB hl => va_get (D := g.1.1) (ci := g.1.2.2) (v := .int (gF σ 55)) (fs := mfs g σ) (C := RX6) (T := TX6) (N := 78) E.1 E.2.1 E.2.2.2.2 in_X6 E.2.2.2.1 hB.2.2.2.2.1 hB.2.1 0 rfl hB.1 55 (Nat.le_of_ble_eq_true rfl) (E.2.2.2.2 _ q1556) (fun _ h9 => h9) rfl d (k H locs ls hB hl)
theorem mget_56 (E : EV p s m args c cc nL RX6) (d : decode cc pc = .ok (.getfield 181, 3)) (hn : pc + 3 = n) (k : CF p l e R s m args below meth c nL 0 0 (MB g A s σ) Q n lv (.int (gF σ 56) :: st)) : CF p l e R s m args below meth c nL 0 0 (MB g A s σ) Q pc lv (.ref (mh g) :: st) := by
  subst hn
  exact fun H locs ls hB hl => va_get (D := g.1.1) (ci := g.1.2.2) (v := .int (gF σ 56)) (fs := mfs g σ) (C := RX6) (T := TX6) (N := 78) E.1 E.2.1 E.2.2.2.2 in_X6 E.2.2.2.1 hB.2.2.2.2.1 hB.2.1 0 rfl hB.1 56 (Nat.le_of_ble_eq_true rfl) (E.2.2.2.2 _ q1557) (fun _ h9 => h9) rfl d (k H locs ls hB hl)
theorem mget_57 (E : EV p s m args c cc nL RX6) (d : decode cc pc = .ok (.getfield 184, 3)) (hn : pc + 3 = n) (k : CF p l e R s m args below meth c nL 0 0 (MB g A s σ) Q n lv (.ref (ma g 57) :: st)) : CF p l e R s m args below meth c nL 0 0 (MB g A s σ) Q pc lv (.ref (mh g) :: st) := by
  subst hn
  exact fun H locs ls hB hl => va_get (D := g.1.1) (ci := g.1.2.2) (v := .ref (ma g 57)) (fs := mfs g σ) (C := RX6) (T := TX6) (N := 78) E.1 E.2.1 E.2.2.2.2 in_X6 E.2.2.2.1 hB.2.2.2.2.1 hB.2.1 0 rfl hB.1 57 (Nat.le_of_ble_eq_true rfl) (E.2.2.2.2 _ q1558) (fun _ h9 => h9) rfl d (k H locs ls hB hl)
theorem mget_58 (E : EV p s m args c cc nL RX6) (d : decode cc pc = .ok (.getfield 187, 3)) (hn : pc + 3 = n) (k : CF p l e R s m args below meth c nL 0 0 (MB g A s σ) Q n lv (.ref (ma g 58) :: st)) : CF p l e R s m args below meth c nL 0 0 (MB g A s σ) Q pc lv (.ref (mh g) :: st) := by
  subst hn
  exact fun H locs ls hB hl => va_get (D := g.1.1) (ci := g.1.2.2) (v := .ref (ma g 58)) (fs := mfs g σ) (C := RX6) (T := TX6) (N := 78) E.1 E.2.1 E.2.2.2.2 in_X6 E.2.2.2.1 hB.2.2.2.2.1 hB.2.1 0 rfl hB.1 58 (Nat.le_of_ble_eq_true rfl) (E.2.2.2.2 _ q1559) (fun _ h9 => h9) rfl d (k H locs ls hB hl)
theorem mget_59 (E : EV p s m args c cc nL RX6) (d : decode cc pc = .ok (.getfield 190, 3)) (hn : pc + 3 = n) (k : CF p l e R s m args below meth c nL 0 0 (MB g A s σ) Q n lv (.ref (ma g 59) :: st)) : CF p l e R s m args below meth c nL 0 0 (MB g A s σ) Q pc lv (.ref (mh g) :: st) := by
  subst hn
  exact fun H locs ls hB hl => va_get (D := g.1.1) (ci := g.1.2.2) (v := .ref (ma g 59)) (fs := mfs g σ) (C := RX6) (T := TX6) (N := 78) E.1 E.2.1 E.2.2.2.2 in_X6 E.2.2.2.1 hB.2.2.2.2.1 hB.2.1 0 rfl hB.1 59 (Nat.le_of_ble_eq_true rfl) (E.2.2.2.2 _ q1560) (fun _ h9 => h9) rfl d (k H locs ls hB hl)
theorem mget_60 (E : EV p s m args c cc nL RX6) (d : decode cc pc = .ok (.getfield 193, 3)) (hn : pc + 3 = n) (k : CF p l e R s m args below meth c nL 0 0 (MB g A s σ) Q n lv (.ref (ma g 60) :: st)) : CF p l e R s m args below meth c nL 0 0 (MB g A s σ) Q pc lv (.ref (mh g) :: st) := by
  subst hn
  exact fun H locs ls hB hl => va_get (D := g.1.1) (ci := g.1.2.2) (v := .ref (ma g 60)) (fs := mfs g σ) (C := RX6) (T := TX6) (N := 78) E.1 E.2.1 E.2.2.2.2 in_X6 E.2.2.2.1 hB.2.2.2.2.1 hB.2.1 0 rfl hB.1 60 (Nat.le_of_ble_eq_true rfl) (E.2.2.2.2 _ q1561) (fun _ h9 => h9) rfl d (k H locs ls hB hl)
theorem mget_61 (E : EV p s m args c cc nL RX6) (d : decode cc pc = .ok (.getfield 196, 3)) (hn : pc + 3 = n) (k : CF p l e R s m args below meth c nL 0 0 (MB g A s σ) Q n lv (.ref (ma g 61) :: st)) : CF p l e R s m args below meth c nL 0 0 (MB g A s σ) Q pc lv (.ref (mh g) :: st) := by
  subst hn
  exact fun H locs ls hB hl => va_get (D := g.1.1) (ci := g.1.2.2) (v := .ref (ma g 61)) (fs := mfs g σ) (C := RX6) (T := TX6) (N := 78) E.1 E.2.1 E.2.2.2.2 in_X6 E.2.2.2.1 hB.2.2.2.2.1 hB.2.1 0 rfl hB.1 61 (Nat.le_of_ble_eq_true rfl) (E.2.2.2.2 _ q1562) (fun _ h9 => h9) rfl d (k H locs ls hB hl)
theorem mget_62 (E : EV p s m args c cc nL RX6) (d : decode cc pc = .ok (.getfield 199, 3)) (hn : pc + 3 = n) (k : CF p l e R s m args below meth c nL 0 0 (MB g A s σ) Q n lv (.ref (ma g 62) :: st)) : CF p l e R s m args below meth c nL 0 0 (MB g A s σ) Q pc lv (.ref (mh g) :: st) := by
  subst hn
  exact fun H locs ls hB hl => va_get (D := g.1.1) (ci := g.1.2.2) (v := .ref (ma g 62)) (fs := mfs g σ) (C := RX6) (T := TX6) (N := 78) E.1 E.2.1 E.2.2.2.2 in_X6 E.2.2.2.1 hB.2.2.2.2.1 hB.2.1 0 rfl hB.1 62 (Nat.le_of_ble_eq_true rfl) (E.2.2.2.2 _ q1563) (fun _ h9 => h9) rfl d (k H locs ls hB hl)
theorem mget_63 (E : EV p s m args c cc nL RX6) (d : decode cc pc = .ok (.getfield 202, 3)) (hn : pc + 3 = n) (k : CF p l e R s m args below meth c nL 0 0 (MB g A s σ) Q n lv (.ref (ma g 63) :: st)) : CF p l e R s m args below meth c nL 0 0 (MB g A s σ) Q pc lv (.ref (mh g) :: st) := by
  subst hn
  exact fun H locs ls hB hl => va_get (D := g.1.1) (ci := g.1.2.2) (v := .ref (ma g 63)) (fs := mfs g σ) (C := RX6) (T := TX6) (N := 78) E.1 E.2.1 E.2.2.2.2 in_X6 E.2.2.2.1 hB.2.2.2.2.1 hB.2.1 0 rfl hB.1 63 (Nat.le_of_ble_eq_true rfl) (E.2.2.2.2 _ q1564) (fun _ h9 => h9) rfl d (k H locs ls hB hl)
theorem mget_64 (E : EV p s m args c cc nL RX6) (d : decode cc pc = .ok (.getfield 205, 3)) (hn : pc + 3 = n) (k : CF p l e R s m args below meth c nL 0 0 (MB g A s σ) Q n lv (.ref (ma g 64) :: st)) : CF p l e R s m args below meth c nL 0 0 (MB g A s σ) Q pc lv (.ref (mh g) :: st) := by
  subst hn
  exact fun H locs ls hB hl => va_get (D := g.1.1) (ci := g.1.2.2) (v := .ref (ma g 64)) (fs := mfs g σ) (C := RX6) (T := TX6) (N := 78) E.1 E.2.1 E.2.2.2.2 in_X6 E.2.2.2.1 hB.2.2.2.2.1 hB.2.1 0 rfl hB.1 64 (Nat.le_of_ble_eq_true rfl) (E.2.2.2.2 _ q1565) (fun _ h9 => h9) rfl d (k H locs ls hB hl)
theorem mget_65 (E : EV p s m args c cc nL RX6) (d : decode cc pc = .ok (.getfield 208, 3)) (hn : pc + 3 = n) (k : CF p l e R s m args below meth c nL 0 0 (MB g A s σ) Q n lv (.ref (ma g 65) :: st)) : CF p l e R s m args below meth c nL 0 0 (MB g A s σ) Q pc lv (.ref (mh g) :: st) := by
  subst hn
  exact fun H locs ls hB hl => va_get (D := g.1.1) (ci := g.1.2.2) (v := .ref (ma g 65)) (fs := mfs g σ) (C := RX6) (T := TX6) (N := 78) E.1 E.2.1 E.2.2.2.2 in_X6 E.2.2.2.1 hB.2.2.2.2.1 hB.2.1 0 rfl hB.1 65 (Nat.le_of_ble_eq_true rfl) (E.2.2.2.2 _ q1566) (fun _ h9 => h9) rfl d (k H locs ls hB hl)
theorem mget_66 (E : EV p s m args c cc nL RX6) (d : decode cc pc = .ok (.getfield 211, 3)) (hn : pc + 3 = n) (k : CF p l e R s m args below meth c nL 0 0 (MB g A s σ) Q n lv (.ref (ma g 66) :: st)) : CF p l e R s m args below meth c nL 0 0 (MB g A s σ) Q pc lv (.ref (mh g) :: st) := by
  subst hn
  exact fun H locs ls hB hl => va_get (D := g.1.1) (ci := g.1.2.2) (v := .ref (ma g 66)) (fs := mfs g σ) (C := RX6) (T := TX6) (N := 78) E.1 E.2.1 E.2.2.2.2 in_X6 E.2.2.2.1 hB.2.2.2.2.1 hB.2.1 0 rfl hB.1 66 (Nat.le_of_ble_eq_true rfl) (E.2.2.2.2 _ q1567) (fun _ h9 => h9) rfl d (k H locs ls hB hl)
theorem mget_67 (E : EV p s m args c cc nL RX6) (d : decode cc pc = .ok (.getfield 214, 3)) (hn : pc + 3 = n) (k : CF p l e R s m args below meth c nL 0 0 (MB g A s σ) Q n lv (.ref (ma g 67) :: st)) : CF p l e R s m args below meth c nL 0 0 (MB g A s σ) Q pc lv (.ref (mh g) :: st) := by
  subst hn
  exact fun H locs ls hB hl => va_get (D := g.1.1) (ci := g.1.2.2) (v := .ref (ma g 67)) (fs := mfs g σ) (C := RX6) (T := TX6) (N := 78) E.1 E.2.1 E.2.2.2.2 in_X6 E.2.2.2.1 hB.2.2.2.2.1 hB.2.1 0 rfl hB.1 67 (Nat.le_of_ble_eq_true rfl) (E.2.2.2.2 _ q1568) (fun _ h9 => h9) rfl d (k H locs ls hB hl)
theorem mget_68 (E : EV p s m args c cc nL RX6) (d : decode cc pc = .ok (.getfield 217, 3)) (hn : pc + 3 = n) (k : CF p l e R s m args below meth c nL 0 0 (MB g A s σ) Q n lv (.ref (ma g 68) :: st)) : CF p l e R s m args below meth c nL 0 0 (MB g A s σ) Q pc lv (.ref (mh g) :: st) := by
  subst hn
  exact fun H locs ls hB hl => va_get (D := g.1.1) (ci := g.1.2.2) (v := .ref (ma g 68)) (fs := mfs g σ) (C := RX6) (T := TX6) (N := 78) E.1 E.2.1 E.2.2.2.2 in_X6 E.2.2.2.1 hB.2.2.2.2.1 hB.2.1 0 rfl hB.1 68 (Nat.le_of_ble_eq_true rfl) (E.2.2.2.2 _ q1569) (fun _ h9 => h9) rfl d (k H locs ls hB hl)
theorem mget_69 (E : EV p s m args c cc nL RX6) (d : decode cc pc = .ok (.getfield 220, 3)) (hn : pc + 3 = n) (k : CF p l e R s m args below meth c nL 0 0 (MB g A s σ) Q n lv (.ref (ma g 69) :: st)) : CF p l e R s m args below meth c nL 0 0 (MB g A s σ) Q pc lv (.ref (mh g) :: st) := by
  subst hn
  exact fun H locs ls hB hl => va_get (D := g.1.1) (ci := g.1.2.2) (v := .ref (ma g 69)) (fs := mfs g σ) (C := RX6) (T := TX6) (N := 78) E.1 E.2.1 E.2.2.2.2 in_X6 E.2.2.2.1 hB.2.2.2.2.1 hB.2.1 0 rfl hB.1 69 (Nat.le_of_ble_eq_true rfl) (E.2.2.2.2 _ q1570) (fun _ h9 => h9) rfl d (k H locs ls hB hl)
theorem mget_70 (E : EV p s m args c cc nL RX6) (d : decode cc pc = .ok (.getfield 223, 3)) (hn : pc + 3 = n) (k : CF p l e R s m args below meth c nL 0 0 (MB g A s σ) Q n lv (.ref (ma g 70) :: st)) : CF p l e R s m args below meth c nL 0 0 (MB g A s σ) Q pc lv (.ref (mh g) :: st) := by
  subst hn
  exact fun H locs ls hB hl => va_get (D := g.1.1) (ci := g.1.2.2) (v := .ref (ma g 70)) (fs := mfs g σ) (C := RX6) (T := TX6) (N := 78) E.1 E.2.1 E.2.2.2.2 in_X6 E.2.2.2.1 hB.2.2.2.2.1 hB.2.1 0 rfl hB.1 70 (Nat.le_of_ble_eq_true rfl) (E.2.2.2.2 _ q1571) (fun _ h9 => h9) rfl d (k H locs ls hB hl)
theorem mget_71 (E : EV p s m args c cc nL RX6) (d : decode cc pc = .ok (.getfield 226, 3)) (hn : pc + 3 = n) (k : CF p l e R s m args below meth c nL 0 0 (MB g A s σ) Q n lv (.ref (ma g 71) :: st)) : CF p l e R s m args below meth c nL 0 0 (MB g A s σ) Q pc lv (.ref (mh g) :: st) := by
  subst hn
  exact fun H locs ls hB hl => va_get (D := g.1.1) (ci := g.1.2.2) (v := .ref (ma g 71)) (fs := mfs g σ) (C := RX6) (T := TX6) (N := 78) E.1 E.2.1 E.2.2.2.2 in_X6 E.2.2.2.1 hB.2.2.2.2.1 hB.2.1 0 rfl hB.1 71 (Nat.le_of_ble_eq_true rfl) (E.2.2.2.2 _ q1572) (fun _ h9 => h9) rfl d (k H locs ls hB hl)
theorem mget_72 (E : EV p s m args c cc nL RX6) (d : decode cc pc = .ok (.getfield 229, 3)) (hn : pc + 3 = n) (k : CF p l e R s m args below meth c nL 0 0 (MB g A s σ) Q n lv (.int (gF σ 72) :: st)) : CF p l e R s m args below meth c nL 0 0 (MB g A s σ) Q pc lv (.ref (mh g) :: st) := by
  subst hn
  exact fun H locs ls hB hl => va_get (D := g.1.1) (ci := g.1.2.2) (v := .int (gF σ 72)) (fs := mfs g σ) (C := RX6) (T := TX6) (N := 78) E.1 E.2.1 E.2.2.2.2 in_X6 E.2.2.2.1 hB.2.2.2.2.1 hB.2.1 0 rfl hB.1 72 (Nat.le_of_ble_eq_true rfl) (E.2.2.2.2 _ q1573) (fun _ h9 => h9) rfl d (k H locs ls hB hl)
theorem mget_73 (E : EV p s m args c cc nL RX6) (d : decode cc pc = .ok (.getfield 232, 3)) (hn : pc + 3 = n) (k : CF p l e R s m args below meth c nL 0 0 (MB g A s σ) Q n lv (.ref (ma g 73) :: st)) : CF p l e R s m args below meth c nL 0 0 (MB g A s σ) Q pc lv (.ref (mh g) :: st) := by
  subst hn
  exact fun H locs ls hB hl => va_get (D := g.1.1) (ci := g.1.2.2) (v := .ref (ma g 73)) (fs := mfs g σ) (C := RX6) (T := TX6) (N := 78) E.1 E.2.1 E.2.2.2.2 in_X6 E.2.2.2.1 hB.2.2.2.2.1 hB.2.1 0 rfl hB.1 73 (Nat.le_of_ble_eq_true rfl) (E.2.2.2.2 _ q1574) (fun _ h9 => h9) rfl d (k H locs ls hB hl)
theorem mget_74 (E : EV p s m args c cc nL RX6) (d : decode cc pc = .ok (.getfield 235, 3)) (hn : pc + 3 = n) (k : CF p l e R s m args below meth c nL 0 0 (MB g A s σ) Q n lv (.ref (ma g 74) :: st)) : CF p l e R s m args below meth c nL 0 0 (MB g A s σ) Q pc lv (.ref (mh g) :: st) := by
  subst hn
  exact fun H locs ls hB hl => va_get (D := g.1.1) (ci := g.1.2.2) (v := .ref (ma g 74)) (fs := mfs g σ) (C := RX6) (T := TX6) (N := 78) E.1 E.2.1 E.2.2.2.2 in_X6 E.2.2.2.1 hB.2.2.2.2.1 hB.2.1 0 rfl hB.1 74 (Nat.le_of_ble_eq_true rfl) (E.2.2.2.2 _ q1575) (fun _ h9 => h9) rfl d (k H locs ls hB hl)
theorem mget_75 (E : EV p s m args c cc nL RX6) (d : decode cc pc = .ok (.getfield 238, 3)) (hn : pc + 3 = n) (k : CF p l e R s m args below meth c nL 0 0 (MB g A s σ) Q n lv (.ref (ma g 75) :: st)) : CF p l e R s m args below meth c nL 0 0 (MB g A s σ) Q pc lv (.ref (mh g) :: st) := by
  subst hn
  exact fun H locs ls hB hl => va_get (D := g.1.1) (ci := g.1.2.2) (v := .ref (ma g 75)) (fs := mfs g σ) (C := RX6) (T := TX6) (N := 78) E.1 E.2.1 E.2.2.2.2 in_X6 E.2.2.2.1 hB.2.2.2.2.1 hB.2.1 0 rfl hB.1 75 (Nat.le_of_ble_eq_true rfl) (E.2.2.2.2 _ q1576) (fun _ h9 => h9) rfl d (k H locs ls hB hl)
theorem mget_76 (E : EV p s m args c cc nL RX6) (d : decode cc pc = .ok (.getfield 241, 3)) (hn : pc + 3 = n) (k : CF p l e R s m args below meth c nL 0 0 (MB g A s σ) Q n lv (.ref (ma g 76) :: st)) : CF p l e R s m args below meth c nL 0 0 (MB g A s σ) Q pc lv (.ref (mh g) :: st) := by
  subst hn
  exact fun H locs ls hB hl => va_get (D := g.1.1) (ci := g.1.2.2) (v := .ref (ma g 76)) (fs := mfs g σ) (C := RX6) (T := TX6) (N := 78) E.1 E.2.1 E.2.2.2.2 in_X6 E.2.2.2.1 hB.2.2.2.2.1 hB.2.1 0 rfl hB.1 76 (Nat.le_of_ble_eq_true rfl) (E.2.2.2.2 _ q1577) (fun _ h9 => h9) rfl d (k H locs ls hB hl)
theorem mget_77 (E : EV p s m args c cc nL RX6) (d : decode cc pc = .ok (.getfield 245, 3)) (hn : pc + 3 = n) (k : CF p l e R s m args below meth c nL 0 0 (MB g A s σ) Q n lv (.ref (ma g 77) :: st)) : CF p l e R s m args below meth c nL 0 0 (MB g A s σ) Q pc lv (.ref (mh g) :: st) := by
  subst hn
  exact fun H locs ls hB hl => va_get (D := g.1.1) (ci := g.1.2.2) (v := .ref (ma g 77)) (fs := mfs g σ) (C := RX6) (T := TX6) (N := 78) E.1 E.2.1 E.2.2.2.2 in_X6 E.2.2.2.1 hB.2.2.2.2.1 hB.2.1 0 rfl hB.1 77 (Nat.le_of_ble_eq_true rfl) (E.2.2.2.2 _ q1578) (fun _ h9 => h9) rfl d (k H locs ls hB hl)
theorem mput_0 (E : EV p s m args c cc nL RX6) {v : Int32} {kk : MS → Option ρ} (d : decode cc pc = .ok (.putfield 7, 3)) (h : nx (sF σ 0 v) kk = some res) (hn : pc + 3 = n) (k : ∀ σ1 : MS, kk σ1 = some res → CF p l e R s m args below meth c nL 0 0 (MB g A s σ1) Q n lv st) : CF p l e R s m args below meth c nL 0 0 (MB g A s σ) Q pc lv (.int v :: .ref (mh g) :: st) := by
  subst hn
  intro H locs ls hB hl
  refine va_put (D := g.1.1) (ci := g.1.2.2) (v := .int v) (ty := .int) (fs := mfs g σ) (C := RX6) (T := TX6) (N := 78) E.1 E.2.1 E.2.2.2.2 in_X6 tyX6 tyX6_ok nmX6 E.2.2.2.1 hB.2.2.2.2.1 hB.2.1 hB.2.2.1 hB.2.2.2.1 0 rfl hB.1 0 (Nat.le_of_ble_eq_true rfl) (E.2.2.2.2 _ q1501) (fun _ h9 => h9) rfl (by decide +kernel) rfl rfl (Nat.le_of_ble_eq_true rfl) d (fun H1 locs1 hP hD hS => ?_)
  exact k (sF σ 0 v) h H1 locs1 ls ⟨hB.1, hP, hD, hS, hB.2.2.2.2⟩ hl
theorem mput_1 (E : EV p s m args c cc nL RX6) {v : Int32} {kk : MS → Option ρ} (d : decode cc pc = .ok (.putfield 13, 3)) (h : nx (sF σ 1 v) kk = some res) (hn : pc + 3 = n) (k : ∀ σ1 : MS, kk σ1 = some res → CF p l e R s m args below meth c nL 0 0 (MB g A s σ1) Q n lv st) : CF p l e R s m args below meth c nL 0 0 (MB g A s σ) Q pc lv (.int v :: .ref (mh g) :: st) := by
  subst hn
  intro H locs ls hB hl
  refine va_put (D := g.1.1) (ci := g.1.2.2) (v := .int v) (ty := .int) (fs := mfs g σ) (C := RX6) (T := TX6) (N := 78) E.1 E.2.1 E.2.2.2.2 in_X6 tyX6 tyX6_ok nmX6 E.2.2.2.1 hB.2.2.2.2.1 hB.2.1 hB.2.2.1 hB.2.2.2.1 0 rfl hB.1 1 (Nat.le_of_ble_eq_true rfl) (E.2.2.2.2 _ q1502) (fun _ h9 => h9) rfl (by decide +kernel) rfl rfl (Nat.le_of_ble_eq_true rfl) d (fun H1 locs1 hP hD hS => ?_)
  exact k (sF σ 1 v) h H1 locs1 ls ⟨hB.1, hP, hD, hS, hB.2.2.2.2⟩ hl
theorem mput_2 (E : EV p s m args c cc nL RX6) {v : Int32} {kk : MS → Option ρ} (d : decode cc pc = .ok (.putfield 16, 3)) (h : nx (sF σ 2 v) kk = some res) (hn : pc + 3 = n) (k : ∀ σ1 : MS, kk σ1 = some res → CF p l e R s m args below meth c nL 0 0 (MB g A s σ1) Q n lv st) : CF p l e R s m args below meth c nL 0 0 (MB g A s σ) Q pc lv (.int v :: .ref (mh g) :: st) := by
  subst hn
  intro H locs ls hB hl
  refine va_put (D := g.1.1) (ci := g.1.2.2) (v := .int v) (ty := .int) (fs := mfs g σ) (C := RX6) (T := TX6) (N := 78) E.1 E.2.1 E.2.2.2.2 in_X6 tyX6 tyX6_ok nmX6 E.2.2.2.1 hB.2.2.2.2.1 hB.2.1 hB.2.2.1 hB.2.2.2.1 0 rfl hB.1 2 (Nat.le_of_ble_eq_true rfl) (E.2.2.2.2 _ q1503) (fun _ h9 => h9) rfl (by decide +kernel) rfl rfl (Nat.le_of_ble_eq_true rfl) d (fun H1 locs1 hP hD hS => ?_)
  exact k (sF σ 2 v) h H1 locs1 ls ⟨hB.1, hP, hD, hS, hB.2.2.2.2⟩ hl
theorem mput_14 (E : EV p s m args c cc nL RX6) {v : Int32} {kk : MS → Option ρ} (d : decode cc pc = .ok (.putfield 53, 3)) (h : nx (sF σ 14 v) kk = some res) (hn : pc + 3 = n) (k : ∀ σ1 : MS, kk σ1 = some res → CF p l e R s m args below meth c nL 0 0 (MB g A s σ1) Q n lv st) : CF p l e R s m args below meth c nL 0 0 (MB g A s σ) Q pc lv (.int v :: .ref (mh g) :: st) := by
  subst hn
  intro H locs ls hB hl
  refine va_put (D := g.1.1) (ci := g.1.2.2) (v := .int v) (ty := .int) (fs := mfs g σ) (C := RX6) (T := TX6) (N := 78) E.1 E.2.1 E.2.2.2.2 in_X6 tyX6 tyX6_ok nmX6 E.2.2.2.1 hB.2.2.2.2.1 hB.2.1 hB.2.2.1 hB.2.2.2.1 0 rfl hB.1 14 (Nat.le_of_ble_eq_true rfl) (E.2.2.2.2 _ q1515) (fun _ h9 => h9) rfl (by decide +kernel) rfl rfl (Nat.le_of_ble_eq_true rfl) d (fun H1 locs1 hP hD hS => ?_)
  exact k (sF σ 14 v) h H1 locs1 ls ⟨hB.1, hP, hD, hS, hB.2.2.2.2⟩ hl
theorem mput_15 (E : EV p s m args c cc nL RX6) {v : Int32} {kk : MS → Option ρ} (d : decode cc pc = .ok (.putfield 56, 3)) (h : nx (sF σ 15 v) kk = some res) (hn : pc + 3 = n) (k : ∀ σ1 : MS, kk σ1 = some res → CF p l e R s m args below meth c nL 0 0 (MB g A s σ1) Q n lv st) : CF p l e R s m args below meth c nL 0 0 (MB g A s σ) Q pc lv (.int v :: .ref (mh g) :: st) := by
  subst hn
  intro H locs ls hB hl
  refine va_put (D := g.1.1) (ci := g.1.2.2) (v := .int v) (ty := .int) (fs := mfs g σ) (C := RX6) (T := TX6) (N := 78) E.1 E.2.1 E.2.2.2.2 in_X6 tyX6 tyX6_ok nmX6 E.2.2.2.1 hB.2.2.2.2.1 hB.2.1 hB.2.2.1 hB.2.2.2.1 0 rfl hB.1 15 (Nat.le_of_ble_eq_true rfl) (E.2.2.2.2 _ q1516) (fun _ h9 => h9) rfl (by decide +kernel) rfl rfl (Nat.le_of_ble_eq_true rfl) d (fun H1 locs1 hP hD hS => ?_)
  exact k (sF σ 15 v) h H1 locs1 ls ⟨hB.1, hP, hD, hS, hB.2.2.2.2⟩ hl
theorem mput_16 (E : EV p s m args c cc nL RX6) {v : Int32} {kk : MS → Option ρ} (d : decode cc pc = .ok (.putfield 59, 3)) (h : nx (sF σ 16 v) kk = some res) (hn : pc + 3 = n) (k : ∀ σ1 : MS, kk σ1 = some res → CF p l e R s m args below meth c nL 0 0 (MB g A s σ1) Q n lv st) : CF p l e R s m args below meth c nL 0 0 (MB g A s σ) Q pc lv (.int v :: .ref (mh g) :: st) := by
  subst hn
  intro H locs ls hB hl
  refine va_put (D := g.1.1) (ci := g.1.2.2) (v := .int v) (ty := .int) (fs := mfs g σ) (C := RX6) (T := TX6) (N := 78) E.1 E.2.1 E.2.2.2.2 in_X6 tyX6 tyX6_ok nmX6 E.2.2.2.1 hB.2.2.2.2.1 hB.2.1 hB.2.2.1 hB.2.2.2.1 0 rfl hB.1 16 (Nat.le_of_ble_eq_true rfl) (E.2.2.2.2 _ q1517) (fun _ h9 => h9) rfl (by decide +kernel) rfl rfl (Nat.le_of_ble_eq_true rfl) d (fun H1 locs1 hP hD hS => ?_)
  exact k (sF σ 16 v) h H1 locs1 ls ⟨hB.1, hP, hD, hS, hB.2.2.2.2⟩ hl
theorem mput_17 (E : EV p s m args c cc nL RX6) {v : Int32} {kk : MS → Option ρ} (d : decode cc pc = .ok (.putfield 62, 3)) (h : nx (sF σ 17 v) kk = some res) (hn : pc + 3 = n) (k : ∀ σ1 : MS, kk σ1 = some res → CF p l e R s m args below meth c nL 0 0 (MB g A s σ1) Q n lv st) : CF p l e R s m args below meth c nL 0 0 (MB g A s σ) Q pc lv (.int v :: .ref (mh g) :: st) := by
  subst hn
  intro H locs ls hB hl
  refine va_put (D := g.1.1) (ci := g.1.2.2) (v := .int v) (ty := .int) (fs := mfs g σ) (C := RX6) (T := TX6) (N := 78) E.1 E.2.1 E.2.2.2.2 in_X6 tyX6 tyX6_ok nmX6 E.2.2.2.1 hB.2.2.2.2.1 hB.2.1 hB.2.2.1 hB.2.2.2.1 0 rfl hB.1 17 (Nat.le_of_ble_eq_true rfl) (E.2.2.2.2 _ q1518) (fun _ h9 => h9) rfl (by decide +kernel) rfl rfl (Nat.le_of_ble_eq_true rfl) d (fun H1 locs1 hP hD hS => ?_)
  exact k (sF σ 17 v) h H1 locs1 ls ⟨hB.1, hP, hD, hS, hB.2.2.2.2⟩ hl
theorem mput_18 (E : EV p s m args c cc nL RX6) {v : Int32} {kk : MS → Option ρ} (d : decode cc pc = .ok (.putfield 65, 3)) (h : nx (sF σ 18 v) kk = some res) (hn : pc + 3 = n) (k : ∀ σ1 : MS, kk σ1 = some res → CF p l e R s m args below meth c nL 0 0 (MB g A s σ1) Q n lv st) : CF p l e R s m args below meth c nL 0 0 (MB g A s σ) Q pc lv (.int v :: .ref (mh g) :: st) := by
  subst hn
  intro H locs ls hB hl
  refine va_put (D := g.1.1) (ci := g.1.2.2) (v := .int v) (ty := .int) (fs := mfs g σ) (C := RX6) (T := TX6) (N := 78) E.1 E.2.1 E.2.2.2.2 in_X6 tyX6 tyX6_ok nmX6 E.2.2.2.1 hB.2.2.2.2.1 hB.2.1 hB.2.2.1 hB.2.2.2.1 0 rfl hB.1 18 (Nat.le_of_ble_eq_true rfl) (E.2.2.2.2 _ q1519) (fun _ h9 => h9) rfl (by decide +kernel) rfl rfl (Nat.le_of_ble_eq_true rfl) d (fun H1 locs1 hP hD hS => ?_)
  exact k (sF σ 18 v) h H1 locs1 ls ⟨hB.1, hP, hD, hS, hB.2.2.2.2⟩ hl
theorem mput_28 (E : EV p s m args c cc nL RX6) {v : Int32} {kk : MS → Option ρ} (d : decode cc pc = .ok (.putfield 95, 3)) (h : nx (sF σ 28 v) kk = some res) (hn : pc + 3 = n) (k : ∀ σ1 : MS, kk σ1 = some res → CF p l e R s m args below meth c nL 0 0 (MB g A s σ1) Q n lv st) : CF p l e R s m args below meth c nL 0 0 (MB g A s σ) Q pc lv (.int v :: .ref (mh g) :: st) := by
  subst hn
  intro H locs ls hB hl
  refine va_put (D := g.1.1) (ci := g.1.2.2) (v := .int v) (ty := .int) (fs := mfs g σ) (C := RX6) (T := TX6) (N := 78) E.1 E.2.1 E.2.2.2.2 in_X6 tyX6 tyX6_ok nmX6 E.2.2.2.1 hB.2.2.2.2.1 hB.2.1 hB.2.2.1 hB.2.2.2.1 0 rfl hB.1 28 (Nat.le_of_ble_eq_true rfl) (E.2.2.2.2 _ q1529) (fun _ h9 => h9) rfl (by decide +kernel) rfl rfl (Nat.le_of_ble_eq_true rfl) d (fun H1 locs1 hP hD hS => ?_)
  exact k (sF σ 28 v) h H1 locs1 ls ⟨hB.1, hP, hD, hS, hB.2.2.2.2⟩ hl
theorem mput_29 (E : EV p s m args c cc nL RX6) {v : Int32} {kk : MS → Option ρ} (d : decode cc pc = .ok (.putfield 98, 3)) (h : nx (sF σ 29 v) kk = some res) (hn : pc + 3 = n) (k : ∀ σ1 : MS, kk σ1 = some res → CF p l e R s m args below meth c nL 0 0 (MB g A s σ1) Q n lv st) : CF p l e R s m args below meth c nL 0 0 (MB g A s σ) Q pc lv (.int v :: .ref (mh g) :: st) := by
  subst hn
  intro H locs ls hB hl
  refine va_put (D := g.1.1) (ci := g.1.2.2) (v := .int v) (ty := .int) (fs := mfs g σ) (C := RX6) (T := TX6) (N := 78) E.1 E.2.1 E.2.2.2.2 in_X6 tyX6 tyX6_ok nmX6 E.2.2.2.1 hB.2.2.2.2.1 hB.2.1 hB.2.2.1 hB.2.2.2.1 0 rfl hB.1 29 (Nat.le_of_ble_eq_true rfl) (E.2.2.2.2 _ q1530) (fun _ h9 => h9) rfl (by decide +kernel) rfl rfl (Nat.le_of_ble_eq_true rfl) d (fun H1 locs1 hP hD hS => ?_)
  exact k (sF σ 29 v) h H1 locs1 ls ⟨hB.1, hP, hD, hS, hB.2.2.2.2⟩ hl
theorem mput_30 (E : EV p s m args c cc nL RX6) {v : Int32} {kk : MS → Option ρ} (d : decode cc pc = .ok (.putfield 101, 3)) (h : nx (sF σ 30 v) kk = some res) (hn : pc + 3 = n) (k : ∀ σ1 : MS, kk σ1 = some res → CF p l e R s m args below meth c nL 0 0 (MB g A s σ1) Q n lv st) : CF p l e R s m args below meth c nL 0 0 (MB g A s σ) Q pc lv (.int v :: .ref (mh g) :: st) := by
  subst hn
  intro H locs ls hB hl
  refine va_put (D := g.1.1) (ci := g.1.2.2) (v := .int v) (ty := .int) (fs := mfs g σ) (C := RX6) (T := TX6) (N := 78) E.1 E.2.1 E.2.2.2.2 in_X6 tyX6 tyX6_ok nmX6 E.2.2.2.1 hB.2.2.2.2.1 hB.2.1 hB.2.2.1 hB.2.2.2.1 0 rfl hB.1 30 (Nat.le_of_ble_eq_true rfl) (E.2.2.2.2 _ q1531) (fun _ h9 => h9) rfl (by decide +kernel) rfl rfl (Nat.le_of_ble_eq_true rfl) d (fun H1 locs1 hP hD hS => ?_)
  exact k (sF σ 30 v) h H1 locs1 ls ⟨hB.1, hP, hD, hS, hB.2.2.2.2⟩ hl
theorem mput_33 (E : EV p s m args c cc nL RX6) {v : Int32} {kk : MS → Option ρ} (d : decode cc pc = .ok (.putfield 111, 3)) (h : nx (sF σ 33 v) kk = some res) (hn : pc + 3 = n) (k : ∀ σ1 : MS, kk σ1 = some res → CF p l e R s m args below meth c nL 0 0 (MB g A s σ1) Q n lv st) : CF p l e R s m args below meth c nL 0 0 (MB g A s σ) Q pc lv (.int v :: .ref (mh g) :: st) := by
  subst hn
  intro H locs ls hB hl
  refine va_put (D := g.1.1) (ci := g.1.2.2) (v := .int v) (ty := .int) (fs := mfs g σ) (C := RX6) (T := TX6) (N := 78) E.1 E.2.1 E.2.2.2.2 in_X6 tyX6 tyX6_ok nmX6 E.2.2.2.1 hB.2.2.2.2.1 hB.2.1 hB.2.2.1 hB.2.2.2.1 0 rfl hB.1 33 (Nat.le_of_ble_eq_true rfl) (E.2.2.2.2 _ q1534) (fun _ h9 => h9) rfl (by decide +kernel) rfl rfl (Nat.le_of_ble_eq_true rfl) d (fun H1 locs1 hP hD hS => ?_)
  exact k (sF σ 33 v) h H1 locs1 ls ⟨hB.1, hP, hD, hS, hB.2.2.2.2⟩ hl
theorem mput_35 (E : EV p s m args c cc nL RX6) {v : Int32} {kk : MS → Option ρ} (d : decode cc pc = .ok (.putfield 117, 3)) (h : nx (sF σ 35 v) kk = some res) (hn : pc + 3 = n) (k : ∀ σ1 : MS, kk σ1 = some res → CF p l e R s m args below meth c nL 0 0 (MB g A s σ1) Q n lv st) : CF p l e R s m args below meth c nL 0 0 (MB g A s σ) Q pc lv (.int v :: .ref (mh g) :: st) := by
  subst hn
  intro H locs ls hB hl
  refine va_put (D := g.1.1) (ci := g.1.2.2) (v := .int v) (ty := .int) (fs := mfs g σ) (C := RX6) (T := TX6) (N := 78) E.1 E.2.1 E.2.2.2.2 in_X6 tyX6 tyX6_ok nmX6 E.2.2.2.1 hB.2.2.2.2.1 hB.2.1 hB.2.2.1 hB.2.2.2.1 0 rfl hB.1 35 (Nat.le_of_ble_eq_true rfl) (E.2.2.2.2 _ q1536) (fun _ h9 => h9) rfl (by decide +kernel) rfl rfl (Nat.le_of_ble_eq_true rfl) d (fun H1 locs1 hP hD hS => ?_)
  exact k (sF σ 35 v) h H1 locs1 ls ⟨hB.1, hP, hD, hS, hB.2.2.2.2⟩ hl
theorem mput_40 (E : EV p s m args c cc nL RX6) {v : Int32} {kk : MS → Option ρ} (d : decode cc pc = .ok (.putfield 132, 3)) (h : nx (sF σ 40 v) kk = some res) (hn : pc + 3 = n) (k : ∀ σ1 : MS, kk σ1 = some res → CF p l e R s m args below meth c nL 0 0 (MB g A s σ1) Q n lv st) : CF p l e R s m args below meth c nL 0 0 (MB g A s σ) Q pc lv (.int v :: .ref (mh g) :: st) := by
  subst hn
  intro H locs ls hB hl
  refine va_put (D := g.1.1) (ci := g.1.2.2) (v := .int v) (ty := .int) (fs := mfs g σ) (C := RX6) (T := TX6) (N := 78) E.1 E.2.1 E.2.2.2.2 in_X6 tyX6 tyX6_ok nmX6 E.2.2.2.1 hB.2.2.2.2.1 hB.2.1 hB.2.2.1 hB.2.2.2.1 0 rfl hB.1 40 (Nat.le_of_ble_eq_true rfl) (E.2.2.2.2 _ q1541) (fun _ h9 => h9) rfl (by decide +kernel) rfl rfl (Nat.le_of_ble_eq_true rfl) d (fun H1 locs1 hP hD hS => ?_)
  exact k (sF σ 40 v) h H1 locs1 ls ⟨hB.1, hP, hD, hS, hB.2.2.2.2⟩ hl
theorem mput_43 (E : EV p s m args c cc nL RX6) {v : Int32} {kk : MS → Option ρ} (d : decode cc pc = .ok (.putfield 141, 3)) (h : nx (sF σ 43 v) kk = some res) (hn : pc + 3 = n) (k : ∀ σ1 : MS, kk σ1 = some res → CF p l e R s m args below meth c nL 0 0 (MB g A s σ1) Q n lv st) : CF p l e R s m args below meth c nL 0 0 (MB g A s σ) Q pc lv (.int v :: .ref (mh g) :: st) := by
  subst hn
  intro H locs ls hB hl
  refine va_put (D := g.1.1) (ci := g.1.2.2) (v := .int v) (ty := .int) (fs := mfs g σ) (C := RX6) (T := TX6) (N := 78) E.1 E.2.1 E.2.2.2.2 in_X6 tyX6 tyX6_ok nmX6 E.2.2.2.1 hB.2.2.2.2.1 hB.2.1 hB.2.2.1 hB.2.2.2.1 0 rfl hB.1 43 (Nat.le_of_ble_eq_true rfl) (E.2.2.2.2 _ q1544) (fun _ h9 => h9) rfl (by decide +kernel) rfl rfl (Nat.le_of_ble_eq_true rfl) d (fun H1 locs1 hP hD hS => ?_)
  exact k (sF σ 43 v) h H1 locs1 ls ⟨hB.1, hP, hD, hS, hB.2.2.2.2⟩ hl
theorem mput_47 (E : EV p s m args c cc nL RX6) {v : Int32} {kk : MS → Option ρ} (d : decode cc pc = .ok (.putfield 153, 3)) (h : nx (sF σ 47 v) kk = some res) (hn : pc + 3 = n) (k : ∀ σ1 : MS, kk σ1 = some res → CF p l e R s m args below meth c nL 0 0 (MB g A s σ1) Q n lv st) : CF p l e R s m args below meth c nL 0 0 (MB g A s σ) Q pc lv (.int v :: .ref (mh g) :: st) := by
  subst hn
  intro H locs ls hB hl
  refine va_put (D := g.1.1) (ci := g.1.2.2) (v := .int v) (ty := .int) (fs := mfs g σ) (C := RX6) (T := TX6) (N := 78) E.1 E.2.1 E.2.2.2.2 in_X6 tyX6 tyX6_ok nmX6 E.2.2.2.1 hB.2.2.2.2.1 hB.2.1 hB.2.2.1 hB.2.2.2.1 0 rfl hB.1 47 (Nat.le_of_ble_eq_true rfl) (E.2.2.2.2 _ q1548) (fun _ h9 => h9) rfl (by decide +kernel) rfl rfl (Nat.le_of_ble_eq_true rfl) d (fun H1 locs1 hP hD hS => ?_)
  exact k (sF σ 47 v) h H1 locs1 ls ⟨hB.1, hP, hD, hS, hB.2.2.2.2⟩ hl
theorem mput_50 (E : EV p s m args c cc nL RX6) {v : Int32} {kk : MS → Option ρ} (d : decode cc pc = .ok (.putfield 162, 3)) (hz : narrow .boolean (.int v) = .int v) (hz2 : fits .boolean (.int v) = true) (h : nx (sF σ 50 v) kk = some res) (hn : pc + 3 = n) (k : ∀ σ1 : MS, kk σ1 = some res → CF p l e R s m args below meth c nL 0 0 (MB g A s σ1) Q n lv st) : CF p l e R s m args below meth c nL 0 0 (MB g A s σ) Q pc lv (.int v :: .ref (mh g) :: st) := by
  subst hn
  intro H locs ls hB hl
  refine va_put (D := g.1.1) (ci := g.1.2.2) (v := .int v) (ty := .boolean) (fs := mfs g σ) (C := RX6) (T := TX6) (N := 78) E.1 E.2.1 E.2.2.2.2 in_X6 tyX6 tyX6_ok nmX6 E.2.2.2.1 hB.2.2.2.2.1 hB.2.1 hB.2.2.1 hB.2.2.2.1 0 rfl hB.1 50 (Nat.le_of_ble_eq_true rfl) (E.2.2.2.2 _ q1551) (fun _ h9 => h9) rfl (by decide +kernel) hz hz2 (Nat.le_of_ble_eq_true rfl) d (fun H1 locs1 hP hD hS => ?_)
  exact k (sF σ 50 v) h H1 locs1 ls ⟨hB.1, hP, hD, hS, hB.2.2.2.2⟩ hl
theorem mput_51 (E : EV p s m args c cc nL RX6) {v : Int32} {kk : MS → Option ρ} (d : decode cc pc = .ok (.putfield 166, 3)) (h : nx (sF σ 51 v) kk = some res) (hn : pc + 3 = n) (k : ∀ σ1 : MS, kk σ1 = some res → CF p l e R s m args below meth c nL 0 0 (MB g A s σ1) Q n lv st) : CF p l e R s m args below meth c nL 0 0 (MB g A s σ) Q pc lv (.int v :: .ref (mh g) :: st) := by
  subst hn
  intro H locs ls hB hl
  refine va_put (D := g.1.1) (ci := g.1.2.2) (v := .int v) (ty := .int) (fs := mfs g σ) (C := RX6) (T := TX6) (N := 78) E.1 E.2.1 E.2.2.2.2 in_X6 tyX6 tyX6_ok nmX6 E.2.2.2.1 hB.2.2.2.2.1 hB.2.1 hB.2.2.1 hB.2.2.2.1 0 rfl hB.1 51 (Nat.le_of_ble_eq_true rfl) (E.2.2.2.2 _ q1552) (fun _ h9 => h9) rfl (by decide +kernel) rfl rfl (Nat.le_of_ble_eq_true rfl) d (fun H1 locs1 hP hD hS => ?_)
  exact k (sF σ 51 v) h H1 locs1 ls ⟨hB.1, hP, hD, hS, hB.2.2.2.2⟩ hl
theorem mput_52 (E : EV p s m args c cc nL RX6) {v : Int32} {kk : MS → Option ρ} (d : decode cc pc = .ok (.putfield 169, 3)) (h : nx (sF σ 52 v) kk = some res) (hn : pc + 3 = n) (k : ∀ σ1 : MS, kk σ1 = some res → CF p l e R s m args below meth c nL 0 0 (MB g A s σ1) Q n lv st) : CF p l e R s m args below meth c nL 0 0 (MB g A s σ) Q pc lv (.int v :: .ref (mh g) :: st) := by
  subst hn
  intro H locs ls hB hl
  refine va_put (D := g.1.1) (ci := g.1.2.2) (v := .int v) (ty := .int) (fs := mfs g σ) (C := RX6) (T := TX6) (N := 78) E.1 E.2.1 E.2.2.2.2 in_X6 tyX6 tyX6_ok nmX6 E.2.2.2.1 hB.2.2.2.2.1 hB.2.1 hB.2.2.1 hB.2.2.2.1 0 rfl hB.1 52 (Nat.le_of_ble_eq_true rfl) (E.2.2.2.2 _ q1553) (fun _ h9 => h9) rfl (by decide +kernel) rfl rfl (Nat.le_of_ble_eq_true rfl) d (fun H1 locs1 hP hD hS => ?_)
  exact k (sF σ 52 v) h H1 locs1 ls ⟨hB.1, hP, hD, hS, hB.2.2.2.2⟩ hl
theorem mput_53 (E : EV p s m args c cc nL RX6) {v : Int32} {kk : MS → Option ρ} (d : decode cc pc = .ok (.putfield 172, 3)) (h : nx (sF σ 53 v) kk = some res) (hn : pc + 3 = n) (k : ∀ σ1 : MS, kk σ1 = some res → CF p l e R s m args below meth c nL 0 0 (MB g A s σ1) Q n lv st) : CF p l e R s m args below meth c nL 0 0 (MB g A s σ) Q pc lv (.int v :: .ref (mh g) :: st) := by
  subst hn
  intro H locs ls hB hl
  refine va_put (D := g.1.1) (ci := g.1.2.2) (v := .int v) (ty := .int) (fs := mfs g σ) (C := RX6) (T := TX6) (N := 78) E.1 E.2.1 E.2.2.2.2 in_X6 tyX6 tyX6_ok nmX6 E.2.2.2.1 hB.2.2.2.2.1 hB.2.1 hB.2.2.1 hB.2.2.2.1 0 rfl hB.1 53 (Nat.le_of_ble_eq_true rfl) (E.2.2.2.2 _ q1554) (fun _ h9 => h9) rfl (by decide +kernel) rfl rfl (Nat.le_of_ble_eq_true rfl) d (fun H1 locs1 hP hD hS => ?_)
  exact k (sF σ 53 v) h H1 locs1 ls ⟨hB.1, hP, hD, hS, hB.2.2.2.2⟩ hl
theorem mput_54 (E : EV p s m args c cc nL RX6) {v : Int32} {kk : MS → Option ρ} (d : decode cc pc = .ok (.putfield 175, 3)) (h : nx (sF σ 54 v) kk = some res) (hn : pc + 3 = n) (k : ∀ σ1 : MS, kk σ1 = some res → CF p l e R s m args below meth c nL 0 0 (MB g A s σ1) Q n lv st) : CF p l e R s m args below meth c nL 0 0 (MB g A s σ) Q pc lv (.int v :: .ref (mh g) :: st) := by
  subst hn
  intro H locs ls hB hl
  refine va_put (D := g.1.1) (ci := g.1.2.2) (v := .int v) (ty := .int) (fs := mfs g σ) (C := RX6) (T := TX6) (N := 78) E.1 E.2.1 E.2.2.2.2 in_X6 tyX6 tyX6_ok nmX6 E.2.2.2.1 hB.2.2.2.2.1 hB.2.1 hB.2.2.1 hB.2.2.2.1 0 rfl hB.1 54 (Nat.le_of_ble_eq_true rfl) (E.2.2.2.2 _ q1555) (fun _ h9 => h9) rfl (by decide +kernel) rfl rfl (Nat.le_of_ble_eq_true rfl) d (fun H1 locs1 hP hD hS => ?_)
  exact k (sF σ 54 v) h H1 locs1 ls ⟨hB.1, hP, hD, hS, hB.2.2.2.2⟩ hl
theorem mput_55 (E : EV p s m args c cc nL RX6) {v : Int32} {kk : MS → Option ρ} (d : decode cc pc = .ok (.putfield 178, 3)) (h : nx (sF σ 55 v) kk = some res) (hn : pc + 3 = n) (k : ∀ σ1 : MS, kk σ1 = some res → CF p l e R s m args below meth c nL 0 0 (MB g A s σ1) Q n lv st) : CF p l e R s m args below meth c nL 0 0 (MB g A s σ) Q pc lv (.int v :: .ref (mh g) :: st) := by
  subst hn
  intro H locs ls hB hl
  refine va_put (D := g.1.1) (ci := g.1.2.2) (v := .int v) (ty := .int) (fs := mfs g σ) (C := RX6) (T := TX6) (N := 78) E.1 E.2.1 E.2.2.2.2 in_X6 tyX6 tyX6_ok nmX6 E.2.2.2.1 hB.2.2.2.2.1 hB.2.1 hB.2.2.1 hB.2.2.2.1 0 rfl hB.1 55 (Nat.le_of_ble_eq_true rfl) (E.2.2.2.2 _ q1556) (fun _ h9 => h9) rfl (by decide +kernel) rfl rfl (Nat.le_of_ble_eq_true rfl) d (fun H1 locs1 hP hD hS => ?_)
  exact k (sF σ 55 v) h H1 locs1 ls ⟨hB.1, hP, hD, hS, hB.2.2.2.2⟩ hl
theorem mput_56 (E : EV p s m args c cc nL RX6) {v : Int32} {kk : MS → Option ρ} (d : decode cc pc = .ok (.putfield 181, 3)) (h : nx (sF σ 56 v) kk = some res) (hn : pc + 3 = n) (k : ∀ σ1 : MS, kk σ1 = some res → CF p l e R s m args below meth c nL 0 0 (MB g A s σ1) Q n lv st) : CF p l e R s m args below meth c nL 0 0 (MB g A s σ) Q pc lv (.int v :: .ref (mh g) :: st) := by
  subst hn
  intro H locs ls hB hl
  refine va_put (D := g.1.1) (ci := g.1.2.2) (v := .int v) (ty := .int) (fs := mfs g σ) (C := RX6) (T := TX6) (N := 78) E.1 E.2.1 E.2.2.2.2 in_X6 tyX6 tyX6_ok nmX6 E.2.2.2.1 hB.2.2.2.2.1 hB.2.1 hB.2.2.1 hB.2.2.2.1 0 rfl hB.1 56 (Nat.le_of_ble_eq_true rfl) (E.2.2.2.2 _ q1557) (fun _ h9 => h9) rfl (by decide +kernel) rfl rfl (Nat.le_of_ble_eq_true rfl) d (fun H1 locs1 hP hD hS => ?_)
  exact k (sF σ 56 v) h H1 locs1 ls ⟨hB.1, hP, hD, hS, hB.2.2.2.2⟩ hl
theorem mput_72 (E : EV p s m args c cc nL RX6) {v : Int32} {kk : MS → Option ρ} (d : decode cc pc = .ok (.putfield 229, 3)) (h : nx (sF σ 72 v) kk = some res) (hn : pc + 3 = n) (k : ∀ σ1 : MS, kk σ1 = some res → CF p l e R s m args below meth c nL 0 0 (MB g A s σ1) Q n lv st) : CF p l e R s m args below meth c nL 0 0 (MB g A s σ) Q pc lv (.int v :: .ref (mh g) :: st) := by
  subst hn
  intro H locs ls hB hl
  refine va_put (D := g.1.1) (ci := g.1.2.2) (v := .int v) (ty := .int) (fs := mfs g σ) (C := RX6) (T := TX6) (N := 78) E.1 E.2.1 E.2.2.2.2 in_X6 tyX6 tyX6_ok nmX6 E.2.2.2.1 hB.2.2.2.2.1 hB.2.1 hB.2.2.1 hB.2.2.2.1 0 rfl hB.1 72 (Nat.le_of_ble_eq_true rfl) (E.2.2.2.2 _ q1573) (fun _ h9 => h9) rfl (by decide +kernel) rfl rfl (Nat.le_of_ble_eq_true rfl) d (fun H1 locs1 hP hD hS => ?_)
  exact k (sF σ 72 v) h H1 locs1 ls ⟨hB.1, hP, hD, hS, hB.2.2.2.2⟩ hl
theorem mald_3 (E : EV p s m args c cc nL RX6) {i : Int32} {A9 : Option ρ} (d : decode cc pc = .ok (.iaload, 1)) (h : (if inb i 6 = true then A9 else none) = some res) (hn : pc + 1 = n) (k : A9 = some res → CF p l e R s m args below meth c nL 0 0 (MB g A s σ) Q n lv (.int (gR σ 3 i.toNatClampNeg) :: st)) : CF p l e R s m args below meth c nL 0 0 (MB g A s σ) Q pc lv (.int i :: .ref (ma g 3) :: st) := by
  subst hn
  by_cases hi : inb i 6 = true
  · rw [if_pos hi] at h
    exact fun H locs ls hB hl => va_iald E.1 E.2.1 hB.2.2.2.2.1 hB.2.1 1 0 rfl rfl (inb_in hi) d (k h H locs ls hB hl)
  · rw [if_neg hi] at h; cases h
theorem mast_3 (E : EV p s m args c cc nL RX6) {i : Int32} {x : Int32} {kk : MS → Option ρ} (d : decode cc pc = .ok (.iastore, 1)) (h : (if inb i 6 = true then nx (sR σ 3 i.toNatClampNeg x) kk else none) = some res) (hn : pc + 1 = n) (k : ∀ σ1 : MS, kk σ1 = some res → CF p l e R s m args below meth c nL 0 0 (MB g A s σ1) Q n lv st) : CF p l e R s m args below meth c nL 0 0 (MB g A s σ) Q pc lv (.int x :: .int i :: .ref (ma g 3) :: st) := by
  subst hn
  by_cases hi : inb i 6 = true
  · rw [if_pos hi] at h
    intro H locs ls hB hl
    refine va_iast E.1 E.2.1 hB.2.2.2.2.1 hB.2.1 hB.2.2.1 hB.2.2.2.1 1 0 rfl rfl (inb_in hi) d (fun H1 locs1 hP hD hS => ?_)
    exact k (sR σ 3 i.toNatClampNeg x) h H1 locs1 ls ⟨hB.1, hP, hD, hS, hB.2.2.2.2⟩ hl
  · rw [if_neg hi] at h; cases h
theorem mald_4 (E : EV p s m args c cc nL RX6) {i : Int32} {A9 : Option ρ} (d : decode cc pc = .ok (.iaload, 1)) (h : (if inb i 6 = true then A9 else none) = some res) (hn : pc + 1 = n) (k : A9 = some res → CF p l e R s m args below meth c nL 0 0 (MB g A s σ) Q n lv (.int (gR σ 4 i.toNatClampNeg) :: st)) : CF p l e R s m args below meth c nL 0 0 (MB g A s σ) Q pc lv (.int i :: .ref (ma g 4) :: st) := by
  subst hn
  by_cases hi : inb i 6 = true
  · rw [if_pos hi] at h
    exact fun H locs ls hB hl => va_iald E.1 E.2.1 hB.2.2.2.2.1 hB.2.1 2 0 rfl rfl (inb_in hi) d (k h H locs ls hB hl)
  · rw [if_neg hi] at h; cases h
theorem mast_4 (E : EV p s m args c cc nL RX6) {i : Int32} {x : Int32} {kk : MS → Option ρ} (d : decode cc pc = .ok (.iastore, 1)) (h : (if inb i 6 = true then nx (sR σ 4 i.toNatClampNeg x) kk else none) = some res) (hn : pc + 1 = n) (k : ∀ σ1 : MS, kk σ1 = some res → CF p l e R s m args below meth c nL 0 0 (MB g A s σ1) Q n lv st) : CF p l e R s m args below meth c nL 0 0 (MB g A s σ) Q pc lv (.int x :: .int i :: .ref (ma g 4) :: st) := by
  subst hn
  by_cases hi : inb i 6 = true
  · rw [if_pos hi] at h
    intro H locs ls hB hl
    refine va_iast E.1 E.2.1 hB.2.2.2.2.1 hB.2.1 hB.2.2.1 hB.2.2.2.1 2 0 rfl rfl (inb_in hi) d (fun H1 locs1 hP hD hS => ?_)
    exact k (sR σ 4 i.toNatClampNeg x) h H1 locs1 ls ⟨hB.1, hP, hD, hS, hB.2.2.2.2⟩ hl
  · rw [if_neg hi] at h; cases h
theorem mald_5 (E : EV p s m args c cc nL RX6) {i : Int32} {A9 : Option ρ} (d : decode cc pc = .ok (.iaload, 1)) (h : (if inb i 6 = true then A9 else none) = some res) (hn : pc + 1 = n) (k : A9 = some res → CF p l e R s m args below meth c nL 0 0 (MB g A s σ) Q n lv (.int (gR σ 5 i.toNatClampNeg) :: st)) : CF p l e R s m args below meth c nL 0 0 (MB g A s σ) Q pc lv (.int i :: .ref (ma g 5) :: st) := by
  subst hn
  by_cases hi : inb i 6 = true
  · rw [if_pos hi] at h
    exact fun H locs ls hB hl => va_iald E.1 E.2.1 hB.2.2.2.2.1 hB.2.1 3 0 rfl rfl (inb_in hi) d (k h H locs ls hB hl)
  · rw [if_neg hi] at h; cases h
theorem mast_5 (E : EV p s m args c cc nL RX6) {i : Int32} {x : Int32} {kk : MS → Option ρ} (d : decode cc pc = .ok (.iastore, 1)) (h : (if inb i 6 = true then nx (sR σ 5 i.toNatClampNeg x) kk else none) = some res) (hn : pc + 1 = n) (k : ∀ σ1 : MS, kk σ1 = some res → CF p l e R s m args below meth c nL 0 0 (MB g A s σ1) Q n lv st) : CF p l e R s m args below meth c nL 0 0 (MB g A s σ) Q pc lv (.int x :: .int i :: .ref (ma g 5) :: st) := by
  subst hn
  by_cases hi : inb i 6 = true
  · rw [if_pos hi] at h
    intro H locs ls hB hl
    refine va_iast E.1 E.2.1 hB.2.2.2.2.1 hB.2.1 hB.2.2.1 hB.2.2.2.1 3 0 rfl rfl (inb_in hi) d (fun H1 locs1 hP hD hS => ?_)
    exact k (sR σ 5 i.toNatClampNeg x) h H1 locs1 ls ⟨hB.1, hP, hD, hS, hB.2.2.2.2⟩ hl
  · rw [if_neg hi] at h; cases h
theorem mald_6 (E : EV p s m args c cc nL RX6) {i : Int32} {A9 : Option ρ} (d : decode cc pc = .ok (.iaload, 1)) (h : (if inb i 6 = true then A9 else none) = some res) (hn : pc + 1 = n) (k : A9 = some res → CF p l e R s m args below meth c nL 0 0 (MB g A s σ) Q n lv (.int (gR σ 6 i.toNatClampNeg) :: st)) : CF p l e R s m args below meth c nL 0 0 (MB g A s σ) Q pc lv (.int i :: .ref (ma g 6) :: st) := by
  subst hn
  by_cases hi : inb i 6 = true
  · rw [if_pos hi] at h
    exact fun H locs ls hB hl => va_iald E.1 E.2.1 hB.2.2.2.2.1 hB.2.1 4 0 rfl rfl (inb_in hi) d (k h H locs ls hB hl)
  · rw [if_neg hi] at h; cases h
theorem mast_6 (E : EV p s m args c cc nL RX6) {i : Int32} {x : Int32} {kk : MS → Option ρ} (d : decode cc pc = .ok (.iastore, 1)) (h : (if inb i 6 = true then nx (sR σ 6 i.toNatClampNeg x) kk else none) = some res) (hn : pc + 1 = n) (k : ∀ σ1 : MS, kk σ1 = some res → CF p l e R s m args below meth c nL 0 0 (MB g A s σ1) Q n lv st) : CF p l e R s m args below meth c nL 0 0 (MB g A s σ) Q pc lv (.int x :: .int i :: .ref (ma g 6) :: st) := by
  subst hn
  by_cases hi : inb i 6 = true
  · rw [if_pos hi] at h
    intro H locs ls hB hl
    refine va_iast E.1 E.2.1 hB.2.2.2.2.1 hB.2.1 hB.2.2.1 hB.2.2.2.1 4 0 rfl rfl (inb_in hi) d (fun H1 locs1 hP hD hS => ?_)
    exact k (sR σ 6 i.toNatClampNeg x) h H1 locs1 ls ⟨hB.1, hP, hD, hS, hB.2.2.2.2⟩ hl
  · rw [if_neg hi] at h; cases h
theorem mald_7 (E : EV p s m args c cc nL RX6) {i : Int32} {A9 : Option ρ} (d : decode cc pc = .ok (.iaload, 1)) (h : (if inb i 6 = true then A9 else none) = some res) (hn : pc + 1 = n) (k : A9 = some res → CF p l e R s m args below meth c nL 0 0 (MB g A s σ) Q n lv (.int (gR σ 7 i.toNatClampNeg) :: st)) : CF p l e R s m args below meth c nL 0 0 (MB g A s σ) Q pc lv (.int i :: .ref (ma g 7) :: st) := by
  subst hn
  by_cases hi : inb i 6 = true
  · rw [if_pos hi] at h
    exact fun H locs ls hB hl => va_iald E.1 E.2.1 hB.2.2.2.2.1 hB.2.1 5 0 rfl rfl (inb_in hi) d (k h H locs ls hB hl)
  · rw [if_neg hi] at h; cases h
theorem mast_7 (E : EV p s m args c cc nL RX6) {i : Int32} {x : Int32} {kk : MS → Option ρ} (d : decode cc pc = .ok (.iastore, 1)) (h : (if inb i 6 = true then nx (sR σ 7 i.toNatClampNeg x) kk else none) = some res) (hn : pc + 1 = n) (k : ∀ σ1 : MS, kk σ1 = some res → CF p l e R s m args below meth c nL 0 0 (MB g A s σ1) Q n lv st) : CF p l e R s m args below meth c nL 0 0 (MB g A s σ) Q pc lv (.int x :: .int i :: .ref (ma g 7) :: st) := by
  subst hn
  by_cases hi : inb i 6 = true
  · rw [if_pos hi] at h
    intro H locs ls hB hl
    refine va_iast E.1 E.2.1 hB.2.2.2.2.1 hB.2.1 hB.2.2.1 hB.2.2.2.1 5 0 rfl rfl (inb_in hi) d (fun H1 locs1 hP hD hS => ?_)
    exact k (sR σ 7 i.toNatClampNeg x) h H1 locs1 ls ⟨hB.1, hP, hD, hS, hB.2.2.2.2⟩ hl
  · rw [if_neg hi] at h; cases h
theorem mald_8 (E : EV p s m args c cc nL RX6) {i : Int32} {A9 : Option ρ} (d : decode cc pc = .ok (.iaload, 1)) (h : (if inb i 6 = true then A9 else none) = some res) (hn : pc + 1 = n) (k : A9 = some res → CF p l e R s m args below meth c nL 0 0 (MB g A s σ) Q n lv (.int (gR σ 8 i.toNatClampNeg) :: st)) : CF p l e R s m args below meth c nL 0 0 (MB g A s σ) Q pc lv (.int i :: .ref (ma g 8) :: st) := by
  subst hn
  by_cases hi : inb i 6 = true
  · rw [if_pos hi] at h
    exact fun H locs ls hB hl => va_iald E.1 E.2.1 hB.2.2.2.2.1 hB.2.1 6 0 rfl rfl (inb_in hi) d (k h H locs ls hB hl)
  · rw [if_neg hi] at h; cases h
theorem mast_8 (E : EV p s m args c cc nL RX6) {i : Int32} {x : Int32} {kk : MS → Option ρ} (d : decode cc pc = .ok (.iastore, 1)) (h : (if inb i 6 = true then nx (sR σ 8 i.toNatClampNeg x) kk else none) = some res) (hn : pc + 1 = n) (k : ∀ σ1 : MS, kk σ1 = some res → CF p l e R s m args below meth c nL 0 0 (MB g A s σ1) Q n lv st) : CF p l e R s m args below meth c nL 0 0 (MB g A s σ) Q pc lv (.int x :: .int i :: .ref (ma g 8) :: st) := by
  subst hn
  by_cases hi : inb i 6 = true
  · rw [if_pos hi] at h
    intro H locs ls hB hl
    refine va_iast E.1 E.2.1 hB.2.2.2.2.1 hB.2.1 hB.2.2.1 hB.2.2.2.1 6 0 rfl rfl (inb_in hi) d (fun H1 locs1 hP hD hS => ?_)
    exact k (sR σ 8 i.toNatClampNeg x) h H1 locs1 ls ⟨hB.1, hP, hD, hS, hB.2.2.2.2⟩ hl
  · rw [if_neg hi] at h; cases h
theorem mald_9 (E : EV p s m args c cc nL RX6) {i : Int32} {A9 : Option ρ} (d : decode cc pc = .ok (.iaload, 1)) (h : (if inb i 6 = true then A9 else none) = some res) (hn : pc + 1 = n) (k : A9 = some res → CF p l e R s m args below meth c nL 0 0 (MB g A s σ) Q n lv (.int (gR σ 9 i.toNatClampNeg) :: st)) : CF p l e R s m args below meth c nL 0 0 (MB g A s σ) Q pc lv (.int i :: .ref (ma g 9) :: st) := by
  subst hn
  by_cases hi : inb i 6 = true
  · rw [if_pos hi] at h
    exact fun H locs ls hB hl => va_iald E.1 E.2.1 hB.2.2.2.2.1 hB.2.1 7 0 rfl rfl (inb_in hi) d (k h H locs ls hB hl)
  · rw [if_neg hi] at h; cases h
theorem mast_9 (E : EV p s m args c cc nL RX6) {i : Int32} {x : Int32} {kk : MS → Option ρ} (d : decode cc pc = .ok (.iastore, 1)) (h : (if inb i 6 = true then nx (sR σ 9 i.toNatClampNeg x) kk else none) = some res) (hn : pc + 1 = n) (k : ∀ σ1 : MS, kk σ1 = some res → CF p l e R s m args below meth c nL 0 0 (MB g A s σ1) Q n lv st) : CF p l e R s m args below meth c nL 0 0 (MB g A s σ) Q pc lv (.int x :: .int i :: .ref (ma g 9) :: st) := by
  subst hn
  by_cases hi : inb i 6 = true
  · rw [if_pos hi] at h
    intro H locs ls hB hl
    refine va_iast E.1 E.2.1 hB.2.2.2.2.1 hB.2.1 hB.2.2.1 hB.2.2.2.1 7 0 rfl rfl (inb_in hi) d (fun H1 locs1 hP hD hS => ?_)
    exact k (sR σ 9 i.toNatClampNeg x) h H1 locs1 ls ⟨hB.1, hP, hD, hS, hB.2.2.2.2⟩ hl
  · rw [if_neg hi] at h; cases h
theorem mald_10 (E : EV p s m args c cc nL RX6) {i : Int32} {A9 : Option ρ} (d : decode cc pc = .ok (.iaload, 1)) (h : (if inb i 6 = true then A9 else none) = some res) (hn : pc + 1 = n) (k : A9 = some res → CF p l e R s m args below meth c nL 0 0 (MB g A s σ) Q n lv (.int (gR σ 10 i.toNatClampNeg) :: st)) : CF p l e R s m args below meth c nL 0 0 (MB g A s σ) Q pc lv (.int i :: .ref (ma g 10) :: st) := by
  subst hn
  by_cases hi : inb i 6 = true
  · rw [if_pos hi] at h
    exact fun H locs ls hB hl => va_iald E.1 E.2.1 hB.2.2.2.2.1 hB.2.1 8 0 rfl rfl (inb_in hi) d (k h H locs ls hB hl)
  · rw [if_neg hi] at h; cases h
theorem mast_10 (E : EV p s m args c cc nL RX6) {i : Int32} {x : Int32} {kk : MS → Option ρ} (d : decode cc pc = .ok (.iastore, 1)) (h : (if inb i 6 = true then nx (sR σ 10 i.toNatClampNeg x) kk else none) = some res) (hn : pc + 1 = n) (k : ∀ σ1 : MS, kk σ1 = some res → CF p l e R s m args below meth c nL 0 0 (MB g A s σ1) Q n lv st) : CF p l e R s m args below meth c nL 0 0 (MB g A s σ) Q pc lv (.int x :: .int i :: .ref (ma g 10) :: st) := by
  subst hn
  by_cases hi : inb i 6 = true
  · rw [if_pos hi] at h
    intro H locs ls hB hl
    refine va_iast E.1 E.2.1 hB.2.2.2.2.1 hB.2.1 hB.2.2.1 hB.2.2.2.1 8 0 rfl rfl (inb_in hi) d (fun H1 locs1 hP hD hS => ?_)
    exact k (sR σ 10 i.toNatClampNeg x) h H1 locs1 ls ⟨hB.1, hP, hD, hS, hB.2.2.2.2⟩ hl
  · rw [if_neg hi] at h; cases h
theorem mald_11 (E : EV p s m args c cc nL RX6) {i : Int32} {A9 : Option ρ} (d : decode cc pc = .ok (.iaload, 1)) (h : (if inb i 6 = true then A9 else none) = some res) (hn : pc + 1 = n) (k : A9 = some res → CF p l e R s m args below meth c nL 0 0 (MB g A s σ) Q n lv (.int (gR σ 11 i.toNatClampNeg) :: st)) : CF p l e R s m args below meth c nL 0 0 (MB g A s σ) Q pc lv (.int i :: .ref (ma g 11) :: st) := by
  subst hn
  by_cases hi : inb i 6 = true
  · rw [if_pos hi] at h
    exact fun H locs ls hB hl => va_iald E.1 E.2.1 hB.2.2.2.2.1 hB.2.1 9 0 rfl rfl (inb_in hi) d (k h H locs ls hB hl)
  · rw [if_neg hi] at h; cases h
theorem mast_11 (E : EV p s m args c cc nL RX6) {i : Int32} {x : Int32} {kk : MS → Option ρ} (d : decode cc pc = .ok (.iastore, 1)) (h : (if inb i 6 = true then nx (sR σ 11 i.toNatClampNeg x) kk else none) = some res) (hn : pc + 1 = n) (k : ∀ σ1 : MS, kk σ1 = some res → CF p l e R s m args below meth c nL 0 0 (MB g A s σ1) Q n lv st) : CF p l e R s m args below meth c nL 0 0 (MB g A s σ) Q pc lv (.int x :: .int i :: .ref (ma g 11) :: st) := by
  subst hn
  by_cases hi : inb i 6 = true
  · rw [if_pos hi] at h
    intro H locs ls hB hl
    refine va_iast E.1 E.2.1 hB.2.2.2.2.1 hB.2.1 hB.2.2.1 hB.2.2.2.1 9 0 rfl rfl (inb_in hi) d (fun H1 locs1 hP hD hS => ?_)
    exact k (sR σ 11 i.toNatClampNeg x) h H1 locs1 ls ⟨hB.1, hP, hD, hS, hB.2.2.2.2⟩ hl
  · rw [if_neg hi] at h; cases h
theorem mald_12 (E : EV p s m args c cc nL RX6) {i : Int32} {A9 : Option ρ} (d : decode cc pc = .ok (.iaload, 1)) (h : (if inb i 24 = true then A9 else none) = some res) (hn : pc + 1 = n) (k : A9 = some res → CF p l e R s m args below meth c nL 0 0 (MB g A s σ) Q n lv (.int (gR σ 12 i.toNatClampNeg) :: st)) : CF p l e R s m args below meth c nL 0 0 (MB g A s σ) Q pc lv (.int i :: .ref (ma g 12) :: st) := by
  subst hn
  by_cases hi : inb i 24 = true
  · rw [if_pos hi] at h
    exact fun H locs ls hB hl => va_iald E.1 E.2.1 hB.2.2.2.2.1 hB.2.1 10 0 rfl rfl (inb_in hi) d (k h H locs ls hB hl)
  · rw [if_neg hi] at h; cases h
theorem mast_12 (E : EV p s m args c cc nL RX6) {i : Int32} {x : Int32} {kk : MS → Option ρ} (d : decode cc pc = .ok (.iastore, 1)) (h : (if inb i 24 = true then nx (sR σ 12 i.toNatClampNeg x) kk else none) = some res) (hn : pc + 1 = n) (k : ∀ σ1 : MS, kk σ1 = some res → CF p l e R s m args below meth c nL 0 0 (MB g A s σ1) Q n lv st) : CF p l e R s m args below meth c nL 0 0 (MB g A s σ) Q pc lv (.int x :: .int i :: .ref (ma g 12) :: st) := by
  subst hn
  by_cases hi : inb i 24 = true
  · rw [if_pos hi] at h
    intro H locs ls hB hl
    refine va_iast E.1 E.2.1 hB.2.2.2.2.1 hB.2.1 hB.2.2.1 hB.2.2.2.1 10 0 rfl rfl (inb_in hi) d (fun H1 locs1 hP hD hS => ?_)
    exact k (sR σ 12 i.toNatClampNeg x) h H1 locs1 ls ⟨hB.1, hP, hD, hS, hB.2.2.2.2⟩ hl
  · rw [if_neg hi] at h; cases h
theorem mald_13 (E : EV p s m args c cc nL RX6) {i : Int32} {A9 : Option ρ} (d : decode cc pc = .ok (.iaload, 1)) (h : (if inb i 5 = true then A9 else none) = some res) (hn : pc + 1 = n) (k : A9 = some res → CF p l e R s m args below meth c nL 0 0 (MB g A s σ) Q n lv (.int (gR σ 13 i.toNatClampNeg) :: st)) : CF p l e R s m args below meth c nL 0 0 (MB g A s σ) Q pc lv (.int i :: .ref (ma g 13) :: st) := by
  subst hn
  by_cases hi : inb i 5 = true
  · rw [if_pos hi] at h
    exact fun H locs ls hB hl => va_iald E.1 E.2.1 hB.2.2.2.2.1 hB.2.1 11 0 rfl rfl (inb_in hi) d (k h H locs ls hB hl)
  · rw [if_neg hi] at h; cases h
theorem mast_13 (E : EV p s m args c cc nL RX6) {i : Int32} {x : Int32} {kk : MS → Option ρ} (d : decode cc pc = .ok (.iastore, 1)) (h : (if inb i 5 = true then nx (sR σ 13 i.toNatClampNeg x) kk else none) = some res) (hn : pc + 1 = n) (k : ∀ σ1 : MS, kk σ1 = some res → CF p l e R s m args below meth c nL 0 0 (MB g A s σ1) Q n lv st) : CF p l e R s m args below meth c nL 0 0 (MB g A s σ) Q pc lv (.int x :: .int i :: .ref (ma g 13) :: st) := by
  subst hn
  by_cases hi : inb i 5 = true
  · rw [if_pos hi] at h
    intro H locs ls hB hl
    refine va_iast E.1 E.2.1 hB.2.2.2.2.1 hB.2.1 hB.2.2.1 hB.2.2.2.1 11 0 rfl rfl (inb_in hi) d (fun H1 locs1 hP hD hS => ?_)
    exact k (sR σ 13 i.toNatClampNeg x) h H1 locs1 ls ⟨hB.1, hP, hD, hS, hB.2.2.2.2⟩ hl
  · rw [if_neg hi] at h; cases h
theorem mald_19 (E : EV p s m args c cc nL RX6) {i : Int32} {A9 : Option ρ} (d : decode cc pc = .ok (.iaload, 1)) (h : (if inb i 100 = true then A9 else none) = some res) (hn : pc + 1 = n) (k : A9 = some res → CF p l e R s m args below meth c nL 0 0 (MB g A s σ) Q n lv (.int (gR σ 19 i.toNatClampNeg) :: st)) : CF p l e R s m args below meth c nL 0 0 (MB g A s σ) Q pc lv (.int i :: .ref (ma g 19) :: st) := by
  subst hn
  by_cases hi : inb i 100 = true
  · rw [if_pos hi] at h
    exact fun H locs ls hB hl => va_iald E.1 E.2.1 hB.2.2.2.2.1 hB.2.1 12 0 rfl rfl (inb_in hi) d (k h H locs ls hB hl)
  · rw [if_neg hi] at h; cases h
theorem mast_19 (E : EV p s m args c cc nL RX6) {i : Int32} {x : Int32} {kk : MS → Option ρ} (d : decode cc pc = .ok (.iastore, 1)) (h : (if inb i 100 = true then nx (sR σ 19 i.toNatClampNeg x) kk else none) = some res) (hn : pc + 1 = n) (k : ∀ σ1 : MS, kk σ1 = some res → CF p l e R s m args below meth c nL 0 0 (MB g A s σ1) Q n lv st) : CF p l e R s m args below meth c nL 0 0 (MB g A s σ) Q pc lv (.int x :: .int i :: .ref (ma g 19) :: st) := by
  subst hn
  by_cases hi : inb i 100 = true
  · rw [if_pos hi] at h
    intro H locs ls hB hl
    refine va_iast E.1 E.2.1 hB.2.2.2.2.1 hB.2.1 hB.2.2.1 hB.2.2.2.1 12 0 rfl rfl (inb_in hi) d (fun H1 locs1 hP hD hS => ?_)
    exact k (sR σ 19 i.toNatClampNeg x) h H1 locs1 ls ⟨hB.1, hP, hD, hS, hB.2.2.2.2⟩ hl
  · rw [if_neg hi] at h; cases h
theorem mald_20 (E : EV p s m args c cc nL RX6) {i : Int32} {A9 : Option ρ} (d : decode cc pc = .ok (.iaload, 1)) (h : (if inb i 6 = true then A9 else none) = some res) (hn : pc + 1 = n) (k : A9 = some res → CF p l e R s m args below meth c nL 0 0 (MB g A s σ) Q n lv (.int (gR σ 20 i.toNatClampNeg) :: st)) : CF p l e R s m args below meth c nL 0 0 (MB g A s σ) Q pc lv (.int i :: .ref (ma g 20) :: st) := by
  subst hn
  by_cases hi : inb i 6 = true
  · rw [if_pos hi] at h
    exact fun H locs ls hB hl => va_iald E.1 E.2.1 hB.2.2.2.2.1 hB.2.1 13 0 rfl rfl (inb_in hi) d (k h H locs ls hB hl)
  · rw [if_neg hi] at h; cases h
theorem mast_20 (E : EV p s m args c cc nL RX6) {i : Int32} {x : Int32} {kk : MS → Option ρ} (d : decode cc pc = .ok (.iastore, 1)) (h : (if inb i 6 = true then nx (sR σ 20 i.toNatClampNeg x) kk else none) = some res) (hn : pc + 1 = n) (k : ∀ σ1 : MS, kk σ1 = some res → CF p l e R s m args below meth c nL 0 0 (MB g A s σ1) Q n lv st) : CF p l e R s m args below meth c nL 0 0 (MB g A s σ) Q pc lv (.int x :: .int i :: .ref (ma g 20) :: st) := by
  subst hn
  by_cases hi : inb i 6 = true
  · rw [if_pos hi] at h
    intro H locs ls hB hl
    refine va_iast E.1 E.2.1 hB.2.2.2.2.1 hB.2.1 hB.2.2.1 hB.2.2.2.1 13 0 rfl rfl (inb_in hi) d (fun H1 locs1 hP hD hS => ?_)
    exact k (sR σ 20 i.toNatClampNeg x) h H1 locs1 ls ⟨hB.1, hP, hD, hS, hB.2.2.2.2⟩ hl
  · rw [if_neg hi] at h; cases h
theorem mald_21 (E : EV p s m args c cc nL RX6) {i : Int32} {A9 : Option ρ} (d : decode cc pc = .ok (.iaload, 1)) (h : (if inb i 60 = true then A9 else none) = some res) (hn : pc + 1 = n) (k : A9 = some res → CF p l e R s m args below meth c nL 0 0 (MB g A s σ) Q n lv (.int (gR σ 21 i.toNatClampNeg) :: st)) : CF p l e R s m args below meth c nL 0 0 (MB g A s σ) Q pc lv (.int i :: .ref (ma g 21) :: st) := by
  subst hn
  by_cases hi : inb i 60 = true
  · rw [if_pos hi] at h
    exact fun H locs ls hB hl => va_iald E.1 E.2.1 hB.2.2.2.2.1 hB.2.1 14 0 rfl rfl (inb_in hi) d (k h H locs ls hB hl)
  · rw [if_neg hi] at h; cases h
theorem mast_21 (E : EV p s m args c cc nL RX6) {i : Int32} {x : Int32} {kk : MS → Option ρ} (d : decode cc pc = .ok (.iastore, 1)) (h : (if inb i 60 = true then nx (sR σ 21 i.toNatClampNeg x) kk else none) = some res) (hn : pc + 1 = n) (k : ∀ σ1 : MS, kk σ1 = some res → CF p l e R s m args below meth c nL 0 0 (MB g A s σ1) Q n lv st) : CF p l e R s m args below meth c nL 0 0 (MB g A s σ) Q pc lv (.int x :: .int i :: .ref (ma g 21) :: st) := by
  subst hn
  by_cases hi : inb i 60 = true
  · rw [if_pos hi] at h
    intro H locs ls hB hl
    refine va_iast E.1 E.2.1 hB.2.2.2.2.1 hB.2.1 hB.2.2.1 hB.2.2.2.1 14 0 rfl rfl (inb_in hi) d (fun H1 locs1 hP hD hS => ?_)
    exact k (sR σ 21 i.toNatClampNeg x) h H1 locs1 ls ⟨hB.1, hP, hD, hS, hB.2.2.2.2⟩ hl
  · rw [if_neg hi] at h; cases h
theorem mald_22 (E : EV p s m args c cc nL RX6) {i : Int32} {A9 : Option ρ} (d : decode cc pc = .ok (.iaload, 1)) (h : (if inb i 60 = true then A9 else none) = some res) (hn : pc + 1 = n) (k : A9 = some res → CF p l e R s m args below meth c nL 0 0 (MB g A s σ) Q n lv (.int (gR σ 22 i.toNatClampNeg) :: st)) : CF p l e R s m args below meth c nL 0 0 (MB g A s σ) Q pc lv (.int i :: .ref (ma g 22) :: st) := by
  subst hn
  by_cases hi : inb i 60 = true
  · rw [if_pos hi] at h
    exact fun H locs ls hB hl => va_iald E.1 E.2.1 hB.2.2.2.2.1 hB.2.1 15 0 rfl rfl (inb_in hi) d (k h H locs ls hB hl)
  · rw [if_neg hi] at h; cases h
theorem mast_22 (E : EV p s m args c cc nL RX6) {i : Int32} {x : Int32} {kk : MS → Option ρ} (d : decode cc pc = .ok (.iastore, 1)) (h : (if inb i 60 = true then nx (sR σ 22 i.toNatClampNeg x) kk else none) = some res) (hn : pc + 1 = n) (k : ∀ σ1 : MS, kk σ1 = some res → CF p l e R s m args below meth c nL 0 0 (MB g A s σ1) Q n lv st) : CF p l e R s m args below meth c nL 0 0 (MB g A s σ) Q pc lv (.int x :: .int i :: .ref (ma g 22) :: st) := by
  subst hn
  by_cases hi : inb i 60 = true
  · rw [if_pos hi] at h
    intro H locs ls hB hl
    refine va_iast E.1 E.2.1 hB.2.2.2.2.1 hB.2.1 hB.2.2.1 hB.2.2.2.1 15 0 rfl rfl (inb_in hi) d (fun H1 locs1 hP hD hS => ?_)
    exact k (sR σ 22 i.toNatClampNeg x) h H1 locs1 ls ⟨hB.1, hP, hD, hS, hB.2.2.2.2⟩ hl
  · rw [if_neg hi] at h; cases h
theorem mald_23 (E : EV p s m args c cc nL RX6) {i : Int32} {A9 : Option ρ} (d : decode cc pc = .ok (.iaload, 1)) (h : (if inb i 60 = true then A9 else none) = some res) (hn : pc + 1 = n) (k : A9 = some res → CF p l e R s m args below meth c nL 0 0 (MB g A s σ) Q n lv (.int (gR σ 23 i.toNatClampNeg) :: st)) : CF p l e R s m args below meth c nL 0 0 (MB g A s σ) Q pc lv (.int i :: .ref (ma g 23) :: st) := by
  subst hn
  by_cases hi : inb i 60 = true
  · rw [if_pos hi] at h
    exact fun H locs ls hB hl => va_iald E.1 E.2.1 hB.2.2.2.2.1 hB.2.1 16 0 rfl rfl (inb_in hi) d (k h H locs ls hB hl)
  · rw [if_neg hi] at h; cases h
theorem mast_23 (E : EV p s m args c cc nL RX6) {i : Int32} {x : Int32} {kk : MS → Option ρ} (d : decode cc pc = .ok (.iastore, 1)) (h : (if inb i 60 = true then nx (sR σ 23 i.toNatClampNeg x) kk else none) = some res) (hn : pc + 1 = n) (k : ∀ σ1 : MS, kk σ1 = some res → CF p l e R s m args below meth c nL 0 0 (MB g A s σ1) Q n lv st) : CF p l e R s m args below meth c nL 0 0 (MB g A s σ) Q pc lv (.int x :: .int i :: .ref (ma g 23) :: st) := by
  subst hn
  by_cases hi : inb i 60 = true
  · rw [if_pos hi] at h
    intro H locs ls hB hl
    refine va_iast E.1 E.2.1 hB.2.2.2.2.1 hB.2.1 hB.2.2.1 hB.2.2.2.1 16 0 rfl rfl (inb_in hi) d (fun H1 locs1 hP hD hS => ?_)
    exact k (sR σ 23 i.toNatClampNeg x) h H1 locs1 ls ⟨hB.1, hP, hD, hS, hB.2.2.2.2⟩ hl
  · rw [if_neg hi] at h; cases h
theorem mald_24 (E : EV p s m args c cc nL RX6) {i : Int32} {A9 : Option ρ} (d : decode cc pc = .ok (.iaload, 1)) (h : (if inb i 60 = true then A9 else none) = some res) (hn : pc + 1 = n) (k : A9 = some res → CF p l e R s m args below meth c nL 0 0 (MB g A s σ) Q n lv (.int (gR σ 24 i.toNatClampNeg) :: st)) : CF p l e R s m args below meth c nL 0 0 (MB g A s σ) Q pc lv (.int i :: .ref (ma g 24) :: st) := by
  subst hn
  by_cases hi : inb i 60 = true
  · rw [if_pos hi] at h
    exact fun H locs ls hB hl => va_iald E.1 E.2.1 hB.2.2.2.2.1 hB.2.1 17 0 rfl rfl (inb_in hi) d (k h H locs ls hB hl)
  · rw [if_neg hi] at h; cases h
theorem mast_24 (E : EV p s m args c cc nL RX6) {i : Int32} {x : Int32} {kk : MS → Option ρ} (d : decode cc pc = .ok (.iastore, 1)) (h : (if inb i 60 = true then nx (sR σ 24 i.toNatClampNeg x) kk else none) = some res) (hn : pc + 1 = n) (k : ∀ σ1 : MS, kk σ1 = some res → CF p l e R s m args below meth c nL 0 0 (MB g A s σ1) Q n lv st) : CF p l e R s m args below meth c nL 0 0 (MB g A s σ) Q pc lv (.int x :: .int i :: .ref (ma g 24) :: st) := by
  subst hn
  by_cases hi : inb i 60 = true
  · rw [if_pos hi] at h
    intro H locs ls hB hl
    refine va_iast E.1 E.2.1 hB.2.2.2.2.1 hB.2.1 hB.2.2.1 hB.2.2.2.1 17 0 rfl rfl (inb_in hi) d (fun H1 locs1 hP hD hS => ?_)
    exact k (sR σ 24 i.toNatClampNeg x) h H1 locs1 ls ⟨hB.1, hP, hD, hS, hB.2.2.2.2⟩ hl
  · rw [if_neg hi] at h; cases h
theorem mald_25 (E : EV p s m args c cc nL RX6) {i : Int32} {A9 : Option ρ} (d : decode cc pc = .ok (.iaload, 1)) (h : (if inb i 60 = true then A9 else none) = some res) (hn : pc + 1 = n) (k : A9 = some res → CF p l e R s m args below meth c nL 0 0 (MB g A s σ) Q n lv (.int (gR σ 25 i.toNatClampNeg) :: st)) : CF p l e R s m args below meth c nL 0 0 (MB g A s σ) Q pc lv (.int i :: .ref (ma g 25) :: st) := by
  subst hn
  by_cases hi : inb i 60 = true
  · rw [if_pos hi] at h
    exact fun H locs ls hB hl => va_iald E.1 E.2.1 hB.2.2.2.2.1 hB.2.1 18 0 rfl rfl (inb_in hi) d (k h H locs ls hB hl)
  · rw [if_neg hi] at h; cases h
theorem mast_25 (E : EV p s m args c cc nL RX6) {i : Int32} {x : Int32} {kk : MS → Option ρ} (d : decode cc pc = .ok (.iastore, 1)) (h : (if inb i 60 = true then nx (sR σ 25 i.toNatClampNeg x) kk else none) = some res) (hn : pc + 1 = n) (k : ∀ σ1 : MS, kk σ1 = some res → CF p l e R s m args below meth c nL 0 0 (MB g A s σ1) Q n lv st) : CF p l e R s m args below meth c nL 0 0 (MB g A s σ) Q pc lv (.int x :: .int i :: .ref (ma g 25) :: st) := by
  subst hn
  by_cases hi : inb i 60 = true
  · rw [if_pos hi] at h
    intro H locs ls hB hl
    refine va_iast E.1 E.2.1 hB.2.2.2.2.1 hB.2.1 hB.2.2.1 hB.2.2.2.1 18 0 rfl rfl (inb_in hi) d (fun H1 locs1 hP hD hS => ?_)
    exact k (sR σ 25 i.toNatClampNeg x) h H1 locs1 ls ⟨hB.1, hP, hD, hS, hB.2.2.2.2⟩ hl
  · rw [if_neg hi] at h; cases h
theorem mald_26 (E : EV p s m args c cc nL RX6) {i : Int32} {A9 : Option ρ} (d : decode cc pc = .ok (.iaload, 1)) (h : (if inb i 600 = true then A9 else none) = some res) (hn : pc + 1 = n) (k : A9 = some res → CF p l e R s m args below meth c nL 0 0 (MB g A s σ) Q n lv (.int (gR σ 26 i.toNatClampNeg) :: st)) : CF p l e R s m args below meth c nL 0 0 (MB g A s σ) Q pc lv (.int i :: .ref (ma g 26) :: st) := by
  subst hn
  by_cases hi : inb i 600 = true
  · rw [if_pos hi] at h
    exact fun H locs ls hB hl => va_iald E.1 E.2.1 hB.2.2.2.2.1 hB.2.1 19 0 rfl rfl (inb_in hi) d (k h H locs ls hB hl)
  · rw [if_neg hi] at h; cases h
theorem mast_26 (E : EV p s m args c cc nL RX6) {i : Int32} {x : Int32} {kk : MS → Option ρ} (d : decode cc pc = .ok (.iastore, 1)) (h : (if inb i 600 = true then nx (sR σ 26 i.toNatClampNeg x) kk else none) = some res) (hn : pc + 1 = n) (k : ∀ σ1 : MS, kk σ1 = some res → CF p l e R s m args below meth c nL 0 0 (MB g A s σ1) Q n lv st) : CF p l e R s m args below meth c nL 0 0 (MB g A s σ) Q pc lv (.int x :: .int i :: .ref (ma g 26) :: st) := by
  subst hn
  by_cases hi : inb i 600 = true
  · rw [if_pos hi] at h
    intro H locs ls hB hl
    refine va_iast E.1 E.2.1 hB.2.2.2.2.1 hB.2.1 hB.2.2.1 hB.2.2.2.1 19 0 rfl rfl (inb_in hi) d (fun H1 locs1 hP hD hS => ?_)
    exact k (sR σ 26 i.toNatClampNeg x) h H1 locs1 ls ⟨hB.1, hP, hD, hS, hB.2.2.2.2⟩ hl
  · rw [if_neg hi] at h; cases h
theorem mald_27 (E : EV p s m args c cc nL RX6) {i : Int32} {A9 : Option ρ} (d : decode cc pc = .ok (.iaload, 1)) (h : (if inb i 101 = true then A9 else none) = some res) (hn : pc + 1 = n) (k : A9 = some res → CF p l e R s m args below meth c nL 0 0 (MB g A s σ) Q n lv (.int (gR σ 27 i.toNatClampNeg) :: st)) : CF p l e R s m args below meth c nL 0 0 (MB g A s σ) Q pc lv (.int i :: .ref (ma g 27) :: st) := by
  subst hn
  by_cases hi : inb i 101 = true
  · rw [if_pos hi] at h
    exact fun H locs ls hB hl => va_iald E.1 E.2.1 hB.2.2.2.2.1 hB.2.1 20 0 rfl rfl (inb_in hi) d (k h H locs ls hB hl)
  · rw [if_neg hi] at h; cases h
theorem mast_27 (E : EV p s m args c cc nL RX6) {i : Int32} {x : Int32} {kk : MS → Option ρ} (d : decode cc pc = .ok (.iastore, 1)) (h : (if inb i 101 = true then nx (sR σ 27 i.toNatClampNeg x) kk else none) = some res) (hn : pc + 1 = n) (k : ∀ σ1 : MS, kk σ1 = some res → CF p l e R s m args below meth c nL 0 0 (MB g A s σ1) Q n lv st) : CF p l e R s m args below meth c nL 0 0 (MB g A s σ) Q pc lv (.int x :: .int i :: .ref (ma g 27) :: st) := by
  subst hn
  by_cases hi : inb i 101 = true
  · rw [if_pos hi] at h
    intro H locs ls hB hl
    refine va_iast E.1 E.2.1 hB.2.2.2.2.1 hB.2.1 hB.2.2.1 hB.2.2.2.1 20 0 rfl rfl (inb_in hi) d (fun H1 locs1 hP hD hS => ?_)
    exact k (sR σ 27 i.toNatClampNeg x) h H1 locs1 ls ⟨hB.1, hP, hD, hS, hB.2.2.2.2⟩ hl
  · rw [if_neg hi] at h; cases h
theorem mald_31 (E : EV p s m args c cc nL RX6) {i : Int32} {A9 : Option ρ} (d : decode cc pc = .ok (.iaload, 1)) (h : (if inb i 16 = true then A9 else none) = some res) (hn : pc + 1 = n) (k : A9 = some res → CF p l e R s m args below meth c nL 0 0 (MB g A s σ) Q n lv (.int (gR σ 31 i.toNatClampNeg) :: st)) : CF p l e R s m args below meth c nL 0 0 (MB g A s σ) Q pc lv (.int i :: .ref (ma g 31) :: st) := by
  subst hn
  by_cases hi : inb i 16 = true
  · rw [if_pos hi] at h
    exact fun H locs ls hB hl => va_iald E.1 E.2.1 hB.2.2.2.2.1 hB.2.1 21 0 rfl rfl (inb_in hi) d (k h H locs ls hB hl)
  · rw [if_neg hi] at h; cases h
theorem mast_31 (E : EV p s m args c cc nL RX6) {i : Int32} {x : Int32} {kk : MS → Option ρ} (d : decode cc pc = .ok (.iastore, 1)) (h : (if inb i 16 = true then nx (sR σ 31 i.toNatClampNeg x) kk else none) = some res) (hn : pc + 1 = n) (k : ∀ σ1 : MS, kk σ1 = some res → CF p l e R s m args below meth c nL 0 0 (MB g A s σ1) Q n lv st) : CF p l e R s m args below meth c nL 0 0 (MB g A s σ) Q pc lv (.int x :: .int i :: .ref (ma g 31) :: st) := by
  subst hn
  by_cases hi : inb i 16 = true
  · rw [if_pos hi] at h
    intro H locs ls hB hl
    refine va_iast E.1 E.2.1 hB.2.2.2.2.1 hB.2.1 hB.2.2.1 hB.2.2.2.1 21 0 rfl rfl (inb_in hi) d (fun H1 locs1 hP hD hS => ?_)
    exact k (sR σ 31 i.toNatClampNeg x) h H1 locs1 ls ⟨hB.1, hP, hD, hS, hB.2.2.2.2⟩ hl
  · rw [if_neg hi] at h; cases h
theorem mald_32 (E : EV p s m args c cc nL RX6) {i : Int32} {A9 : Option ρ} (d : decode cc pc = .ok (.baload, 1)) (h : (if inb i 100 = true then A9 else none) = some res) (hn : pc + 1 = n) (k : A9 = some res → CF p l e R s m args below meth c nL 0 0 (MB g A s σ) Q n lv (.int (gR σ 32 i.toNatClampNeg) :: st)) : CF p l e R s m args below meth c nL 0 0 (MB g A s σ) Q pc lv (.int i :: .ref (ma g 32) :: st) := by
  subst hn
  by_cases hi : inb i 100 = true
  · rw [if_pos hi] at h
    exact fun H locs ls hB hl => va_zald E.1 E.2.1 hB.2.2.2.2.1 hB.2.1 22 1 rfl rfl (inb_in hi) d (k h H locs ls hB hl)
  · rw [if_neg hi] at h; cases h
theorem mast_32 (E : EV p s m args c cc nL RX6) {i : Int32} {x : Int32} {kk : MS → Option ρ} (d : decode cc pc = .ok (.bastore, 1)) (h : (if inb i 100 = true then nx (sR σ 32 i.toNatClampNeg (vp_nar .boolean x)) kk else none) = some res) (hn : pc + 1 = n) (k : ∀ σ1 : MS, kk σ1 = some res → CF p l e R s m args below meth c nL 0 0 (MB g A s σ1) Q n lv st) : CF p l e R s m args below meth c nL 0 0 (MB g A s σ) Q pc lv (.int x :: .int i :: .ref (ma g 32) :: st) := by
  subst hn
  by_cases hi : inb i 100 = true
  · rw [if_pos hi] at h
    intro H locs ls hB hl
    refine va_zast E.1 E.2.1 hB.2.2.2.2.1 hB.2.1 hB.2.2.1 hB.2.2.2.1 22 1 rfl rfl (inb_in hi) d (fun H1 locs1 hP hD hS => ?_)
    exact k (sR σ 32 i.toNatClampNeg (vp_nar .boolean x)) h H1 locs1 ls ⟨hB.1, hP, hD, hS, hB.2.2.2.2⟩ hl
  · rw [if_neg hi] at h; cases h
theorem mald_34 (E : EV p s m args c cc nL RX6) {i : Int32} {A9 : Option ρ} (d : decode cc pc = .ok (.iaload, 1)) (h : (if inb i 6 = true then A9 else none) = some res) (hn : pc + 1 = n) (k : A9 = some res → CF p l e R s m args below meth c nL 0 0 (MB g A s σ) Q n lv (.int (gR σ 34 i.toNatClampNeg) :: st)) : CF p l e R s m args below meth c nL 0 0 (MB g A s σ) Q pc lv (.int i :: .ref (ma g 34) :: st) := by
  subst hn
  by_cases hi : inb i 6 = true
  · rw [if_pos hi] at h
    exact fun H locs ls hB hl => va_iald E.1 E.2.1 hB.2.2.2.2.1 hB.2.1 23 0 rfl rfl (inb_in hi) d (k h H locs ls hB hl)
  · rw [if_neg hi] at h; cases h
theorem mast_34 (E : EV p s m args c cc nL RX6) {i : Int32} {x : Int32} {kk : MS → Option ρ} (d : decode cc pc = .ok (.iastore, 1)) (h : (if inb i 6 = true then nx (sR σ 34 i.toNatClampNeg x) kk else none) = some res) (hn : pc + 1 = n) (k : ∀ σ1 : MS, kk σ1 = some res → CF p l e R s m args below meth c nL 0 0 (MB g A s σ1) Q n lv st) : CF p l e R s m args below meth c nL 0 0 (MB g A s σ) Q pc lv (.int x :: .int i :: .ref (ma g 34) :: st) := by
  subst hn
  by_cases hi : inb i 6 = true
  · rw [if_pos hi] at h
    intro H locs ls hB hl
    refine va_iast E.1 E.2.1 hB.2.2.2.2.1 hB.2.1 hB.2.2.1 hB.2.2.2.1 23 0 rfl rfl (inb_in hi) d (fun H1 locs1 hP hD hS => ?_)
    exact k (sR σ 34 i.toNatClampNeg x) h H1 locs1 ls ⟨hB.1, hP, hD, hS, hB.2.2.2.2⟩ hl
  · rw [if_neg hi] at h; cases h
theorem mald_36 (E : EV p s m args c cc nL RX6) {i : Int32} {A9 : Option ρ} (d : decode cc pc = .ok (.iaload, 1)) (h : (if inb i 6 = true then A9 else none) = some res) (hn : pc + 1 = n) (k : A9 = some res → CF p l e R s m args below meth c nL 0 0 (MB g A s σ) Q n lv (.int (gR σ 36 i.toNatClampNeg) :: st)) : CF p l e R s m args below meth c nL 0 0 (MB g A s σ) Q pc lv (.int i :: .ref (ma g 36) :: st) := by
  subst hn
  by_cases hi : inb i 6 = true
  · rw [if_pos hi] at h
    exact fun H locs ls hB hl => va_iald E.1 E.2.1 hB.2.2.2.2.1 hB.2.1 24 0 rfl rfl (inb_in hi) d (k h H locs ls hB hl)
  · rw [if_neg hi] at h; cases h
theorem mast_36 (E : EV p s m args c cc nL RX6) {i : Int32} {x : Int32} {kk : MS → Option ρ} (d : decode cc pc = .ok (.iastore, 1)) (h : (if inb i 6 = true then nx (sR σ 36 i.toNatClampNeg x) kk else none) = some res) (hn : pc + 1 = n) (k : ∀ σ1 : MS, kk σ1 = some res → CF p l e R s m args below meth c nL 0 0 (MB g A s σ1) Q n lv st) : CF p l e R s m args below meth c nL 0 0 (MB g A s σ) Q pc lv (.int x :: .int i :: .ref (ma g 36) :: st) := by
  subst hn
  by_cases hi : inb i 6 = true
  · rw [if_pos hi] at h
    intro H locs ls hB hl
    refine va_iast E.1 E.2.1 hB.2.2.2.2.1 hB.2.1 hB.2.2.1 hB.2.2.2.1 24 0 rfl rfl (inb_in hi) d (fun H1 locs1 hP hD hS => ?_)
    exact k (sR σ 36 i.toNatClampNeg x) h H1 locs1 ls ⟨hB.1, hP, hD, hS, hB.2.2.2.2⟩ hl
  · rw [if_neg hi] at h; cases h
theorem mald_37 (E : EV p s m args c cc nL RX6) {i : Int32} {A9 : Option ρ} (d : decode cc pc = .ok (.iaload, 1)) (h : (if inb i 6 = true then A9 else none) = some res) (hn : pc + 1 = n) (k : A9 = some res → CF p l e R s m args below meth c nL 0 0 (MB g A s σ) Q n lv (.int (gR σ 37 i.toNatClampNeg) :: st)) : CF p l e R s m args below meth c nL 0 0 (MB g A s σ) Q pc lv (.int i :: .ref (ma g 37) :: st) := by
  subst hn
  by_cases hi : inb i 6 = true
  · rw [if_pos hi] at h
    exact fun H locs ls hB hl => va_iald E.1 E.2.1 hB.2.2.2.2.1 hB.2.1 25 0 rfl rfl (inb_in hi) d (k h H locs ls hB hl)
  · rw [if_neg hi] at h; cases h
theorem mast_37 (E : EV p s m args c cc nL RX6) {i : Int32} {x : Int32} {kk : MS → Option ρ} (d : decode cc pc = .ok (.iastore, 1)) (h : (if inb i 6 = true then nx (sR σ 37 i.toNatClampNeg x) kk else none) = some res) (hn : pc + 1 = n) (k : ∀ σ1 : MS, kk σ1 = some res → CF p l e R s m args below meth c nL 0 0 (MB g A s σ1) Q n lv st) : CF p l e R s m args below meth c nL 0 0 (MB g A s σ) Q pc lv (.int x :: .int i :: .ref (ma g 37) :: st) := by
  subst hn
  by_cases hi : inb i 6 = true
  · rw [if_pos hi] at h
    intro H locs ls hB hl
    refine va_iast E.1 E.2.1 hB.2.2.2.2.1 hB.2.1 hB.2.2.1 hB.2.2.2.1 25 0 rfl rfl (inb_in hi) d (fun H1 locs1 hP hD hS => ?_)
    exact k (sR σ 37 i.toNatClampNeg x) h H1 locs1 ls ⟨hB.1, hP, hD, hS, hB.2.2.2.2⟩ hl
  · rw [if_neg hi] at h; cases h
theorem mald_38 (E : EV p s m args c cc nL RX6) {i : Int32} {A9 : Option ρ} (d : decode cc pc = .ok (.iaload, 1)) (h : (if inb i 6 = true then A9 else none) = some res) (hn : pc + 1 = n) (k : A9 = some res → CF p l e R s m args below meth c nL 0 0 (MB g A s σ) Q n lv (.int (gR σ 38 i.toNatClampNeg) :: st)) : CF p l e R s m args below meth c nL 0 0 (MB g A s σ) Q pc lv (.int i :: .ref (ma g 38) :: st) := by
  subst hn
  by_cases hi : inb i 6 = true
  · rw [if_pos hi] at h
    exact fun H locs ls hB hl => va_iald E.1 E.2.1 hB.2.2.2.2.1 hB.2.1 26 0 rfl rfl (inb_in hi) d (k h H locs ls hB hl)
  · rw [if_neg hi] at h; cases h
theorem mast_38 (E : EV p s m args c cc nL RX6) {i : Int32} {x : Int32} {kk : MS → Option ρ} (d : decode cc pc = .ok (.iastore, 1)) (h : (if inb i 6 = true then nx (sR σ 38 i.toNatClampNeg x) kk else none) = some res) (hn : pc + 1 = n) (k : ∀ σ1 : MS, kk σ1 = some res → CF p l e R s m args below meth c nL 0 0 (MB g A s σ1) Q n lv st) : CF p l e R s m args below meth c nL 0 0 (MB g A s σ) Q pc lv (.int x :: .int i :: .ref (ma g 38) :: st) := by
  subst hn
  by_cases hi : inb i 6 = true
  · rw [if_pos hi] at h
    intro H locs ls hB hl
    refine va_iast E.1 E.2.1 hB.2.2.2.2.1 hB.2.1 hB.2.2.1 hB.2.2.2.1 26 0 rfl rfl (inb_in hi) d (fun H1 locs1 hP hD hS => ?_)
    exact k (sR σ 38 i.toNatClampNeg x) h H1 locs1 ls ⟨hB.1, hP, hD, hS, hB.2.2.2.2⟩ hl
  · rw [if_neg hi] at h; cases h
theorem mald_39 (E : EV p s m args c cc nL RX6) {i : Int32} {A9 : Option ρ} (d : decode cc pc = .ok (.iaload, 1)) (h : (if inb i 36 = true then A9 else none) = some res) (hn : pc + 1 = n) (k : A9 = some res → CF p l e R s m args below meth c nL 0 0 (MB g A s σ) Q n lv (.int (gR σ 39 i.toNatClampNeg) :: st)) : CF p l e R s m args below meth c nL 0 0 (MB g A s σ) Q pc lv (.int i :: .ref (ma g 39) :: st) := by
  subst hn
  by_cases hi : inb i 36 = true
  · rw [if_pos hi] at h
    exact fun H locs ls hB hl => va_iald E.1 E.2.1 hB.2.2.2.2.1 hB.2.1 27 0 rfl rfl (inb_in hi) d (k h H locs ls hB hl)
  · rw [if_neg hi] at h; cases h
theorem mast_39 (E : EV p s m args c cc nL RX6) {i : Int32} {x : Int32} {kk : MS → Option ρ} (d : decode cc pc = .ok (.iastore, 1)) (h : (if inb i 36 = true then nx (sR σ 39 i.toNatClampNeg x) kk else none) = some res) (hn : pc + 1 = n) (k : ∀ σ1 : MS, kk σ1 = some res → CF p l e R s m args below meth c nL 0 0 (MB g A s σ1) Q n lv st) : CF p l e R s m args below meth c nL 0 0 (MB g A s σ) Q pc lv (.int x :: .int i :: .ref (ma g 39) :: st) := by
  subst hn
  by_cases hi : inb i 36 = true
  · rw [if_pos hi] at h
    intro H locs ls hB hl
    refine va_iast E.1 E.2.1 hB.2.2.2.2.1 hB.2.1 hB.2.2.1 hB.2.2.2.1 27 0 rfl rfl (inb_in hi) d (fun H1 locs1 hP hD hS => ?_)
    exact k (sR σ 39 i.toNatClampNeg x) h H1 locs1 ls ⟨hB.1, hP, hD, hS, hB.2.2.2.2⟩ hl
  · rw [if_neg hi] at h; cases h
theorem mald_41 (E : EV p s m args c cc nL RX6) {i : Int32} {A9 : Option ρ} (d : decode cc pc = .ok (.iaload, 1)) (h : (if inb i 448 = true then A9 else none) = some res) (hn : pc + 1 = n) (k : A9 = some res → CF p l e R s m args below meth c nL 0 0 (MB g A s σ) Q n lv (.int (gR σ 41 i.toNatClampNeg) :: st)) : CF p l e R s m args below meth c nL 0 0 (MB g A s σ) Q pc lv (.int i :: .ref (ma g 41) :: st) := by
  subst hn
  by_cases hi : inb i 448 = true
  · rw [if_pos hi] at h
    exact fun H locs ls hB hl => va_iald E.1 E.2.1 hB.2.2.2.2.1 hB.2.1 28 0 rfl rfl (inb_in hi) d (k h H locs ls hB hl)
  · rw [if_neg hi] at h; cases h
theorem mast_41 (E : EV p s m args c cc nL RX6) {i : Int32} {x : Int32} {kk : MS → Option ρ} (d : decode cc pc = .ok (.iastore, 1)) (h : (if inb i 448 = true then nx (sR σ 41 i.toNatClampNeg x) kk else none) = some res) (hn : pc + 1 = n) (k : ∀ σ1 : MS, kk σ1 = some res → CF p l e R s m args below meth c nL 0 0 (MB g A s σ1) Q n lv st) : CF p l e R s m args below meth c nL 0 0 (MB g A s σ) Q pc lv (.int x :: .int i :: .ref (ma g 41) :: st) := by
  subst hn
  by_cases hi : inb i 448 = true
  · rw [if_pos hi] at h
    intro H locs ls hB hl
    refine va_iast E.1 E.2.1 hB.2.2.2.2.1 hB.2.1 hB.2.2.1 hB.2.2.2.1 28 0 rfl rfl (inb_in hi) d (fun H1 locs1 hP hD hS => ?_)
    exact k (sR σ 41 i.toNatClampNeg x) h H1 locs1 ls ⟨hB.1, hP, hD, hS, hB.2.2.2.2⟩ hl
  · rw [if_neg hi] at h; cases h
theorem mald_42 (E : EV p s m args c cc nL RX6) {i : Int32} {A9 : Option ρ} (d : decode cc pc = .ok (.iaload, 1)) (h : (if inb i 64 = true then A9 else none) = some res) (hn : pc + 1 = n) (k : A9 = some res → CF p l e R s m args below meth c nL 0 0 (MB g A s σ) Q n lv (.int (gR σ 42 i.toNatClampNeg) :: st)) : CF p l e R s m args below meth c nL 0 0 (MB g A s σ) Q pc lv (.int i :: .ref (ma g 42) :: st) := by
  subst hn
  by_cases hi : inb i 64 = true
  · rw [if_pos hi] at h
    exact fun H locs ls hB hl => va_iald E.1 E.2.1 hB.2.2.2.2.1 hB.2.1 29 0 rfl rfl (inb_in hi) d (k h H locs ls hB hl)
  · rw [if_neg hi] at h; cases h
theorem mast_42 (E : EV p s m args c cc nL RX6) {i : Int32} {x : Int32} {kk : MS → Option ρ} (d : decode cc pc = .ok (.iastore, 1)) (h : (if inb i 64 = true then nx (sR σ 42 i.toNatClampNeg x) kk else none) = some res) (hn : pc + 1 = n) (k : ∀ σ1 : MS, kk σ1 = some res → CF p l e R s m args below meth c nL 0 0 (MB g A s σ1) Q n lv st) : CF p l e R s m args below meth c nL 0 0 (MB g A s σ) Q pc lv (.int x :: .int i :: .ref (ma g 42) :: st) := by
  subst hn
  by_cases hi : inb i 64 = true
  · rw [if_pos hi] at h
    intro H locs ls hB hl
    refine va_iast E.1 E.2.1 hB.2.2.2.2.1 hB.2.1 hB.2.2.1 hB.2.2.2.1 29 0 rfl rfl (inb_in hi) d (fun H1 locs1 hP hD hS => ?_)
    exact k (sR σ 42 i.toNatClampNeg x) h H1 locs1 ls ⟨hB.1, hP, hD, hS, hB.2.2.2.2⟩ hl
  · rw [if_neg hi] at h; cases h
theorem mald_44 (E : EV p s m args c cc nL RX6) {i : Int32} {A9 : Option ρ} (d : decode cc pc = .ok (.iaload, 1)) (h : (if inb i 6 = true then A9 else none) = some res) (hn : pc + 1 = n) (k : A9 = some res → CF p l e R s m args below meth c nL 0 0 (MB g A s σ) Q n lv (.int (gR σ 44 i.toNatClampNeg) :: st)) : CF p l e R s m args below meth c nL 0 0 (MB g A s σ) Q pc lv (.int i :: .ref (ma g 44) :: st) := by
  subst hn
  by_cases hi : inb i 6 = true
  · rw [if_pos hi] at h
    exact fun H locs ls hB hl => va_iald E.1 E.2.1 hB.2.2.2.2.1 hB.2.1 30 0 rfl rfl (inb_in hi) d (k h H locs ls hB hl)
  · rw [if_neg hi] at h; cases h
theorem mast_44 (E : EV p s m args c cc nL RX6) {i : Int32} {x : Int32} {kk : MS → Option ρ} (d : decode cc pc = .ok (.iastore, 1)) (h : (if inb i 6 = true then nx (sR σ 44 i.toNatClampNeg x) kk else none) = some res) (hn : pc + 1 = n) (k : ∀ σ1 : MS, kk σ1 = some res → CF p l e R s m args below meth c nL 0 0 (MB g A s σ1) Q n lv st) : CF p l e R s m args below meth c nL 0 0 (MB g A s σ) Q pc lv (.int x :: .int i :: .ref (ma g 44) :: st) := by
  subst hn
  by_cases hi : inb i 6 = true
  · rw [if_pos hi] at h
    intro H locs ls hB hl
    refine va_iast E.1 E.2.1 hB.2.2.2.2.1 hB.2.1 hB.2.2.1 hB.2.2.2.1 30 0 rfl rfl (inb_in hi) d (fun H1 locs1 hP hD hS => ?_)
    exact k (sR σ 44 i.toNatClampNeg x) h H1 locs1 ls ⟨hB.1, hP, hD, hS, hB.2.2.2.2⟩ hl
  · rw [if_neg hi] at h; cases h
theorem mald_45 (E : EV p s m args c cc nL RX6) {i : Int32} {A9 : Option ρ} (d : decode cc pc = .ok (.iaload, 1)) (h : (if inb i 6 = true then A9 else none) = some res) (hn : pc + 1 = n) (k : A9 = some res → CF p l e R s m args below meth c nL 0 0 (MB g A s σ) Q n lv (.int (gR σ 45 i.toNatClampNeg) :: st)) : CF p l e R s m args below meth c nL 0 0 (MB g A s σ) Q pc lv (.int i :: .ref (ma g 45) :: st) := by
  subst hn
  by_cases hi : inb i 6 = true
  · rw [if_pos hi] at h
    exact fun H locs ls hB hl => va_iald E.1 E.2.1 hB.2.2.2.2.1 hB.2.1 31 0 rfl rfl (inb_in hi) d (k h H locs ls hB hl)
  · rw [if_neg hi] at h; cases h
theorem mast_45 (E : EV p s m args c cc nL RX6) {i : Int32} {x : Int32} {kk : MS → Option ρ} (d : decode cc pc = .ok (.iastore, 1)) (h : (if inb i 6 = true then nx (sR σ 45 i.toNatClampNeg x) kk else none) = some res) (hn : pc + 1 = n) (k : ∀ σ1 : MS, kk σ1 = some res → CF p l e R s m args below meth c nL 0 0 (MB g A s σ1) Q n lv st) : CF p l e R s m args below meth c nL 0 0 (MB g A s σ) Q pc lv (.int x :: .int i :: .ref (ma g 45) :: st) := by
  subst hn
  by_cases hi : inb i 6 = true
  · rw [if_pos hi] at h
    intro H locs ls hB hl
    refine va_iast E.1 E.2.1 hB.2.2.2.2.1 hB.2.1 hB.2.2.1 hB.2.2.2.1 31 0 rfl rfl (inb_in hi) d (fun H1 locs1 hP hD hS => ?_)
    exact k (sR σ 45 i.toNatClampNeg x) h H1 locs1 ls ⟨hB.1, hP, hD, hS, hB.2.2.2.2⟩ hl
  · rw [if_neg hi] at h; cases h
theorem mald_46 (E : EV p s m args c cc nL RX6) {i : Int32} {A9 : Option ρ} (d : decode cc pc = .ok (.iaload, 1)) (h : (if inb i 64 = true then A9 else none) = some res) (hn : pc + 1 = n) (k : A9 = some res → CF p l e R s m args below meth c nL 0 0 (MB g A s σ) Q n lv (.int (gR σ 46 i.toNatClampNeg) :: st)) : CF p l e R s m args below meth c nL 0 0 (MB g A s σ) Q pc lv (.int i :: .ref (ma g 46) :: st) := by
  subst hn
  by_cases hi : inb i 64 = true
  · rw [if_pos hi] at h
    exact fun H locs ls hB hl => va_iald E.1 E.2.1 hB.2.2.2.2.1 hB.2.1 32 0 rfl rfl (inb_in hi) d (k h H locs ls hB hl)
  · rw [if_neg hi] at h; cases h
theorem mast_46 (E : EV p s m args c cc nL RX6) {i : Int32} {x : Int32} {kk : MS → Option ρ} (d : decode cc pc = .ok (.iastore, 1)) (h : (if inb i 64 = true then nx (sR σ 46 i.toNatClampNeg x) kk else none) = some res) (hn : pc + 1 = n) (k : ∀ σ1 : MS, kk σ1 = some res → CF p l e R s m args below meth c nL 0 0 (MB g A s σ1) Q n lv st) : CF p l e R s m args below meth c nL 0 0 (MB g A s σ) Q pc lv (.int x :: .int i :: .ref (ma g 46) :: st) := by
  subst hn
  by_cases hi : inb i 64 = true
  · rw [if_pos hi] at h
    intro H locs ls hB hl
    refine va_iast E.1 E.2.1 hB.2.2.2.2.1 hB.2.1 hB.2.2.1 hB.2.2.2.1 32 0 rfl rfl (inb_in hi) d (fun H1 locs1 hP hD hS => ?_)
    exact k (sR σ 46 i.toNatClampNeg x) h H1 locs1 ls ⟨hB.1, hP, hD, hS, hB.2.2.2.2⟩ hl
  · rw [if_neg hi] at h; cases h
theorem mald_48 (E : EV p s m args c cc nL RX6) {i : Int32} {A9 : Option ρ} (d : decode cc pc = .ok (.iaload, 1)) (h : (if inb i 8 = true then A9 else none) = some res) (hn : pc + 1 = n) (k : A9 = some res → CF p l e R s m args below meth c nL 0 0 (MB g A s σ) Q n lv (.int (gR σ 48 i.toNatClampNeg) :: st)) : CF p l e R s m args below meth c nL 0 0 (MB g A s σ) Q pc lv (.int i :: .ref (ma g 48) :: st) := by
  subst hn
  by_cases hi : inb i 8 = true
  · rw [if_pos hi] at h
    exact fun H locs ls hB hl => va_iald E.1 E.2.1 hB.2.2.2.2.1 hB.2.1 33 0 rfl rfl (inb_in hi) d (k h H locs ls hB hl)
  · rw [if_neg hi] at h; cases h
theorem mast_48 (E : EV p s m args c cc nL RX6) {i : Int32} {x : Int32} {kk : MS → Option ρ} (d : decode cc pc = .ok (.iastore, 1)) (h : (if inb i 8 = true then nx (sR σ 48 i.toNatClampNeg x) kk else none) = some res) (hn : pc + 1 = n) (k : ∀ σ1 : MS, kk σ1 = some res → CF p l e R s m args below meth c nL 0 0 (MB g A s σ1) Q n lv st) : CF p l e R s m args below meth c nL 0 0 (MB g A s σ) Q pc lv (.int x :: .int i :: .ref (ma g 48) :: st) := by
  subst hn
  by_cases hi : inb i 8 = true
  · rw [if_pos hi] at h
    intro H locs ls hB hl
    refine va_iast E.1 E.2.1 hB.2.2.2.2.1 hB.2.1 hB.2.2.1 hB.2.2.2.1 33 0 rfl rfl (inb_in hi) d (fun H1 locs1 hP hD hS => ?_)
    exact k (sR σ 48 i.toNatClampNeg x) h H1 locs1 ls ⟨hB.1, hP, hD, hS, hB.2.2.2.2⟩ hl
  · rw [if_neg hi] at h; cases h
theorem mald_49 (E : EV p s m args c cc nL RX6) {i : Int32} {A9 : Option ρ} (d : decode cc pc = .ok (.iaload, 1)) (h : (if inb i 8 = true then A9 else none) = some res) (hn : pc + 1 = n) (k : A9 = some res → CF p l e R s m args below meth c nL 0 0 (MB g A s σ) Q n lv (.int (gR σ 49 i.toNatClampNeg) :: st)) : CF p l e R s m args below meth c nL 0 0 (MB g A s σ) Q pc lv (.int i :: .ref (ma g 49) :: st) := by
  subst hn
  by_cases hi : inb i 8 = true
  · rw [if_pos hi] at h
    exact fun H locs ls hB hl => va_iald E.1 E.2.1 hB.2.2.2.2.1 hB.2.1 34 0 rfl rfl (inb_in hi) d (k h H locs ls hB hl)
  · rw [if_neg hi] at h; cases h
theorem mast_49 (E : EV p s m args c cc nL RX6) {i : Int32} {x : Int32} {kk : MS → Option ρ} (d : decode cc pc = .ok (.iastore, 1)) (h : (if inb i 8 = true then nx (sR σ 49 i.toNatClampNeg x) kk else none) = some res) (hn : pc + 1 = n) (k : ∀ σ1 : MS, kk σ1 = some res → CF p l e R s m args below meth c nL 0 0 (MB g A s σ1) Q n lv st) : CF p l e R s m args below meth c nL 0 0 (MB g A s σ) Q pc lv (.int x :: .int i :: .ref (ma g 49) :: st) := by
  subst hn
  by_cases hi : inb i 8 = true
  · rw [if_pos hi] at h
    intro H locs ls hB hl
    refine va_iast E.1 E.2.1 hB.2.2.2.2.1 hB.2.1 hB.2.2.1 hB.2.2.2.1 34 0 rfl rfl (inb_in hi) d (fun H1 locs1 hP hD hS => ?_)
    exact k (sR σ 49 i.toNatClampNeg x) h H1 locs1 ls ⟨hB.1, hP, hD, hS, hB.2.2.2.2⟩ hl
  · rw [if_neg hi] at h; cases h
theorem mald_57 (E : EV p s m args c cc nL RX6) {i : Int32} {A9 : Option ρ} (d : decode cc pc = .ok (.iaload, 1)) (h : (if inb i 6 = true then A9 else none) = some res) (hn : pc + 1 = n) (k : A9 = some res → CF p l e R s m args below meth c nL 0 0 (MB g A s σ) Q n lv (.int (gR σ 57 i.toNatClampNeg) :: st)) : CF p l e R s m args below meth c nL 0 0 (MB g A s σ) Q pc lv (.int i :: .ref (ma g 57) :: st) := by
  subst hn
  by_cases hi : inb i 6 = true
  · rw [if_pos hi] at h
    exact fun H locs ls hB hl => va_iald E.1 E.2.1 hB.2.2.2.2.1 hB.2.1 35 0 rfl rfl (inb_in hi) d (k h H locs ls hB hl)
  · rw [if_neg hi] at h; cases h
theorem mast_57 (E : EV p s m args c cc nL RX6) {i : Int32} {x : Int32} {kk : MS → Option ρ} (d : decode cc pc = .ok (.iastore, 1)) (h : (if inb i 6 = true then nx (sR σ 57 i.toNatClampNeg x) kk else none) = some res) (hn : pc + 1 = n) (k : ∀ σ1 : MS, kk σ1 = some res → CF p l e R s m args below meth c nL 0 0 (MB g A s σ1) Q n lv st) : CF p l e R s m args below meth c nL 0 0 (MB g A s σ) Q pc lv (.int x :: .int i :: .ref (ma g 57) :: st) := by
  subst hn
  by_cases hi : inb i 6 = true
  · rw [if_pos hi] at h
    intro H locs ls hB hl
    refine va_iast E.1 E.2.1 hB.2.2.2.2.1 hB.2.1 hB.2.2.1 hB.2.2.2.1 35 0 rfl rfl (inb_in hi) d (fun H1 locs1 hP hD hS => ?_)
    exact k (sR σ 57 i.toNatClampNeg x) h H1 locs1 ls ⟨hB.1, hP, hD, hS, hB.2.2.2.2⟩ hl
  · rw [if_neg hi] at h; cases h
theorem mald_58 (E : EV p s m args c cc nL RX6) {i : Int32} {A9 : Option ρ} (d : decode cc pc = .ok (.iaload, 1)) (h : (if inb i 6 = true then A9 else none) = some res) (hn : pc + 1 = n) (k : A9 = some res → CF p l e R s m args below meth c nL 0 0 (MB g A s σ) Q n lv (.int (gR σ 58 i.toNatClampNeg) :: st)) : CF p l e R s m args below meth c nL 0 0 (MB g A s σ) Q pc lv (.int i :: .ref (ma g 58) :: st) := by
  subst hn
  by_cases hi : inb i 6 = true
  · rw [if_pos hi] at h
    exact fun H locs ls hB hl => va_iald E.1 E.2.1 hB.2.2.2.2.1 hB.2.1 36 0 rfl rfl (inb_in hi) d (k h H locs ls hB hl)
  · rw [if_neg hi] at h; cases h
theorem mast_58 (E : EV p s m args c cc nL RX6) {i : Int32} {x : Int32} {kk : MS → Option ρ} (d : decode cc pc = .ok (.iastore, 1)) (h : (if inb i 6 = true then nx (sR σ 58 i.toNatClampNeg x) kk else none) = some res) (hn : pc + 1 = n) (k : ∀ σ1 : MS, kk σ1 = some res → CF p l e R s m args below meth c nL 0 0 (MB g A s σ1) Q n lv st) : CF p l e R s m args below meth c nL 0 0 (MB g A s σ) Q pc lv (.int x :: .int i :: .ref (ma g 58) :: st) := by
  subst hn
  by_cases hi : inb i 6 = true
  · rw [if_pos hi] at h
    intro H locs ls hB hl
    refine va_iast E.1 E.2.1 hB.2.2.2.2.1 hB.2.1 hB.2.2.1 hB.2.2.2.1 36 0 rfl rfl (inb_in hi) d (fun H1 locs1 hP hD hS => ?_)
    exact k (sR σ 58 i.toNatClampNeg x) h H1 locs1 ls ⟨hB.1, hP, hD, hS, hB.2.2.2.2⟩ hl
  · rw [if_neg hi] at h; cases h
theorem mald_59 (E : EV p s m args c cc nL RX6) {i : Int32} {A9 : Option ρ} (d : decode cc pc = .ok (.iaload, 1)) (h : (if inb i 6 = true then A9 else none) = some res) (hn : pc + 1 = n) (k : A9 = some res → CF p l e R s m args below meth c nL 0 0 (MB g A s σ) Q n lv (.int (gR σ 59 i.toNatClampNeg) :: st)) : CF p l e R s m args below meth c nL 0 0 (MB g A s σ) Q pc lv (.int i :: .ref (ma g 59) :: st) := by
  subst hn
  by_cases hi : inb i 6 = true
  · rw [if_pos hi] at h
    exact fun H locs ls hB hl => va_iald E.1 E.2.1 hB.2.2.2.2.1 hB.2.1 37 0 rfl rfl (inb_in hi) d (k h H locs ls hB hl)
  · rw [if_neg hi] at h; cases h
theorem mast_59 (E : EV p s m args c cc nL RX6) {i : Int32} {x : Int32} {kk : MS → Option ρ} (d : decode cc pc = .ok (.iastore, 1)) (h : (if inb i 6 = true then nx (sR σ 59 i.toNatClampNeg x) kk else none) = some res) (hn : pc + 1 = n) (k : ∀ σ1 : MS, kk σ1 = some res → CF p l e R s m args below meth c nL 0 0 (MB g A s σ1) Q n lv st) : CF p l e R s m args below meth c nL 0 0 (MB g A s σ) Q pc lv (.int x :: .int i :: .ref (ma g 59) :: st) := by
  subst hn
  by_cases hi : inb i 6 = true
  · rw [if_pos hi] at h
    intro H locs ls hB hl
    refine va_iast E.1 E.2.1 hB.2.2.2.2.1 hB.2.1 hB.2.2.1 hB.2.2.2.1 37 0 rfl rfl (inb_in hi) d (fun H1 locs1 hP hD hS => ?_)
    exact k (sR σ 59 i.toNatClampNeg x) h H1 locs1 ls ⟨hB.1, hP, hD, hS, hB.2.2.2.2⟩ hl
  · rw [if_neg hi] at h; cases h
theorem mald_60 (E : EV p s m args c cc nL RX6) {i : Int32} {A9 : Option ρ} (d : decode cc pc = .ok (.iaload, 1)) (h : (if inb i 6 = true then A9 else none) = some res) (hn : pc + 1 = n) (k : A9 = some res → CF p l e R s m args below meth c nL 0 0 (MB g A s σ) Q n lv (.int (gR σ 60 i.toNatClampNeg) :: st)) : CF p l e R s m args below meth c nL 0 0 (MB g A s σ) Q pc lv (.int i :: .ref (ma g 60) :: st) := by
  subst hn
  by_cases hi : inb i 6 = true
  · rw [if_pos hi] at h
    exact fun H locs ls hB hl => va_iald E.1 E.2.1 hB.2.2.2.2.1 hB.2.1 38 0 rfl rfl (inb_in hi) d (k h H locs ls hB hl)
  · rw [if_neg hi] at h; cases h
theorem mast_60 (E : EV p s m args c cc nL RX6) {i : Int32} {x : Int32} {kk : MS → Option ρ} (d : decode cc pc = .ok (.iastore, 1)) (h : (if inb i 6 = true then nx (sR σ 60 i.toNatClampNeg x) kk else none) = some res) (hn : pc + 1 = n) (k : ∀ σ1 : MS, kk σ1 = some res → CF p l e R s m args below meth c nL 0 0 (MB g A s σ1) Q n lv st) : CF p l e R s m args below meth c nL 0 0 (MB g A s σ) Q pc lv (.int x :: .int i :: .ref (ma g 60) :: st) := by
  subst hn
  by_cases hi : inb i 6 = true
  · rw [if_pos hi] at h
    intro H locs ls hB hl
    refine va_iast E.1 E.2.1 hB.2.2.2.2.1 hB.2.1 hB.2.2.1 hB.2.2.2.1 38 0 rfl rfl (inb_in hi) d (fun H1 locs1 hP hD hS => ?_)
    exact k (sR σ 60 i.toNatClampNeg x) h H1 locs1 ls ⟨hB.1, hP, hD, hS, hB.2.2.2.2⟩ hl
  · rw [if_neg hi] at h; cases h
theorem mald_61 (E : EV p s m args c cc nL RX6) {i : Int32} {A9 : Option ρ} (d : decode cc pc = .ok (.iaload, 1)) (h : (if inb i 6 = true then A9 else none) = some res) (hn : pc + 1 = n) (k : A9 = some res → CF p l e R s m args below meth c nL 0 0 (MB g A s σ) Q n lv (.int (gR σ 61 i.toNatClampNeg) :: st)) : CF p l e R s m args below meth c nL 0 0 (MB g A s σ) Q pc lv (.int i :: .ref (ma g 61) :: st) := by
  subst hn
  by_cases hi : inb i 6 = true
  · rw [if_pos hi] at h
    exact fun H locs ls hB hl => va_iald E.1 E.2.1 hB.2.2.2.2.1 hB.2.1 39 0 rfl rfl (inb_in hi) d (k h H locs ls hB hl)
  · rw [if_neg hi] at h; cases h
theorem mast_61 (E : EV p s m args c cc nL RX6) {i : Int32} {x : Int32} {kk : MS → Option ρ} (d : decode cc pc = .ok (.iastore, 1)) (h : (if inb i 6 = true then nx (sR σ 61 i.toNatClampNeg x) kk else none) = some res) (hn : pc + 1 = n) (k : ∀ σ1 : MS, kk σ1 = some res → CF p l e R s m args below meth c nL 0 0 (MB g A s σ1) Q n lv st) : CF p l e R s m args below meth c nL 0 0 (MB g A s σ) Q pc lv (.int x :: .int i :: .ref (ma g 61) :: st) := by
  subst hn
  by_cases hi : inb i 6 = true
  · rw [if_pos hi] at h
    intro H locs ls hB hl
    refine va_iast E.1 E.2.1 hB.2.2.2.2.1 hB.2.1 hB.2.2.1 hB.2.2.2.1 39 0 rfl rfl (inb_in hi) d (fun H1 locs1 hP hD hS => ?_)
    exact k (sR σ 61 i.toNatClampNeg x) h H1 locs1 ls ⟨hB.1, hP, hD, hS, hB.2.2.2.2⟩ hl
  · rw [if_neg hi] at h; cases h
theorem mald_62 (E : EV p s m args c cc nL RX6) {i : Int32} {A9 : Option ρ} (d : decode cc pc = .ok (.iaload, 1)) (h : (if inb i 6 = true then A9 else none) = some res) (hn : pc + 1 = n) (k : A9 = some res → CF p l e R s m args below meth c nL 0 0 (MB g A s σ) Q n lv (.int (gR σ 62 i.toNatClampNeg) :: st)) : CF p l e R s m args below meth c nL 0 0 (MB g A s σ) Q pc lv (.int i :: .ref (ma g 62) :: st) := by
  subst hn
  by_cases hi : inb i 6 = true
  · rw [if_pos hi] at h
    exact fun H locs ls hB hl => va_iald E.1 E.2.1 hB.2.2.2.2.1 hB.2.1 40 0 rfl rfl (inb_in hi) d (k h H locs ls hB hl)
  · rw [if_neg hi] at h; cases h
theorem mast_62 (E : EV p s m args c cc nL RX6) {i : Int32} {x : Int32} {kk : MS → Option ρ} (d : decode cc pc = .ok (.iastore, 1)) (h : (if inb i 6 = true then nx (sR σ 62 i.toNatClampNeg x) kk else none) = some res) (hn : pc + 1 = n) (k : ∀ σ1 : MS, kk σ1 = some res → CF p l e R s m args below meth c nL 0 0 (MB g A s σ1) Q n lv st) : CF p l e R s m args below meth c nL 0 0 (MB g A s σ) Q pc lv (.int x :: .int i :: .ref (ma g 62) :: st) := by
  subst hn
  by_cases hi : inb i 6 = true
  · rw [if_pos hi] at h
    intro H locs ls hB hl
    refine va_iast E.1 E.2.1 hB.2.2.2.2.1 hB.2.1 hB.2.2.1 hB.2.2.2.1 40 0 rfl rfl (inb_in hi) d (fun H1 locs1 hP hD hS => ?_)
    exact k (sR σ 62 i.toNatClampNeg x) h H1 locs1 ls ⟨hB.1, hP, hD, hS, hB.2.2.2.2⟩ hl
  · rw [if_neg hi] at h; cases h
theorem mald_63 (E : EV p s m args c cc nL RX6) {i : Int32} {A9 : Option ρ} (d : decode cc pc = .ok (.iaload, 1)) (h : (if inb i 6 = true then A9 else none) = some res) (hn : pc + 1 = n) (k : A9 = some res → CF p l e R s m args below meth c nL 0 0 (MB g A s σ) Q n lv (.int (gR σ 63 i.toNatClampNeg) :: st)) : CF p l e R s m args below meth c nL 0 0 (MB g A s σ) Q pc lv (.int i :: .ref (ma g 63) :: st) := by
  subst hn
  by_cases hi : inb i 6 = true
  · rw [if_pos hi] at h
    exact fun H locs ls hB hl => va_iald E.1 E.2.1 hB.2.2.2.2.1 hB.2.1 41 0 rfl rfl (inb_in hi) d (k h H locs ls hB hl)
  · rw [if_neg hi] at h; cases h
theorem mast_63 (E : EV p s m args c cc nL RX6) {i : Int32} {x : Int32} {kk : MS → Option ρ} (d : decode cc pc = .ok (.iastore, 1)) (h : (if inb i 6 = true then nx (sR σ 63 i.toNatClampNeg x) kk else none) = some res) (hn : pc + 1 = n) (k : ∀ σ1 : MS, kk σ1 = some res → CF p l e R s m args below meth c nL 0 0 (MB g A s σ1) Q n lv st) : CF p l e R s m args below meth c nL 0 0 (MB g A s σ) Q pc lv (.int x :: .int i :: .ref (ma g 63) :: st) := by
  subst hn
  by_cases hi : inb i 6 = true
  · rw [if_pos hi] at h
    intro H locs ls hB hl
    refine va_iast E.1 E.2.1 hB.2.2.2.2.1 hB.2.1 hB.2.2.1 hB.2.2.2.1 41 0 rfl rfl (inb_in hi) d (fun H1 locs1 hP hD hS => ?_)
    exact k (sR σ 63 i.toNatClampNeg x) h H1 locs1 ls ⟨hB.1, hP, hD, hS, hB.2.2.2.2⟩ hl
  · rw [if_neg hi] at h; cases h
theorem mald_64 (E : EV p s m args c cc nL RX6) {i : Int32} {A9 : Option ρ} (d : decode cc pc = .ok (.iaload, 1)) (h : (if inb i 6 = true then A9 else none) = some res) (hn : pc + 1 = n) (k : A9 = some res → CF p l e R s m args below meth c nL 0 0 (MB g A s σ) Q n lv (.int (gR σ 64 i.toNatClampNeg) :: st)) : CF p l e R s m args below meth c nL 0 0 (MB g A s σ) Q pc lv (.int i :: .ref (ma g 64) :: st) := by
  subst hn
  by_cases hi : inb i 6 = true
  · rw [if_pos hi] at h
    exact fun H locs ls hB hl => va_iald E.1 E.2.1 hB.2.2.2.2.1 hB.2.1 42 0 rfl rfl (inb_in hi) d (k h H locs ls hB hl)
  · rw [if_neg hi] at h; cases h
theorem mast_64 (E : EV p s m args c cc nL RX6) {i : Int32} {x : Int32} {kk : MS → Option ρ} (d : decode cc pc = .ok (.iastore, 1)) (h : (if inb i 6 = true then nx (sR σ 64 i.toNatClampNeg x) kk else none) = some res) (hn : pc + 1 = n) (k : ∀ σ1 : MS, kk σ1 = some res → CF p l e R s m args below meth c nL 0 0 (MB g A s σ1) Q n lv st) : CF p l e R s m args below meth c nL 0 0 (MB g A s σ) Q pc lv (.int x :: .int i :: .ref (ma g 64) :: st) := by
  subst hn
  by_cases hi : inb i 6 = true
  · rw [if_pos hi] at h
    intro H locs ls hB hl
    refine va_iast E.1 E.2.1 hB.2.2.2.2.1 hB.2.1 hB.2.2.1 hB.2.2.2.1 42 0 rfl rfl (inb_in hi) d (fun H1 locs1 hP hD hS => ?_)
    exact k (sR σ 64 i.toNatClampNeg x) h H1 locs1 ls ⟨hB.1, hP, hD, hS, hB.2.2.2.2⟩ hl
  · rw [if_neg hi] at h; cases h
theorem mald_65 (E : EV p s m args c cc nL RX6) {i : Int32} {A9 : Option ρ} (d : decode cc pc = .ok (.iaload, 1)) (h : (if inb i 6 = true then A9 else none) = some res) (hn : pc + 1 = n) (k : A9 = some res → CF p l e R s m args below meth c nL 0 0 (MB g A s σ) Q n lv (.int (gR σ 65 i.toNatClampNeg) :: st)) : CF p l e R s m args below meth c nL 0 0 (MB g A s σ) Q pc lv (.int i :: .ref (ma g 65) :: st) := by
  subst hn
  by_cases hi : inb i 6 = true
  · rw [if_pos hi] at h
    exact fun H locs ls hB hl => va_iald E.1 E.2.1 hB.2.2.2.2.1 hB.2.1 43 0 rfl rfl (inb_in hi) d (k h H locs ls hB hl)
  · rw [if_neg hi] at h; cases h
theorem mast_65 (E : EV p s m args c cc nL RX6) {i : Int32} {x : Int32} {kk : MS → Option ρ} (d : decode cc pc = .ok (.iastore, 1)) (h : (if inb i 6 = true then nx (sR σ 65 i.toNatClampNeg x) kk else none) = some res) (hn : pc + 1 = n) (k : ∀ σ1 : MS, kk σ1 = some res → CF p l e R s m args below meth c nL 0 0 (MB g A s σ1) Q n lv st) : CF p l e R s m args below meth c nL 0 0 (MB g A s σ) Q pc lv (.int x :: .int i :: .ref (ma g 65) :: st) := by
  subst hn
  by_cases hi : inb i 6 = true
  · rw [if_pos hi] at h
    intro H locs ls hB hl
    refine va_iast E.1 E.2.1 hB.2.2.2.2.1 hB.2.1 hB.2.2.1 hB.2.2.2.1 43 0 rfl rfl (inb_in hi) d (fun H1 locs1 hP hD hS => ?_)
    exact k (sR σ 65 i.toNatClampNeg x) h H1 locs1 ls ⟨hB.1, hP, hD, hS, hB.2.2.2.2⟩ hl
  · rw [if_neg hi] at h; cases h
theorem mald_66 (E : EV p s m args c cc nL RX6) {i : Int32} {A9 : Option ρ} (d : decode cc pc = .ok (.iaload, 1)) (h : (if inb i 24 = true then A9 else none) = some res) (hn : pc + 1 = n) (k : A9 = some res → CF p l e R s m args below meth c nL 0 0 (MB g A s σ) Q n lv (.int (gR σ 66 i.toNatClampNeg) :: st)) : CF p l e R s m args below meth c nL 0 0 (MB g A s σ) Q pc lv (.int i :: .ref (ma g 66) :: st) := by
  subst hn
  by_cases hi : inb i 24 = true
  · rw [if_pos hi] at h
    exact fun H locs ls hB hl => va_iald E.1 E.2.1 hB.2.2.2.2.1 hB.2.1 44 0 rfl rfl (inb_in hi) d (k h H locs ls hB hl)
  · rw [if_neg hi] at h; cases h
theorem mast_66 (E : EV p s m args c cc nL RX6) {i : Int32} {x : Int32} {kk : MS → Option ρ} (d : decode cc pc = .ok (.iastore, 1)) (h : (if inb i 24 = true then nx (sR σ 66 i.toNatClampNeg x) kk else none) = some res) (hn : pc + 1 = n) (k : ∀ σ1 : MS, kk σ1 = some res → CF p l e R s m args below meth c nL 0 0 (MB g A s σ1) Q n lv st) : CF p l e R s m args below meth c nL 0 0 (MB g A s σ) Q pc lv (.int x :: .int i :: .ref (ma g 66) :: st) := by
  subst hn
  by_cases hi : inb i 24 = true
  · rw [if_pos hi] at h
    intro H locs ls hB hl
    refine va_iast E.1 E.2.1 hB.2.2.2.2.1 hB.2.1 hB.2.2.1 hB.2.2.2.1 44 0 rfl rfl (inb_in hi) d (fun H1 locs1 hP hD hS => ?_)
    exact k (sR σ 66 i.toNatClampNeg x) h H1 locs1 ls ⟨hB.1, hP, hD, hS, hB.2.2.2.2⟩ hl
  · rw [if_neg hi] at h; cases h
theorem mald_67 (E : EV p s m args c cc nL RX6) {i : Int32} {A9 : Option ρ} (d : decode cc pc = .ok (.iaload, 1)) (h : (if inb i 5 = true then A9 else none) = some res) (hn : pc + 1 = n) (k : A9 = some res → CF p l e R s m args below meth c nL 0 0 (MB g A s σ) Q n lv (.int (gR σ 67 i.toNatClampNeg) :: st)) : CF p l e R s m args below meth c nL 0 0 (MB g A s σ) Q pc lv (.int i :: .ref (ma g 67) :: st) := by
  subst hn
  by_cases hi : inb i 5 = true
  · rw [if_pos hi] at h
    exact fun H locs ls hB hl => va_iald E.1 E.2.1 hB.2.2.2.2.1 hB.2.1 45 0 rfl rfl (inb_in hi) d (k h H locs ls hB hl)
  · rw [if_neg hi] at h; cases h
theorem mast_67 (E : EV p s m args c cc nL RX6) {i : Int32} {x : Int32} {kk : MS → Option ρ} (d : decode cc pc = .ok (.iastore, 1)) (h : (if inb i 5 = true then nx (sR σ 67 i.toNatClampNeg x) kk else none) = some res) (hn : pc + 1 = n) (k : ∀ σ1 : MS, kk σ1 = some res → CF p l e R s m args below meth c nL 0 0 (MB g A s σ1) Q n lv st) : CF p l e R s m args below meth c nL 0 0 (MB g A s σ) Q pc lv (.int x :: .int i :: .ref (ma g 67) :: st) := by
  subst hn
  by_cases hi : inb i 5 = true
  · rw [if_pos hi] at h
    intro H locs ls hB hl
    refine va_iast E.1 E.2.1 hB.2.2.2.2.1 hB.2.1 hB.2.2.1 hB.2.2.2.1 45 0 rfl rfl (inb_in hi) d (fun H1 locs1 hP hD hS => ?_)
    exact k (sR σ 67 i.toNatClampNeg x) h H1 locs1 ls ⟨hB.1, hP, hD, hS, hB.2.2.2.2⟩ hl
  · rw [if_neg hi] at h; cases h
theorem mald_68 (E : EV p s m args c cc nL RX6) {i : Int32} {A9 : Option ρ} (d : decode cc pc = .ok (.iaload, 1)) (h : (if inb i 6 = true then A9 else none) = some res) (hn : pc + 1 = n) (k : A9 = some res → CF p l e R s m args below meth c nL 0 0 (MB g A s σ) Q n lv (.int (gR σ 68 i.toNatClampNeg) :: st)) : CF p l e R s m args below meth c nL 0 0 (MB g A s σ) Q pc lv (.int i :: .ref (ma g 68) :: st) := by
  subst hn
  by_cases hi : inb i 6 = true
  · rw [if_pos hi] at h
    exact fun H locs ls hB hl => va_iald E.1 E.2.1 hB.2.2.2.2.1 hB.2.1 46 0 rfl rfl (inb_in hi) d (k h H locs ls hB hl)
  · rw [if_neg hi] at h; cases h
theorem mast_68 (E : EV p s m args c cc nL RX6) {i : Int32} {x : Int32} {kk : MS → Option ρ} (d : decode cc pc = .ok (.iastore, 1)) (h : (if inb i 6 = true then nx (sR σ 68 i.toNatClampNeg x) kk else none) = some res) (hn : pc + 1 = n) (k : ∀ σ1 : MS, kk σ1 = some res → CF p l e R s m args below meth c nL 0 0 (MB g A s σ1) Q n lv st) : CF p l e R s m args below meth c nL 0 0 (MB g A s σ) Q pc lv (.int x :: .int i :: .ref (ma g 68) :: st) := by
  subst hn
  by_cases hi : inb i 6 = true
  · rw [if_pos hi] at h
    intro H locs ls hB hl
    refine va_iast E.1 E.2.1 hB.2.2.2.2.1 hB.2.1 hB.2.2.1 hB.2.2.2.1 46 0 rfl rfl (inb_in hi) d (fun H1 locs1 hP hD hS => ?_)
    exact k (sR σ 68 i.toNatClampNeg x) h H1 locs1 ls ⟨hB.1, hP, hD, hS, hB.2.2.2.2⟩ hl
  · rw [if_neg hi] at h; cases h
theorem mald_69 (E : EV p s m args c cc nL RX6) {i : Int32} {A9 : Option ρ} (d : decode cc pc = .ok (.iaload, 1)) (h : (if inb i 6 = true then A9 else none) = some res) (hn : pc + 1 = n) (k : A9 = some res → CF p l e R s m args below meth c nL 0 0 (MB g A s σ) Q n lv (.int (gR σ 69 i.toNatClampNeg) :: st)) : CF p l e R s m args below meth c nL 0 0 (MB g A s σ) Q pc lv (.int i :: .ref (ma g 69) :: st) := by
  subst hn
  by_cases hi : inb i 6 = true
  · rw [if_pos hi] at h
    exact fun H locs ls hB hl => va_iald E.1 E.2.1 hB.2.2.2.2.1 hB.2.1 47 0 rfl rfl (inb_in hi) d (k h H locs ls hB hl)
  · rw [if_neg hi] at h; cases h
theorem mast_69 (E : EV p s m args c cc nL RX6) {i : Int32} {x : Int32} {kk : MS → Option ρ} (d : decode cc pc = .ok (.iastore, 1)) (h : (if inb i 6 = true then nx (sR σ 69 i.toNatClampNeg x) kk else none) = some res) (hn : pc + 1 = n) (k : ∀ σ1 : MS, kk σ1 = some res → CF p l e R s m args below meth c nL 0 0 (MB g A s σ1) Q n lv st) : CF p l e R s m args below meth c nL 0 0 (MB g A s σ) Q pc lv (.int x :: .int i :: .ref (ma g 69) :: st) := by
  subst hn
  by_cases hi : inb i 6 = true
  · rw [if_pos hi] at h
    intro H locs ls hB hl
    refine va_iast E.1 E.2.1 hB.2.2.2.2.1 hB.2.1 hB.2.2.1 hB.2.2.2.1 47 0 rfl rfl (inb_in hi) d (fun H1 locs1 hP hD hS => ?_)
    exact k (sR σ 69 i.toNatClampNeg x) h H1 locs1 ls ⟨hB.1, hP, hD, hS, hB.2.2.2.2⟩ hl
  · rw [if_neg hi] at h; cases h
theorem mald_70 (E : EV p s m args c cc nL RX6) {i : Int32} {A9 : Option ρ} (d : decode cc pc = .ok (.iaload, 1)) (h : (if inb i 8 = true then A9 else none) = some res) (hn : pc + 1 = n) (k : A9 = some res → CF p l e R s m args below meth c nL 0 0 (MB g A s σ) Q n lv (.int (gR σ 70 i.toNatClampNeg) :: st)) : CF p l e R s m args below meth c nL 0 0 (MB g A s σ) Q pc lv (.int i :: .ref (ma g 70) :: st) := by
  subst hn
  by_cases hi : inb i 8 = true
  · rw [if_pos hi] at h
    exact fun H locs ls hB hl => va_iald E.1 E.2.1 hB.2.2.2.2.1 hB.2.1 48 0 rfl rfl (inb_in hi) d (k h H locs ls hB hl)
  · rw [if_neg hi] at h; cases h
theorem mast_70 (E : EV p s m args c cc nL RX6) {i : Int32} {x : Int32} {kk : MS → Option ρ} (d : decode cc pc = .ok (.iastore, 1)) (h : (if inb i 8 = true then nx (sR σ 70 i.toNatClampNeg x) kk else none) = some res) (hn : pc + 1 = n) (k : ∀ σ1 : MS, kk σ1 = some res → CF p l e R s m args below meth c nL 0 0 (MB g A s σ1) Q n lv st) : CF p l e R s m args below meth c nL 0 0 (MB g A s σ) Q pc lv (.int x :: .int i :: .ref (ma g 70) :: st) := by
  subst hn
  by_cases hi : inb i 8 = true
  · rw [if_pos hi] at h
    intro H locs ls hB hl
    refine va_iast E.1 E.2.1 hB.2.2.2.2.1 hB.2.1 hB.2.2.1 hB.2.2.2.1 48 0 rfl rfl (inb_in hi) d (fun H1 locs1 hP hD hS => ?_)
    exact k (sR σ 70 i.toNatClampNeg x) h H1 locs1 ls ⟨hB.1, hP, hD, hS, hB.2.2.2.2⟩ hl
  · rw [if_neg hi] at h; cases h
theorem mald_71 (E : EV p s m args c cc nL RX6) {i : Int32} {A9 : Option ρ} (d : decode cc pc = .ok (.iaload, 1)) (h : (if inb i 8 = true then A9 else none) = some res) (hn : pc + 1 = n) (k : A9 = some res → CF p l e R s m args below meth c nL 0 0 (MB g A s σ) Q n lv (.int (gR σ 71 i.toNatClampNeg) :: st)) : CF p l e R s m args below meth c nL 0 0 (MB g A s σ) Q pc lv (.int i :: .ref (ma g 71) :: st) := by
  subst hn
  by_cases hi : inb i 8 = true
  · rw [if_pos hi] at h
    exact fun H locs ls hB hl => va_iald E.1 E.2.1 hB.2.2.2.2.1 hB.2.1 49 0 rfl rfl (inb_in hi) d (k h H locs ls hB hl)
  · rw [if_neg hi] at h; cases h
theorem mast_71 (E : EV p s m args c cc nL RX6) {i : Int32} {x : Int32} {kk : MS → Option ρ} (d : decode cc pc = .ok (.iastore, 1)) (h : (if inb i 8 = true then nx (sR σ 71 i.toNatClampNeg x) kk else none) = some res) (hn : pc + 1 = n) (k : ∀ σ1 : MS, kk σ1 = some res → CF p l e R s m args below meth c nL 0 0 (MB g A s σ1) Q n lv st) : CF p l e R s m args below meth c nL 0 0 (MB g A s σ) Q pc lv (.int x :: .int i :: .ref (ma g 71) :: st) := by
  subst hn
  by_cases hi : inb i 8 = true
  · rw [if_pos hi] at h
    intro H locs ls hB hl
    refine va_iast E.1 E.2.1 hB.2.2.2.2.1 hB.2.1 hB.2.2.1 hB.2.2.2.1 49 0 rfl rfl (inb_in hi) d (fun H1 locs1 hP hD hS => ?_)
    exact k (sR σ 71 i.toNatClampNeg x) h H1 locs1 ls ⟨hB.1, hP, hD, hS, hB.2.2.2.2⟩ hl
  · rw [if_neg hi] at h; cases h
theorem mald_73 (E : EV p s m args c cc nL RX6) {i : Int32} {A9 : Option ρ} (d : decode cc pc = .ok (.iaload, 1)) (h : (if inb i 20 = true then A9 else none) = some res) (hn : pc + 1 = n) (k : A9 = some res → CF p l e R s m args below meth c nL 0 0 (MB g A s σ) Q n lv (.int (gR σ 73 i.toNatClampNeg) :: st)) : CF p l e R s m args below meth c nL 0 0 (MB g A s σ) Q pc lv (.int i :: .ref (ma g 73) :: st) := by
  subst hn
  by_cases hi : inb i 20 = true
  · rw [if_pos hi] at h
    exact fun H locs ls hB hl => va_iald E.1 E.2.1 hB.2.2.2.2.1 hB.2.1 50 0 rfl rfl (inb_in hi) d (k h H locs ls hB hl)
  · rw [if_neg hi] at h; cases h
theorem mast_73 (E : EV p s m args c cc nL RX6) {i : Int32} {x : Int32} {kk : MS → Option ρ} (d : decode cc pc = .ok (.iastore, 1)) (h : (if inb i 20 = true then nx (sR σ 73 i.toNatClampNeg x) kk else none) = some res) (hn : pc + 1 = n) (k : ∀ σ1 : MS, kk σ1 = some res → CF p l e R s m args below meth c nL 0 0 (MB g A s σ1) Q n lv st) : CF p l e R s m args below meth c nL 0 0 (MB g A s σ) Q pc lv (.int x :: .int i :: .ref (ma g 73) :: st) := by
  subst hn
  by_cases hi : inb i 20 = true
  · rw [if_pos hi] at h
    intro H locs ls hB hl
    refine va_iast E.1 E.2.1 hB.2.2.2.2.1 hB.2.1 hB.2.2.1 hB.2.2.2.1 50 0 rfl rfl (inb_in hi) d (fun H1 locs1 hP hD hS => ?_)
    exact k (sR σ 73 i.toNatClampNeg x) h H1 locs1 ls ⟨hB.1, hP, hD, hS, hB.2.2.2.2⟩ hl
  · rw [if_neg hi] at h; cases h
theorem mald_74 (E : EV p s m args c cc nL RX6) {i : Int32} {A9 : Option ρ} (d : decode cc pc = .ok (.iaload, 1)) (h : (if inb i 6 = true then A9 else none) = some res) (hn : pc + 1 = n) (k : A9 = some res → CF p l e R s m args below meth c nL 0 0 (MB g A s σ) Q n lv (.int (gR σ 74 i.toNatClampNeg) :: st)) : CF p l e R s m args below meth c nL 0 0 (MB g A s σ) Q pc lv (.int i :: .ref (ma g 74) :: st) := by
  subst hn
  by_cases hi : inb i 6 = true
  · rw [if_pos hi] at h
    exact fun H locs ls hB hl => va_iald E.1 E.2.1 hB.2.2.2.2.1 hB.2.1 51 0 rfl rfl (inb_in hi) d (k h H locs ls hB hl)
  · rw [if_neg hi] at h; cases h
theorem mast_74 (E : EV p s m args c cc nL RX6) {i : Int32} {x : Int32} {kk : MS → Option ρ} (d : decode cc pc = .ok (.iastore, 1)) (h : (if inb i 6 = true then nx (sR σ 74 i.toNatClampNeg x) kk else none) = some res) (hn : pc + 1 = n) (k : ∀ σ1 : MS, kk σ1 = some res → CF p l e R s m args below meth c nL 0 0 (MB g A s σ1) Q n lv st) : CF p l e R s m args below meth c nL 0 0 (MB g A s σ) Q pc lv (.int x :: .int i :: .ref (ma g 74) :: st) := by
  subst hn
  by_cases hi : inb i 6 = true
  · rw [if_pos hi] at h
    intro H locs ls hB hl
    refine va_iast E.1 E.2.1 hB.2.2.2.2.1 hB.2.1 hB.2.2.1 hB.2.2.2.1 51 0 rfl rfl (inb_in hi) d (fun H1 locs1 hP hD hS => ?_)
    exact k (sR σ 74 i.toNatClampNeg x) h H1 locs1 ls ⟨hB.1, hP, hD, hS, hB.2.2.2.2⟩ hl
  · rw [if_neg hi] at h; cases h
theorem mald_75 (E : EV p s m args c cc nL RX6) {i : Int32} {A9 : Option ρ} (d : decode cc pc = .ok (.iaload, 1)) (h : (if inb i 6 = true then A9 else none) = some res) (hn : pc + 1 = n) (k : A9 = some res → CF p l e R s m args below meth c nL 0 0 (MB g A s σ) Q n lv (.int (gR σ 75 i.toNatClampNeg) :: st)) : CF p l e R s m args below meth c nL 0 0 (MB g A s σ) Q pc lv (.int i :: .ref (ma g 75) :: st) := by
  subst hn
  by_cases hi : inb i 6 = true
  · rw [if_pos hi] at h
    exact fun H locs ls hB hl => va_iald E.1 E.2.1 hB.2.2.2.2.1 hB.2.1 52 0 rfl rfl (inb_in hi) d (k h H locs ls hB hl)
  · rw [if_neg hi] at h; cases h
theorem mast_75 (E : EV p s m args c cc nL RX6) {i : Int32} {x : Int32} {kk : MS → Option ρ} (d : decode cc pc = .ok (.iastore, 1)) (h : (if inb i 6 = true then nx (sR σ 75 i.toNatClampNeg x) kk else none) = some res) (hn : pc + 1 = n) (k : ∀ σ1 : MS, kk σ1 = some res → CF p l e R s m args below meth c nL 0 0 (MB g A s σ1) Q n lv st) : CF p l e R s m args below meth c nL 0 0 (MB g A s σ) Q pc lv (.int x :: .int i :: .ref (ma g 75) :: st) := by
  subst hn
  by_cases hi : inb i 6 = true
  · rw [if_pos hi] at h
    intro H locs ls hB hl
    refine va_iast E.1 E.2.1 hB.2.2.2.2.1 hB.2.1 hB.2.2.1 hB.2.2.2.1 52 0 rfl rfl (inb_in hi) d (fun H1 locs1 hP hD hS => ?_)
    exact k (sR σ 75 i.toNatClampNeg x) h H1 locs1 ls ⟨hB.1, hP, hD, hS, hB.2.2.2.2⟩ hl
  · rw [if_neg hi] at h; cases h
theorem mald_76 (E : EV p s m args c cc nL RX6) {i : Int32} {A9 : Option ρ} (d : decode cc pc = .ok (.laload, 1)) (h : (if inb i 360 = true then A9 else none) = some res) (hn : pc + 1 = n) (k : A9 = some res → CF p l e R s m args below meth c nL 0 0 (MB g A s σ) Q n lv (.long (gJ σ 76 i.toNatClampNeg) :: st)) : CF p l e R s m args below meth c nL 0 0 (MB g A s σ) Q pc lv (.int i :: .ref (ma g 76) :: st) := by
  subst hn
  by_cases hi : inb i 360 = true
  · rw [if_pos hi] at h
    exact fun H locs ls hB hl => va_lald E.1 E.2.1 hB.2.2.2.2.1 hB.2.1 53 2 rfl rfl (inb_in hi) d (k h H locs ls hB hl)
  · rw [if_neg hi] at h; cases h
theorem mast_76 (E : EV p s m args c cc nL RX6) {i : Int32} {x : Int64} {kk : MS → Option ρ} (d : decode cc pc = .ok (.lastore, 1)) (h : (if inb i 360 = true then nx (sJ σ 76 i.toNatClampNeg x) kk else none) = some res) (hn : pc + 1 = n) (k : ∀ σ1 : MS, kk σ1 = some res → CF p l e R s m args below meth c nL 0 0 (MB g A s σ1) Q n lv st) : CF p l e R s m args below meth c nL 0 0 (MB g A s σ) Q pc lv (.long x :: .int i :: .ref (ma g 76) :: st) := by
  subst hn
  by_cases hi : inb i 360 = true
  · rw [if_pos hi] at h
    intro H locs ls hB hl
    refine va_last E.1 E.2.1 hB.2.2.2.2.1 hB.2.1 hB.2.2.1 hB.2.2.2.1 53 2 rfl rfl (inb_in hi) d (fun H1 locs1 hP hD hS => ?_)
    exact k (sJ σ 76 i.toNatClampNeg x) h H1 locs1 ls ⟨hB.1, hP, hD, hS, hB.2.2.2.2⟩ hl
  · rw [if_neg hi] at h; cases h
theorem mald_77 (E : EV p s m args c cc nL RX6) {i : Int32} {A9 : Option ρ} (d : decode cc pc = .ok (.laload, 1)) (h : (if inb i 60 = true then A9 else none) = some res) (hn : pc + 1 = n) (k : A9 = some res → CF p l e R s m args below meth c nL 0 0 (MB g A s σ) Q n lv (.long (gJ σ 77 i.toNatClampNeg) :: st)) : CF p l e R s m args below meth c nL 0 0 (MB g A s σ) Q pc lv (.int i :: .ref (ma g 77) :: st) := by
  subst hn
  by_cases hi : inb i 60 = true
  · rw [if_pos hi] at h
    exact fun H locs ls hB hl => va_lald E.1 E.2.1 hB.2.2.2.2.1 hB.2.1 54 2 rfl rfl (inb_in hi) d (k h H locs ls hB hl)
  · rw [if_neg hi] at h; cases h
theorem mast_77 (E : EV p s m args c cc nL RX6) {i : Int32} {x : Int64} {kk : MS → Option ρ} (d : decode cc pc = .ok (.lastore, 1)) (h : (if inb i 60 = true then nx (sJ σ 77 i.toNatClampNeg x) kk else none) = some res) (hn : pc + 1 = n) (k : ∀ σ1 : MS, kk σ1 = some res → CF p l e R s m args below meth c nL 0 0 (MB g A s σ1) Q n lv st) : CF p l e R s m args below meth c nL 0 0 (MB g A s σ) Q pc lv (.long x :: .int i :: .ref (ma g 77) :: st) := by
  subst hn
  by_cases hi : inb i 60 = true
  · rw [if_pos hi] at h
    intro H locs ls hB hl
    refine va_last E.1 E.2.1 hB.2.2.2.2.1 hB.2.1 hB.2.2.1 hB.2.2.2.1 54 2 rfl rfl (inb_in hi) d (fun H1 locs1 hP hD hS => ?_)
    exact k (sJ σ 77 i.toNatClampNeg x) h H1 locs1 ls ⟨hB.1, hP, hD, hS, hB.2.2.2.2⟩ hl
  · rw [if_neg hi] at h; cases h
abbrev RTi (p : Program) (l : Launch) (e : Env) (R : Room) (s : State) (m : MethodId) (args : Array Value) (below : List Frame) (meth : Method) (c : Code) (cc : ByteArray) (nL : Nat) (A : Nat → Prop) (g : MG) (ty : FieldType) (Q : State → Prop) (res : Int32 × MS) : Prop := ∀ (pc : Nat) (lv : List (Nat × Value)), decode cc pc = .ok (.ireturn, 1) → narrow ty (.int res.1) = .int res.1 → CF p l e R s m args below meth c nL 0 0 (MB g A s res.2) Q pc lv [.int res.1]
abbrev RTl (p : Program) (l : Launch) (e : Env) (R : Room) (s : State) (m : MethodId) (args : Array Value) (below : List Frame) (meth : Method) (c : Code) (cc : ByteArray) (nL : Nat) (A : Nat → Prop) (g : MG) (Q : State → Prop) (res : Int64 × MS) : Prop := ∀ (pc : Nat) (lv : List (Nat × Value)), decode cc pc = .ok (.lreturn, 1) → CF p l e R s m args below meth c nL 0 0 (MB g A s res.2) Q pc lv [.long res.1]
abbrev RTv (p : Program) (l : Launch) (e : Env) (R : Room) (s : State) (m : MethodId) (args : Array Value) (below : List Frame) (meth : Method) (c : Code) (cc : ByteArray) (nL : Nat) (A : Nat → Prop) (g : MG) (Q : State → Prop) (res : MS) : Prop := ∀ (pc : Nat) (lv : List (Nat × Value)), decode cc pc = .ok (.return_, 1) → CF p l e R s m args below meth c nL 0 0 (MB g A s res) Q pc lv []
theorem mret_i {v : Int32} {ty : FieldType} {res : Int32 × MS} (d : decode cc pc = .ok (.ireturn, 1)) (h : some (v, σ) = some res) (hz : narrow ty (.int v) = .int v) (hq : RTi p l e R s m args below meth c cc nL A g ty Q res) : CF p l e R s m args below meth c nL 0 0 (MB g A s σ) Q pc lv [.int v] := by
  cases h
  exact hq pc lv d hz
theorem mret_z {v : Int32} {res : Int32 × MS} (d : decode cc pc = .ok (.ireturn, 1)) (h : (if v = 0 ∨ v = 1 then some (v, σ) else none) = some res) (hq : RTi p l e R s m args below meth c cc nL A g .boolean Q res) : CF p l e R s m args below meth c nL 0 0 (MB g A s σ) Q pc lv [.int v] := by
  by_cases hv : v = 0 ∨ v = 1
  · rw [if_pos hv] at h
    cases h
    refine hq pc lv d ?_
    rcases hv with rfl | rfl
    · exact nzb0
    · exact nzb1
  · rw [if_neg hv] at h; cases h
theorem mret_l {v : Int64} {res : Int64 × MS} (d : decode cc pc = .ok (.lreturn, 1)) (h : some (v, σ) = some res) (hq : RTl p l e R s m args below meth c cc nL A g Q res) : CF p l e R s m args below meth c nL 0 0 (MB g A s σ) Q pc lv [.long v] := by
  cases h
  exact hq pc lv d
theorem mret_v {res : MS} (d : decode cc pc = .ok (.return_, 1)) (h : some σ = some res) (hq : RTv p l e R s m args below meth c cc nL A g Q res) : CF p l e R s m args below meth c nL 0 0 (MB g A s σ) Q pc lv [] := by
  cases h
  exact hq pc lv d
theorem mcall_i (E : EV p s m args c cc nL RX6) {y : MethodName} {bytes : ByteArray} {maxL idx na : Nat} {ret : Option FieldType} {rm : Room} {stk : List Value} {o : Option (Int32 × MS)} {kk : Int32 → MS → Option ρ} (As : List Value) (hM : ∀ v σ1, o = some (v, σ1) → MetMi l g y (ws_ y bytes maxL ret) rm As σ v σ1)
    (hG : GoodIn lw_all (wsV RX6 idx RX6 y (ws_ y bytes maxL ret))) (hd : y.cls = RX6 ∧ y.cls ≠ "java/lang/invoke/MethodHandle" ∧ y.cls ≠ "java/lang/invoke/VarHandle" ∧ (parseMethodDescriptor y.desc).map (fun d => d.parameters.length) = some na) (hrc : rm.cells = 0) (hrs : rm.slots = 0) (hR : rm.frames + 1 ≤ R.frames ∧ 8 + (maxL + 11) + rm.locals ≤ R.locals) (hna : As.length = na)
    (hstk : stk = As.reverse ++ .ref (mh g) :: st) (hcat : (st.map fun v => v.category).sum ≤ 8) (d : decode cc pc = .ok (.invokevirtual idx, 3)) (h : bnd o kk = some res) (hn : pc + 3 = n) (k : ∀ (v : Int32) (σ1 : MS), kk v σ1 = some res → CF p l e R s m args below meth c nL 0 0 (MB g A s σ1) Q n lv (.int v :: st)) : CF p l e R s m args below meth c nL 0 0 (MB g A s σ) Q pc lv stk := by
  subst hn
  subst hstk
  obtain ⟨v, σ1, ho, hk⟩ := bnd_some h
  intro H locs ls hB hl
  obtain ⟨hc, hP, hD, hS, hK, hA⟩ := hB
  have hFc : ∀ q, va_A (mcs g σ) H.size q → A q := by
    intro q h9
    rcases h9 with ⟨k9, e9, h9⟩ | h9
    · exact hD.2 k9 (q, e9) h9
    · exact hA q (Nat.le_trans hS.1 h9)
  refine va_calli (va_runV (As := As) (rest := st) E (hM v σ1 ho H.size) (cwV na E.2.2.2.2 hG rfl hrc hrs hd hR) ⟨fun a U g9 mk q => by obtain ⟨q0, q1, qc, qP, qK, qD⟩ := q; exact ⟨q0, q1, qc, qP, va_K.moved (u := U) (U := U.calling g9 mk a) (Vm.Alike.refl U.vm) qK, qD⟩, va_recv hK hP hc (q0 := 0) rfl, fun U hU hW => ⟨rfl, by rw [hU], hc, by rw [hU]; exact hP, va_K.moved hW.alike hK, hD.weaken (fun _ _ _ _ => trivial)⟩⟩ rfl hna (hl.1) rfl (lv_room hcat) d ⟨Nat.zero_le _, Nat.zero_le _⟩) hS (fun q _ h => hFc q h) hFc (fun r u t H1 locs1 ht hvm hw1 hB1 hz1 hk1 hS => ?_)
  obtain ⟨rfl, rfl⟩ := hw1
  obtain ⟨hP1, hK1⟩ := hB1
  rw [ht] at hP1
  exact k _ _ hk H1 locs1 ls ⟨hc, hP1, hD.same (mcs_fst g σ _), hS, hK, hA⟩ hl
theorem mcall_l (E : EV p s m args c cc nL RX6) {y : MethodName} {bytes : ByteArray} {maxL idx na : Nat} {ret : Option FieldType} {rm : Room} {stk : List Value} {o : Option (Int64 × MS)} {kk : Int64 → MS → Option ρ} (As : List Value) (hM : ∀ v σ1, o = some (v, σ1) → MetMl l g y (ws_ y bytes maxL ret) rm As σ v σ1)
    (hG : GoodIn lw_all (wsV RX6 idx RX6 y (ws_ y bytes maxL ret))) (hd : y.cls = RX6 ∧ y.cls ≠ "java/lang/invoke/MethodHandle" ∧ y.cls ≠ "java/lang/invoke/VarHandle" ∧ (parseMethodDescriptor y.desc).map (fun d => d.parameters.length) = some na) (hrc : rm.cells = 0) (hrs : rm.slots = 0) (hR : rm.frames + 1 ≤ R.frames ∧ 8 + (maxL + 11) + rm.locals ≤ R.locals) (hna : As.length = na)
    (hstk : stk = As.reverse ++ .ref (mh g) :: st) (hcat : (st.map fun v => v.category).sum ≤ 8) (d : decode cc pc = .ok (.invokevirtual idx, 3)) (h : bnd o kk = some res) (hn : pc + 3 = n) (k : ∀ (v : Int64) (σ1 : MS), kk v σ1 = some res → CF p l e R s m args below meth c nL 0 0 (MB g A s σ1) Q n lv (.long v :: st)) : CF p l e R s m args below meth c nL 0 0 (MB g A s σ) Q pc lv stk := by
  subst hn
  subst hstk
  obtain ⟨v, σ1, ho, hk⟩ := bnd_some h
  intro H locs ls hB hl
  obtain ⟨hc, hP, hD, hS, hK, hA⟩ := hB
  have hFc : ∀ q, va_A (mcs g σ) H.size q → A q := by
    intro q h9
    rcases h9 with ⟨k9, e9, h9⟩ | h9
    · exact hD.2 k9 (q, e9) h9
    · exact hA q (Nat.le_trans hS.1 h9)
  refine va_calll (va_runV (As := As) (rest := st) E (hM v σ1 ho H.size) (cwV na E.2.2.2.2 hG rfl hrc hrs hd hR) ⟨fun a U g9 mk q => by obtain ⟨q0, q1, qc, qP, qK, qD⟩ := q; exact ⟨q0, q1, qc, qP, va_K.moved (u := U) (U := U.calling g9 mk a) (Vm.Alike.refl U.vm) qK, qD⟩, va_recv hK hP hc (q0 := 0) rfl, fun U hU hW => ⟨rfl, by rw [hU], hc, by rw [hU]; exact hP, va_K.moved hW.alike hK, hD.weaken (fun _ _ _ _ => trivial)⟩⟩ rfl hna (hl.1) rfl (lv_room hcat) d ⟨Nat.zero_le _, Nat.zero_le _⟩) hS (fun q _ h => hFc q h) hFc (fun r u t H1 locs1 ht hvm hw1 hB1 hz1 hk1 hS => ?_)
  obtain ⟨rfl, rfl⟩ := hw1
  obtain ⟨hP1, hK1⟩ := hB1
  rw [ht] at hP1
  exact k _ _ hk H1 locs1 ls ⟨hc, hP1, hD.same (mcs_fst g σ _), hS, hK, hA⟩ hl
theorem mcall_v (E : EV p s m args c cc nL RX6) {y : MethodName} {bytes : ByteArray} {maxL idx na : Nat} {ret : Option FieldType} {rm : Room} {stk : List Value} {o : Option MS} {kk : MS → Option ρ} (As : List Value) (hM : ∀ σ1, o = some σ1 → MetMv l g y (ws_ y bytes maxL ret) rm As σ σ1)
    (hG : GoodIn lw_all (wsV RX6 idx RX6 y (ws_ y bytes maxL ret))) (hd : y.cls = RX6 ∧ y.cls ≠ "java/lang/invoke/MethodHandle" ∧ y.cls ≠ "java/lang/invoke/VarHandle" ∧ (parseMethodDescriptor y.desc).map (fun d => d.parameters.length) = some na) (hrc : rm.cells = 0) (hrs : rm.slots = 0) (hR : rm.frames + 1 ≤ R.frames ∧ 8 + (maxL + 11) + rm.locals ≤ R.locals) (hna : As.length = na)
    (hstk : stk = As.reverse ++ .ref (mh g) :: st) (hcat : (st.map fun v => v.category).sum ≤ 8) (d : decode cc pc = .ok (.invokevirtual idx, 3)) (h : bnv o kk = some res) (hn : pc + 3 = n) (k : ∀ (σ1 : MS), kk σ1 = some res → CF p l e R s m args below meth c nL 0 0 (MB g A s σ1) Q n lv st) : CF p l e R s m args below meth c nL 0 0 (MB g A s σ) Q pc lv stk := by
  subst hn
  subst hstk
  obtain ⟨σ1, ho, hk⟩ := bnv_some h
  intro H locs ls hB hl
  obtain ⟨hc, hP, hD, hS, hK, hA⟩ := hB
  have hFc : ∀ q, va_A (mcs g σ) H.size q → A q := by
    intro q h9
    rcases h9 with ⟨k9, e9, h9⟩ | h9
    · exact hD.2 k9 (q, e9) h9
    · exact hA q (Nat.le_trans hS.1 h9)
  refine va_callv (va_runV (As := As) (rest := st) E (hM σ1 ho H.size) (cwV na E.2.2.2.2 hG rfl hrc hrs hd hR) ⟨fun a U g9 mk q => by obtain ⟨q0, q1, qc, qP, qK, qD⟩ := q; exact ⟨q0, q1, qc, qP, va_K.moved (u := U) (U := U.calling g9 mk a) (Vm.Alike.refl U.vm) qK, qD⟩, va_recv hK hP hc (q0 := 0) rfl, fun U hU hW => ⟨rfl, by rw [hU], hc, by rw [hU]; exact hP, va_K.moved hW.alike hK, hD.weaken (fun _ _ _ _ => trivial)⟩⟩ rfl hna (hl.1) rfl (lv_room hcat) d ⟨Nat.zero_le _, Nat.zero_le _⟩) hS (fun q _ h => hFc q h) hFc (fun u t H1 locs1 ht hvm hw1 hB1 hz1 hk1 hS => ?_)
  have hw1 : u = σ1 := hw1
  subst hw1
  obtain ⟨hP1, hK1⟩ := hB1
  rw [ht] at hP1
  exact k _ hk H1 locs1 ls ⟨hc, hP1, hD.same (mcs_fst g σ _), hS, hK, hA⟩ hl
theorem met_mi {y : MethodName} {maxL : Nat} {rm : Room} {As : List Value} {v : Int32} {σ1 : MS} {ty : FieldType} {lv0 : List (Nat × Value)} (hy : plainName y.cls = true) (hyc : y.cls = RX6) (hrc : rm.cells = 0 ∧ rm.slots = 0) (hlen : (lg_sl (Value.ref (mh g) :: As)).length ≤ maxL) (hlv : lv_args 0 (Value.ref (mh g) :: As) = lv0)
    (body : ∀ (p : Program) (e : Env) (s : State) (m : MethodId) (below : List Frame) (meth : Method) (c : Code) (A : Nat → Prop) (Q : State → Prop), EV p s m (Value.ref (mh g) :: As).toArray c cc maxL RX6 → RTi p l e rm s m (Value.ref (mh g) :: As).toArray below meth c cc maxL A g ty Q (v, σ1) → CF p l e rm s m (Value.ref (mh g) :: As).toArray below meth c maxL 0 0 (MB g A s σ) Q 0 lv0 []) : MetMi l g y (ws_ y cc maxL (some ty)) rm As σ v σ1 := by
  intro sz
  refine Met.ofW (cc := cc) (maxL := maxL) (ret := (some ty)) hy rfl ?_
  intro p e s m args below meth c s₁ B hml hv
  obtain ⟨rfl, hsz, hc, hP, hK, hD0⟩ := hv
  have hts := atoms_spec (ws := ws_ y cc maxL (some ty)) B.pre
  have hts : ∀ w ∈ lw_all, w.before _ s = true := fun w h => hts w (List.mem_cons_of_mem _ h)
  have hown : s.vm.findClass RX6 = some m.cls := by rw [← hyc]; exact findClass_of_methodNamed B.named
  have hlocks := B.notSynchronized
  subst hsz
  have hD := hD0.self (sz := s.heap.size)
  have hA : ∀ q : Nat, s.heap.size ≤ q → va_A (mcs g σ) s.heap.size q := fun q h => Or.inr h
  have hS : va_S (va_A (mcs g σ) s.heap.size) s.heap s.heap [] := va_S.rf
  have hl := lv_entry (Value.ref (mh g) :: As) (n := maxL) hlen
  rw [lg_entry_eq]
  rw [hlv] at hl
  have hb := body p e s m below meth c (va_A (mcs g σ) s.heap.size) (MQ below (MQi g σ s.heap.size v σ1) (Value.ref (mh g) :: As).toArray s 0 0 (va_A (mcs g σ) s.heap.size)) ⟨B.exec, B.bytes, hml, hown, hts⟩ ?_
  · exact hb s.heap [] _ ⟨hc, hP, hD, hS, hK, hA⟩ hl
  · intro pc lv d hz H locs ls hB hl
    obtain ⟨-, hP9, -, hS9, hK9, -⟩ := hB
    exact W.zret B.exec B.bytes B.returns hz (fun t ht hW => ⟨⟨v, σ1, rfl, ⟨rfl, rfl⟩, by rw [ht]; exact hP9, va_K.moved hW.alike hK9⟩, hS9.F ht⟩) hS9.2.2 d hlocks
theorem met_ml {y : MethodName} {maxL : Nat} {rm : Room} {As : List Value} {v : Int64} {σ1 : MS} {lv0 : List (Nat × Value)} (hy : plainName y.cls = true) (hyc : y.cls = RX6) (hrc : rm.cells = 0 ∧ rm.slots = 0) (hlen : (lg_sl (Value.ref (mh g) :: As)).length ≤ maxL) (hlv : lv_args 0 (Value.ref (mh g) :: As) = lv0)
    (body : ∀ (p : Program) (e : Env) (s : State) (m : MethodId) (below : List Frame) (meth : Method) (c : Code) (A : Nat → Prop) (Q : State → Prop), EV p s m (Value.ref (mh g) :: As).toArray c cc maxL RX6 → RTl p l e rm s m (Value.ref (mh g) :: As).toArray below meth c cc maxL A g Q (v, σ1) → CF p l e rm s m (Value.ref (mh g) :: As).toArray below meth c maxL 0 0 (MB g A s σ) Q 0 lv0 []) : MetMl l g y (ws_ y cc maxL (some .long)) rm As σ v σ1 := by
  intro sz
  refine Met.ofW (cc := cc) (maxL := maxL) (ret := (some .long)) hy rfl ?_
  intro p e s m args below meth c s₁ B hml hv
  obtain ⟨rfl, hsz, hc, hP, hK, hD0⟩ := hv
  have hts := atoms_spec (ws := ws_ y cc maxL (some .long)) B.pre
  have hts : ∀ w ∈ lw_all, w.before _ s = true := fun w h => hts w (List.mem_cons_of_mem _ h)
  have hown : s.vm.findClass RX6 = some m.cls := by rw [← hyc]; exact findClass_of_methodNamed B.named
  have hlocks := B.notSynchronized
  subst hsz
  have hD := hD0.self (sz := s.heap.size)
  have hA : ∀ q : Nat, s.heap.size ≤ q → va_A (mcs g σ) s.heap.size q := fun q h => Or.inr h
  have hS : va_S (va_A (mcs g σ) s.heap.size) s.heap s.heap [] := va_S.rf
  have hl := lv_entry (Value.ref (mh g) :: As) (n := maxL) hlen
  rw [lg_entry_eq]
  rw [hlv] at hl
  have hb := body p e s m below meth c (va_A (mcs g σ) s.heap.size) (MQ below (MQl g σ s.heap.size v σ1) (Value.ref (mh g) :: As).toArray s 0 0 (va_A (mcs g σ) s.heap.size)) ⟨B.exec, B.bytes, hml, hown, hts⟩ ?_
  · exact hb s.heap [] _ ⟨hc, hP, hD, hS, hK, hA⟩ hl
  · intro pc lv d H locs ls hB hl
    obtain ⟨-, hP9, -, hS9, hK9, -⟩ := hB
    exact W.lret B.exec B.bytes B.returns (fun t ht hW => ⟨⟨v, σ1, rfl, ⟨rfl, rfl⟩, by rw [ht]; exact hP9, va_K.moved hW.alike hK9⟩, hS9.F ht⟩) hS9.2.2 d hlocks
theorem met_mv {y : MethodName} {maxL : Nat} {rm : Room} {As : List Value} {σ1 : MS} {lv0 : List (Nat × Value)} (hy : plainName y.cls = true) (hyc : y.cls = RX6) (hrc : rm.cells = 0 ∧ rm.slots = 0) (hlen : (lg_sl (Value.ref (mh g) :: As)).length ≤ maxL) (hlv : lv_args 0 (Value.ref (mh g) :: As) = lv0)
    (body : ∀ (p : Program) (e : Env) (s : State) (m : MethodId) (below : List Frame) (meth : Method) (c : Code) (A : Nat → Prop) (Q : State → Prop), EV p s m (Value.ref (mh g) :: As).toArray c cc maxL RX6 → RTv p l e rm s m (Value.ref (mh g) :: As).toArray below meth c cc maxL A g Q σ1 → CF p l e rm s m (Value.ref (mh g) :: As).toArray below meth c maxL 0 0 (MB g A s σ) Q 0 lv0 []) : MetMv l g y (ws_ y cc maxL none) rm As σ σ1 := by
  intro sz
  refine Met.ofW (cc := cc) (maxL := maxL) (ret := none) hy rfl ?_
  intro p e s m args below meth c s₁ B hml hv
  obtain ⟨rfl, hsz, hc, hP, hK, hD0⟩ := hv
  have hts := atoms_spec (ws := ws_ y cc maxL none) B.pre
  have hts : ∀ w ∈ lw_all, w.before _ s = true := fun w h => hts w (List.mem_cons_of_mem _ h)
  have hown : s.vm.findClass RX6 = some m.cls := by rw [← hyc]; exact findClass_of_methodNamed B.named
  have hlocks := B.notSynchronized
  subst hsz
  have hD := hD0.self (sz := s.heap.size)
  have hA : ∀ q : Nat, s.heap.size ≤ q → va_A (mcs g σ) s.heap.size q := fun q h => Or.inr h
  have hS : va_S (va_A (mcs g σ) s.heap.size) s.heap s.heap [] := va_S.rf
  have hl := lv_entry (Value.ref (mh g) :: As) (n := maxL) hlen
  rw [lg_entry_eq]
  rw [hlv] at hl
  have hb := body p e s m below meth c (va_A (mcs g σ) s.heap.size) (MQ below (MQv g σ s.heap.size σ1) (Value.ref (mh g) :: As).toArray s 0 0 (va_A (mcs g σ) s.heap.size)) ⟨B.exec, B.bytes, hml, hown, hts⟩ ?_
  · exact hb s.heap [] _ ⟨hc, hP, hD, hS, hK, hA⟩ hl
  · intro pc lv d H locs ls hB hl
    obtain ⟨-, hP9, -, hS9, hK9, -⟩ := hB
    exact W.vret B.exec B.bytes B.returns (fun t ht hW => ⟨⟨σ1, rfl, rfl, by rw [ht]; exact hP9, va_K.moved hW.alike hK9⟩, hS9.F ht⟩) hS9.2.2 d hlocks
theorem rmle {a b c0 d : Nat} (h : a ≤ R.frames ∧ b ≤ R.locals) (h1 : Nat.ble c0 a = true) (h2 : Nat.ble d b = true) : c0 ≤ R.frames ∧ d ≤ R.locals := ⟨Nat.le_trans (Nat.le_of_ble_eq_true h1) h.1, Nat.le_trans (Nat.le_of_ble_eq_true h2) h.2⟩
end MR
