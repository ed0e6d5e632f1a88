/-! GENERIC ROWS: a config of a method (pc, locals, stack) over any world B; printed by gen/rows.py -/
set_option maxRecDepth 100000
def nx {α β : Type} (a : α) (k : α → β) : β := k a
def bnd {α β γ : Type} (o : Option (α × β)) (k : α → β → Option γ) : Option γ := match o with
  | none => none
  | some q => k q.1 q.2
def bnv {β γ : Type} (o : Option β) (k : β → Option γ) : Option γ := match o with
  | none => none
  | some q => k q
def inb (i : Int32) (n : Nat) : Bool := !(decide (i < 0) || decide (n ≤ i.toNatClampNeg))
theorem inb_in {i : Int32} {n : Nat} (h : inb i n = true) : vp_in i n := by
  intro hc
  simp only [inb, Bool.not_eq_true', Bool.or_eq_false_iff, decide_eq_false_iff_not] at h
  rcases hc with q | q
  · exact h.1 q
  · exact h.2 q
theorem bnd_some {α β γ : Type} {o : Option (α × β)} {k : α → β → Option γ} {r : γ} (h : bnd o k = some r) : ∃ a b, o = some (a, b) ∧ k a b = some r := by
  cases o with
  | none => cases h
  | some q => exact ⟨q.1, q.2, rfl, h⟩
theorem bnv_some {β γ : Type} {o : Option β} {k : β → Option γ} {r : γ} (h : bnv o k = some r) : ∃ b, o = some b ∧ k b = some r := by
  cases o with
  | none => cases h
  | some q => exact ⟨q, rfl, h⟩
abbrev EV (p : Program) (s : State) (m : MethodId) (args : Array Value) (c : Code) (cc : ByteArray) (nL : Nat) (own : String) : Prop := CallFix p m c cc nL s args lw_all own
def CF (p : Program) (l : Launch) (e : Env) (R : Room) (s : State) (m : MethodId) (args : Array Value) (below : List Frame) (meth : Method) (c : Code) (nL cells slots : Nat) (B : Heap → List Loc → Prop) (Q : State → Prop) (pc : Nat) (lv : List (Nat × Value)) (st : List Value) : Prop :=
  ∀ (H : Heap) (locs : List Loc) (ls : Array Slot), B H locs → lv_has ls nL lv → W p l e R s m args below meth c H locs cells slots Q (F0 m pc ls st)
section CFR
variable {p : Program} {l : Launch} {e : Env} {R : Room} {s : State} {m : MethodId} {args : Array Value} {below : List Frame} {meth : Method} {c : Code} {nL cells slots : Nat} {B : Heap → List Loc → Prop} {Q : State → Prop} {pc n : Nat} {lv : List (Nat × Value)} {st : List Value} {cc : ByteArray} {own : String} {ρ : Type} {res : ρ}
theorem CF.sub {lv' : List (Nat × Value)} (ks : List Nat) (hl : lv_pick lv ks = lv') (k : CF p l e R s m args below meth c nL cells slots B Q pc lv' st) : CF p l e R s m args below meth c nL cells slots B Q pc lv st := fun H locs ls hB h => k H locs ls hB (lv_sub h ks hl)
theorem cf_iconst (E : EV p s m args c cc nL own) {i : Int} {v : Int32} (d : decode cc pc = .ok (.iconst i, 1)) (hv : Int32.ofInt i = v) (hn : pc + 1 = n) (k : CF p l e R s m args below meth c nL cells slots B Q n lv (.int v :: st)) : CF p l e R s m args below meth c nL cells slots B Q pc lv (st) := by
  subst hn
  exact fun H locs ls hB hl => lv_iconst E.1 E.2.1 d hv (k H locs ls hB hl)
theorem cf_bipush (E : EV p s m args c cc nL own) {i : Int} {v : Int32} (d : decode cc pc = .ok (.bipush i, 2)) (hv : (Int8.ofInt i).toInt32 = v) (hn : pc + 2 = n) (k : CF p l e R s m args below meth c nL cells slots B Q n lv (.int v :: st)) : CF p l e R s m args below meth c nL cells slots B Q pc lv (st) := by
  subst hn
  exact fun H locs ls hB hl => lv_bipush E.1 E.2.1 d hv (k H locs ls hB hl)
theorem cf_sipush (E : EV p s m args c cc nL own) {i : Int} {v : Int32} (d : decode cc pc = .ok (.sipush i, 3)) (hv : (Int16.ofInt i).toInt32 = v) (hn : pc + 3 = n) (k : CF p l e R s m args below meth c nL cells slots B Q n lv (.int v :: st)) : CF p l e R s m args below meth c nL cells slots B Q pc lv (st) := by
  subst hn
  exact fun H locs ls hB hl => lv_sipush E.1 E.2.1 d hv (k H locs ls hB hl)
theorem cf_lconst (E : EV p s m args c cc nL own) {i : Fin 2} {v : Int64} (d : decode cc pc = .ok (.lconst i, 1)) (hv : Int64.ofNat (i : Nat) = v) (hn : pc + 1 = n) (k : CF p l e R s m args below meth c nL cells slots B Q n lv (.long v :: st)) : CF p l e R s m args below meth c nL cells slots B Q pc lv (st) := by
  subst hn
  exact fun H locs ls hB hl => lv_lconst E.1 E.2.1 d hv (k H locs ls hB hl)
theorem cf_ldcw (E : EV p s m args c cc nL own) {i : Nat} {v : Int32} (d : decode cc pc = .ok (.ldc_w i, 3)) (hv : Cond.constant own i v ∈ lw_all) (hn : pc + 3 = n) (k : CF p l e R s m args below meth c nL cells slots B Q n lv (.int v :: st)) : CF p l e R s m args below meth c nL cells slots B Q pc lv (st) := by
  subst hn
  exact fun H locs ls hB hl => lv_ldcw E.1 E.2.1 E.2.2.2.1 (E.2.2.2.2 _ hv) d (k H locs ls hB hl)
theorem cf_ldc (E : EV p s m args c cc nL own) {i : Nat} {v : Int32} (d : decode cc pc = .ok (.ldc i, 2)) (hv : Cond.constant own i v ∈ lw_all) (hn : pc + 2 = n) (k : CF p l e R s m args below meth c nL cells slots B Q n lv (.int v :: st)) : CF p l e R s m args below meth c nL cells slots B Q pc lv st := by
  subst hn
  exact fun H locs ls hB hl => W.ldc E.1 E.2.1 E.2.2.2.1 (E.2.2.2.2 _ hv) rfl d (k H locs ls hB hl)
theorem cf_ldc2 (E : EV p s m args c cc nL own) {i : Nat} {v : Int64} (d : decode cc pc = .ok (.ldc2_w i, 3)) (hv : Cond.constantLong own i v ∈ lw_all) (hn : pc + 3 = n) (k : CF p l e R s m args below meth c nL cells slots B Q n lv (.long v :: st)) : CF p l e R s m args below meth c nL cells slots B Q pc lv st := by
  subst hn
  exact fun H locs ls hB hl => W.ldc2 E.1 E.2.1 E.2.2.2.1 (E.2.2.2.2 _ hv) rfl d (k H locs ls hB hl)
theorem cf_iload_n (E : EV p s m args c cc nL own) {i : Fin 4} {x : Int32} (d : decode cc pc = .ok (.iload_n i, 1)) (j : Nat) (hj : lv[j]? = some ((i : Nat), .int x)) (hn : pc + 1 = n) (k : CF p l e R s m args below meth c nL cells slots B Q n lv (.int x :: st)) : CF p l e R s m args below meth c nL cells slots B Q pc lv st := by
  subst hn
  exact fun H locs ls hB hl => lv_iload_n E.1 E.2.1 d rfl (lv_at hl j hj) (k H locs ls hB hl)
theorem cf_iload (E : EV p s m args c cc nL own) {i : Nat} {x : Int32} (d : decode cc pc = .ok (.iload i, 2)) (j : Nat) (hj : lv[j]? = some (i, .int x)) (hn : pc + 2 = n) (k : CF p l e R s m args below meth c nL cells slots B Q n lv (.int x :: st)) : CF p l e R s m args below meth c nL cells slots B Q pc lv st := by
  subst hn
  exact fun H locs ls hB hl => lv_iload E.1 E.2.1 d (lv_at hl j hj) (k H locs ls hB hl)
theorem cf_lload_n (E : EV p s m args c cc nL own) {i : Fin 4} {x : Int64} (d : decode cc pc = .ok (.lload_n i, 1)) (j : Nat) (hj : lv[j]? = some ((i : Nat), .long x)) (hn : pc + 1 = n) (k : CF p l e R s m args below meth c nL cells slots B Q n lv (.long x :: st)) : CF p l e R s m args below meth c nL cells slots B Q pc lv st := by
  subst hn
  exact fun H locs ls hB hl => lv_lload_n E.1 E.2.1 d rfl (lv_at hl j hj) (k H locs ls hB hl)
theorem cf_lload (E : EV p s m args c cc nL own) {i : Nat} {x : Int64} (d : decode cc pc = .ok (.lload i, 2)) (j : Nat) (hj : lv[j]? = some (i, .long x)) (hn : pc + 2 = n) (k : CF p l e R s m args below meth c nL cells slots B Q n lv (.long x :: st)) : CF p l e R s m args below meth c nL cells slots B Q pc lv st := by
  subst hn
  exact fun H locs ls hB hl => lv_lload E.1 E.2.1 d (lv_at hl j hj) (k H locs ls hB hl)
theorem cf_aload_n (E : EV p s m args c cc nL own) {i : Fin 4} {x : Nat} (d : decode cc pc = .ok (.aload_n i, 1)) (j : Nat) (hj : lv[j]? = some ((i : Nat), .ref x)) (hn : pc + 1 = n) (k : CF p l e R s m args below meth c nL cells slots B Q n lv (.ref x :: st)) : CF p l e R s m args below meth c nL cells slots B Q pc lv st := by
  subst hn
  exact fun H locs ls hB hl => lv_aload_n E.1 E.2.1 d rfl (lv_at hl j hj) (k H locs ls hB hl)
theorem cf_aload (E : EV p s m args c cc nL own) {i : Nat} {x : Nat} (d : decode cc pc = .ok (.aload i, 2)) (j : Nat) (hj : lv[j]? = some (i, .ref x)) (hn : pc + 2 = n) (k : CF p l e R s m args below meth c nL cells slots B Q n lv (.ref x :: st)) : CF p l e R s m args below meth c nL cells slots B Q pc lv st := by
  subst hn
  exact fun H locs ls hB hl => lv_aload E.1 E.2.1 d (lv_at hl j hj) (k H locs ls hB hl)
theorem cf_istore_n (E : EV p s m args c cc nL own) {kf : Fin 4} {x : Int32} {kk : Int32 → Option ρ} (d : decode cc pc = .ok (.istore_n kf, 1)) (h : nx x kk = some res) (lv' : Int32 → List (Nat × Value)) (hb : (kf : Nat) < nL) (hl : ∀ x : Int32, ((kf : Nat), Value.int x) :: lv.filter (fun q => !(q.1 == (kf : Nat)) && !(q.1 + 1 == (kf : Nat) && q.2.category == 2)) = lv' x) (hn : pc + 1 = n) (k : ∀ x : Int32, kk x = some res → CF p l e R s m args below meth c nL cells slots B Q n (lv' x) st) : CF p l e R s m args below meth c nL cells slots B Q pc lv (.int x :: st) := by
  subst hn
  exact fun H locs ls hB h9 => lv_istore_n E.1 E.2.1 d rfl h9 hb (hl x) (fun ls' hl' => k x h H locs ls' hB hl')
theorem cf_istore (E : EV p s m args c cc nL own) {kf : Nat} {x : Int32} {kk : Int32 → Option ρ} (d : decode cc pc = .ok (.istore kf, 2)) (h : nx x kk = some res) (lv' : Int32 → List (Nat × Value)) (hb : kf < nL) (hl : ∀ x : Int32, (kf, Value.int x) :: lv.filter (fun q => !(q.1 == kf) && !(q.1 + 1 == kf && q.2.category == 2)) = lv' x) (hn : pc + 2 = n) (k : ∀ x : Int32, kk x = some res → CF p l e R s m args below meth c nL cells slots B Q n (lv' x) st) : CF p l e R s m args below meth c nL cells slots B Q pc lv (.int x :: st) := by
  subst hn
  exact fun H locs ls hB h9 => lv_istore E.1 E.2.1 d h9 hb (hl x) (fun ls' hl' => k x h H locs ls' hB hl')
theorem cf_lstore_n (E : EV p s m args c cc nL own) {kf : Fin 4} {x : Int64} {kk : Int64 → Option ρ} (d : decode cc pc = .ok (.lstore_n kf, 1)) (h : nx x kk = some res) (lv' : Int64 → List (Nat × Value)) (hb : (kf : Nat) + 1 < nL) (hl : ∀ x : Int64, ((kf : Nat), Value.long x) :: lv.filter (fun q => !(q.1 == (kf : Nat)) && (!(q.1 == (kf : Nat) + 1) && !(q.1 + 1 == (kf : Nat) && q.2.category == 2))) = lv' x) (hn : pc + 1 = n) (k : ∀ x : Int64, kk x = some res → CF p l e R s m args below meth c nL cells slots B Q n (lv' x) st) : CF p l e R s m args below meth c nL cells slots B Q pc lv (.long x :: st) := by
  subst hn
  exact fun H locs ls hB h9 => lv_lstore_n E.1 E.2.1 d rfl h9 hb (hl x) (fun ls' hl' => k x h H locs ls' hB hl')
theorem cf_lstore (E : EV p s m args c cc nL own) {kf : Nat} {x : Int64} {kk : Int64 → Option ρ} (d : decode cc pc = .ok (.lstore kf, 2)) (h : nx x kk = some res) (lv' : Int64 → List (Nat × Value)) (hb : kf + 1 < nL) (hl : ∀ x : Int64, (kf, Value.long x) :: lv.filter (fun q => !(q.1 == kf) && (!(q.1 == kf + 1) && !(q.1 + 1 == kf && q.2.category == 2))) = lv' x) (hn : pc + 2 = n) (k : ∀ x : Int64, kk x = some res → CF p l e R s m args below meth c nL cells slots B Q n (lv' x) st) : CF p l e R s m args below meth c nL cells slots B Q pc lv (.long x :: st) := by
  subst hn
  exact fun H locs ls hB h9 => lv_lstore E.1 E.2.1 d h9 hb (hl x) (fun ls' hl' => k x h H locs ls' hB hl')
theorem cf_astore_n (E : EV p s m args c cc nL own) {kf : Fin 4} {x : Nat} (d : decode cc pc = .ok (.astore_n kf, 1)) (lv' : List (Nat × Value)) (hb : (kf : Nat) < nL) (hl : ((kf : Nat), Value.ref x) :: lv.filter (fun q => !(q.1 == (kf : Nat)) && !(q.1 + 1 == (kf : Nat) && q.2.category == 2)) = lv') (hn : pc + 1 = n) (k : CF p l e R s m args below meth c nL cells slots B Q n lv' st) : CF p l e R s m args below meth c nL cells slots B Q pc lv (.ref x :: st) := by
  subst hn
  exact fun H locs ls hB h9 => lv_astore_n E.1 E.2.1 d rfl h9 hb hl (fun ls' hl' => k H locs ls' hB hl')
theorem cf_astore (E : EV p s m args c cc nL own) {kf : Nat} {x : Nat} (d : decode cc pc = .ok (.astore kf, 2)) (lv' : List (Nat × Value)) (hb : kf < nL) (hl : (kf, Value.ref x) :: lv.filter (fun q => !(q.1 == kf) && !(q.1 + 1 == kf && q.2.category == 2)) = lv') (hn : pc + 2 = n) (k : CF p l e R s m args below meth c nL cells slots B Q n lv' st) : CF p l e R s m args below meth c nL cells slots B Q pc lv (.ref x :: st) := by
  subst hn
  exact fun H locs ls hB h9 => lv_astore E.1 E.2.1 d h9 hb hl (fun ls' hl' => k H locs ls' hB hl')
theorem cf_iinc (E : EV p s m args c cc nL own) {i : Nat} {z : Int} {x y : Int32} {kk : Int32 → Option ρ} (d : decode cc pc = .ok (.iinc i z, 3)) (hz : Int32.ofInt z = y) (h : nx (x + y) kk = some res) (j : Nat) (hj : lv[j]? = some (i, .int x)) (lv' : Int32 → List (Nat × Value)) (hb : i < nL) (hl : ∀ x : Int32, (i, Value.int x) :: lv.filter (fun q => !(q.1 == i) && !(q.1 + 1 == i && q.2.category == 2)) = lv' x) (hn : pc + 3 = n) (k : ∀ x : Int32, kk x = some res → CF p l e R s m args below meth c nL cells slots B Q n (lv' x) st) : CF p l e R s m args below meth c nL cells slots B Q pc lv st := by
  subst hn
  subst hz
  exact fun H locs ls hB h9 => lv_iinc E.1 E.2.1 d h9 hj rfl hb (hl _) (fun ls' hl' => k _ h H locs ls' hB hl')
theorem cf_iadd (E : EV p s m args c cc nL own) {x y : Int32} (d : decode cc pc = .ok (.iadd, 1))  (hn : pc + 1 = n) (k : CF p l e R s m args below meth c nL cells slots B Q n lv (.int (x + y) :: st)) : CF p l e R s m args below meth c nL cells slots B Q pc lv (.int y :: .int x :: st) := by
  subst hn
  exact fun H locs ls hB hl => lv_iadd E.1 E.2.1 d (k H locs ls hB hl)
theorem cf_isub (E : EV p s m args c cc nL own) {x y : Int32} (d : decode cc pc = .ok (.isub, 1))  (hn : pc + 1 = n) (k : CF p l e R s m args below meth c nL cells slots B Q n lv (.int (x - y) :: st)) : CF p l e R s m args below meth c nL cells slots B Q pc lv (.int y :: .int x :: st) := by
  subst hn
  exact fun H locs ls hB hl => lv_isub E.1 E.2.1 d (k H locs ls hB hl)
theorem cf_imul (E : EV p s m args c cc nL own) {x y : Int32} (d : decode cc pc = .ok (.imul, 1))  (hn : pc + 1 = n) (k : CF p l e R s m args below meth c nL cells slots B Q n lv (.int (x * y) :: st)) : CF p l e R s m args below meth c nL cells slots B Q pc lv (.int y :: .int x :: st) := by
  subst hn
  exact fun H locs ls hB hl => lv_imul E.1 E.2.1 d (k H locs ls hB hl)
theorem cf_iand (E : EV p s m args c cc nL own) {x y : Int32} (d : decode cc pc = .ok (.iand, 1))  (hn : pc + 1 = n) (k : CF p l e R s m args below meth c nL cells slots B Q n lv (.int (x &&& y) :: st)) : CF p l e R s m args below meth c nL cells slots B Q pc lv (.int y :: .int x :: st) := by
  subst hn
  exact fun H locs ls hB hl => lv_iand E.1 E.2.1 d (k H locs ls hB hl)
theorem cf_ior (E : EV p s m args c cc nL own) {x y : Int32} (d : decode cc pc = .ok (.ior, 1))  (hn : pc + 1 = n) (k : CF p l e R s m args below meth c nL cells slots B Q n lv (.int (x ||| y) :: st)) : CF p l e R s m args below meth c nL cells slots B Q pc lv (.int y :: .int x :: st) := by
  subst hn
  exact fun H locs ls hB hl => lv_ior E.1 E.2.1 d (k H locs ls hB hl)
theorem cf_ixor (E : EV p s m args c cc nL own) {x y : Int32} (d : decode cc pc = .ok (.ixor, 1))  (hn : pc + 1 = n) (k : CF p l e R s m args below meth c nL cells slots B Q n lv (.int (x ^^^ y) :: st)) : CF p l e R s m args below meth c nL cells slots B Q pc lv (.int y :: .int x :: st) := by
  subst hn
  exact fun H locs ls hB hl => lv_ixor E.1 E.2.1 d (k H locs ls hB hl)
theorem cf_ishl (E : EV p s m args c cc nL own) {x y : Int32} (d : decode cc pc = .ok (.ishl, 1))  (hn : pc + 1 = n) (k : CF p l e R s m args below meth c nL cells slots B Q n lv (.int (x <<< (y &&& 31)) :: st)) : CF p l e R s m args below meth c nL cells slots B Q pc lv (.int y :: .int x :: st) := by
  subst hn
  exact fun H locs ls hB hl => lv_ishl E.1 E.2.1 d (k H locs ls hB hl)
theorem cf_ishr (E : EV p s m args c cc nL own) {x y : Int32} (d : decode cc pc = .ok (.ishr, 1))  (hn : pc + 1 = n) (k : CF p l e R s m args below meth c nL cells slots B Q n lv (.int (x >>> (y &&& 31)) :: st)) : CF p l e R s m args below meth c nL cells slots B Q pc lv (.int y :: .int x :: st) := by
  subst hn
  exact fun H locs ls hB hl => lv_ishr E.1 E.2.1 d (k H locs ls hB hl)
theorem cf_ladd (E : EV p s m args c cc nL own) {x y : Int64} (d : decode cc pc = .ok (.ladd, 1))  (hn : pc + 1 = n) (k : CF p l e R s m args below meth c nL cells slots B Q n lv (.long (x + y) :: st)) : CF p l e R s m args below meth c nL cells slots B Q pc lv (.long y :: .long x :: st) := by
  subst hn
  exact fun H locs ls hB hl => lv_ladd E.1 E.2.1 d (k H locs ls hB hl)
theorem cf_lsub (E : EV p s m args c cc nL own) {x y : Int64} (d : decode cc pc = .ok (.lsub, 1))  (hn : pc + 1 = n) (k : CF p l e R s m args below meth c nL cells slots B Q n lv (.long (x - y) :: st)) : CF p l e R s m args below meth c nL cells slots B Q pc lv (.long y :: .long x :: st) := by
  subst hn
  exact fun H locs ls hB hl => lv_lsub E.1 E.2.1 d (k H locs ls hB hl)
theorem cf_lmul (E : EV p s m args c cc nL own) {x y : Int64} (d : decode cc pc = .ok (.lmul, 1))  (hn : pc + 1 = n) (k : CF p l e R s m args below meth c nL cells slots B Q n lv (.long (x * y) :: st)) : CF p l e R s m args below meth c nL cells slots B Q pc lv (.long y :: .long x :: st) := by
  subst hn
  exact fun H locs ls hB hl => lv_lmul E.1 E.2.1 d (k H locs ls hB hl)
theorem cf_land (E : EV p s m args c cc nL own) {x y : Int64} (d : decode cc pc = .ok (.land, 1))  (hn : pc + 1 = n) (k : CF p l e R s m args below meth c nL cells slots B Q n lv (.long (x &&& y) :: st)) : CF p l e R s m args below meth c nL cells slots B Q pc lv (.long y :: .long x :: st) := by
  subst hn
  exact fun H locs ls hB hl => lv_land E.1 E.2.1 d (k H locs ls hB hl)
theorem cf_lor (E : EV p s m args c cc nL own) {x y : Int64} (d : decode cc pc = .ok (.lor, 1))  (hn : pc + 1 = n) (k : CF p l e R s m args below meth c nL cells slots B Q n lv (.long (x ||| y) :: st)) : CF p l e R s m args below meth c nL cells slots B Q pc lv (.long y :: .long x :: st) := by
  subst hn
  exact fun H locs ls hB hl => lv_lor E.1 E.2.1 d (k H locs ls hB hl)
theorem cf_lxor (E : EV p s m args c cc nL own) {x y : Int64} (d : decode cc pc = .ok (.lxor, 1))  (hn : pc + 1 = n) (k : CF p l e R s m args below meth c nL cells slots B Q n lv (.long (x ^^^ y) :: st)) : CF p l e R s m args below meth c nL cells slots B Q pc lv (.long y :: .long x :: st) := by
  subst hn
  exact fun H locs ls hB hl => lv_lxor E.1 E.2.1 d (k H locs ls hB hl)
theorem cf_ineg (E : EV p s m args c cc nL own) {x : Int32} (d : decode cc pc = .ok (.ineg, 1))  (hn : pc + 1 = n) (k : CF p l e R s m args below meth c nL cells slots B Q n lv (.int (-x) :: st)) : CF p l e R s m args below meth c nL cells slots B Q pc lv (.int x :: st) := by
  subst hn
  exact fun H locs ls hB hl => lv_ineg E.1 E.2.1 d (k H locs ls hB hl)
theorem cf_i2l (E : EV p s m args c cc nL own) {x : Int32} (d : decode cc pc = .ok (.i2l, 1))  (hn : pc + 1 = n) (k : CF p l e R s m args below meth c nL cells slots B Q n lv (.long x.toInt64 :: st)) : CF p l e R s m args below meth c nL cells slots B Q pc lv (.int x :: st) := by
  subst hn
  exact fun H locs ls hB hl => lv_i2l E.1 E.2.1 d rfl (k H locs ls hB hl)
theorem cf_l2i (E : EV p s m args c cc nL own) {x : Int64} (d : decode cc pc = .ok (.l2i, 1))  (hn : pc + 1 = n) (k : CF p l e R s m args below meth c nL cells slots B Q n lv (.int x.toInt32 :: st)) : CF p l e R s m args below meth c nL cells slots B Q pc lv (.long x :: st) := by
  subst hn
  exact fun H locs ls hB hl => lv_l2i E.1 E.2.1 d rfl (k H locs ls hB hl)
theorem cf_i2b (E : EV p s m args c cc nL own) {x : Int32} (d : decode cc pc = .ok (.i2b, 1))  (hn : pc + 1 = n) (k : CF p l e R s m args below meth c nL cells slots B Q n lv (.int x.toInt8.toInt32 :: st)) : CF p l e R s m args below meth c nL cells slots B Q pc lv (.int x :: st) := by
  subst hn
  exact fun H locs ls hB hl => lv_i2b E.1 E.2.1 d rfl (k H locs ls hB hl)
theorem cf_i2s (E : EV p s m args c cc nL own) {x : Int32} (d : decode cc pc = .ok (.i2s, 1))  (hn : pc + 1 = n) (k : CF p l e R s m args below meth c nL cells slots B Q n lv (.int x.toInt16.toInt32 :: st)) : CF p l e R s m args below meth c nL cells slots B Q pc lv (.int x :: st) := by
  subst hn
  exact fun H locs ls hB hl => lv_i2s E.1 E.2.1 d rfl (k H locs ls hB hl)
theorem cf_lcmp (E : EV p s m args c cc nL own) {x y : Int64} (d : decode cc pc = .ok (.lcmp, 1))  (hn : pc + 1 = n) (k : CF p l e R s m args below meth c nL cells slots B Q n lv (.int (lg_cmp x y) :: st)) : CF p l e R s m args below meth c nL cells slots B Q pc lv (.long y :: .long x :: st) := by
  subst hn
  exact fun H locs ls hB hl => W.lcmp E.1 E.2.1 d (k H locs ls hB hl)
theorem cf_lshl (E : EV p s m args c cc nL own) {x v : Int64} {y : Int32} (d : decode cc pc = .ok (.lshl, 1)) (hv : x <<< (y.toInt64 &&& 63) = v) (hn : pc + 1 = n) (k : CF p l e R s m args below meth c nL cells slots B Q n lv (.long v :: st)) : CF p l e R s m args below meth c nL cells slots B Q pc lv (.int y :: .long x :: st) := by
  subst hn
  exact fun H locs ls hB hl => lv_lshl E.1 E.2.1 d hv (k H locs ls hB hl)
theorem cf_idivL (E : EV p s m args c cc nL own) {x y : Int32} (d : decode cc pc = .ok (.idiv, 1)) (hv : ¬ y = 0) (hn : pc + 1 = n) (k : CF p l e R s m args below meth c nL cells slots B Q n lv (.int (x / y) :: st)) : CF p l e R s m args below meth c nL cells slots B Q pc lv (.int y :: .int x :: st) := by
  subst hn
  exact fun H locs ls hB hl => lv_idiv E.1 E.2.1 d hv (k H locs ls hB hl)
theorem cf_idiv (E : EV p s m args c cc nL own) {x y : Int32} {A9 : Option ρ} (d : decode cc pc = .ok (.idiv, 1)) (h : (if y = 0 then none else A9) = some res) (hn : pc + 1 = n) (k : A9 = some res → CF p l e R s m args below meth c nL cells slots B Q n lv (.int (x / y) :: st)) : CF p l e R s m args below meth c nL cells slots B Q pc lv (.int y :: .int x :: st) := by
  subst hn
  by_cases hy : y = 0
  · rw [if_pos hy] at h; cases h
  · rw [if_neg hy] at h
    exact fun H locs ls hB hl => lv_idiv E.1 E.2.1 d hy (k h H locs ls hB hl)
theorem cf_iremL (E : EV p s m args c cc nL own) {x y : Int32} (d : decode cc pc = .ok (.irem, 1)) (hv : ¬ y = 0) (hn : pc + 1 = n) (k : CF p l e R s m args below meth c nL cells slots B Q n lv (.int (x - x / y * y) :: st)) : CF p l e R s m args below meth c nL cells slots B Q pc lv (.int y :: .int x :: st) := by
  subst hn
  exact fun H locs ls hB hl => lv_irem E.1 E.2.1 d hv (k H locs ls hB hl)
theorem cf_irem (E : EV p s m args c cc nL own) {x y : Int32} {A9 : Option ρ} (d : decode cc pc = .ok (.irem, 1)) (h : (if y = 0 then none else A9) = some res) (hn : pc + 1 = n) (k : A9 = some res → CF p l e R s m args below meth c nL cells slots B Q n lv (.int (x - x / y * y) :: st)) : CF p l e R s m args below meth c nL cells slots B Q pc lv (.int y :: .int x :: st) := by
  subst hn
  by_cases hy : y = 0
  · rw [if_pos hy] at h; cases h
  · rw [if_neg hy] at h
    exact fun H locs ls hB hl => lv_irem E.1 E.2.1 d hy (k h H locs ls hB hl)
theorem cf_ldivL (E : EV p s m args c cc nL own) {x y : Int64} (d : decode cc pc = .ok (.ldiv, 1)) (hv : ¬ y = 0) (hn : pc + 1 = n) (k : CF p l e R s m args below meth c nL cells slots B Q n lv (.long (x / y) :: st)) : CF p l e R s m args below meth c nL cells slots B Q pc lv (.long y :: .long x :: st) := by
  subst hn
  exact fun H locs ls hB hl => lv_ldiv E.1 E.2.1 d hv (k H locs ls hB hl)
theorem cf_ldiv (E : EV p s m args c cc nL own) {x y : Int64} {A9 : Option ρ} (d : decode cc pc = .ok (.ldiv, 1)) (h : (if y = 0 then none else A9) = some res) (hn : pc + 1 = n) (k : A9 = some res → CF p l e R s m args below meth c nL cells slots B Q n lv (.long (x / y) :: st)) : CF p l e R s m args below meth c nL cells slots B Q pc lv (.long y :: .long x :: st) := by
  subst hn
  by_cases hy : y = 0
  · rw [if_pos hy] at h; cases h
  · rw [if_neg hy] at h
    exact fun H locs ls hB hl => lv_ldiv E.1 E.2.1 d hy (k h H locs ls hB hl)
theorem cf_lremL (E : EV p s m args c cc nL own) {x y : Int64} (d : decode cc pc = .ok (.lrem, 1)) (hv : ¬ y = 0) (hn : pc + 1 = n) (k : CF p l e R s m args below meth c nL cells slots B Q n lv (.long (x - x / y * y) :: st)) : CF p l e R s m args below meth c nL cells slots B Q pc lv (.long y :: .long x :: st) := by
  subst hn
  exact fun H locs ls hB hl => lv_lrem E.1 E.2.1 d hv (k H locs ls hB hl)
theorem cf_lrem (E : EV p s m args c cc nL own) {x y : Int64} {A9 : Option ρ} (d : decode cc pc = .ok (.lrem, 1)) (h : (if y = 0 then none else A9) = some res) (hn : pc + 1 = n) (k : A9 = some res → CF p l e R s m args below meth c nL cells slots B Q n lv (.long (x - x / y * y) :: st)) : CF p l e R s m args below meth c nL cells slots B Q pc lv (.long y :: .long x :: st) := by
  subst hn
  by_cases hy : y = 0
  · rw [if_pos hy] at h; cases h
  · rw [if_neg hy] at h
    exact fun H locs ls hB hl => lv_lrem E.1 E.2.1 d hy (k h H locs ls hB hl)
theorem cf_dup (E : EV p s m args c cc nL own) {v : Value} (d : decode cc pc = .ok (.dup, 1)) (hv : v.category = 1) (hn : pc + 1 = n) (k : CF p l e R s m args below meth c nL cells slots B Q n lv (v :: v :: st)) : CF p l e R s m args below meth c nL cells slots B Q pc lv (v :: st) := by
  subst hn
  exact fun H locs ls hB hl => lv_dup E.1 E.2.1 d hv (k H locs ls hB hl)
theorem cf_pop (E : EV p s m args c cc nL own) {v : Value} (d : decode cc pc = .ok (.pop, 1)) (hv : v.category = 1) (hn : pc + 1 = n) (k : CF p l e R s m args below meth c nL cells slots B Q n lv (st)) : CF p l e R s m args below meth c nL cells slots B Q pc lv (v :: st) := by
  subst hn
  exact fun H locs ls hB hl => lv_pop E.1 E.2.1 d hv (k H locs ls hB hl)
theorem cf_dup_x1 (E : EV p s m args c cc nL own) {v w : Value} (d : decode cc pc = .ok (.dup_x1, 1)) (hv : v.category = 1) (hw : w.category = 1) (hn : pc + 1 = n) (k : CF p l e R s m args below meth c nL cells slots B Q n lv (v :: w :: v :: st)) : CF p l e R s m args below meth c nL cells slots B Q pc lv (v :: w :: st) := by
  subst hn
  exact fun H locs ls hB hl => lv_dup_x1 E.1 E.2.1 d hv hw (k H locs ls hB hl)
theorem cf_dup_x2 (E : EV p s m args c cc nL own) {v w u : Value} (d : decode cc pc = .ok (.dup_x2, 1)) (hv : v.category = 1) (hw : w.category = 1) (hu : u.category = 1) (hn : pc + 1 = n) (k : CF p l e R s m args below meth c nL cells slots B Q n lv (v :: w :: u :: v :: st)) : CF p l e R s m args below meth c nL cells slots B Q pc lv (v :: w :: u :: st) := by
  subst hn
  exact fun H locs ls hB hl => lv_dup_x2 E.1 E.2.1 d hv hw hu (k H locs ls hB hl)
theorem cf_dup2 (E : EV p s m args c cc nL own) {v w : Value} (d : decode cc pc = .ok (.dup2, 1)) (hv : v.category = 1) (hw : w.category = 1) (hn : pc + 1 = n) (k : CF p l e R s m args below meth c nL cells slots B Q n lv (v :: w :: v :: w :: st)) : CF p l e R s m args below meth c nL cells slots B Q pc lv (v :: w :: st) := by
  subst hn
  exact fun H locs ls hB hl => lv_dup2_11 E.1 E.2.1 d hv hw (k H locs ls hB hl)
theorem cf_if_eq (E : EV p s m args c cc nL own) {x : Int32} {off : Int} {tgt : Nat} {At Bf : Option ρ} (d : decode cc pc = .ok (.ifCond .eq off, 3)) (h : (if x = 0 then At else Bf) = some res) (ht : (pc : Int) + off = (tgt : Int)) (hn : pc + 3 = n) (kt : At = some res → CF p l e R s m args below meth c nL cells slots B Q tgt lv st) (kf : Bf = some res → CF p l e R s m args below meth c nL cells slots B Q n lv st) : CF p l e R s m args below meth c nL cells slots B Q pc lv (.int x :: st) := by
  subst hn
  intro H locs ls hB hl
  refine lv_if_eq E.1 E.2.1 d ht (fun hc => ?_) (fun hc => ?_)
  · exact kt (by rw [if_pos hc] at h; exact h) H locs ls hB hl
  · exact kf (by rw [if_neg hc] at h; exact h) H locs ls hB hl
theorem cf_if_ne (E : EV p s m args c cc nL own) {x : Int32} {off : Int} {tgt : Nat} {At Bf : Option ρ} (d : decode cc pc = .ok (.ifCond .ne off, 3)) (h : (if x = 0 then Bf else At) = some res) (ht : (pc : Int) + off = (tgt : Int)) (hn : pc + 3 = n) (kt : At = some res → CF p l e R s m args below meth c nL cells slots B Q tgt lv st) (kf : Bf = some res → CF p l e R s m args below meth c nL cells slots B Q n lv st) : CF p l e R s m args below meth c nL cells slots B Q pc lv (.int x :: st) := by
  subst hn
  intro H locs ls hB hl
  refine lv_if_ne E.1 E.2.1 d ht (fun hc => ?_) (fun hc => ?_)
  · exact kt (by rw [if_neg hc] at h; exact h) H locs ls hB hl
  · exact kf (by rw [if_pos hc] at h; exact h) H locs ls hB hl
theorem cf_if_lt (E : EV p s m args c cc nL own) {x : Int32} {off : Int} {tgt : Nat} {At Bf : Option ρ} (d : decode cc pc = .ok (.ifCond .lt off, 3)) (h : (if x < 0 then At else Bf) = some res) (ht : (pc : Int) + off = (tgt : Int)) (hn : pc + 3 = n) (kt : At = some res → CF p l e R s m args below meth c nL cells slots B Q tgt lv st) (kf : Bf = some res → CF p l e R s m args below meth c nL cells slots B Q n lv st) : CF p l e R s m args below meth c nL cells slots B Q pc lv (.int x :: st) := by
  subst hn
  intro H locs ls hB hl
  refine lv_if_lt E.1 E.2.1 d ht (fun hc => ?_) (fun hc => ?_)
  · exact kt (by rw [if_pos hc] at h; exact h) H locs ls hB hl
  · exact kf (by rw [if_neg hc] at h; exact h) H locs ls hB hl
theorem cf_if_ge (E : EV p s m args c cc nL own) {x : Int32} {off : Int} {tgt : Nat} {At Bf : Option ρ} (d : decode cc pc = .ok (.ifCond .ge off, 3)) (h : (if 0 ≤ x then At else Bf) = some res) (ht : (pc : Int) + off = (tgt : Int)) (hn : pc + 3 = n) (kt : At = some res → CF p l e R s m args below meth c nL cells slots B Q tgt lv st) (kf : Bf = some res → CF p l e R s m args below meth c nL cells slots B Q n lv st) : CF p l e R s m args below meth c nL cells slots B Q pc lv (.int x :: st) := by
  subst hn
  intro H locs ls hB hl
  refine lv_if_ge E.1 E.2.1 d ht (fun hc => ?_) (fun hc => ?_)
  · exact kt (by rw [if_pos hc] at h; exact h) H locs ls hB hl
  · exact kf (by rw [if_neg hc] at h; exact h) H locs ls hB hl
theorem cf_if_gt (E : EV p s m args c cc nL own) {x : Int32} {off : Int} {tgt : Nat} {At Bf : Option ρ} (d : decode cc pc = .ok (.ifCond .gt off, 3)) (h : (if 0 < x then At else Bf) = some res) (ht : (pc : Int) + off = (tgt : Int)) (hn : pc + 3 = n) (kt : At = some res → CF p l e R s m args below meth c nL cells slots B Q tgt lv st) (kf : Bf = some res → CF p l e R s m args below meth c nL cells slots B Q n lv st) : CF p l e R s m args below meth c nL cells slots B Q pc lv (.int x :: st) := by
  subst hn
  intro H locs ls hB hl
  refine lv_if_gt E.1 E.2.1 d ht (fun hc => ?_) (fun hc => ?_)
  · exact kt (by rw [if_pos hc] at h; exact h) H locs ls hB hl
  · exact kf (by rw [if_neg hc] at h; exact h) H locs ls hB hl
theorem cf_if_le (E : EV p s m args c cc nL own) {x : Int32} {off : Int} {tgt : Nat} {At Bf : Option ρ} (d : decode cc pc = .ok (.ifCond .le off, 3)) (h : (if x ≤ 0 then At else Bf) = some res) (ht : (pc : Int) + off = (tgt : Int)) (hn : pc + 3 = n) (kt : At = some res → CF p l e R s m args below meth c nL cells slots B Q tgt lv st) (kf : Bf = some res → CF p l e R s m args below meth c nL cells slots B Q n lv st) : CF p l e R s m args below meth c nL cells slots B Q pc lv (.int x :: st) := by
  subst hn
  intro H locs ls hB hl
  refine lv_if_le E.1 E.2.1 d ht (fun hc => ?_) (fun hc => ?_)
  · exact kt (by rw [if_pos hc] at h; exact h) H locs ls hB hl
  · exact kf (by rw [if_neg hc] at h; exact h) H locs ls hB hl
theorem cf_icmp_eq (E : EV p s m args c cc nL own) {x y : Int32} {off : Int} {tgt : Nat} {At Bf : Option ρ} (d : decode cc pc = .ok (.if_icmp .eq off, 3)) (h : (if x = y then At else Bf) = some res) (ht : (pc : Int) + off = (tgt : Int)) (hn : pc + 3 = n) (kt : At = some res → CF p l e R s m args below meth c nL cells slots B Q tgt lv st) (kf : Bf = some res → CF p l e R s m args below meth c nL cells slots B Q n lv st) : CF p l e R s m args below meth c nL cells slots B Q pc lv (.int y :: .int x :: st) := by
  subst hn
  intro H locs ls hB hl
  refine lv_icmp_eq E.1 E.2.1 d ht (fun hc => ?_) (fun hc => ?_)
  · exact kt (by rw [if_pos hc] at h; exact h) H locs ls hB hl
  · exact kf (by rw [if_neg hc] at h; exact h) H locs ls hB hl
theorem cf_icmp_ne (E : EV p s m args c cc nL own) {x y : Int32} {off : Int} {tgt : Nat} {At Bf : Option ρ} (d : decode cc pc = .ok (.if_icmp .ne off, 3)) (h : (if x = y then Bf else At) = some res) (ht : (pc : Int) + off = (tgt : Int)) (hn : pc + 3 = n) (kt : At = some res → CF p l e R s m args below meth c nL cells slots B Q tgt lv st) (kf : Bf = some res → CF p l e R s m args below meth c nL cells slots B Q n lv st) : CF p l e R s m args below meth c nL cells slots B Q pc lv (.int y :: .int x :: st) := by
  subst hn
  intro H locs ls hB hl
  refine lv_icmp_ne E.1 E.2.1 d ht (fun hc => ?_) (fun hc => ?_)
  · exact kt (by rw [if_neg hc] at h; exact h) H locs ls hB hl
  · exact kf (by rw [if_pos hc] at h; exact h) H locs ls hB hl
theorem cf_icmp_lt (E : EV p s m args c cc nL own) {x y : Int32} {off : Int} {tgt : Nat} {At Bf : Option ρ} (d : decode cc pc = .ok (.if_icmp .lt off, 3)) (h : (if x < y then At else Bf) = some res) (ht : (pc : Int) + off = (tgt : Int)) (hn : pc + 3 = n) (kt : At = some res → CF p l e R s m args below meth c nL cells slots B Q tgt lv st) (kf : Bf = some res → CF p l e R s m args below meth c nL cells slots B Q n lv st) : CF p l e R s m args below meth c nL cells slots B Q pc lv (.int y :: .int x :: st) := by
  subst hn
  intro H locs ls hB hl
  refine lv_icmp_lt E.1 E.2.1 d ht (fun hc => ?_) (fun hc => ?_)
  · exact kt (by rw [if_pos hc] at h; exact h) H locs ls hB hl
  · exact kf (by rw [if_neg hc] at h; exact h) H locs ls hB hl
theorem cf_icmp_ge (E : EV p s m args c cc nL own) {x y : Int32} {off : Int} {tgt : Nat} {At Bf : Option ρ} (d : decode cc pc = .ok (.if_icmp .ge off, 3)) (h : (if y ≤ x then At else Bf) = some res) (ht : (pc : Int) + off = (tgt : Int)) (hn : pc + 3 = n) (kt : At = some res → CF p l e R s m args below meth c nL cells slots B Q tgt lv st) (kf : Bf = some res → CF p l e R s m args below meth c nL cells slots B Q n lv st) : CF p l e R s m args below meth c nL cells slots B Q pc lv (.int y :: .int x :: st) := by
  subst hn
  intro H locs ls hB hl
  refine lv_icmp_ge E.1 E.2.1 d ht (fun hc => ?_) (fun hc => ?_)
  · exact kt (by rw [if_pos hc] at h; exact h) H locs ls hB hl
  · exact kf (by rw [if_neg hc] at h; exact h) H locs ls hB hl
theorem cf_icmp_gt (E : EV p s m args c cc nL own) {x y : Int32} {off : Int} {tgt : Nat} {At Bf : Option ρ} (d : decode cc pc = .ok (.if_icmp .gt off, 3)) (h : (if y < x then At else Bf) = some res) (ht : (pc : Int) + off = (tgt : Int)) (hn : pc + 3 = n) (kt : At = some res → CF p l e R s m args below meth c nL cells slots B Q tgt lv st) (kf : Bf = some res → CF p l e R s m args below meth c nL cells slots B Q n lv st) : CF p l e R s m args below meth c nL cells slots B Q pc lv (.int y :: .int x :: st) := by
  subst hn
  intro H locs ls hB hl
  refine lv_icmp_gt E.1 E.2.1 d ht (fun hc => ?_) (fun hc => ?_)
  · exact kt (by rw [if_pos hc] at h; exact h) H locs ls hB hl
  · exact kf (by rw [if_neg hc] at h; exact h) H locs ls hB hl
theorem cf_icmp_le (E : EV p s m args c cc nL own) {x y : Int32} {off : Int} {tgt : Nat} {At Bf : Option ρ} (d : decode cc pc = .ok (.if_icmp .le off, 3)) (h : (if x ≤ y then At else Bf) = some res) (ht : (pc : Int) + off = (tgt : Int)) (hn : pc + 3 = n) (kt : At = some res → CF p l e R s m args below meth c nL cells slots B Q tgt lv st) (kf : Bf = some res → CF p l e R s m args below meth c nL cells slots B Q n lv st) : CF p l e R s m args below meth c nL cells slots B Q pc lv (.int y :: .int x :: st) := by
  subst hn
  intro H locs ls hB hl
  refine lv_icmp_le E.1 E.2.1 d ht (fun hc => ?_) (fun hc => ?_)
  · exact kt (by rw [if_pos hc] at h; exact h) H locs ls hB hl
  · exact kf (by rw [if_neg hc] at h; exact h) H locs ls hB hl
theorem cf_goto (E : EV p s m args c cc nL own) {off : Int} {tgt : Nat} (d : decode cc pc = .ok (.goto off, 3)) (ht : (pc : Int) + off = (tgt : Int)) (k : CF p l e R s m args below meth c nL cells slots B Q tgt lv st) : CF p l e R s m args below meth c nL cells slots B Q pc lv st := fun H locs ls hB hl => lv_goto E.1 E.2.1 d ht (k H locs ls hB hl)
theorem cf_tabIn (E : EV p s m args c cc nL own) {dflt lo hi : Int} {offs : Array Int} {len : Nat} {x : Int32} {off : Int} {tgt : Nat} (z : Int) (d : decode cc pc = .ok (.tableswitch dflt lo hi offs, len)) (hz : x.toInt = z) (h1 : ¬ z < lo) (h2 : ¬ hi < z) (ho : offs[(z - lo).toNat]? = some off) (ht : (pc : Int) + off = (tgt : Int)) (k : CF p l e R s m args below meth c nL cells slots B Q tgt lv st) : CF p l e R s m args below meth c nL cells slots B Q pc lv (.int x :: st) := by
  subst hz
  exact fun H locs ls hB hl => lv_tableIn E.1 E.2.1 d h1 h2 ho ht (k H locs ls hB hl)
theorem cf_tabOut (E : EV p s m args c cc nL own) {dflt lo hi : Int} {offs : Array Int} {len : Nat} {x : Int32} {tgt : Nat} (d : decode cc pc = .ok (.tableswitch dflt lo hi offs, len)) (h : x.toInt < lo ∨ hi < x.toInt) (ht : (pc : Int) + dflt = (tgt : Int)) (k : CF p l e R s m args below meth c nL cells slots B Q tgt lv st) : CF p l e R s m args below meth c nL cells slots B Q pc lv (.int x :: st) :=
  fun H locs ls hB hl => lv_tableOut E.1 E.2.1 d h ht (k H locs ls hB hl)
theorem cf_look (E : EV p s m args c cc nL own) {dflt : Int} {ps : Array (Int × Int)} {len : Nat} {x : Int32} {off : Int} {tgt : Nat} (d : decode cc pc = .ok (.lookupswitch dflt ps, len)) (hp : (ps.toList.zip (ps.toList.drop 1)).all (fun (a, next) => a.1 < next.1) = true) (ho : Op.lookupswitch.offset ps.toList dflt x.toInt = off) (ht : (pc : Int) + off = (tgt : Int)) (k : CF p l e R s m args below meth c nL cells slots B Q tgt lv st) : CF p l e R s m args below meth c nL cells slots B Q pc lv (.int x :: st) :=
  fun H locs ls hB hl => lv_lookup E.1 E.2.1 d hp ho ht (k H locs ls hB hl)
theorem i32_eqZ {x y : Int32} {z : Int} (h : x = y) (hz : y.toInt = z) : x.toInt = z := h ▸ hz
theorem i32_neZ {x y : Int32} {z : Int} (h : ¬ x = y) (hz : y.toInt = z) : x.toInt ≠ z := fun q => h (Int32.toInt_inj.mp (q.trans hz.symm))
theorem look_no {k a b o d : Int} {r : List (Int × Int)} (h : k ≠ a) (hr : Op.lookupswitch.offset r d k = o) : Op.lookupswitch.offset ((a, b) :: r) d k = o := by
  rw [Op.lookupswitch.offset_cons, if_neg (fun q => h q.symm)]; exact hr
theorem nzb0 : narrow .boolean (.int 0) = .int 0 := by decide +kernel
theorem nzb1 : narrow .boolean (.int 1) = .int 1 := by decide +kernel
theorem fzb0 : fits .boolean (.int 0) = true := by decide +kernel
theorem fzb1 : fits .boolean (.int 1) = true := by decide +kernel
theorem i32_ne {x : Int32} {y : Int32} (h : ¬ x = y) : x.toInt ≠ y.toInt := fun q => h (Int32.toInt_inj.mp q)
end CFR
