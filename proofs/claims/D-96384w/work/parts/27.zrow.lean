/-! THROWING: printed by gen/zrow.py -/
set_option maxRecDepth 100000
def CX (p : Program) (l : Launch) (e : Env) (R : Room) (s : State) (m : MethodId) (args : Array Value) (below : List Frame) (meth : Method) (c : Code) (nL cells slots : Nat) (B : Heap → List Loc → Prop) (Q : State → Prop) (pc : Nat) (lv : List (Nat × Value)) (E : String) (q : Nat) : Prop :=
  ∀ (H : Heap) (locs : List Loc) (ls : Array Slot) (rest : List Value) (ce : Cell), B H locs → lv_has ls nL lv → H[q]? = some ce → ce.vm = .none → s.vm.findClass E = some ce.cls → vx_W p l e R s m args below meth c H locs cells slots Q (F0 m pc ls rest) q
def XXt (g : XG) (A : Nat → Prop) (KX : String → Nat → XS → Prop) : String → Addr → State → State → Prop := vx_X (fun u : XS × String × Nat => KX u.2.1 u.2.2 u.1) (fun E q u t => (u.2.1 = E ∧ u.2.2 = q) ∧ XBt g A u.1 t) A
abbrev ZX (p : Program) (l : Launch) (e : Env) (R : Room) (s : State) (m : MethodId) (args : Array Value) (below : List Frame) (meth : Method) (c : Code) (nL : Nat) (A : Nat → Prop) (g : XG) (Q : State → Prop) (KX : String → Nat → XS → Prop) : Prop := ∀ (pc : Nat) (lv : List (Nat × Value)) (E : String) (q : Nat) (ξ1 : XS) (cells slots : Nat), cells ≤ R.cells → slots ≤ R.slots → KX E q ξ1 → CX p l e R s m args below meth c nL cells slots (XB g A s ξ1) Q pc lv E q
def bnyx {α : Type} (F : Nat → Nat → (α → XS → Prop) → (String → Nat → XS → Prop) → Prop) (mc ms : Nat) (kx : Nat → Nat → String → Nat → XS → Prop) (kk : Nat → Nat → α → XS → Prop) : Prop := ∃ m1 n1, m1 ≤ mc ∧ n1 ≤ ms ∧ F m1 n1 (kk m1 n1) (kx m1 n1)
def bnyvx (F : Nat → Nat → (XS → Prop) → (String → Nat → XS → Prop) → Prop) (mc ms : Nat) (kx : Nat → Nat → String → Nat → XS → Prop) (kk : Nat → Nat → XS → Prop) : Prop := ∃ m1 n1, m1 ≤ mc ∧ n1 ≤ ms ∧ F m1 n1 (kk m1 n1) (kx m1 n1)
theorem sXd2 {ξ : XS} {a : Nat} {e1 e2 : va_E} : sXd (sXd ξ a e1) a e2 = sXd ξ a e2 := by
  have h : va_up (va_up ξ.2.2.2.2.2 a e1) a e2 = va_up ξ.2.2.2.2.2 a e2 := by
    funext k
    unfold va_up
    by_cases hk : k = a <;> simp [hk]
  show (ξ.1, ξ.2.1, ξ.2.2.1, ξ.2.2.2.1, ξ.2.2.2.2.1, va_up (va_up ξ.2.2.2.2.2 a e1) a e2) = _
  rw [h]
  rfl
theorem sXpX {ξ : XS} {a : Nat} {e1 e2 : va_E} : sXd (pXd ξ a e1) a e2 = pXd ξ a e2 := by
  have h : va_up (va_up ξ.2.2.2.2.2 a e1) a e2 = va_up ξ.2.2.2.2.2 a e2 := by
    funext k
    unfold va_up
    by_cases hk : k = a <;> simp [hk]
  show (ξ.1, ξ.2.1, ξ.2.2.1, ξ.2.2.2.1, ξ.2.2.2.2.1 ++ [a], va_up (va_up ξ.2.2.2.2.2 a e1) a e2) = _
  rw [h]
  rfl
theorem dE_pX {ξ : XS} {a : Nat} {e1 : va_E} : dE (pXd ξ a e1) a = some e1 := by
  unfold dE
  rw [if_pos (show a ∈ xL (pXd ξ a e1) from List.mem_append_right _ (List.mem_singleton.mpr rfl))]
  show some (va_up ξ.2.2.2.2.2 a e1 a) = _
  simp [va_up]
theorem dE_sX {ξ : XS} {a : Nat} {e1 : va_E} (h : a ∈ xL ξ) : dE (sXd ξ a e1) a = some e1 := by
  unfold dE
  rw [if_pos (show a ∈ xL (sXd ξ a e1) from h)]
  show some (va_up ξ.2.2.2.2.2 a e1 a) = _
  simp [va_up]
theorem dE_in {ξ : XS} {a : Nat} {e1 : va_E} (h : dE ξ a = some e1) : a ∈ xL ξ := by
  unfold dE at h
  by_cases ha : a ∈ xL ξ
  · exact ha
  · rw [if_neg ha] at h; cases h
section XC
variable {p : Program} {l : Launch} {e : Env} {R : Room} {s : State} {m : MethodId} {args : Array Value} {below : List Frame} {meth : Method} {c : Code} {nL cells slots : Nat} {A : Nat → Prop} {g : XG} {ξ : XS} {Q : State → Prop} {pc n : Nat} {lv : List (Nat × Value)} {st : List Value} {cc : ByteArray}
theorem cx_athrow {own : String} (E : EV p s m args c cc nL own) {q : Nat} {fs : List Value} (he : dE ξ q = some (.inr (16, fs))) (d : decode cc pc = .ok (.athrow, 1)) (k : CX p l e R s m args below meth c nL cells slots (XB g A s ξ) Q pc lv offN q) : CF p l e R s m args below meth c nL cells slots (XB g A s ξ) Q pc lv (.ref q :: st) := by
  intro H locs ls hB hl
  obtain ⟨q0, hq0⟩ := dE_at (g := g) he
  obtain ⟨r9, hr9, ce, g1, g2, g3, -⟩ := hB.1 q0 _ hq0
  cases hr9
  have hf := (hB.2.2.2.1.1 16 _ (show vwCl[16]? = some (RX15, TX15, 7) from rfl)).2.1
  exact vx_athrow E.1 E.2.1 d (k H locs ls st ce hB hl g1 g3 (by rw [g2]; exact hf))
theorem cx_athrowC {own : String} (E : EV p s m args c cc nL own) {q : Nat} {A9 : Prop} (d : decode cc pc = .ok (.athrow, 1)) (h : if isC ξ q 16 16 = true then A9 else False) (k : A9 → CX p l e R s m args below meth c nL cells slots (XB g A s ξ) Q pc lv offN q) : CF p l e R s m args below meth c nL cells slots (XB g A s ξ) Q pc lv (.ref q :: st) := by
  by_cases hi : isC ξ q 16 16 = true
  · rw [if_pos hi] at h
    obtain ⟨ci, hci, h1, h2⟩ := isC_at hi
    have e9 : ci = 16 := by omega
    subst e9
    unfold dCi at hci
    split at hci
    · rename_i ci fs he
      cases hci
      exact cx_athrow E he d (k h)
    · cases hci
  · rw [if_neg hi] at h; cases h
theorem cx_catch {own name E9 : String} (E : EV p s m args c cc nL own) {q : Nat} {hh : List (Nat × Nat × Nat × Nat)} (htab : c.exceptionTable.toList = tableOf hh) (pre : List ExceptionTableEntry) (x : ExceptionTableEntry) (suf : List ExceptionTableEntry) (hsplit : tableOf hh = pre ++ x :: suf)
    (hpass : ∀ z ∈ pre, covers z pc = false ∨ (z.catchType ≠ 0 ∧ ∃ nm : String, Cond.classLink own z.catchType nm ∈ lw_all ∧ (E9, nm) ∈ ncs)) (hx : covers x pc = true) (h0 : x.catchType ≠ 0) (hlink : Cond.classLink own x.catchType name ∈ lw_all) (hcast : Cond.castable E9 name ∈ lw_tbl) (hn : x.handlerPc = n) (k : CF p l e R s m args below meth c nL cells slots (XB g A s ξ) Q n lv [.ref q]) : CX p l e R s m args below meth c nL cells slots (XB g A s ξ) Q pc lv E9 q := by
  subst hn
  intro H locs ls rest ce hB hl h1 h2 h3
  have hN := hB.2.2.2.2.2
  refine vx_catch (name := name) (E := E9) (ce := ce) E.2.2.2.1 pre x suf (htab.trans hsplit) (fun z hz => ?_) hx h0 (E.2.2.2.2 _ hlink) (va_tabs rfl rfl (hN.1 _ hcast rfl)) h1 h2 h3 (k H locs ls hB hl)
  rcases hpass z hz with h | ⟨ha, nm, hb, hc⟩
  · exact Or.inl h
  · exact Or.inr ⟨ha, nm, E.2.2.2.2 _ hb, hN.2.1 _ hc⟩
end XC
abbrev YTq (p : Program) (l : Launch) (e : Env) (R : Room) (s : State) (m : MethodId) (args : Array Value) (below : List Frame) (meth : Method) (c : Code) (cc : ByteArray) (nL : Nat) (A : Nat → Prop) (g : XG) (Q : State → Prop) (K : Option Nat → XS → Prop) : Prop := ∀ (pc : Nat) (lv : List (Nat × Value)) (v : Option Nat) (ξ1 : XS) (cells slots : Nat), cells ≤ R.cells → slots ≤ R.slots → decode cc pc = .ok (.areturn, 1) → K v ξ1 → CF p l e R s m args below meth c nL cells slots (XB g A s ξ1) Q pc lv [va_rf v]
def MetZi (l : Launch) (g : XG) (y : MethodName) (ws : List Cond) (fr lo : Nat) (As : List Value) (ξ : XS) (mc ms : Nat) (K : Int32 → XS → Prop) (KX : String → Nat → XS → Prop) : Prop := ∀ sz, vx_Met l y ws { frames := fr, cells := mc, slots := ms, locals := lo } (XPc g ξ As sz) (va_Qi K (XBt g (va_A (xcs g ξ) sz)) (va_A (xcs g ξ) sz)) (XXt g (va_A (xcs g ξ) sz) KX) mc ms (va_A (xcs g ξ) sz)
theorem met_zi {l : Launch} {g : XG} {ξ : XS} {cc : ByteArray} {own : String} {y : MethodName} {maxL mc ms fr lo : Nat} {As : List Value} {K : Int32 → XS → Prop} {KX : String → Nat → XS → Prop} {ty : FieldType} {lv0 : List (Nat × Value)} (hy : plainName y.cls = true) (hyc : y.cls = own) (hlen : (lg_sl As).length ≤ maxL) (hlv : lv_args 0 As = lv0)
    (body : ∀ (p : Program) (e : Env) (s : State) (m : MethodId) (below : List Frame) (meth : Method) (c : Code) (A : Nat → Prop) (Q : State → Prop), EV p s m As.toArray c cc maxL own → meth.name = y.name → meth.locks = false → ZX p l e { frames := fr, cells := mc, slots := ms, locals := lo } s m As.toArray below meth c maxL A g Q KX → YTi p l e { frames := fr, cells := mc, slots := ms, locals := lo } s m As.toArray below meth c cc maxL A g ty Q K → CF p l e { frames := fr, cells := mc, slots := ms, locals := lo } s m As.toArray below meth c maxL 0 0 (XB g A s ξ) Q 0 lv0 []) : MetZi l g y (ws_ y cc maxL (some ty)) fr lo As ξ mc ms K KX := by
  intro sz
  refine vx_ofW (cc := cc) (maxL := maxL) (ret := (some ty)) hy rfl ?_
  intro p e s m args below meth c s₁ B hml htab hv
  obtain ⟨rfl, hsz, hP, hK, hD0, hN⟩ := hv
  have hts0 := atoms_spec (ws := ws_ y cc maxL (some ty)) B.pre
  have hts : ∀ w ∈ lw_all, w.before _ s = true := fun w h => hts0 w (List.mem_cons_of_mem _ h)
  have hown : s.vm.findClass own = some m.cls := by rw [← hyc]; exact findClass_of_methodNamed B.named
  have hin : meth.name = y.name := (name_of_methodNamed B.named B.method).1
  have hlocks := B.notSynchronized
  subst hsz
  have hD := hD0.self (sz := s.heap.size)
  have hA : ∀ q : Nat, s.heap.size ≤ q → va_A (xcs g ξ) s.heap.size q := fun q h => Or.inr h
  have hS : va_S (va_A (xcs g ξ) s.heap.size) s.heap s.heap [] := va_S.rf
  have hl := lv_entry As (n := maxL) hlen
  rw [lg_entry_eq]
  rw [hlv] at hl
  have hb := body p e s m below meth c (va_A (xcs g ξ) s.heap.size) (vx_MQ below (va_Qi K (XBt g (va_A (xcs g ξ) s.heap.size)) (va_A (xcs g ξ) s.heap.size)) (XXt g (va_A (xcs g ξ) s.heap.size) KX) As.toArray s mc ms (va_A (xcs g ξ) s.heap.size)) ⟨B.exec, B.bytes, hml, hown, hts⟩ hin hlocks ?_ ?_
  · exact hb s.heap [] _ ⟨hP, hD, hS, hK, hA, hN⟩ hl
  · intro pc lv E q ξ1 k n h1 h2 hk H locs ls rest ce hB hl hc1 hc2 hc3
    obtain ⟨hP9, hD9, hS9, hK9, -⟩ := hB
    exact vx_out (fun x hx => (htab x hx).elim) hlocks hc1 hc2 hc3 (fun t ht hW => ⟨(ξ1, E, q), hk, ⟨⟨rfl, rfl⟩, by rw [ht]; exact hP9, va_K.moved hW hK9, hD9⟩, hS9.F ht⟩) hS9.2.2 h1 h2
  · intro pc lv v ξ1 k n h1 h2 d hz hk H locs ls hB hl
    obtain ⟨hP9, hD9, hS9, hK9, -⟩ := hB
    refine vx_ret (W.widen (k := mc) (n := ms) h1 h2 ?_)
    exact W.zret B.exec B.bytes B.returns hz (fun t ht hW => ⟨⟨v, ξ1, rfl, hk, by rw [ht]; exact hP9, va_K.moved hW.alike hK9, hD9⟩, hS9.F ht⟩) hS9.2.2 d hlocks
theorem met_zhi {l : Launch} {g : XG} {ξ : XS} {cc : ByteArray} {own : String} {y : MethodName} {maxL mc ms fr lo : Nat} {As : List Value} {K : Int32 → XS → Prop} {hh : List (Nat × Nat × Nat × Nat)} {ty : FieldType} {lv0 : List (Nat × Value)} (hy : plainName y.cls = true) (hyc : y.cls = own) (hlen : (lg_sl As).length ≤ maxL) (hlv : lv_args 0 As = lv0)
    (body : ∀ (p : Program) (e : Env) (s : State) (m : MethodId) (below : List Frame) (meth : Method) (c : Code) (A : Nat → Prop) (Q : State → Prop), EV p s m As.toArray c cc maxL own → meth.name = y.name → meth.locks = false → c.exceptionTable.toList = tableOf hh → YTi p l e { frames := fr, cells := mc, slots := ms, locals := lo } s m As.toArray below meth c cc maxL A g ty Q K → CF p l e { frames := fr, cells := mc, slots := ms, locals := lo } s m As.toArray below meth c maxL 0 0 (XB g A s ξ) Q 0 lv0 []) : MetZi l g y (wsW_ y cc maxL (some ty) hh) fr lo As ξ mc ms K (fun _ _ _ => False) := by
  intro sz
  refine vx_ofWH (hh := hh) (cc := cc) (maxL := maxL) (ret := (some ty)) hy rfl ?_
  intro p e s m args below meth c s₁ B hml hv
  obtain ⟨rfl, hsz, hP, hK, hD0, hN⟩ := hv
  have hts0 := atoms_spec (ws := wsW_ y cc maxL (some ty) hh) B.pre
  have hts : ∀ w ∈ lw_all, w.before _ s = true := fun w h => hts0 w (List.mem_cons_of_mem _ h)
  have hown : s.vm.findClass own = some m.cls := by rw [← hyc]; exact findClass_of_methodNamed B.named
  have hin : meth.name = y.name := (name_of_methodNamed B.named B.method).1
  have hlocks := B.notSynchronized
  subst hsz
  have hD := hD0.self (sz := s.heap.size)
  have hA : ∀ q : Nat, s.heap.size ≤ q → va_A (xcs g ξ) s.heap.size q := fun q h => Or.inr h
  have hS : va_S (va_A (xcs g ξ) s.heap.size) s.heap s.heap [] := va_S.rf
  have hl := lv_entry As (n := maxL) hlen
  rw [lg_entry_eq]
  rw [hlv] at hl
  have hb := body p e s m below meth c (va_A (xcs g ξ) s.heap.size) (vx_MQ below (va_Qi K (XBt g (va_A (xcs g ξ) s.heap.size)) (va_A (xcs g ξ) s.heap.size)) (XXt g (va_A (xcs g ξ) s.heap.size) (fun _ _ _ => False)) As.toArray s mc ms (va_A (xcs g ξ) s.heap.size)) ⟨B.exec, B.bytes, hml, hown, hts⟩ hin hlocks ?_ ?_
  · exact hb s.heap [] _ ⟨hP, hD, hS, hK, hA, hN⟩ hl
  · exact vx_table (x := y) B (hts0 _ List.mem_cons_self)
  · intro pc lv v ξ1 k n h1 h2 d hz hk H locs ls hB hl
    obtain ⟨hP9, hD9, hS9, hK9, -⟩ := hB
    refine vx_ret (W.widen (k := mc) (n := ms) h1 h2 ?_)
    exact W.zret B.exec B.bytes B.returns hz (fun t ht hW => ⟨⟨v, ξ1, rfl, hk, by rw [ht]; exact hP9, va_K.moved hW.alike hK9, hD9⟩, hS9.F ht⟩) hS9.2.2 d hlocks
def MetZl (l : Launch) (g : XG) (y : MethodName) (ws : List Cond) (fr lo : Nat) (As : List Value) (ξ : XS) (mc ms : Nat) (K : Int64 → XS → Prop) (KX : String → Nat → XS → Prop) : Prop := ∀ sz, vx_Met l y ws { frames := fr, cells := mc, slots := ms, locals := lo } (XPc g ξ As sz) (va_Ql K (XBt g (va_A (xcs g ξ) sz)) (va_A (xcs g ξ) sz)) (XXt g (va_A (xcs g ξ) sz) KX) mc ms (va_A (xcs g ξ) sz)
theorem met_zl {l : Launch} {g : XG} {ξ : XS} {cc : ByteArray} {own : String} {y : MethodName} {maxL mc ms fr lo : Nat} {As : List Value} {K : Int64 → XS → Prop} {KX : String → Nat → XS → Prop}  {lv0 : List (Nat × Value)} (hy : plainName y.cls = true) (hyc : y.cls = own) (hlen : (lg_sl As).length ≤ maxL) (hlv : lv_args 0 As = lv0)
    (body : ∀ (p : Program) (e : Env) (s : State) (m : MethodId) (below : List Frame) (meth : Method) (c : Code) (A : Nat → Prop) (Q : State → Prop), EV p s m As.toArray c cc maxL own → meth.name = y.name → meth.locks = false → ZX p l e { frames := fr, cells := mc, slots := ms, locals := lo } s m As.toArray below meth c maxL A g Q KX → YTl p l e { frames := fr, cells := mc, slots := ms, locals := lo } s m As.toArray below meth c cc maxL A g Q K → CF p l e { frames := fr, cells := mc, slots := ms, locals := lo } s m As.toArray below meth c maxL 0 0 (XB g A s ξ) Q 0 lv0 []) : MetZl l g y (ws_ y cc maxL (some .long)) fr lo As ξ mc ms K KX := by
  intro sz
  refine vx_ofW (cc := cc) (maxL := maxL) (ret := (some .long)) hy rfl ?_
  intro p e s m args below meth c s₁ B hml htab hv
  obtain ⟨rfl, hsz, hP, hK, hD0, hN⟩ := hv
  have hts0 := atoms_spec (ws := ws_ y cc maxL (some .long)) B.pre
  have hts : ∀ w ∈ lw_all, w.before _ s = true := fun w h => hts0 w (List.mem_cons_of_mem _ h)
  have hown : s.vm.findClass own = some m.cls := by rw [← hyc]; exact findClass_of_methodNamed B.named
  have hin : meth.name = y.name := (name_of_methodNamed B.named B.method).1
  have hlocks := B.notSynchronized
  subst hsz
  have hD := hD0.self (sz := s.heap.size)
  have hA : ∀ q : Nat, s.heap.size ≤ q → va_A (xcs g ξ) s.heap.size q := fun q h => Or.inr h
  have hS : va_S (va_A (xcs g ξ) s.heap.size) s.heap s.heap [] := va_S.rf
  have hl := lv_entry As (n := maxL) hlen
  rw [lg_entry_eq]
  rw [hlv] at hl
  have hb := body p e s m below meth c (va_A (xcs g ξ) s.heap.size) (vx_MQ below (va_Ql K (XBt g (va_A (xcs g ξ) s.heap.size)) (va_A (xcs g ξ) s.heap.size)) (XXt g (va_A (xcs g ξ) s.heap.size) KX) As.toArray s mc ms (va_A (xcs g ξ) s.heap.size)) ⟨B.exec, B.bytes, hml, hown, hts⟩ hin hlocks ?_ ?_
  · exact hb s.heap [] _ ⟨hP, hD, hS, hK, hA, hN⟩ hl
  · intro pc lv E q ξ1 k n h1 h2 hk H locs ls rest ce hB hl hc1 hc2 hc3
    obtain ⟨hP9, hD9, hS9, hK9, -⟩ := hB
    exact vx_out (fun x hx => (htab x hx).elim) hlocks hc1 hc2 hc3 (fun t ht hW => ⟨(ξ1, E, q), hk, ⟨⟨rfl, rfl⟩, by rw [ht]; exact hP9, va_K.moved hW hK9, hD9⟩, hS9.F ht⟩) hS9.2.2 h1 h2
  · intro pc lv v ξ1 k n h1 h2 d hk H locs ls hB hl
    obtain ⟨hP9, hD9, hS9, hK9, -⟩ := hB
    refine vx_ret (W.widen (k := mc) (n := ms) h1 h2 ?_)
    exact W.lret B.exec B.bytes B.returns (fun t ht hW => ⟨⟨v, ξ1, rfl, hk, by rw [ht]; exact hP9, va_K.moved hW.alike hK9, hD9⟩, hS9.F ht⟩) hS9.2.2 d hlocks
theorem met_zhl {l : Launch} {g : XG} {ξ : XS} {cc : ByteArray} {own : String} {y : MethodName} {maxL mc ms fr lo : Nat} {As : List Value} {K : Int64 → XS → Prop} {hh : List (Nat × Nat × Nat × Nat)}  {lv0 : List (Nat × Value)} (hy : plainName y.cls = true) (hyc : y.cls = own) (hlen : (lg_sl As).length ≤ maxL) (hlv : lv_args 0 As = lv0)
    (body : ∀ (p : Program) (e : Env) (s : State) (m : MethodId) (below : List Frame) (meth : Method) (c : Code) (A : Nat → Prop) (Q : State → Prop), EV p s m As.toArray c cc maxL own → meth.name = y.name → meth.locks = false → c.exceptionTable.toList = tableOf hh → YTl p l e { frames := fr, cells := mc, slots := ms, locals := lo } s m As.toArray below meth c cc maxL A g Q K → CF p l e { frames := fr, cells := mc, slots := ms, locals := lo } s m As.toArray below meth c maxL 0 0 (XB g A s ξ) Q 0 lv0 []) : MetZl l g y (wsW_ y cc maxL (some .long) hh) fr lo As ξ mc ms K (fun _ _ _ => False) := by
  intro sz
  refine vx_ofWH (hh := hh) (cc := cc) (maxL := maxL) (ret := (some .long)) hy rfl ?_
  intro p e s m args below meth c s₁ B hml hv
  obtain ⟨rfl, hsz, hP, hK, hD0, hN⟩ := hv
  have hts0 := atoms_spec (ws := wsW_ y cc maxL (some .long) hh) B.pre
  have hts : ∀ w ∈ lw_all, w.before _ s = true := fun w h => hts0 w (List.mem_cons_of_mem _ h)
  have hown : s.vm.findClass own = some m.cls := by rw [← hyc]; exact findClass_of_methodNamed B.named
  have hin : meth.name = y.name := (name_of_methodNamed B.named B.method).1
  have hlocks := B.notSynchronized
  subst hsz
  have hD := hD0.self (sz := s.heap.size)
  have hA : ∀ q : Nat, s.heap.size ≤ q → va_A (xcs g ξ) s.heap.size q := fun q h => Or.inr h
  have hS : va_S (va_A (xcs g ξ) s.heap.size) s.heap s.heap [] := va_S.rf
  have hl := lv_entry As (n := maxL) hlen
  rw [lg_entry_eq]
  rw [hlv] at hl
  have hb := body p e s m below meth c (va_A (xcs g ξ) s.heap.size) (vx_MQ below (va_Ql K (XBt g (va_A (xcs g ξ) s.heap.size)) (va_A (xcs g ξ) s.heap.size)) (XXt g (va_A (xcs g ξ) s.heap.size) (fun _ _ _ => False)) As.toArray s mc ms (va_A (xcs g ξ) s.heap.size)) ⟨B.exec, B.bytes, hml, hown, hts⟩ hin hlocks ?_ ?_
  · exact hb s.heap [] _ ⟨hP, hD, hS, hK, hA, hN⟩ hl
  · exact vx_table (x := y) B (hts0 _ List.mem_cons_self)
  · intro pc lv v ξ1 k n h1 h2 d hk H locs ls hB hl
    obtain ⟨hP9, hD9, hS9, hK9, -⟩ := hB
    refine vx_ret (W.widen (k := mc) (n := ms) h1 h2 ?_)
    exact W.lret B.exec B.bytes B.returns (fun t ht hW => ⟨⟨v, ξ1, rfl, hk, by rw [ht]; exact hP9, va_K.moved hW.alike hK9, hD9⟩, hS9.F ht⟩) hS9.2.2 d hlocks
def MetZr (l : Launch) (g : XG) (y : MethodName) (ws : List Cond) (fr lo : Nat) (As : List Value) (ξ : XS) (mc ms : Nat) (K : Nat → XS → Prop) (KX : String → Nat → XS → Prop) : Prop := ∀ sz, vx_Met l y ws { frames := fr, cells := mc, slots := ms, locals := lo } (XPc g ξ As sz) (va_Qq (fun (r : Option Nat) (u : XS) => ∃ v, r = some v ∧ K v u) (XBt g (va_A (xcs g ξ) sz)) (va_A (xcs g ξ) sz)) (XXt g (va_A (xcs g ξ) sz) KX) mc ms (va_A (xcs g ξ) sz)
theorem met_zr {l : Launch} {g : XG} {ξ : XS} {cc : ByteArray} {own : String} {y : MethodName} {maxL mc ms fr lo : Nat} {As : List Value} {K : Nat → XS → Prop} {KX : String → Nat → XS → Prop} {rt : FieldType} (hrt : (∃ n, rt = .object n) ∨ ∃ t, rt = .array t) {lv0 : List (Nat × Value)} (hy : plainName y.cls = true) (hyc : y.cls = own) (hlen : (lg_sl As).length ≤ maxL) (hlv : lv_args 0 As = lv0)
    (body : ∀ (p : Program) (e : Env) (s : State) (m : MethodId) (below : List Frame) (meth : Method) (c : Code) (A : Nat → Prop) (Q : State → Prop), EV p s m As.toArray c cc maxL own → meth.name = y.name → meth.locks = false → ZX p l e { frames := fr, cells := mc, slots := ms, locals := lo } s m As.toArray below meth c maxL A g Q KX → YTr p l e { frames := fr, cells := mc, slots := ms, locals := lo } s m As.toArray below meth c cc maxL A g Q K → CF p l e { frames := fr, cells := mc, slots := ms, locals := lo } s m As.toArray below meth c maxL 0 0 (XB g A s ξ) Q 0 lv0 []) : MetZr l g y (ws_ y cc maxL (some rt)) fr lo As ξ mc ms K KX := by
  intro sz
  refine vx_ofW (cc := cc) (maxL := maxL) (ret := (some rt)) hy rfl ?_
  intro p e s m args below meth c s₁ B hml htab hv
  obtain ⟨rfl, hsz, hP, hK, hD0, hN⟩ := hv
  have hts0 := atoms_spec (ws := ws_ y cc maxL (some rt)) B.pre
  have hts : ∀ w ∈ lw_all, w.before _ s = true := fun w h => hts0 w (List.mem_cons_of_mem _ h)
  have hown : s.vm.findClass own = some m.cls := by rw [← hyc]; exact findClass_of_methodNamed B.named
  have hin : meth.name = y.name := (name_of_methodNamed B.named B.method).1
  have hlocks := B.notSynchronized
  subst hsz
  have hD := hD0.self (sz := s.heap.size)
  have hA : ∀ q : Nat, s.heap.size ≤ q → va_A (xcs g ξ) s.heap.size q := fun q h => Or.inr h
  have hS : va_S (va_A (xcs g ξ) s.heap.size) s.heap s.heap [] := va_S.rf
  have hl := lv_entry As (n := maxL) hlen
  rw [lg_entry_eq]
  rw [hlv] at hl
  have hb := body p e s m below meth c (va_A (xcs g ξ) s.heap.size) (vx_MQ below (va_Qq (fun (r : Option Nat) (u : XS) => ∃ v, r = some v ∧ K v u) (XBt g (va_A (xcs g ξ) s.heap.size)) (va_A (xcs g ξ) s.heap.size)) (XXt g (va_A (xcs g ξ) s.heap.size) KX) As.toArray s mc ms (va_A (xcs g ξ) s.heap.size)) ⟨B.exec, B.bytes, hml, hown, hts⟩ hin hlocks ?_ ?_
  · exact hb s.heap [] _ ⟨hP, hD, hS, hK, hA, hN⟩ hl
  · intro pc lv E q ξ1 k n h1 h2 hk H locs ls rest ce hB hl hc1 hc2 hc3
    obtain ⟨hP9, hD9, hS9, hK9, -⟩ := hB
    exact vx_out (fun x hx => (htab x hx).elim) hlocks hc1 hc2 hc3 (fun t ht hW => ⟨(ξ1, E, q), hk, ⟨⟨rfl, rfl⟩, by rw [ht]; exact hP9, va_K.moved hW hK9, hD9⟩, hS9.F ht⟩) hS9.2.2 h1 h2
  · intro pc lv v ξ1 k n h1 h2 d hk H locs ls hB hl
    obtain ⟨hP9, hD9, hS9, hK9, -⟩ := hB
    refine vx_ret (W.widen (k := mc) (n := ms) h1 h2 ?_)
    exact W.aret B.exec B.bytes B.returns hrt (Or.inr ⟨_, rfl⟩) (fun t ht hW => ⟨⟨some v, ξ1, rfl, ⟨v, rfl, hk⟩, by rw [ht]; exact hP9, va_K.moved hW.alike hK9, hD9⟩, hS9.F ht⟩) hS9.2.2 d hlocks
theorem met_zhr {l : Launch} {g : XG} {ξ : XS} {cc : ByteArray} {own : String} {y : MethodName} {maxL mc ms fr lo : Nat} {As : List Value} {K : Nat → XS → Prop} {hh : List (Nat × Nat × Nat × Nat)} {rt : FieldType} (hrt : (∃ n, rt = .object n) ∨ ∃ t, rt = .array t) {lv0 : List (Nat × Value)} (hy : plainName y.cls = true) (hyc : y.cls = own) (hlen : (lg_sl As).length ≤ maxL) (hlv : lv_args 0 As = lv0)
    (body : ∀ (p : Program) (e : Env) (s : State) (m : MethodId) (below : List Frame) (meth : Method) (c : Code) (A : Nat → Prop) (Q : State → Prop), EV p s m As.toArray c cc maxL own → meth.name = y.name → meth.locks = false → c.exceptionTable.toList = tableOf hh → YTr p l e { frames := fr, cells := mc, slots := ms, locals := lo } s m As.toArray below meth c cc maxL A g Q K → CF p l e { frames := fr, cells := mc, slots := ms, locals := lo } s m As.toArray below meth c maxL 0 0 (XB g A s ξ) Q 0 lv0 []) : MetZr l g y (wsW_ y cc maxL (some rt) hh) fr lo As ξ mc ms K (fun _ _ _ => False) := by
  intro sz
  refine vx_ofWH (hh := hh) (cc := cc) (maxL := maxL) (ret := (some rt)) hy rfl ?_
  intro p e s m args below meth c s₁ B hml hv
  obtain ⟨rfl, hsz, hP, hK, hD0, hN⟩ := hv
  have hts0 := atoms_spec (ws := wsW_ y cc maxL (some rt) hh) B.pre
  have hts : ∀ w ∈ lw_all, w.before _ s = true := fun w h => hts0 w (List.mem_cons_of_mem _ h)
  have hown : s.vm.findClass own = some m.cls := by rw [← hyc]; exact findClass_of_methodNamed B.named
  have hin : meth.name = y.name := (name_of_methodNamed B.named B.method).1
  have hlocks := B.notSynchronized
  subst hsz
  have hD := hD0.self (sz := s.heap.size)
  have hA : ∀ q : Nat, s.heap.size ≤ q → va_A (xcs g ξ) s.heap.size q := fun q h => Or.inr h
  have hS : va_S (va_A (xcs g ξ) s.heap.size) s.heap s.heap [] := va_S.rf
  have hl := lv_entry As (n := maxL) hlen
  rw [lg_entry_eq]
  rw [hlv] at hl
  have hb := body p e s m below meth c (va_A (xcs g ξ) s.heap.size) (vx_MQ below (va_Qq (fun (r : Option Nat) (u : XS) => ∃ v, r = some v ∧ K v u) (XBt g (va_A (xcs g ξ) s.heap.size)) (va_A (xcs g ξ) s.heap.size)) (XXt g (va_A (xcs g ξ) s.heap.size) (fun _ _ _ => False)) As.toArray s mc ms (va_A (xcs g ξ) s.heap.size)) ⟨B.exec, B.bytes, hml, hown, hts⟩ hin hlocks ?_ ?_
  · exact hb s.heap [] _ ⟨hP, hD, hS, hK, hA, hN⟩ hl
  · exact vx_table (x := y) B (hts0 _ List.mem_cons_self)
  · intro pc lv v ξ1 k n h1 h2 d hk H locs ls hB hl
    obtain ⟨hP9, hD9, hS9, hK9, -⟩ := hB
    refine vx_ret (W.widen (k := mc) (n := ms) h1 h2 ?_)
    exact W.aret B.exec B.bytes B.returns hrt (Or.inr ⟨_, rfl⟩) (fun t ht hW => ⟨⟨some v, ξ1, rfl, ⟨v, rfl, hk⟩, by rw [ht]; exact hP9, va_K.moved hW.alike hK9, hD9⟩, hS9.F ht⟩) hS9.2.2 d hlocks
def MetZq (l : Launch) (g : XG) (y : MethodName) (ws : List Cond) (fr lo : Nat) (As : List Value) (ξ : XS) (mc ms : Nat) (K : Option Nat → XS → Prop) (KX : String → Nat → XS → Prop) : Prop := ∀ sz, vx_Met l y ws { frames := fr, cells := mc, slots := ms, locals := lo } (XPc g ξ As sz) (va_Qq K (XBt g (va_A (xcs g ξ) sz)) (va_A (xcs g ξ) sz)) (XXt g (va_A (xcs g ξ) sz) KX) mc ms (va_A (xcs g ξ) sz)
theorem met_zq {l : Launch} {g : XG} {ξ : XS} {cc : ByteArray} {own : String} {y : MethodName} {maxL mc ms fr lo : Nat} {As : List Value} {K : Option Nat → XS → Prop} {KX : String → Nat → XS → Prop} {rt : FieldType} (hrt : (∃ n, rt = .object n) ∨ ∃ t, rt = .array t) {lv0 : List (Nat × Value)} (hy : plainName y.cls = true) (hyc : y.cls = own) (hlen : (lg_sl As).length ≤ maxL) (hlv : lv_args 0 As = lv0)
    (body : ∀ (p : Program) (e : Env) (s : State) (m : MethodId) (below : List Frame) (meth : Method) (c : Code) (A : Nat → Prop) (Q : State → Prop), EV p s m As.toArray c cc maxL own → meth.name = y.name → meth.locks = false → ZX p l e { frames := fr, cells := mc, slots := ms, locals := lo } s m As.toArray below meth c maxL A g Q KX → YTq p l e { frames := fr, cells := mc, slots := ms, locals := lo } s m As.toArray below meth c cc maxL A g Q K → CF p l e { frames := fr, cells := mc, slots := ms, locals := lo } s m As.toArray below meth c maxL 0 0 (XB g A s ξ) Q 0 lv0 []) : MetZq l g y (ws_ y cc maxL (some rt)) fr lo As ξ mc ms K KX := by
  intro sz
  refine vx_ofW (cc := cc) (maxL := maxL) (ret := (some rt)) hy rfl ?_
  intro p e s m args below meth c s₁ B hml htab hv
  obtain ⟨rfl, hsz, hP, hK, hD0, hN⟩ := hv
  have hts0 := atoms_spec (ws := ws_ y cc maxL (some rt)) B.pre
  have hts : ∀ w ∈ lw_all, w.before _ s = true := fun w h => hts0 w (List.mem_cons_of_mem _ h)
  have hown : s.vm.findClass own = some m.cls := by rw [← hyc]; exact findClass_of_methodNamed B.named
  have hin : meth.name = y.name := (name_of_methodNamed B.named B.method).1
  have hlocks := B.notSynchronized
  subst hsz
  have hD := hD0.self (sz := s.heap.size)
  have hA : ∀ q : Nat, s.heap.size ≤ q → va_A (xcs g ξ) s.heap.size q := fun q h => Or.inr h
  have hS : va_S (va_A (xcs g ξ) s.heap.size) s.heap s.heap [] := va_S.rf
  have hl := lv_entry As (n := maxL) hlen
  rw [lg_entry_eq]
  rw [hlv] at hl
  have hb := body p e s m below meth c (va_A (xcs g ξ) s.heap.size) (vx_MQ below (va_Qq K (XBt g (va_A (xcs g ξ) s.heap.size)) (va_A (xcs g ξ) s.heap.size)) (XXt g (va_A (xcs g ξ) s.heap.size) KX) As.toArray s mc ms (va_A (xcs g ξ) s.heap.size)) ⟨B.exec, B.bytes, hml, hown, hts⟩ hin hlocks ?_ ?_
  · exact hb s.heap [] _ ⟨hP, hD, hS, hK, hA, hN⟩ hl
  · intro pc lv E q ξ1 k n h1 h2 hk H locs ls rest ce hB hl hc1 hc2 hc3
    obtain ⟨hP9, hD9, hS9, hK9, -⟩ := hB
    exact vx_out (fun x hx => (htab x hx).elim) hlocks hc1 hc2 hc3 (fun t ht hW => ⟨(ξ1, E, q), hk, ⟨⟨rfl, rfl⟩, by rw [ht]; exact hP9, va_K.moved hW hK9, hD9⟩, hS9.F ht⟩) hS9.2.2 h1 h2
  · intro pc lv v ξ1 k n h1 h2 d hk H locs ls hB hl
    obtain ⟨hP9, hD9, hS9, hK9, -⟩ := hB
    refine vx_ret (W.widen (k := mc) (n := ms) h1 h2 ?_)
    exact W.aret B.exec B.bytes B.returns hrt (va_rf_or v) (fun t ht hW => ⟨⟨v, ξ1, rfl, hk, by rw [ht]; exact hP9, va_K.moved hW.alike hK9, hD9⟩, hS9.F ht⟩) hS9.2.2 d hlocks
theorem met_zhq {l : Launch} {g : XG} {ξ : XS} {cc : ByteArray} {own : String} {y : MethodName} {maxL mc ms fr lo : Nat} {As : List Value} {K : Option Nat → XS → Prop} {hh : List (Nat × Nat × Nat × Nat)} {rt : FieldType} (hrt : (∃ n, rt = .object n) ∨ ∃ t, rt = .array t) {lv0 : List (Nat × Value)} (hy : plainName y.cls = true) (hyc : y.cls = own) (hlen : (lg_sl As).length ≤ maxL) (hlv : lv_args 0 As = lv0)
    (body : ∀ (p : Program) (e : Env) (s : State) (m : MethodId) (below : List Frame) (meth : Method) (c : Code) (A : Nat → Prop) (Q : State → Prop), EV p s m As.toArray c cc maxL own → meth.name = y.name → meth.locks = false → c.exceptionTable.toList = tableOf hh → YTq p l e { frames := fr, cells := mc, slots := ms, locals := lo } s m As.toArray below meth c cc maxL A g Q K → CF p l e { frames := fr, cells := mc, slots := ms, locals := lo } s m As.toArray below meth c maxL 0 0 (XB g A s ξ) Q 0 lv0 []) : MetZq l g y (wsW_ y cc maxL (some rt) hh) fr lo As ξ mc ms K (fun _ _ _ => False) := by
  intro sz
  refine vx_ofWH (hh := hh) (cc := cc) (maxL := maxL) (ret := (some rt)) hy rfl ?_
  intro p e s m args below meth c s₁ B hml hv
  obtain ⟨rfl, hsz, hP, hK, hD0, hN⟩ := hv
  have hts0 := atoms_spec (ws := wsW_ y cc maxL (some rt) hh) B.pre
  have hts : ∀ w ∈ lw_all, w.before _ s = true := fun w h => hts0 w (List.mem_cons_of_mem _ h)
  have hown : s.vm.findClass own = some m.cls := by rw [← hyc]; exact findClass_of_methodNamed B.named
  have hin : meth.name = y.name := (name_of_methodNamed B.named B.method).1
  have hlocks := B.notSynchronized
  subst hsz
  have hD := hD0.self (sz := s.heap.size)
  have hA : ∀ q : Nat, s.heap.size ≤ q → va_A (xcs g ξ) s.heap.size q := fun q h => Or.inr h
  have hS : va_S (va_A (xcs g ξ) s.heap.size) s.heap s.heap [] := va_S.rf
  have hl := lv_entry As (n := maxL) hlen
  rw [lg_entry_eq]
  rw [hlv] at hl
  have hb := body p e s m below meth c (va_A (xcs g ξ) s.heap.size) (vx_MQ below (va_Qq K (XBt g (va_A (xcs g ξ) s.heap.size)) (va_A (xcs g ξ) s.heap.size)) (XXt g (va_A (xcs g ξ) s.heap.size) (fun _ _ _ => False)) As.toArray s mc ms (va_A (xcs g ξ) s.heap.size)) ⟨B.exec, B.bytes, hml, hown, hts⟩ hin hlocks ?_ ?_
  · exact hb s.heap [] _ ⟨hP, hD, hS, hK, hA, hN⟩ hl
  · exact vx_table (x := y) B (hts0 _ List.mem_cons_self)
  · intro pc lv v ξ1 k n h1 h2 d hk H locs ls hB hl
    obtain ⟨hP9, hD9, hS9, hK9, -⟩ := hB
    refine vx_ret (W.widen (k := mc) (n := ms) h1 h2 ?_)
    exact W.aret B.exec B.bytes B.returns hrt (va_rf_or v) (fun t ht hW => ⟨⟨v, ξ1, rfl, hk, by rw [ht]; exact hP9, va_K.moved hW.alike hK9, hD9⟩, hS9.F ht⟩) hS9.2.2 d hlocks
def MetZv (l : Launch) (g : XG) (y : MethodName) (ws : List Cond) (fr lo : Nat) (As : List Value) (ξ : XS) (mc ms : Nat) (K : XS → Prop) (KX : String → Nat → XS → Prop) : Prop := ∀ sz, vx_Met l y ws { frames := fr, cells := mc, slots := ms, locals := lo } (XPc g ξ As sz) (va_Qv K (XBt g (va_A (xcs g ξ) sz)) (va_A (xcs g ξ) sz)) (XXt g (va_A (xcs g ξ) sz) KX) mc ms (va_A (xcs g ξ) sz)
theorem met_zv {l : Launch} {g : XG} {ξ : XS} {cc : ByteArray} {own : String} {y : MethodName} {maxL mc ms fr lo : Nat} {As : List Value} {K : XS → Prop} {KX : String → Nat → XS → Prop}  {lv0 : List (Nat × Value)} (hy : plainName y.cls = true) (hyc : y.cls = own) (hlen : (lg_sl As).length ≤ maxL) (hlv : lv_args 0 As = lv0)
    (body : ∀ (p : Program) (e : Env) (s : State) (m : MethodId) (below : List Frame) (meth : Method) (c : Code) (A : Nat → Prop) (Q : State → Prop), EV p s m As.toArray c cc maxL own → meth.name = y.name → meth.locks = false → ZX p l e { frames := fr, cells := mc, slots := ms, locals := lo } s m As.toArray below meth c maxL A g Q KX → YTv p l e { frames := fr, cells := mc, slots := ms, locals := lo } s m As.toArray below meth c cc maxL A g Q K → CF p l e { frames := fr, cells := mc, slots := ms, locals := lo } s m As.toArray below meth c maxL 0 0 (XB g A s ξ) Q 0 lv0 []) : MetZv l g y (ws_ y cc maxL none) fr lo As ξ mc ms K KX := by
  intro sz
  refine vx_ofW (cc := cc) (maxL := maxL) (ret := none) hy rfl ?_
  intro p e s m args below meth c s₁ B hml htab hv
  obtain ⟨rfl, hsz, hP, hK, hD0, hN⟩ := hv
  have hts0 := atoms_spec (ws := ws_ y cc maxL none) B.pre
  have hts : ∀ w ∈ lw_all, w.before _ s = true := fun w h => hts0 w (List.mem_cons_of_mem _ h)
  have hown : s.vm.findClass own = some m.cls := by rw [← hyc]; exact findClass_of_methodNamed B.named
  have hin : meth.name = y.name := (name_of_methodNamed B.named B.method).1
  have hlocks := B.notSynchronized
  subst hsz
  have hD := hD0.self (sz := s.heap.size)
  have hA : ∀ q : Nat, s.heap.size ≤ q → va_A (xcs g ξ) s.heap.size q := fun q h => Or.inr h
  have hS : va_S (va_A (xcs g ξ) s.heap.size) s.heap s.heap [] := va_S.rf
  have hl := lv_entry As (n := maxL) hlen
  rw [lg_entry_eq]
  rw [hlv] at hl
  have hb := body p e s m below meth c (va_A (xcs g ξ) s.heap.size) (vx_MQ below (va_Qv K (XBt g (va_A (xcs g ξ) s.heap.size)) (va_A (xcs g ξ) s.heap.size)) (XXt g (va_A (xcs g ξ) s.heap.size) KX) As.toArray s mc ms (va_A (xcs g ξ) s.heap.size)) ⟨B.exec, B.bytes, hml, hown, hts⟩ hin hlocks ?_ ?_
  · exact hb s.heap [] _ ⟨hP, hD, hS, hK, hA, hN⟩ hl
  · intro pc lv E q ξ1 k n h1 h2 hk H locs ls rest ce hB hl hc1 hc2 hc3
    obtain ⟨hP9, hD9, hS9, hK9, -⟩ := hB
    exact vx_out (fun x hx => (htab x hx).elim) hlocks hc1 hc2 hc3 (fun t ht hW => ⟨(ξ1, E, q), hk, ⟨⟨rfl, rfl⟩, by rw [ht]; exact hP9, va_K.moved hW hK9, hD9⟩, hS9.F ht⟩) hS9.2.2 h1 h2
  · intro pc lv ξ1 k n h1 h2 d hk H locs ls hB hl
    obtain ⟨hP9, hD9, hS9, hK9, -⟩ := hB
    refine vx_ret (W.widen (k := mc) (n := ms) h1 h2 ?_)
    exact W.vret B.exec B.bytes B.returns (fun t ht hW => ⟨⟨ξ1, rfl, hk, by rw [ht]; exact hP9, va_K.moved hW.alike hK9, hD9⟩, hS9.F ht⟩) hS9.2.2 d hlocks
theorem met_zhv {l : Launch} {g : XG} {ξ : XS} {cc : ByteArray} {own : String} {y : MethodName} {maxL mc ms fr lo : Nat} {As : List Value} {K : XS → Prop} {hh : List (Nat × Nat × Nat × Nat)}  {lv0 : List (Nat × Value)} (hy : plainName y.cls = true) (hyc : y.cls = own) (hlen : (lg_sl As).length ≤ maxL) (hlv : lv_args 0 As = lv0)
    (body : ∀ (p : Program) (e : Env) (s : State) (m : MethodId) (below : List Frame) (meth : Method) (c : Code) (A : Nat → Prop) (Q : State → Prop), EV p s m As.toArray c cc maxL own → meth.name = y.name → meth.locks = false → c.exceptionTable.toList = tableOf hh → YTv p l e { frames := fr, cells := mc, slots := ms, locals := lo } s m As.toArray below meth c cc maxL A g Q K → CF p l e { frames := fr, cells := mc, slots := ms, locals := lo } s m As.toArray below meth c maxL 0 0 (XB g A s ξ) Q 0 lv0 []) : MetZv l g y (wsW_ y cc maxL none hh) fr lo As ξ mc ms K (fun _ _ _ => False) := by
  intro sz
  refine vx_ofWH (hh := hh) (cc := cc) (maxL := maxL) (ret := none) hy rfl ?_
  intro p e s m args below meth c s₁ B hml hv
  obtain ⟨rfl, hsz, hP, hK, hD0, hN⟩ := hv
  have hts0 := atoms_spec (ws := wsW_ y cc maxL none hh) B.pre
  have hts : ∀ w ∈ lw_all, w.before _ s = true := fun w h => hts0 w (List.mem_cons_of_mem _ h)
  have hown : s.vm.findClass own = some m.cls := by rw [← hyc]; exact findClass_of_methodNamed B.named
  have hin : meth.name = y.name := (name_of_methodNamed B.named B.method).1
  have hlocks := B.notSynchronized
  subst hsz
  have hD := hD0.self (sz := s.heap.size)
  have hA : ∀ q : Nat, s.heap.size ≤ q → va_A (xcs g ξ) s.heap.size q := fun q h => Or.inr h
  have hS : va_S (va_A (xcs g ξ) s.heap.size) s.heap s.heap [] := va_S.rf
  have hl := lv_entry As (n := maxL) hlen
  rw [lg_entry_eq]
  rw [hlv] at hl
  have hb := body p e s m below meth c (va_A (xcs g ξ) s.heap.size) (vx_MQ below (va_Qv K (XBt g (va_A (xcs g ξ) s.heap.size)) (va_A (xcs g ξ) s.heap.size)) (XXt g (va_A (xcs g ξ) s.heap.size) (fun _ _ _ => False)) As.toArray s mc ms (va_A (xcs g ξ) s.heap.size)) ⟨B.exec, B.bytes, hml, hown, hts⟩ hin hlocks ?_ ?_
  · exact hb s.heap [] _ ⟨hP, hD, hS, hK, hA, hN⟩ hl
  · exact vx_table (x := y) B (hts0 _ List.mem_cons_self)
  · intro pc lv ξ1 k n h1 h2 d hk H locs ls hB hl
    obtain ⟨hP9, hD9, hS9, hK9, -⟩ := hB
    refine vx_ret (W.widen (k := mc) (n := ms) h1 h2 ?_)
    exact W.vret B.exec B.bytes B.returns (fun t ht hW => ⟨⟨ξ1, rfl, hk, by rw [ht]; exact hP9, va_K.moved hW.alike hK9, hD9⟩, hS9.F ht⟩) hS9.2.2 d hlocks
section XC
variable {p : Program} {l : Launch} {e : Env} {R : Room} {s : State} {m : MethodId} {args : Array Value} {below : List Frame} {meth : Method} {c : Code} {nL cells slots : Nat} {A : Nat → Prop} {g : XG} {ξ : XS} {Q : State → Prop} {pc n : Nat} {lv : List (Nat × Value)} {st : List Value} {cc : ByteArray}
theorem zcallV_i {own : String} (E : EV p s m args c cc nL own) {y : MethodName} {bytes : ByteArray} {maxL idx na mc ms fr lo : Nat} {ret : Option FieldType} {stk : List Value} {C9 : String} {b : Nat} {K : Int32 → XS → Prop} {KX : String → Nat → XS → Prop} (As : List Value) (hM : MetZi l g y (ws_ y bytes maxL ret) fr lo (.ref b :: As) ξ mc ms K KX)
    (hG : GoodIn lw_all (wsV own idx C9 y (ws_ y bytes maxL ret))) (hd : y.cls = C9 ∧ y.cls ≠ "java/lang/invoke/MethodHandle" ∧ y.cls ≠ "java/lang/invoke/VarHandle" ∧ (parseMethodDescriptor y.desc).map (fun d => d.parameters.length) = some na) (hrv : xrecv g ξ C9 b) (hR : fr + 1 ≤ R.frames ∧ 8 + (maxL + 11) + lo ≤ R.locals) (hna : As.length = na) (hstk : stk = As.reverse ++ .ref b :: st) (hcat : (st.map fun v => v.category).sum ≤ 8) (hf : cells + mc ≤ R.cells ∧ slots + ms ≤ R.slots) (d : decode cc pc = .ok (.invokevirtual idx, 3)) (hn : pc + 3 = n) (k : ∀ (v : Int32) (ξ1 : XS), K v ξ1 → CF p l e R s m args below meth c nL (cells + mc) (slots + ms) (XB g A s ξ1) Q n lv (.int v :: st)) (kx : ∀ (E9 : String) (q : Nat) (ξ1 : XS), KX E9 q ξ1 → CX p l e R s m args below meth c nL (cells + mc) (slots + ms) (XB g A s ξ1) Q pc lv E9 q) : CF p l e R s m args below meth c nL cells slots (XB g A s ξ) Q pc lv stk := by
  subst hn
  subst hstk
  intro H locs ls hB hl
  refine vx_calli (vx_runV (As := As) (rest := st) E (hM H.size) (cwV na E.2.2.2.2 hG rfl rfl rfl hd hR) ⟨xblind, xrecv_cell hB hrv, xpre hB⟩ rfl hna (hl.1) rfl (lv_room hcat) d hf) hB.2.2.1 (fun q _ h => xfree hB q h) (xfree hB) (fun q _ h => xfree hB q h) (fun E9 ce q9 u t H1 locs1 ht hvm hw1 hB1 hz1 hk1 hS hc1 hc2 hc3 => ?_) (fun r u t H1 locs1 ht hvm hw1 hB1 hz1 hk1 hS => ?_)
  · obtain ⟨u1, E8, q8⟩ := u
    obtain ⟨⟨ha, hb⟩, hB2⟩ := hB1
    have ha : E8 = E9 := ha
    have hb : q8 = q9 := hb
    subst ha
    subst hb
    exact kx _ _ _ hw1 H1 locs1 ls _ ce (xbehind hB ht hB2 hS) hl hc1 hc2 hc3
  · exact k _ _ hw1 H1 locs1 ls (xbehind hB ht hB1 hS) hl
theorem zcallN_i {own : String} (E : EV p s m args c cc nL own) {y : MethodName} {bytes : ByteArray} {maxL idx na mc ms fr lo : Nat} {ret : Option FieldType} {stk : List Value} {C9 host : String} {b : Nat} {K : Int32 → XS → Prop} {KX : String → Nat → XS → Prop} (As : List Value) (hM : MetZi l g y (ws_ y bytes maxL ret) fr lo (.ref b :: As) ξ mc ms K KX)
    (hG : GoodIn lw_all (ws_ y bytes maxL ret)) (hini : Cond.initialized y.cls ∈ lw_all) (hlk : Cond.methodLinkNest own idx y host ∈ lw_tbl) (him : Cond.instanceMethod y ∈ lw_all) (hsl : Cond.selects C9 y y ∈ lw_all) (hd : y.cls ≠ "java/lang/invoke/MethodHandle" ∧ y.cls ≠ "java/lang/invoke/VarHandle" ∧ (parseMethodDescriptor y.desc).map (fun d => d.parameters.length) = some na) (hrv : xrecv g ξ C9 b) (hR : fr + 1 ≤ R.frames ∧ 8 + (maxL + 11) + lo ≤ R.locals) (hna : As.length = na) (hstk : stk = As.reverse ++ .ref b :: st) (hcat : (st.map fun v => v.category).sum ≤ 8) (hf : cells + mc ≤ R.cells ∧ slots + ms ≤ R.slots) (d : decode cc pc = .ok (.invokevirtual idx, 3)) (hn : pc + 3 = n) (k : ∀ (v : Int32) (ξ1 : XS), K v ξ1 → CF p l e R s m args below meth c nL (cells + mc) (slots + ms) (XB g A s ξ1) Q n lv (.int v :: st)) (kx : ∀ (E9 : String) (q : Nat) (ξ1 : XS), KX E9 q ξ1 → CX p l e R s m args below meth c nL (cells + mc) (slots + ms) (XB g A s ξ1) Q pc lv E9 q) : CF p l e R s m args below meth c nL cells slots (XB g A s ξ) Q pc lv stk := by
  subst hn
  subst hstk
  intro H locs ls hB hl
  refine vx_calli (vx_runVN (As := As) (rest := st) E (hM H.size) ⟨va_cnB na E.2.2.2.2 hG rfl rfl rfl (hB.2.2.2.2.2.1 _ hlk rfl) (E.2.2.2.2 _ hini) hd hR, E.2.2.2.2 _ him, E.2.2.2.2 _ hsl⟩ ⟨xblind, xrecv_cell hB hrv, xpre hB⟩ rfl hna (hl.1) rfl (lv_room hcat) d hf) hB.2.2.1 (fun q _ h => xfree hB q h) (xfree hB) (fun q _ h => xfree hB q h) (fun E9 ce q9 u t H1 locs1 ht hvm hw1 hB1 hz1 hk1 hS hc1 hc2 hc3 => ?_) (fun r u t H1 locs1 ht hvm hw1 hB1 hz1 hk1 hS => ?_)
  · obtain ⟨u1, E8, q8⟩ := u
    obtain ⟨⟨ha, hb⟩, hB2⟩ := hB1
    have ha : E8 = E9 := ha
    have hb : q8 = q9 := hb
    subst ha
    subst hb
    exact kx _ _ _ hw1 H1 locs1 ls _ ce (xbehind hB ht hB2 hS) hl hc1 hc2 hc3
  · exact k _ _ hw1 H1 locs1 ls (xbehind hB ht hB1 hS) hl
theorem zcallS_i {own : String} (E : EV p s m args c cc nL own) {y : MethodName} {bytes : ByteArray} {maxL idx na mc ms fr lo : Nat} {ret : Option FieldType} {stk : List Value}  {K : Int32 → XS → Prop} {KX : String → Nat → XS → Prop} (As : List Value) (hM : MetZi l g y (ws_ y bytes maxL ret) fr lo As ξ mc ms K KX)
    (hG : GoodIn lw_all (va_wsS own idx y (ws_ y bytes maxL ret))) (hd : y.cls ≠ "java/lang/invoke/MethodHandle" ∧ y.cls ≠ "java/lang/invoke/VarHandle" ∧ (parseMethodDescriptor y.desc).map (fun d => d.parameters.length) = some na) (hR : fr + 1 ≤ R.frames ∧ 8 + (maxL + 11) + lo ≤ R.locals) (hna : As.length = na) (hstk : stk = As.reverse ++ st) (hcat : (st.map fun v => v.category).sum ≤ 8) (hf : cells + mc ≤ R.cells ∧ slots + ms ≤ R.slots) (d : decode cc pc = .ok (.invokestatic idx, 3)) (hn : pc + 3 = n) (k : ∀ (v : Int32) (ξ1 : XS), K v ξ1 → CF p l e R s m args below meth c nL (cells + mc) (slots + ms) (XB g A s ξ1) Q n lv (.int v :: st)) (kx : ∀ (E9 : String) (q : Nat) (ξ1 : XS), KX E9 q ξ1 → CX p l e R s m args below meth c nL (cells + mc) (slots + ms) (XB g A s ξ1) Q pc lv E9 q) : CF p l e R s m args below meth c nL cells slots (XB g A s ξ) Q pc lv stk := by
  subst hn
  subst hstk
  intro H locs ls hB hl
  refine vx_calli (vx_runS (As := As) (rest := st) E (hM H.size) (va_cwS na E.2.2.2.2 hG rfl rfl rfl hd hR) ⟨xblind, xpre hB⟩ rfl hna (hl.1) rfl (lv_room hcat) d hf) hB.2.2.1 (fun q _ h => xfree hB q h) (xfree hB) (fun q _ h => xfree hB q h) (fun E9 ce q9 u t H1 locs1 ht hvm hw1 hB1 hz1 hk1 hS hc1 hc2 hc3 => ?_) (fun r u t H1 locs1 ht hvm hw1 hB1 hz1 hk1 hS => ?_)
  · obtain ⟨u1, E8, q8⟩ := u
    obtain ⟨⟨ha, hb⟩, hB2⟩ := hB1
    have ha : E8 = E9 := ha
    have hb : q8 = q9 := hb
    subst ha
    subst hb
    exact kx _ _ _ hw1 H1 locs1 ls _ ce (xbehind hB ht hB2 hS) hl hc1 hc2 hc3
  · exact k _ _ hw1 H1 locs1 ls (xbehind hB ht hB1 hS) hl
theorem zcallT_i {own : String} (E : EV p s m args c cc nL own) {y : MethodName} {bytes : ByteArray} {maxL idx na mc ms fr lo : Nat} {ret : Option FieldType} {stk : List Value} {host : String} {K : Int32 → XS → Prop} {KX : String → Nat → XS → Prop} (As : List Value) (hM : MetZi l g y (ws_ y bytes maxL ret) fr lo As ξ mc ms K KX)
    (hG : GoodIn lw_all (ws_ y bytes maxL ret)) (hini : Cond.initialized y.cls ∈ lw_all) (hlk : Cond.methodLinkNest own idx y host ∈ lw_tbl) (hst : Cond.static y ∈ lw_all) (hd : y.cls ≠ "java/lang/invoke/MethodHandle" ∧ y.cls ≠ "java/lang/invoke/VarHandle" ∧ (parseMethodDescriptor y.desc).map (fun d => d.parameters.length) = some na) (hR : fr + 1 ≤ R.frames ∧ 8 + (maxL + 11) + lo ≤ R.locals) (hna : As.length = na) (hstk : stk = As.reverse ++ st) (hcat : (st.map fun v => v.category).sum ≤ 8) (hf : cells + mc ≤ R.cells ∧ slots + ms ≤ R.slots) (d : decode cc pc = .ok (.invokestatic idx, 3)) (hn : pc + 3 = n) (k : ∀ (v : Int32) (ξ1 : XS), K v ξ1 → CF p l e R s m args below meth c nL (cells + mc) (slots + ms) (XB g A s ξ1) Q n lv (.int v :: st)) (kx : ∀ (E9 : String) (q : Nat) (ξ1 : XS), KX E9 q ξ1 → CX p l e R s m args below meth c nL (cells + mc) (slots + ms) (XB g A s ξ1) Q pc lv E9 q) : CF p l e R s m args below meth c nL cells slots (XB g A s ξ) Q pc lv stk := by
  subst hn
  subst hstk
  intro H locs ls hB hl
  refine vx_calli (vx_runSN (As := As) (rest := st) E (hM H.size) ⟨va_cnB na E.2.2.2.2 hG rfl rfl rfl (hB.2.2.2.2.2.1 _ hlk rfl) (E.2.2.2.2 _ hini) hd hR, E.2.2.2.2 _ hst, trivial⟩ ⟨xblind, xpre hB⟩ rfl hna (hl.1) rfl (lv_room hcat) d hf) hB.2.2.1 (fun q _ h => xfree hB q h) (xfree hB) (fun q _ h => xfree hB q h) (fun E9 ce q9 u t H1 locs1 ht hvm hw1 hB1 hz1 hk1 hS hc1 hc2 hc3 => ?_) (fun r u t H1 locs1 ht hvm hw1 hB1 hz1 hk1 hS => ?_)
  · obtain ⟨u1, E8, q8⟩ := u
    obtain ⟨⟨ha, hb⟩, hB2⟩ := hB1
    have ha : E8 = E9 := ha
    have hb : q8 = q9 := hb
    subst ha
    subst hb
    exact kx _ _ _ hw1 H1 locs1 ls _ ce (xbehind hB ht hB2 hS) hl hc1 hc2 hc3
  · exact k _ _ hw1 H1 locs1 ls (xbehind hB ht hB1 hS) hl
theorem zcallX_i {own : String} (E : EV p s m args c cc nL own) {y : MethodName} {bytes : ByteArray} {maxL idx na mc ms fr lo : Nat} {ret : Option FieldType} {stk : List Value} {C9 : String} {b : Nat} {hh : List (Nat × Nat × Nat × Nat)} {K : Int32 → XS → Prop} {KX : String → Nat → XS → Prop} (As : List Value) (hM : MetZi l g y (wsW_ y bytes maxL ret hh) fr lo (.ref b :: As) ξ mc ms K KX)
    (hG : GoodIn lw_all (wsV own idx C9 y (wsW_ y bytes maxL ret hh))) (hd : y.cls = C9 ∧ y.cls ≠ "java/lang/invoke/MethodHandle" ∧ y.cls ≠ "java/lang/invoke/VarHandle" ∧ (parseMethodDescriptor y.desc).map (fun d => d.parameters.length) = some na) (hrv : xrecv g ξ C9 b) (hR : fr + 1 ≤ R.frames ∧ 8 + (maxL + 11) + lo ≤ R.locals) (hna : As.length = na) (hstk : stk = As.reverse ++ .ref b :: st) (hcat : (st.map fun v => v.category).sum ≤ 8) (hf : cells + mc ≤ R.cells ∧ slots + ms ≤ R.slots) (d : decode cc pc = .ok (.invokevirtual idx, 3)) (hn : pc + 3 = n) (k : ∀ (v : Int32) (ξ1 : XS), K v ξ1 → CF p l e R s m args below meth c nL (cells + mc) (slots + ms) (XB g A s ξ1) Q n lv (.int v :: st)) (kx : ∀ (E9 : String) (q : Nat) (ξ1 : XS), KX E9 q ξ1 → CX p l e R s m args below meth c nL (cells + mc) (slots + ms) (XB g A s ξ1) Q pc lv E9 q) : CF p l e R s m args below meth c nL cells slots (XB g A s ξ) Q pc lv stk := by
  subst hn
  subst hstk
  intro H locs ls hB hl
  refine vx_calli (vx_runVX (As := As) (rest := st) E (hM H.size) (vx_cwVW na E.2.2.2.2 hG rfl rfl rfl hd hR) ⟨xblind, xrecv_cell hB hrv, xpre hB⟩ rfl hna (hl.1) rfl (lv_room hcat) d hf) hB.2.2.1 (fun q _ h => xfree hB q h) (xfree hB) (fun q _ h => xfree hB q h) (fun E9 ce q9 u t H1 locs1 ht hvm hw1 hB1 hz1 hk1 hS hc1 hc2 hc3 => ?_) (fun r u t H1 locs1 ht hvm hw1 hB1 hz1 hk1 hS => ?_)
  · obtain ⟨u1, E8, q8⟩ := u
    obtain ⟨⟨ha, hb⟩, hB2⟩ := hB1
    have ha : E8 = E9 := ha
    have hb : q8 = q9 := hb
    subst ha
    subst hb
    exact kx _ _ _ hw1 H1 locs1 ls _ ce (xbehind hB ht hB2 hS) hl hc1 hc2 hc3
  · exact k _ _ hw1 H1 locs1 ls (xbehind hB ht hB1 hS) hl
theorem zcallV_r {own : String} (E : EV p s m args c cc nL own) {y : MethodName} {bytes : ByteArray} {maxL idx na mc ms fr lo : Nat} {ret : Option FieldType} {stk : List Value} {C9 : String} {b : Nat} {K : Nat → XS → Prop} {KX : String → Nat → XS → Prop} (As : List Value) (hM : MetZr l g y (ws_ y bytes maxL ret) fr lo (.ref b :: As) ξ mc ms K KX)
    (hG : GoodIn lw_all (wsV own idx C9 y (ws_ y bytes maxL ret))) (hd : y.cls = C9 ∧ y.cls ≠ "java/lang/invoke/MethodHandle" ∧ y.cls ≠ "java/lang/invoke/VarHandle" ∧ (parseMethodDescriptor y.desc).map (fun d => d.parameters.length) = some na) (hrv : xrecv g ξ C9 b) (hR : fr + 1 ≤ R.frames ∧ 8 + (maxL + 11) + lo ≤ R.locals) (hna : As.length = na) (hstk : stk = As.reverse ++ .ref b :: st) (hcat : (st.map fun v => v.category).sum ≤ 8) (hf : cells + mc ≤ R.cells ∧ slots + ms ≤ R.slots) (d : decode cc pc = .ok (.invokevirtual idx, 3)) (hn : pc + 3 = n) (k : ∀ (v : Nat) (ξ1 : XS), K v ξ1 → CF p l e R s m args below meth c nL (cells + mc) (slots + ms) (XB g A s ξ1) Q n lv (.ref v :: st)) (kx : ∀ (E9 : String) (q : Nat) (ξ1 : XS), KX E9 q ξ1 → CX p l e R s m args below meth c nL (cells + mc) (slots + ms) (XB g A s ξ1) Q pc lv E9 q) : CF p l e R s m args below meth c nL cells slots (XB g A s ξ) Q pc lv stk := by
  subst hn
  subst hstk
  intro H locs ls hB hl
  refine vx_callq (vx_runV (As := As) (rest := st) E (hM H.size) (cwV na E.2.2.2.2 hG rfl rfl rfl hd hR) ⟨xblind, xrecv_cell hB hrv, xpre hB⟩ rfl hna (hl.1) rfl (lv_room hcat) d hf) hB.2.2.1 (fun q _ h => xfree hB q h) (xfree hB) (fun q _ h => xfree hB q h) (fun E9 ce q9 u t H1 locs1 ht hvm hw1 hB1 hz1 hk1 hS hc1 hc2 hc3 => ?_) (fun r u t H1 locs1 ht hvm hw1 hB1 hz1 hk1 hS => ?_)
  · obtain ⟨u1, E8, q8⟩ := u
    obtain ⟨⟨ha, hb⟩, hB2⟩ := hB1
    have ha : E8 = E9 := ha
    have hb : q8 = q9 := hb
    subst ha
    subst hb
    exact kx _ _ _ hw1 H1 locs1 ls _ ce (xbehind hB ht hB2 hS) hl hc1 hc2 hc3
  · obtain ⟨v, rfl, hw2⟩ := hw1
    exact k _ _ hw2 H1 locs1 ls (xbehind hB ht hB1 hS) hl
theorem zcallN_r {own : String} (E : EV p s m args c cc nL own) {y : MethodName} {bytes : ByteArray} {maxL idx na mc ms fr lo : Nat} {ret : Option FieldType} {stk : List Value} {C9 host : String} {b : Nat} {K : Nat → XS → Prop} {KX : String → Nat → XS → Prop} (As : List Value) (hM : MetZr l g y (ws_ y bytes maxL ret) fr lo (.ref b :: As) ξ mc ms K KX)
    (hG : GoodIn lw_all (ws_ y bytes maxL ret)) (hini : Cond.initialized y.cls ∈ lw_all) (hlk : Cond.methodLinkNest own idx y host ∈ lw_tbl) (him : Cond.instanceMethod y ∈ lw_all) (hsl : Cond.selects C9 y y ∈ lw_all) (hd : y.cls ≠ "java/lang/invoke/MethodHandle" ∧ y.cls ≠ "java/lang/invoke/VarHandle" ∧ (parseMethodDescriptor y.desc).map (fun d => d.parameters.length) = some na) (hrv : xrecv g ξ C9 b) (hR : fr + 1 ≤ R.frames ∧ 8 + (maxL + 11) + lo ≤ R.locals) (hna : As.length = na) (hstk : stk = As.reverse ++ .ref b :: st) (hcat : (st.map fun v => v.category).sum ≤ 8) (hf : cells + mc ≤ R.cells ∧ slots + ms ≤ R.slots) (d : decode cc pc = .ok (.invokevirtual idx, 3)) (hn : pc + 3 = n) (k : ∀ (v : Nat) (ξ1 : XS), K v ξ1 → CF p l e R s m args below meth c nL (cells + mc) (slots + ms) (XB g A s ξ1) Q n lv (.ref v :: st)) (kx : ∀ (E9 : String) (q : Nat) (ξ1 : XS), KX E9 q ξ1 → CX p l e R s m args below meth c nL (cells + mc) (slots + ms) (XB g A s ξ1) Q pc lv E9 q) : CF p l e R s m args below meth c nL cells slots (XB g A s ξ) Q pc lv stk := by
  subst hn
  subst hstk
  intro H locs ls hB hl
  refine vx_callq (vx_runVN (As := As) (rest := st) E (hM H.size) ⟨va_cnB na E.2.2.2.2 hG rfl rfl rfl (hB.2.2.2.2.2.1 _ hlk rfl) (E.2.2.2.2 _ hini) hd hR, E.2.2.2.2 _ him, E.2.2.2.2 _ hsl⟩ ⟨xblind, xrecv_cell hB hrv, xpre hB⟩ rfl hna (hl.1) rfl (lv_room hcat) d hf) hB.2.2.1 (fun q _ h => xfree hB q h) (xfree hB) (fun q _ h => xfree hB q h) (fun E9 ce q9 u t H1 locs1 ht hvm hw1 hB1 hz1 hk1 hS hc1 hc2 hc3 => ?_) (fun r u t H1 locs1 ht hvm hw1 hB1 hz1 hk1 hS => ?_)
  · obtain ⟨u1, E8, q8⟩ := u
    obtain ⟨⟨ha, hb⟩, hB2⟩ := hB1
    have ha : E8 = E9 := ha
    have hb : q8 = q9 := hb
    subst ha
    subst hb
    exact kx _ _ _ hw1 H1 locs1 ls _ ce (xbehind hB ht hB2 hS) hl hc1 hc2 hc3
  · obtain ⟨v, rfl, hw2⟩ := hw1
    exact k _ _ hw2 H1 locs1 ls (xbehind hB ht hB1 hS) hl
theorem zcallS_r {own : String} (E : EV p s m args c cc nL own) {y : MethodName} {bytes : ByteArray} {maxL idx na mc ms fr lo : Nat} {ret : Option FieldType} {stk : List Value}  {K : Nat → XS → Prop} {KX : String → Nat → XS → Prop} (As : List Value) (hM : MetZr l g y (ws_ y bytes maxL ret) fr lo As ξ mc ms K KX)
    (hG : GoodIn lw_all (va_wsS own idx y (ws_ y bytes maxL ret))) (hd : y.cls ≠ "java/lang/invoke/MethodHandle" ∧ y.cls ≠ "java/lang/invoke/VarHandle" ∧ (parseMethodDescriptor y.desc).map (fun d => d.parameters.length) = some na) (hR : fr + 1 ≤ R.frames ∧ 8 + (maxL + 11) + lo ≤ R.locals) (hna : As.length = na) (hstk : stk = As.reverse ++ st) (hcat : (st.map fun v => v.category).sum ≤ 8) (hf : cells + mc ≤ R.cells ∧ slots + ms ≤ R.slots) (d : decode cc pc = .ok (.invokestatic idx, 3)) (hn : pc + 3 = n) (k : ∀ (v : Nat) (ξ1 : XS), K v ξ1 → CF p l e R s m args below meth c nL (cells + mc) (slots + ms) (XB g A s ξ1) Q n lv (.ref v :: st)) (kx : ∀ (E9 : String) (q : Nat) (ξ1 : XS), KX E9 q ξ1 → CX p l e R s m args below meth c nL (cells + mc) (slots + ms) (XB g A s ξ1) Q pc lv E9 q) : CF p l e R s m args below meth c nL cells slots (XB g A s ξ) Q pc lv stk := by
  subst hn
  subst hstk
  intro H locs ls hB hl
  refine vx_callq (vx_runS (As := As) (rest := st) E (hM H.size) (va_cwS na E.2.2.2.2 hG rfl rfl rfl hd hR) ⟨xblind, xpre hB⟩ rfl hna (hl.1) rfl (lv_room hcat) d hf) hB.2.2.1 (fun q _ h => xfree hB q h) (xfree hB) (fun q _ h => xfree hB q h) (fun E9 ce q9 u t H1 locs1 ht hvm hw1 hB1 hz1 hk1 hS hc1 hc2 hc3 => ?_) (fun r u t H1 locs1 ht hvm hw1 hB1 hz1 hk1 hS => ?_)
  · obtain ⟨u1, E8, q8⟩ := u
    obtain ⟨⟨ha, hb⟩, hB2⟩ := hB1
    have ha : E8 = E9 := ha
    have hb : q8 = q9 := hb
    subst ha
    subst hb
    exact kx _ _ _ hw1 H1 locs1 ls _ ce (xbehind hB ht hB2 hS) hl hc1 hc2 hc3
  · obtain ⟨v, rfl, hw2⟩ := hw1
    exact k _ _ hw2 H1 locs1 ls (xbehind hB ht hB1 hS) hl
theorem zcallT_r {own : String} (E : EV p s m args c cc nL own) {y : MethodName} {bytes : ByteArray} {maxL idx na mc ms fr lo : Nat} {ret : Option FieldType} {stk : List Value} {host : String} {K : Nat → XS → Prop} {KX : String → Nat → XS → Prop} (As : List Value) (hM : MetZr l g y (ws_ y bytes maxL ret) fr lo As ξ mc ms K KX)
    (hG : GoodIn lw_all (ws_ y bytes maxL ret)) (hini : Cond.initialized y.cls ∈ lw_all) (hlk : Cond.methodLinkNest own idx y host ∈ lw_tbl) (hst : Cond.static y ∈ lw_all) (hd : y.cls ≠ "java/lang/invoke/MethodHandle" ∧ y.cls ≠ "java/lang/invoke/VarHandle" ∧ (parseMethodDescriptor y.desc).map (fun d => d.parameters.length) = some na) (hR : fr + 1 ≤ R.frames ∧ 8 + (maxL + 11) + lo ≤ R.locals) (hna : As.length = na) (hstk : stk = As.reverse ++ st) (hcat : (st.map fun v => v.category).sum ≤ 8) (hf : cells + mc ≤ R.cells ∧ slots + ms ≤ R.slots) (d : decode cc pc = .ok (.invokestatic idx, 3)) (hn : pc + 3 = n) (k : ∀ (v : Nat) (ξ1 : XS), K v ξ1 → CF p l e R s m args below meth c nL (cells + mc) (slots + ms) (XB g A s ξ1) Q n lv (.ref v :: st)) (kx : ∀ (E9 : String) (q : Nat) (ξ1 : XS), KX E9 q ξ1 → CX p l e R s m args below meth c nL (cells + mc) (slots + ms) (XB g A s ξ1) Q pc lv E9 q) : CF p l e R s m args below meth c nL cells slots (XB g A s ξ) Q pc lv stk := by
  subst hn
  subst hstk
  intro H locs ls hB hl
  refine vx_callq (vx_runSN (As := As) (rest := st) E (hM H.size) ⟨va_cnB na E.2.2.2.2 hG rfl rfl rfl (hB.2.2.2.2.2.1 _ hlk rfl) (E.2.2.2.2 _ hini) hd hR, E.2.2.2.2 _ hst, trivial⟩ ⟨xblind, xpre hB⟩ rfl hna (hl.1) rfl (lv_room hcat) d hf) hB.2.2.1 (fun q _ h => xfree hB q h) (xfree hB) (fun q _ h => xfree hB q h) (fun E9 ce q9 u t H1 locs1 ht hvm hw1 hB1 hz1 hk1 hS hc1 hc2 hc3 => ?_) (fun r u t H1 locs1 ht hvm hw1 hB1 hz1 hk1 hS => ?_)
  · obtain ⟨u1, E8, q8⟩ := u
    obtain ⟨⟨ha, hb⟩, hB2⟩ := hB1
    have ha : E8 = E9 := ha
    have hb : q8 = q9 := hb
    subst ha
    subst hb
    exact kx _ _ _ hw1 H1 locs1 ls _ ce (xbehind hB ht hB2 hS) hl hc1 hc2 hc3
  · obtain ⟨v, rfl, hw2⟩ := hw1
    exact k _ _ hw2 H1 locs1 ls (xbehind hB ht hB1 hS) hl
theorem zcallV_q {own : String} (E : EV p s m args c cc nL own) {y : MethodName} {bytes : ByteArray} {maxL idx na mc ms fr lo : Nat} {ret : Option FieldType} {stk : List Value} {C9 : String} {b : Nat} {K : Option Nat → XS → Prop} {KX : String → Nat → XS → Prop} (As : List Value) (hM : MetZq l g y (ws_ y bytes maxL ret) fr lo (.ref b :: As) ξ mc ms K KX)
    (hG : GoodIn lw_all (wsV own idx C9 y (ws_ y bytes maxL ret))) (hd : y.cls = C9 ∧ y.cls ≠ "java/lang/invoke/MethodHandle" ∧ y.cls ≠ "java/lang/invoke/VarHandle" ∧ (parseMethodDescriptor y.desc).map (fun d => d.parameters.length) = some na) (hrv : xrecv g ξ C9 b) (hR : fr + 1 ≤ R.frames ∧ 8 + (maxL + 11) + lo ≤ R.locals) (hna : As.length = na) (hstk : stk = As.reverse ++ .ref b :: st) (hcat : (st.map fun v => v.category).sum ≤ 8) (hf : cells + mc ≤ R.cells ∧ slots + ms ≤ R.slots) (d : decode cc pc = .ok (.invokevirtual idx, 3)) (hn : pc + 3 = n) (k : ∀ (v : Option Nat) (ξ1 : XS), K v ξ1 → CF p l e R s m args below meth c nL (cells + mc) (slots + ms) (XB g A s ξ1) Q n lv (va_rf v :: st)) (kx : ∀ (E9 : String) (q : Nat) (ξ1 : XS), KX E9 q ξ1 → CX p l e R s m args below meth c nL (cells + mc) (slots + ms) (XB g A s ξ1) Q pc lv E9 q) : CF p l e R s m args below meth c nL cells slots (XB g A s ξ) Q pc lv stk := by
  subst hn
  subst hstk
  intro H locs ls hB hl
  refine vx_callq (vx_runV (As := As) (rest := st) E (hM H.size) (cwV na E.2.2.2.2 hG rfl rfl rfl hd hR) ⟨xblind, xrecv_cell hB hrv, xpre hB⟩ rfl hna (hl.1) rfl (lv_room hcat) d hf) hB.2.2.1 (fun q _ h => xfree hB q h) (xfree hB) (fun q _ h => xfree hB q h) (fun E9 ce q9 u t H1 locs1 ht hvm hw1 hB1 hz1 hk1 hS hc1 hc2 hc3 => ?_) (fun r u t H1 locs1 ht hvm hw1 hB1 hz1 hk1 hS => ?_)
  · obtain ⟨u1, E8, q8⟩ := u
    obtain ⟨⟨ha, hb⟩, hB2⟩ := hB1
    have ha : E8 = E9 := ha
    have hb : q8 = q9 := hb
    subst ha
    subst hb
    exact kx _ _ _ hw1 H1 locs1 ls _ ce (xbehind hB ht hB2 hS) hl hc1 hc2 hc3
  · exact k _ _ hw1 H1 locs1 ls (xbehind hB ht hB1 hS) hl
theorem zcallN_q {own : String} (E : EV p s m args c cc nL own) {y : MethodName} {bytes : ByteArray} {maxL idx na mc ms fr lo : Nat} {ret : Option FieldType} {stk : List Value} {C9 host : String} {b : Nat} {K : Option Nat → XS → Prop} {KX : String → Nat → XS → Prop} (As : List Value) (hM : MetZq l g y (ws_ y bytes maxL ret) fr lo (.ref b :: As) ξ mc ms K KX)
    (hG : GoodIn lw_all (ws_ y bytes maxL ret)) (hini : Cond.initialized y.cls ∈ lw_all) (hlk : Cond.methodLinkNest own idx y host ∈ lw_tbl) (him : Cond.instanceMethod y ∈ lw_all) (hsl : Cond.selects C9 y y ∈ lw_all) (hd : y.cls ≠ "java/lang/invoke/MethodHandle" ∧ y.cls ≠ "java/lang/invoke/VarHandle" ∧ (parseMethodDescriptor y.desc).map (fun d => d.parameters.length) = some na) (hrv : xrecv g ξ C9 b) (hR : fr + 1 ≤ R.frames ∧ 8 + (maxL + 11) + lo ≤ R.locals) (hna : As.length = na) (hstk : stk = As.reverse ++ .ref b :: st) (hcat : (st.map fun v => v.category).sum ≤ 8) (hf : cells + mc ≤ R.cells ∧ slots + ms ≤ R.slots) (d : decode cc pc = .ok (.invokevirtual idx, 3)) (hn : pc + 3 = n) (k : ∀ (v : Option Nat) (ξ1 : XS), K v ξ1 → CF p l e R s m args below meth c nL (cells + mc) (slots + ms) (XB g A s ξ1) Q n lv (va_rf v :: st)) (kx : ∀ (E9 : String) (q : Nat) (ξ1 : XS), KX E9 q ξ1 → CX p l e R s m args below meth c nL (cells + mc) (slots + ms) (XB g A s ξ1) Q pc lv E9 q) : CF p l e R s m args below meth c nL cells slots (XB g A s ξ) Q pc lv stk := by
  subst hn
  subst hstk
  intro H locs ls hB hl
  refine vx_callq (vx_runVN (As := As) (rest := st) E (hM H.size) ⟨va_cnB na E.2.2.2.2 hG rfl rfl rfl (hB.2.2.2.2.2.1 _ hlk rfl) (E.2.2.2.2 _ hini) hd hR, E.2.2.2.2 _ him, E.2.2.2.2 _ hsl⟩ ⟨xblind, xrecv_cell hB hrv, xpre hB⟩ rfl hna (hl.1) rfl (lv_room hcat) d hf) hB.2.2.1 (fun q _ h => xfree hB q h) (xfree hB) (fun q _ h => xfree hB q h) (fun E9 ce q9 u t H1 locs1 ht hvm hw1 hB1 hz1 hk1 hS hc1 hc2 hc3 => ?_) (fun r u t H1 locs1 ht hvm hw1 hB1 hz1 hk1 hS => ?_)
  · obtain ⟨u1, E8, q8⟩ := u
    obtain ⟨⟨ha, hb⟩, hB2⟩ := hB1
    have ha : E8 = E9 := ha
    have hb : q8 = q9 := hb
    subst ha
    subst hb
    exact kx _ _ _ hw1 H1 locs1 ls _ ce (xbehind hB ht hB2 hS) hl hc1 hc2 hc3
  · exact k _ _ hw1 H1 locs1 ls (xbehind hB ht hB1 hS) hl
theorem zcallS_q {own : String} (E : EV p s m args c cc nL own) {y : MethodName} {bytes : ByteArray} {maxL idx na mc ms fr lo : Nat} {ret : Option FieldType} {stk : List Value}  {K : Option Nat → XS → Prop} {KX : String → Nat → XS → Prop} (As : List Value) (hM : MetZq l g y (ws_ y bytes maxL ret) fr lo As ξ mc ms K KX)
    (hG : GoodIn lw_all (va_wsS own idx y (ws_ y bytes maxL ret))) (hd : y.cls ≠ "java/lang/invoke/MethodHandle" ∧ y.cls ≠ "java/lang/invoke/VarHandle" ∧ (parseMethodDescriptor y.desc).map (fun d => d.parameters.length) = some na) (hR : fr + 1 ≤ R.frames ∧ 8 + (maxL + 11) + lo ≤ R.locals) (hna : As.length = na) (hstk : stk = As.reverse ++ st) (hcat : (st.map fun v => v.category).sum ≤ 8) (hf : cells + mc ≤ R.cells ∧ slots + ms ≤ R.slots) (d : decode cc pc = .ok (.invokestatic idx, 3)) (hn : pc + 3 = n) (k : ∀ (v : Option Nat) (ξ1 : XS), K v ξ1 → CF p l e R s m args below meth c nL (cells + mc) (slots + ms) (XB g A s ξ1) Q n lv (va_rf v :: st)) (kx : ∀ (E9 : String) (q : Nat) (ξ1 : XS), KX E9 q ξ1 → CX p l e R s m args below meth c nL (cells + mc) (slots + ms) (XB g A s ξ1) Q pc lv E9 q) : CF p l e R s m args below meth c nL cells slots (XB g A s ξ) Q pc lv stk := by
  subst hn
  subst hstk
  intro H locs ls hB hl
  refine vx_callq (vx_runS (As := As) (rest := st) E (hM H.size) (va_cwS na E.2.2.2.2 hG rfl rfl rfl hd hR) ⟨xblind, xpre hB⟩ rfl hna (hl.1) rfl (lv_room hcat) d hf) hB.2.2.1 (fun q _ h => xfree hB q h) (xfree hB) (fun q _ h => xfree hB q h) (fun E9 ce q9 u t H1 locs1 ht hvm hw1 hB1 hz1 hk1 hS hc1 hc2 hc3 => ?_) (fun r u t H1 locs1 ht hvm hw1 hB1 hz1 hk1 hS => ?_)
  · obtain ⟨u1, E8, q8⟩ := u
    obtain ⟨⟨ha, hb⟩, hB2⟩ := hB1
    have ha : E8 = E9 := ha
    have hb : q8 = q9 := hb
    subst ha
    subst hb
    exact kx _ _ _ hw1 H1 locs1 ls _ ce (xbehind hB ht hB2 hS) hl hc1 hc2 hc3
  · exact k _ _ hw1 H1 locs1 ls (xbehind hB ht hB1 hS) hl
theorem zcallT_q {own : String} (E : EV p s m args c cc nL own) {y : MethodName} {bytes : ByteArray} {maxL idx na mc ms fr lo : Nat} {ret : Option FieldType} {stk : List Value} {host : String} {K : Option Nat → XS → Prop} {KX : String → Nat → XS → Prop} (As : List Value) (hM : MetZq l g y (ws_ y bytes maxL ret) fr lo As ξ mc ms K KX)
    (hG : GoodIn lw_all (ws_ y bytes maxL ret)) (hini : Cond.initialized y.cls ∈ lw_all) (hlk : Cond.methodLinkNest own idx y host ∈ lw_tbl) (hst : Cond.static y ∈ lw_all) (hd : y.cls ≠ "java/lang/invoke/MethodHandle" ∧ y.cls ≠ "java/lang/invoke/VarHandle" ∧ (parseMethodDescriptor y.desc).map (fun d => d.parameters.length) = some na) (hR : fr + 1 ≤ R.frames ∧ 8 + (maxL + 11) + lo ≤ R.locals) (hna : As.length = na) (hstk : stk = As.reverse ++ st) (hcat : (st.map fun v => v.category).sum ≤ 8) (hf : cells + mc ≤ R.cells ∧ slots + ms ≤ R.slots) (d : decode cc pc = .ok (.invokestatic idx, 3)) (hn : pc + 3 = n) (k : ∀ (v : Option Nat) (ξ1 : XS), K v ξ1 → CF p l e R s m args below meth c nL (cells + mc) (slots + ms) (XB g A s ξ1) Q n lv (va_rf v :: st)) (kx : ∀ (E9 : String) (q : Nat) (ξ1 : XS), KX E9 q ξ1 → CX p l e R s m args below meth c nL (cells + mc) (slots + ms) (XB g A s ξ1) Q pc lv E9 q) : CF p l e R s m args below meth c nL cells slots (XB g A s ξ) Q pc lv stk := by
  subst hn
  subst hstk
  intro H locs ls hB hl
  refine vx_callq (vx_runSN (As := As) (rest := st) E (hM H.size) ⟨va_cnB na E.2.2.2.2 hG rfl rfl rfl (hB.2.2.2.2.2.1 _ hlk rfl) (E.2.2.2.2 _ hini) hd hR, E.2.2.2.2 _ hst, trivial⟩ ⟨xblind, xpre hB⟩ rfl hna (hl.1) rfl (lv_room hcat) d hf) hB.2.2.1 (fun q _ h => xfree hB q h) (xfree hB) (fun q _ h => xfree hB q h) (fun E9 ce q9 u t H1 locs1 ht hvm hw1 hB1 hz1 hk1 hS hc1 hc2 hc3 => ?_) (fun r u t H1 locs1 ht hvm hw1 hB1 hz1 hk1 hS => ?_)
  · obtain ⟨u1, E8, q8⟩ := u
    obtain ⟨⟨ha, hb⟩, hB2⟩ := hB1
    have ha : E8 = E9 := ha
    have hb : q8 = q9 := hb
    subst ha
    subst hb
    exact kx _ _ _ hw1 H1 locs1 ls _ ce (xbehind hB ht hB2 hS) hl hc1 hc2 hc3
  · exact k _ _ hw1 H1 locs1 ls (xbehind hB ht hB1 hS) hl
theorem zcallV_v {own : String} (E : EV p s m args c cc nL own) {y : MethodName} {bytes : ByteArray} {maxL idx na mc ms fr lo : Nat} {ret : Option FieldType} {stk : List Value} {C9 : String} {b : Nat} {K : XS → Prop} {KX : String → Nat → XS → Prop} (As : List Value) (hM : MetZv l g y (ws_ y bytes maxL ret) fr lo (.ref b :: As) ξ mc ms K KX)
    (hG : GoodIn lw_all (wsV own idx C9 y (ws_ y bytes maxL ret))) (hd : y.cls = C9 ∧ y.cls ≠ "java/lang/invoke/MethodHandle" ∧ y.cls ≠ "java/lang/invoke/VarHandle" ∧ (parseMethodDescriptor y.desc).map (fun d => d.parameters.length) = some na) (hrv : xrecv g ξ C9 b) (hR : fr + 1 ≤ R.frames ∧ 8 + (maxL + 11) + lo ≤ R.locals) (hna : As.length = na) (hstk : stk = As.reverse ++ .ref b :: st) (hcat : (st.map fun v => v.category).sum ≤ 8) (hf : cells + mc ≤ R.cells ∧ slots + ms ≤ R.slots) (d : decode cc pc = .ok (.invokevirtual idx, 3)) (hn : pc + 3 = n) (k : ∀ (ξ1 : XS), K ξ1 → CF p l e R s m args below meth c nL (cells + mc) (slots + ms) (XB g A s ξ1) Q n lv st) (kx : ∀ (E9 : String) (q : Nat) (ξ1 : XS), KX E9 q ξ1 → CX p l e R s m args below meth c nL (cells + mc) (slots + ms) (XB g A s ξ1) Q pc lv E9 q) : CF p l e R s m args below meth c nL cells slots (XB g A s ξ) Q pc lv stk := by
  subst hn
  subst hstk
  intro H locs ls hB hl
  refine vx_callv (vx_runV (As := As) (rest := st) E (hM H.size) (cwV na E.2.2.2.2 hG rfl rfl rfl hd hR) ⟨xblind, xrecv_cell hB hrv, xpre hB⟩ rfl hna (hl.1) rfl (lv_room hcat) d hf) hB.2.2.1 (fun q _ h => xfree hB q h) (xfree hB) (fun q _ h => xfree hB q h) (fun E9 ce q9 u t H1 locs1 ht hvm hw1 hB1 hz1 hk1 hS hc1 hc2 hc3 => ?_) (fun u t H1 locs1 ht hvm hw1 hB1 hz1 hk1 hS => ?_)
  · obtain ⟨u1, E8, q8⟩ := u
    obtain ⟨⟨ha, hb⟩, hB2⟩ := hB1
    have ha : E8 = E9 := ha
    have hb : q8 = q9 := hb
    subst ha
    subst hb
    exact kx _ _ _ hw1 H1 locs1 ls _ ce (xbehind hB ht hB2 hS) hl hc1 hc2 hc3
  · exact k _ hw1 H1 locs1 ls (xbehind hB ht hB1 hS) hl
theorem zcallN_v {own : String} (E : EV p s m args c cc nL own) {y : MethodName} {bytes : ByteArray} {maxL idx na mc ms fr lo : Nat} {ret : Option FieldType} {stk : List Value} {C9 host : String} {b : Nat} {K : XS → Prop} {KX : String → Nat → XS → Prop} (As : List Value) (hM : MetZv l g y (ws_ y bytes maxL ret) fr lo (.ref b :: As) ξ mc ms K KX)
    (hG : GoodIn lw_all (ws_ y bytes maxL ret)) (hini : Cond.initialized y.cls ∈ lw_all) (hlk : Cond.methodLinkNest own idx y host ∈ lw_tbl) (him : Cond.instanceMethod y ∈ lw_all) (hsl : Cond.selects C9 y y ∈ lw_all) (hd : y.cls ≠ "java/lang/invoke/MethodHandle" ∧ y.cls ≠ "java/lang/invoke/VarHandle" ∧ (parseMethodDescriptor y.desc).map (fun d => d.parameters.length) = some na) (hrv : xrecv g ξ C9 b) (hR : fr + 1 ≤ R.frames ∧ 8 + (maxL + 11) + lo ≤ R.locals) (hna : As.length = na) (hstk : stk = As.reverse ++ .ref b :: st) (hcat : (st.map fun v => v.category).sum ≤ 8) (hf : cells + mc ≤ R.cells ∧ slots + ms ≤ R.slots) (d : decode cc pc = .ok (.invokevirtual idx, 3)) (hn : pc + 3 = n) (k : ∀ (ξ1 : XS), K ξ1 → CF p l e R s m args below meth c nL (cells + mc) (slots + ms) (XB g A s ξ1) Q n lv st) (kx : ∀ (E9 : String) (q : Nat) (ξ1 : XS), KX E9 q ξ1 → CX p l e R s m args below meth c nL (cells + mc) (slots + ms) (XB g A s ξ1) Q pc lv E9 q) : CF p l e R s m args below meth c nL cells slots (XB g A s ξ) Q pc lv stk := by
  subst hn
  subst hstk
  intro H locs ls hB hl
  refine vx_callv (vx_runVN (As := As) (rest := st) E (hM H.size) ⟨va_cnB na E.2.2.2.2 hG rfl rfl rfl (hB.2.2.2.2.2.1 _ hlk rfl) (E.2.2.2.2 _ hini) hd hR, E.2.2.2.2 _ him, E.2.2.2.2 _ hsl⟩ ⟨xblind, xrecv_cell hB hrv, xpre hB⟩ rfl hna (hl.1) rfl (lv_room hcat) d hf) hB.2.2.1 (fun q _ h => xfree hB q h) (xfree hB) (fun q _ h => xfree hB q h) (fun E9 ce q9 u t H1 locs1 ht hvm hw1 hB1 hz1 hk1 hS hc1 hc2 hc3 => ?_) (fun u t H1 locs1 ht hvm hw1 hB1 hz1 hk1 hS => ?_)
  · obtain ⟨u1, E8, q8⟩ := u
    obtain ⟨⟨ha, hb⟩, hB2⟩ := hB1
    have ha : E8 = E9 := ha
    have hb : q8 = q9 := hb
    subst ha
    subst hb
    exact kx _ _ _ hw1 H1 locs1 ls _ ce (xbehind hB ht hB2 hS) hl hc1 hc2 hc3
  · exact k _ hw1 H1 locs1 ls (xbehind hB ht hB1 hS) hl
theorem zcallS_v {own : String} (E : EV p s m args c cc nL own) {y : MethodName} {bytes : ByteArray} {maxL idx na mc ms fr lo : Nat} {ret : Option FieldType} {stk : List Value}  {K : XS → Prop} {KX : String → Nat → XS → Prop} (As : List Value) (hM : MetZv l g y (ws_ y bytes maxL ret) fr lo As ξ mc ms K KX)
    (hG : GoodIn lw_all (va_wsS own idx y (ws_ y bytes maxL ret))) (hd : y.cls ≠ "java/lang/invoke/MethodHandle" ∧ y.cls ≠ "java/lang/invoke/VarHandle" ∧ (parseMethodDescriptor y.desc).map (fun d => d.parameters.length) = some na) (hR : fr + 1 ≤ R.frames ∧ 8 + (maxL + 11) + lo ≤ R.locals) (hna : As.length = na) (hstk : stk = As.reverse ++ st) (hcat : (st.map fun v => v.category).sum ≤ 8) (hf : cells + mc ≤ R.cells ∧ slots + ms ≤ R.slots) (d : decode cc pc = .ok (.invokestatic idx, 3)) (hn : pc + 3 = n) (k : ∀ (ξ1 : XS), K ξ1 → CF p l e R s m args below meth c nL (cells + mc) (slots + ms) (XB g A s ξ1) Q n lv st) (kx : ∀ (E9 : String) (q : Nat) (ξ1 : XS), KX E9 q ξ1 → CX p l e R s m args below meth c nL (cells + mc) (slots + ms) (XB g A s ξ1) Q pc lv E9 q) : CF p l e R s m args below meth c nL cells slots (XB g A s ξ) Q pc lv stk := by
  subst hn
  subst hstk
  intro H locs ls hB hl
  refine vx_callv (vx_runS (As := As) (rest := st) E (hM H.size) (va_cwS na E.2.2.2.2 hG rfl rfl rfl hd hR) ⟨xblind, xpre hB⟩ rfl hna (hl.1) rfl (lv_room hcat) d hf) hB.2.2.1 (fun q _ h => xfree hB q h) (xfree hB) (fun q _ h => xfree hB q h) (fun E9 ce q9 u t H1 locs1 ht hvm hw1 hB1 hz1 hk1 hS hc1 hc2 hc3 => ?_) (fun u t H1 locs1 ht hvm hw1 hB1 hz1 hk1 hS => ?_)
  · obtain ⟨u1, E8, q8⟩ := u
    obtain ⟨⟨ha, hb⟩, hB2⟩ := hB1
    have ha : E8 = E9 := ha
    have hb : q8 = q9 := hb
    subst ha
    subst hb
    exact kx _ _ _ hw1 H1 locs1 ls _ ce (xbehind hB ht hB2 hS) hl hc1 hc2 hc3
  · exact k _ hw1 H1 locs1 ls (xbehind hB ht hB1 hS) hl
theorem zcallT_v {own : String} (E : EV p s m args c cc nL own) {y : MethodName} {bytes : ByteArray} {maxL idx na mc ms fr lo : Nat} {ret : Option FieldType} {stk : List Value} {host : String} {K : XS → Prop} {KX : String → Nat → XS → Prop} (As : List Value) (hM : MetZv l g y (ws_ y bytes maxL ret) fr lo As ξ mc ms K KX)
    (hG : GoodIn lw_all (ws_ y bytes maxL ret)) (hini : Cond.initialized y.cls ∈ lw_all) (hlk : Cond.methodLinkNest own idx y host ∈ lw_tbl) (hst : Cond.static y ∈ lw_all) (hd : y.cls ≠ "java/lang/invoke/MethodHandle" ∧ y.cls ≠ "java/lang/invoke/VarHandle" ∧ (parseMethodDescriptor y.desc).map (fun d => d.parameters.length) = some na) (hR : fr + 1 ≤ R.frames ∧ 8 + (maxL + 11) + lo ≤ R.locals) (hna : As.length = na) (hstk : stk = As.reverse ++ st) (hcat : (st.map fun v => v.category).sum ≤ 8) (hf : cells + mc ≤ R.cells ∧ slots + ms ≤ R.slots) (d : decode cc pc = .ok (.invokestatic idx, 3)) (hn : pc + 3 = n) (k : ∀ (ξ1 : XS), K ξ1 → CF p l e R s m args below meth c nL (cells + mc) (slots + ms) (XB g A s ξ1) Q n lv st) (kx : ∀ (E9 : String) (q : Nat) (ξ1 : XS), KX E9 q ξ1 → CX p l e R s m args below meth c nL (cells + mc) (slots + ms) (XB g A s ξ1) Q pc lv E9 q) : CF p l e R s m args below meth c nL cells slots (XB g A s ξ) Q pc lv stk := by
  subst hn
  subst hstk
  intro H locs ls hB hl
  refine vx_callv (vx_runSN (As := As) (rest := st) E (hM H.size) ⟨va_cnB na E.2.2.2.2 hG rfl rfl rfl (hB.2.2.2.2.2.1 _ hlk rfl) (E.2.2.2.2 _ hini) hd hR, E.2.2.2.2 _ hst, trivial⟩ ⟨xblind, xpre hB⟩ rfl hna (hl.1) rfl (lv_room hcat) d hf) hB.2.2.1 (fun q _ h => xfree hB q h) (xfree hB) (fun q _ h => xfree hB q h) (fun E9 ce q9 u t H1 locs1 ht hvm hw1 hB1 hz1 hk1 hS hc1 hc2 hc3 => ?_) (fun u t H1 locs1 ht hvm hw1 hB1 hz1 hk1 hS => ?_)
  · obtain ⟨u1, E8, q8⟩ := u
    obtain ⟨⟨ha, hb⟩, hB2⟩ := hB1
    have ha : E8 = E9 := ha
    have hb : q8 = q9 := hb
    subst ha
    subst hb
    exact kx _ _ _ hw1 H1 locs1 ls _ ce (xbehind hB ht hB2 hS) hl hc1 hc2 hc3
  · exact k _ hw1 H1 locs1 ls (xbehind hB ht hB1 hS) hl
end XC
