/-! CALLS AND ENDS over the world of HatsDecide: printed by gen/xrows.py -/
set_option maxRecDepth 100000
theorem xfree {g : XG} {A : Nat → Prop} {s : State} {ξ : XS} {H : Heap} {locs : List Loc} (hB : XB g A s ξ H locs) : ∀ q, va_A (xcs g ξ) H.size q → A q := by
  intro q h9
  rcases h9 with ⟨k9, e9, h9⟩ | h9
  · exact hB.2.1.2 k9 (q, e9) h9
  · exact hB.2.2.2.2.1 q (Nat.le_trans hB.2.2.1.1 h9)
theorem xblind {g : XG} {ξ : XS} {As : List Value} {sz : Nat} : FrameBlind (XPc g ξ As sz) := fun a U g9 mk q => by
  obtain ⟨q0, q1, qP, qK, qD, qN⟩ := q
  exact ⟨q0, q1, qP, va_K.moved (u := U) (U := U.calling g9 mk a) (Vm.Alike.refl U.vm) qK, qD, GV.same (s := U) (U := U.calling g9 mk a) rfl rfl qN⟩
theorem xpre {g : XG} {A : Nat → Prop} {s : State} {ξ : XS} {H : Heap} {locs : List Loc} {As : List Value} (hB : XB g A s ξ H locs) : ∀ U : State, U.heap = H → s.WarmedH U.vm → XPc g ξ As H.size As.toArray U := fun U hU hW => ⟨rfl, by rw [hU], by rw [hU]; exact hB.1, va_K.moved hW.alike hB.2.2.2.1, hB.2.1.weaken (fun _ _ _ _ => trivial), GV.go hW hB.2.2.1 hU (xfree hB) hB.2.2.2.2.2⟩
def xrecv (g : XG) (ξ : XS) (C : String) (b : Nat) : Prop := ∃ (q0 ci : Nat) (fs : List Value) (q : vw_C), (xcs g ξ)[q0]? = some (b, .inr (ci, fs)) ∧ vwCl[ci]? = some q ∧ q.1 = C
theorem xrecv_cell {g : XG} {A : Nat → Prop} {s : State} {ξ : XS} {H : Heap} {locs : List Loc} {C : String} {b : Nat} (hB : XB g A s ξ H locs) (h : xrecv g ξ C b) : ∃ cell : Cell, H[b]? = some cell ∧ cell.vm.isStatics = false ∧ s.vm.findClass C = some cell.cls := by
  obtain ⟨q0, ci, fs, q, h1, h2, rfl⟩ := h
  exact va_recv hB.2.2.2.1 hB.1 h2 h1
theorem xbehind {g : XG} {A : Nat → Prop} {s : State} {ξ ξ1 : XS} {H H1 : Heap} {locs locs1 : List Loc} {t : State} (hB : XB g A s ξ H locs) (ht : t.heap = H1) (h1 : XBt g (va_A (xcs g ξ) H.size) ξ1 t) (hS : va_S A s.heap H1 locs1) : XB g A s ξ1 H1 locs1 := by
  obtain ⟨hP1, hK1, hD1⟩ := h1
  rw [ht] at hP1
  exact ⟨hP1, hD1.weaken (fun k q _ h => xfree hB q.1 h), hS, hB.2.2.2⟩
section XC
variable {p : Program} {l : Launch} {e : Env} {R : Room} {s : State} {m : MethodId} {args : Array Value} {below : List Frame} {meth : Method} {c : Code} {nL cells slots : Nat} {A : Nat → Prop} {g : XG} {ξ : XS} {Q : State → Prop} {pc n : Nat} {lv : List (Nat × Value)} {st : List Value} {cc : ByteArray} {ρ : Type} {res : ρ}
theorem xcallV_i {own : String} (E : EV p s m args c cc nL own) {y : MethodName} {bytes : ByteArray} {maxL idx na : Nat} {ret : Option FieldType} {rm : Room} {stk : List Value} {mc ms : Nat} {C : String} {b : Nat} {o : Option (Int32 × XS)} {kk : Int32 → XS → Option ρ} (As : List Value) (hM : ∀ v ξ1, o = some (v, ξ1) → MetXi l g y (ws_ y bytes maxL ret) rm (.ref b :: As) ξ v ξ1 mc ms)
    (hG : GoodIn lw_all (wsV own idx C y (ws_ y bytes maxL ret))) (hd : y.cls = C ∧ y.cls ≠ "java/lang/invoke/MethodHandle" ∧ y.cls ≠ "java/lang/invoke/VarHandle" ∧ (parseMethodDescriptor y.desc).map (fun d => d.parameters.length) = some na) (hrv : xrecv g ξ C b) (hrc : rm.cells = mc) (hrs : rm.slots = ms) (hR : rm.frames + 1 ≤ R.frames ∧ 8 + (maxL + 11) + rm.locals ≤ R.locals) (hna : As.length = na) (hstk : stk = As.reverse ++ .ref b :: st) (hcat : (st.map fun v => v.category).sum ≤ 8) (hf : cells + mc ≤ R.cells ∧ slots + ms ≤ R.slots) (d : decode cc pc = .ok (.invokevirtual idx, 3)) (h : bnd o kk = some res) (hn : pc + 3 = n) (k : ∀ (v : Int32) (ξ1 : XS), kk v ξ1 = some res → CF p l e R s m args below meth c nL (cells + mc) (slots + ms) (XB g A s ξ1) Q n lv (.int v :: st)) : CF p l e R s m args below meth c nL cells slots (XB g A s ξ) Q pc lv stk := by
  subst hn
  subst hstk
  obtain ⟨v, ξ1, ho, hk⟩ := bnd_some h
  intro H locs ls hB hl
  refine va_calli (va_runV (As := As) (rest := st) E (hM v ξ1 ho H.size) (cwV na E.2.2.2.2 hG rfl hrc hrs hd hR) ⟨xblind, xrecv_cell hB hrv, xpre hB⟩ rfl hna (hl.1) rfl (lv_room hcat) d hf) hB.2.2.1 (fun q _ h => xfree hB q h) (xfree hB) (fun r u t H1 locs1 ht hvm hw1 hB1 hz1 hk1 hS => ?_)
  obtain ⟨rfl, rfl⟩ := hw1
  exact k _ _ hk H1 locs1 ls (xbehind hB ht hB1 hS) hl
theorem xcallV0_i {own : String} (E : EV p s m args c cc nL own) {y : MethodName} {bytes : ByteArray} {maxL idx na : Nat} {ret : Option FieldType} {rm : Room} {stk : List Value} {C : String} {b : Nat} {o : Option (Int32 × XS)} {kk : Int32 → XS → Option ρ} (As : List Value) (hM : ∀ v ξ1, o = some (v, ξ1) → MetXi l g y (ws_ y bytes maxL ret) rm (.ref b :: As) ξ v ξ1 0 0)
    (hG : GoodIn lw_all (wsV own idx C y (ws_ y bytes maxL ret))) (hd : y.cls = C ∧ y.cls ≠ "java/lang/invoke/MethodHandle" ∧ y.cls ≠ "java/lang/invoke/VarHandle" ∧ (parseMethodDescriptor y.desc).map (fun d => d.parameters.length) = some na) (hrv : xrecv g ξ C b) (hrc : rm.cells = 0) (hrs : rm.slots = 0) (hR : rm.frames + 1 ≤ R.frames ∧ 8 + (maxL + 11) + rm.locals ≤ R.locals) (hna : As.length = na) (hstk : stk = As.reverse ++ .ref b :: st) (hcat : (st.map fun v => v.category).sum ≤ 8) (hf : cells ≤ R.cells ∧ slots ≤ R.slots) (d : decode cc pc = .ok (.invokevirtual idx, 3)) (h : bnd o kk = some res) (hn : pc + 3 = n) (k : ∀ (v : Int32) (ξ1 : XS), kk v ξ1 = some res → CF p l e R s m args below meth c nL cells slots (XB g A s ξ1) Q n lv (.int v :: st)) : CF p l e R s m args below meth c nL cells slots (XB g A s ξ) Q pc lv stk := by
  subst hn
  subst hstk
  obtain ⟨v, ξ1, ho, hk⟩ := bnd_some h
  intro H locs ls hB hl
  refine va_calli (va_runV (As := As) (rest := st) E (hM v ξ1 ho H.size) (cwV na E.2.2.2.2 hG rfl hrc hrs hd hR) ⟨xblind, xrecv_cell hB hrv, xpre hB⟩ rfl hna (hl.1) rfl (lv_room hcat) d hf) hB.2.2.1 (fun q _ h => xfree hB q h) (xfree hB) (fun r u t H1 locs1 ht hvm hw1 hB1 hz1 hk1 hS => ?_)
  obtain ⟨rfl, rfl⟩ := hw1
  exact k _ _ hk H1 locs1 ls (xbehind hB ht hB1 hS) hl
theorem xcallS_i {own : String} (E : EV p s m args c cc nL own) {y : MethodName} {bytes : ByteArray} {maxL idx na : Nat} {ret : Option FieldType} {rm : Room} {stk : List Value} {mc ms : Nat}  {o : Option (Int32 × XS)} {kk : Int32 → XS → Option ρ} (As : List Value) (hM : ∀ v ξ1, o = some (v, ξ1) → MetXi l g y (ws_ y bytes maxL ret) rm As ξ v ξ1 mc ms)
    (hG : GoodIn lw_all (va_wsS own idx y (ws_ y bytes maxL ret))) (hd : y.cls ≠ "java/lang/invoke/MethodHandle" ∧ y.cls ≠ "java/lang/invoke/VarHandle" ∧ (parseMethodDescriptor y.desc).map (fun d => d.parameters.length) = some na) (hrc : rm.cells = mc) (hrs : rm.slots = ms) (hR : rm.frames + 1 ≤ R.frames ∧ 8 + (maxL + 11) + rm.locals ≤ R.locals) (hna : As.length = na) (hstk : stk = As.reverse ++ st) (hcat : (st.map fun v => v.category).sum ≤ 8) (hf : cells + mc ≤ R.cells ∧ slots + ms ≤ R.slots) (d : decode cc pc = .ok (.invokestatic idx, 3)) (h : bnd o kk = some res) (hn : pc + 3 = n) (k : ∀ (v : Int32) (ξ1 : XS), kk v ξ1 = some res → CF p l e R s m args below meth c nL (cells + mc) (slots + ms) (XB g A s ξ1) Q n lv (.int v :: st)) : CF p l e R s m args below meth c nL cells slots (XB g A s ξ) Q pc lv stk := by
  subst hn
  subst hstk
  obtain ⟨v, ξ1, ho, hk⟩ := bnd_some h
  intro H locs ls hB hl
  refine va_calli (va_runS (As := As) (rest := st) E (hM v ξ1 ho H.size) (va_cwS na E.2.2.2.2 hG rfl hrc hrs hd hR) ⟨xblind, xpre hB⟩ rfl hna (hl.1) rfl (lv_room hcat) d hf) hB.2.2.1 (fun q _ h => xfree hB q h) (xfree hB) (fun r u t H1 locs1 ht hvm hw1 hB1 hz1 hk1 hS => ?_)
  obtain ⟨rfl, rfl⟩ := hw1
  exact k _ _ hk H1 locs1 ls (xbehind hB ht hB1 hS) hl
theorem xcallS0_i {own : String} (E : EV p s m args c cc nL own) {y : MethodName} {bytes : ByteArray} {maxL idx na : Nat} {ret : Option FieldType} {rm : Room} {stk : List Value}  {o : Option (Int32 × XS)} {kk : Int32 → XS → Option ρ} (As : List Value) (hM : ∀ v ξ1, o = some (v, ξ1) → MetXi l g y (ws_ y bytes maxL ret) rm As ξ v ξ1 0 0)
    (hG : GoodIn lw_all (va_wsS own idx y (ws_ y bytes maxL ret))) (hd : y.cls ≠ "java/lang/invoke/MethodHandle" ∧ y.cls ≠ "java/lang/invoke/VarHandle" ∧ (parseMethodDescriptor y.desc).map (fun d => d.parameters.length) = some na) (hrc : rm.cells = 0) (hrs : rm.slots = 0) (hR : rm.frames + 1 ≤ R.frames ∧ 8 + (maxL + 11) + rm.locals ≤ R.locals) (hna : As.length = na) (hstk : stk = As.reverse ++ st) (hcat : (st.map fun v => v.category).sum ≤ 8) (hf : cells ≤ R.cells ∧ slots ≤ R.slots) (d : decode cc pc = .ok (.invokestatic idx, 3)) (h : bnd o kk = some res) (hn : pc + 3 = n) (k : ∀ (v : Int32) (ξ1 : XS), kk v ξ1 = some res → CF p l e R s m args below meth c nL cells slots (XB g A s ξ1) Q n lv (.int v :: st)) : CF p l e R s m args below meth c nL cells slots (XB g A s ξ) Q pc lv stk := by
  subst hn
  subst hstk
  obtain ⟨v, ξ1, ho, hk⟩ := bnd_some h
  intro H locs ls hB hl
  refine va_calli (va_runS (As := As) (rest := st) E (hM v ξ1 ho H.size) (va_cwS na E.2.2.2.2 hG rfl hrc hrs hd hR) ⟨xblind, xpre hB⟩ rfl hna (hl.1) rfl (lv_room hcat) d hf) hB.2.2.1 (fun q _ h => xfree hB q h) (xfree hB) (fun r u t H1 locs1 ht hvm hw1 hB1 hz1 hk1 hS => ?_)
  obtain ⟨rfl, rfl⟩ := hw1
  exact k _ _ hk H1 locs1 ls (xbehind hB ht hB1 hS) hl
theorem xcallN_i {own : String} (E : EV p s m args c cc nL own) {y : MethodName} {bytes : ByteArray} {maxL idx na : Nat} {ret : Option FieldType} {rm : Room} {stk : List Value} {mc ms : Nat} {host : String} {o : Option (Int32 × XS)} {kk : Int32 → XS → Option ρ} (As : List Value) (hM : ∀ v ξ1, o = some (v, ξ1) → MetXi l g y (ws_ y bytes maxL ret) rm As ξ v ξ1 mc ms)
    (hG : GoodIn lw_all (ws_ y bytes maxL ret)) (hd : y.cls ≠ "java/lang/invoke/MethodHandle" ∧ y.cls ≠ "java/lang/invoke/VarHandle" ∧ (parseMethodDescriptor y.desc).map (fun d => d.parameters.length) = some na) (hlk : Cond.methodLinkNest own idx y host ∈ lw_tbl) (hin : Cond.initialized y.cls ∈ lw_all) (hst : Cond.static y ∈ lw_all) (hrc : rm.cells = mc) (hrs : rm.slots = ms) (hR : rm.frames + 1 ≤ R.frames ∧ 8 + (maxL + 11) + rm.locals ≤ R.locals) (hna : As.length = na) (hstk : stk = As.reverse ++ st) (hcat : (st.map fun v => v.category).sum ≤ 8) (hf : cells + mc ≤ R.cells ∧ slots + ms ≤ R.slots) (d : decode cc pc = .ok (.invokestatic idx, 3)) (h : bnd o kk = some res) (hn : pc + 3 = n) (k : ∀ (v : Int32) (ξ1 : XS), kk v ξ1 = some res → CF p l e R s m args below meth c nL (cells + mc) (slots + ms) (XB g A s ξ1) Q n lv (.int v :: st)) : CF p l e R s m args below meth c nL cells slots (XB g A s ξ) Q pc lv stk := by
  subst hn
  subst hstk
  obtain ⟨v, ξ1, ho, hk⟩ := bnd_some h
  intro H locs ls hB hl
  refine va_calli (va_runSN (As := As) (rest := st) E (hM v ξ1 ho H.size) ⟨va_cnB na E.2.2.2.2 hG rfl hrc hrs (hB.2.2.2.2.2.1 _ hlk rfl) (E.2.2.2.2 _ hin) hd hR, E.2.2.2.2 _ hst, trivial⟩ ⟨xblind, xpre hB⟩ rfl hna (hl.1) rfl (lv_room hcat) d hf) hB.2.2.1 (fun q _ h => xfree hB q h) (xfree hB) (fun r u t H1 locs1 ht hvm hw1 hB1 hz1 hk1 hS => ?_)
  obtain ⟨rfl, rfl⟩ := hw1
  exact k _ _ hk H1 locs1 ls (xbehind hB ht hB1 hS) hl
theorem xcallN0_i {own : String} (E : EV p s m args c cc nL own) {y : MethodName} {bytes : ByteArray} {maxL idx na : Nat} {ret : Option FieldType} {rm : Room} {stk : List Value} {host : String} {o : Option (Int32 × XS)} {kk : Int32 → XS → Option ρ} (As : List Value) (hM : ∀ v ξ1, o = some (v, ξ1) → MetXi l g y (ws_ y bytes maxL ret) rm As ξ v ξ1 0 0)
    (hG : GoodIn lw_all (ws_ y bytes maxL ret)) (hd : y.cls ≠ "java/lang/invoke/MethodHandle" ∧ y.cls ≠ "java/lang/invoke/VarHandle" ∧ (parseMethodDescriptor y.desc).map (fun d => d.parameters.length) = some na) (hlk : Cond.methodLinkNest own idx y host ∈ lw_tbl) (hin : Cond.initialized y.cls ∈ lw_all) (hst : Cond.static y ∈ lw_all) (hrc : rm.cells = 0) (hrs : rm.slots = 0) (hR : rm.frames + 1 ≤ R.frames ∧ 8 + (maxL + 11) + rm.locals ≤ R.locals) (hna : As.length = na) (hstk : stk = As.reverse ++ st) (hcat : (st.map fun v => v.category).sum ≤ 8) (hf : cells ≤ R.cells ∧ slots ≤ R.slots) (d : decode cc pc = .ok (.invokestatic idx, 3)) (h : bnd o kk = some res) (hn : pc + 3 = n) (k : ∀ (v : Int32) (ξ1 : XS), kk v ξ1 = some res → CF p l e R s m args below meth c nL cells slots (XB g A s ξ1) Q n lv (.int v :: st)) : CF p l e R s m args below meth c nL cells slots (XB g A s ξ) Q pc lv stk := by
  subst hn
  subst hstk
  obtain ⟨v, ξ1, ho, hk⟩ := bnd_some h
  intro H locs ls hB hl
  refine va_calli (va_runSN (As := As) (rest := st) E (hM v ξ1 ho H.size) ⟨va_cnB na E.2.2.2.2 hG rfl hrc hrs (hB.2.2.2.2.2.1 _ hlk rfl) (E.2.2.2.2 _ hin) hd hR, E.2.2.2.2 _ hst, trivial⟩ ⟨xblind, xpre hB⟩ rfl hna (hl.1) rfl (lv_room hcat) d hf) hB.2.2.1 (fun q _ h => xfree hB q h) (xfree hB) (fun r u t H1 locs1 ht hvm hw1 hB1 hz1 hk1 hS => ?_)
  obtain ⟨rfl, rfl⟩ := hw1
  exact k _ _ hk H1 locs1 ls (xbehind hB ht hB1 hS) hl
theorem xcallM_i {own : String} (E : EV p s m args c cc nL own) {y : MethodName} {bytes : ByteArray} {maxL idx na : Nat} {ret : Option FieldType} {rm : Room} {stk : List Value} {mc ms : Nat} {C host : String} {b : Nat} {o : Option (Int32 × XS)} {kk : Int32 → XS → Option ρ} (As : List Value) (hM : ∀ v ξ1, o = some (v, ξ1) → MetXi l g y (ws_ y bytes maxL ret) rm (.ref b :: As) ξ v ξ1 mc ms)
    (hG : GoodIn lw_all (ws_ y bytes maxL ret)) (hd : y.cls ≠ "java/lang/invoke/MethodHandle" ∧ y.cls ≠ "java/lang/invoke/VarHandle" ∧ (parseMethodDescriptor y.desc).map (fun d => d.parameters.length) = some na) (hlk : Cond.methodLinkNest own idx y host ∈ lw_tbl) (hin : Cond.initialized y.cls ∈ lw_all) (him : Cond.instanceMethod y ∈ lw_all) (hsl : Cond.selects C y y ∈ lw_all) (hrv : xrecv g ξ C b) (hrc : rm.cells = mc) (hrs : rm.slots = ms) (hR : rm.frames + 1 ≤ R.frames ∧ 8 + (maxL + 11) + rm.locals ≤ R.locals) (hna : As.length = na) (hstk : stk = As.reverse ++ .ref b :: st) (hcat : (st.map fun v => v.category).sum ≤ 8) (hf : cells + mc ≤ R.cells ∧ slots + ms ≤ R.slots) (d : decode cc pc = .ok (.invokevirtual idx, 3)) (h : bnd o kk = some res) (hn : pc + 3 = n) (k : ∀ (v : Int32) (ξ1 : XS), kk v ξ1 = some res → CF p l e R s m args below meth c nL (cells + mc) (slots + ms) (XB g A s ξ1) Q n lv (.int v :: st)) : CF p l e R s m args below meth c nL cells slots (XB g A s ξ) Q pc lv stk := by
  subst hn
  subst hstk
  obtain ⟨v, ξ1, ho, hk⟩ := bnd_some h
  intro H locs ls hB hl
  refine va_calli (va_runVN (As := As) (rest := st) E (hM v ξ1 ho H.size) ⟨va_cnB na E.2.2.2.2 hG rfl hrc hrs (hB.2.2.2.2.2.1 _ hlk rfl) (E.2.2.2.2 _ hin) hd hR, E.2.2.2.2 _ him, E.2.2.2.2 _ hsl⟩ ⟨xblind, xrecv_cell hB hrv, xpre hB⟩ rfl hna (hl.1) rfl (lv_room hcat) d hf) hB.2.2.1 (fun q _ h => xfree hB q h) (xfree hB) (fun r u t H1 locs1 ht hvm hw1 hB1 hz1 hk1 hS => ?_)
  obtain ⟨rfl, rfl⟩ := hw1
  exact k _ _ hk H1 locs1 ls (xbehind hB ht hB1 hS) hl
theorem xcallM0_i {own : String} (E : EV p s m args c cc nL own) {y : MethodName} {bytes : ByteArray} {maxL idx na : Nat} {ret : Option FieldType} {rm : Room} {stk : List Value} {C host : String} {b : Nat} {o : Option (Int32 × XS)} {kk : Int32 → XS → Option ρ} (As : List Value) (hM : ∀ v ξ1, o = some (v, ξ1) → MetXi l g y (ws_ y bytes maxL ret) rm (.ref b :: As) ξ v ξ1 0 0)
    (hG : GoodIn lw_all (ws_ y bytes maxL ret)) (hd : y.cls ≠ "java/lang/invoke/MethodHandle" ∧ y.cls ≠ "java/lang/invoke/VarHandle" ∧ (parseMethodDescriptor y.desc).map (fun d => d.parameters.length) = some na) (hlk : Cond.methodLinkNest own idx y host ∈ lw_tbl) (hin : Cond.initialized y.cls ∈ lw_all) (him : Cond.instanceMethod y ∈ lw_all) (hsl : Cond.selects C y y ∈ lw_all) (hrv : xrecv g ξ C b) (hrc : rm.cells = 0) (hrs : rm.slots = 0) (hR : rm.frames + 1 ≤ R.frames ∧ 8 + (maxL + 11) + rm.locals ≤ R.locals) (hna : As.length = na) (hstk : stk = As.reverse ++ .ref b :: st) (hcat : (st.map fun v => v.category).sum ≤ 8) (hf : cells ≤ R.cells ∧ slots ≤ R.slots) (d : decode cc pc = .ok (.invokevirtual idx, 3)) (h : bnd o kk = some res) (hn : pc + 3 = n) (k : ∀ (v : Int32) (ξ1 : XS), kk v ξ1 = some res → CF p l e R s m args below meth c nL cells slots (XB g A s ξ1) Q n lv (.int v :: st)) : CF p l e R s m args below meth c nL cells slots (XB g A s ξ) Q pc lv stk := by
  subst hn
  subst hstk
  obtain ⟨v, ξ1, ho, hk⟩ := bnd_some h
  intro H locs ls hB hl
  refine va_calli (va_runVN (As := As) (rest := st) E (hM v ξ1 ho H.size) ⟨va_cnB na E.2.2.2.2 hG rfl hrc hrs (hB.2.2.2.2.2.1 _ hlk rfl) (E.2.2.2.2 _ hin) hd hR, E.2.2.2.2 _ him, E.2.2.2.2 _ hsl⟩ ⟨xblind, xrecv_cell hB hrv, xpre hB⟩ rfl hna (hl.1) rfl (lv_room hcat) d hf) hB.2.2.1 (fun q _ h => xfree hB q h) (xfree hB) (fun r u t H1 locs1 ht hvm hw1 hB1 hz1 hk1 hS => ?_)
  obtain ⟨rfl, rfl⟩ := hw1
  exact k _ _ hk H1 locs1 ls (xbehind hB ht hB1 hS) hl
theorem xcallV_l {own : String} (E : EV p s m args c cc nL own) {y : MethodName} {bytes : ByteArray} {maxL idx na : Nat} {ret : Option FieldType} {rm : Room} {stk : List Value} {mc ms : Nat} {C : String} {b : Nat} {o : Option (Int64 × XS)} {kk : Int64 → XS → Option ρ} (As : List Value) (hM : ∀ v ξ1, o = some (v, ξ1) → MetXl l g y (ws_ y bytes maxL ret) rm (.ref b :: As) ξ v ξ1 mc ms)
    (hG : GoodIn lw_all (wsV own idx C y (ws_ y bytes maxL ret))) (hd : y.cls = C ∧ y.cls ≠ "java/lang/invoke/MethodHandle" ∧ y.cls ≠ "java/lang/invoke/VarHandle" ∧ (parseMethodDescriptor y.desc).map (fun d => d.parameters.length) = some na) (hrv : xrecv g ξ C b) (hrc : rm.cells = mc) (hrs : rm.slots = ms) (hR : rm.frames + 1 ≤ R.frames ∧ 8 + (maxL + 11) + rm.locals ≤ R.locals) (hna : As.length = na) (hstk : stk = As.reverse ++ .ref b :: st) (hcat : (st.map fun v => v.category).sum ≤ 8) (hf : cells + mc ≤ R.cells ∧ slots + ms ≤ R.slots) (d : decode cc pc = .ok (.invokevirtual idx, 3)) (h : bnd o kk = some res) (hn : pc + 3 = n) (k : ∀ (v : Int64) (ξ1 : XS), kk v ξ1 = some res → CF p l e R s m args below meth c nL (cells + mc) (slots + ms) (XB g A s ξ1) Q n lv (.long v :: st)) : CF p l e R s m args below meth c nL cells slots (XB g A s ξ) Q pc lv stk := by
  subst hn
  subst hstk
  obtain ⟨v, ξ1, ho, hk⟩ := bnd_some h
  intro H locs ls hB hl
  refine va_calll (va_runV (As := As) (rest := st) E (hM v ξ1 ho H.size) (cwV na E.2.2.2.2 hG rfl hrc hrs hd hR) ⟨xblind, xrecv_cell hB hrv, xpre hB⟩ rfl hna (hl.1) rfl (lv_room hcat) d hf) hB.2.2.1 (fun q _ h => xfree hB q h) (xfree hB) (fun r u t H1 locs1 ht hvm hw1 hB1 hz1 hk1 hS => ?_)
  obtain ⟨rfl, rfl⟩ := hw1
  exact k _ _ hk H1 locs1 ls (xbehind hB ht hB1 hS) hl
theorem xcallV0_l {own : String} (E : EV p s m args c cc nL own) {y : MethodName} {bytes : ByteArray} {maxL idx na : Nat} {ret : Option FieldType} {rm : Room} {stk : List Value} {C : String} {b : Nat} {o : Option (Int64 × XS)} {kk : Int64 → XS → Option ρ} (As : List Value) (hM : ∀ v ξ1, o = some (v, ξ1) → MetXl l g y (ws_ y bytes maxL ret) rm (.ref b :: As) ξ v ξ1 0 0)
    (hG : GoodIn lw_all (wsV own idx C y (ws_ y bytes maxL ret))) (hd : y.cls = C ∧ y.cls ≠ "java/lang/invoke/MethodHandle" ∧ y.cls ≠ "java/lang/invoke/VarHandle" ∧ (parseMethodDescriptor y.desc).map (fun d => d.parameters.length) = some na) (hrv : xrecv g ξ C b) (hrc : rm.cells = 0) (hrs : rm.slots = 0) (hR : rm.frames + 1 ≤ R.frames ∧ 8 + (maxL + 11) + rm.locals ≤ R.locals) (hna : As.length = na) (hstk : stk = As.reverse ++ .ref b :: st) (hcat : (st.map fun v => v.category).sum ≤ 8) (hf : cells ≤ R.cells ∧ slots ≤ R.slots) (d : decode cc pc = .ok (.invokevirtual idx, 3)) (h : bnd o kk = some res) (hn : pc + 3 = n) (k : ∀ (v : Int64) (ξ1 : XS), kk v ξ1 = some res → CF p l e R s m args below meth c nL cells slots (XB g A s ξ1) Q n lv (.long v :: st)) : CF p l e R s m args below meth c nL cells slots (XB g A s ξ) Q pc lv stk := by
  subst hn
  subst hstk
  obtain ⟨v, ξ1, ho, hk⟩ := bnd_some h
  intro H locs ls hB hl
  refine va_calll (va_runV (As := As) (rest := st) E (hM v ξ1 ho H.size) (cwV na E.2.2.2.2 hG rfl hrc hrs hd hR) ⟨xblind, xrecv_cell hB hrv, xpre hB⟩ rfl hna (hl.1) rfl (lv_room hcat) d hf) hB.2.2.1 (fun q _ h => xfree hB q h) (xfree hB) (fun r u t H1 locs1 ht hvm hw1 hB1 hz1 hk1 hS => ?_)
  obtain ⟨rfl, rfl⟩ := hw1
  exact k _ _ hk H1 locs1 ls (xbehind hB ht hB1 hS) hl
theorem xcallS_l {own : String} (E : EV p s m args c cc nL own) {y : MethodName} {bytes : ByteArray} {maxL idx na : Nat} {ret : Option FieldType} {rm : Room} {stk : List Value} {mc ms : Nat}  {o : Option (Int64 × XS)} {kk : Int64 → XS → Option ρ} (As : List Value) (hM : ∀ v ξ1, o = some (v, ξ1) → MetXl l g y (ws_ y bytes maxL ret) rm As ξ v ξ1 mc ms)
    (hG : GoodIn lw_all (va_wsS own idx y (ws_ y bytes maxL ret))) (hd : y.cls ≠ "java/lang/invoke/MethodHandle" ∧ y.cls ≠ "java/lang/invoke/VarHandle" ∧ (parseMethodDescriptor y.desc).map (fun d => d.parameters.length) = some na) (hrc : rm.cells = mc) (hrs : rm.slots = ms) (hR : rm.frames + 1 ≤ R.frames ∧ 8 + (maxL + 11) + rm.locals ≤ R.locals) (hna : As.length = na) (hstk : stk = As.reverse ++ st) (hcat : (st.map fun v => v.category).sum ≤ 8) (hf : cells + mc ≤ R.cells ∧ slots + ms ≤ R.slots) (d : decode cc pc = .ok (.invokestatic idx, 3)) (h : bnd o kk = some res) (hn : pc + 3 = n) (k : ∀ (v : Int64) (ξ1 : XS), kk v ξ1 = some res → CF p l e R s m args below meth c nL (cells + mc) (slots + ms) (XB g A s ξ1) Q n lv (.long v :: st)) : CF p l e R s m args below meth c nL cells slots (XB g A s ξ) Q pc lv stk := by
  subst hn
  subst hstk
  obtain ⟨v, ξ1, ho, hk⟩ := bnd_some h
  intro H locs ls hB hl
  refine va_calll (va_runS (As := As) (rest := st) E (hM v ξ1 ho H.size) (va_cwS na E.2.2.2.2 hG rfl hrc hrs hd hR) ⟨xblind, xpre hB⟩ rfl hna (hl.1) rfl (lv_room hcat) d hf) hB.2.2.1 (fun q _ h => xfree hB q h) (xfree hB) (fun r u t H1 locs1 ht hvm hw1 hB1 hz1 hk1 hS => ?_)
  obtain ⟨rfl, rfl⟩ := hw1
  exact k _ _ hk H1 locs1 ls (xbehind hB ht hB1 hS) hl
theorem xcallS0_l {own : String} (E : EV p s m args c cc nL own) {y : MethodName} {bytes : ByteArray} {maxL idx na : Nat} {ret : Option FieldType} {rm : Room} {stk : List Value}  {o : Option (Int64 × XS)} {kk : Int64 → XS → Option ρ} (As : List Value) (hM : ∀ v ξ1, o = some (v, ξ1) → MetXl l g y (ws_ y bytes maxL ret) rm As ξ v ξ1 0 0)
    (hG : GoodIn lw_all (va_wsS own idx y (ws_ y bytes maxL ret))) (hd : y.cls ≠ "java/lang/invoke/MethodHandle" ∧ y.cls ≠ "java/lang/invoke/VarHandle" ∧ (parseMethodDescriptor y.desc).map (fun d => d.parameters.length) = some na) (hrc : rm.cells = 0) (hrs : rm.slots = 0) (hR : rm.frames + 1 ≤ R.frames ∧ 8 + (maxL + 11) + rm.locals ≤ R.locals) (hna : As.length = na) (hstk : stk = As.reverse ++ st) (hcat : (st.map fun v => v.category).sum ≤ 8) (hf : cells ≤ R.cells ∧ slots ≤ R.slots) (d : decode cc pc = .ok (.invokestatic idx, 3)) (h : bnd o kk = some res) (hn : pc + 3 = n) (k : ∀ (v : Int64) (ξ1 : XS), kk v ξ1 = some res → CF p l e R s m args below meth c nL cells slots (XB g A s ξ1) Q n lv (.long v :: st)) : CF p l e R s m args below meth c nL cells slots (XB g A s ξ) Q pc lv stk := by
  subst hn
  subst hstk
  obtain ⟨v, ξ1, ho, hk⟩ := bnd_some h
  intro H locs ls hB hl
  refine va_calll (va_runS (As := As) (rest := st) E (hM v ξ1 ho H.size) (va_cwS na E.2.2.2.2 hG rfl hrc hrs hd hR) ⟨xblind, xpre hB⟩ rfl hna (hl.1) rfl (lv_room hcat) d hf) hB.2.2.1 (fun q _ h => xfree hB q h) (xfree hB) (fun r u t H1 locs1 ht hvm hw1 hB1 hz1 hk1 hS => ?_)
  obtain ⟨rfl, rfl⟩ := hw1
  exact k _ _ hk H1 locs1 ls (xbehind hB ht hB1 hS) hl
theorem xcallN_l {own : String} (E : EV p s m args c cc nL own) {y : MethodName} {bytes : ByteArray} {maxL idx na : Nat} {ret : Option FieldType} {rm : Room} {stk : List Value} {mc ms : Nat} {host : String} {o : Option (Int64 × XS)} {kk : Int64 → XS → Option ρ} (As : List Value) (hM : ∀ v ξ1, o = some (v, ξ1) → MetXl l g y (ws_ y bytes maxL ret) rm As ξ v ξ1 mc ms)
    (hG : GoodIn lw_all (ws_ y bytes maxL ret)) (hd : y.cls ≠ "java/lang/invoke/MethodHandle" ∧ y.cls ≠ "java/lang/invoke/VarHandle" ∧ (parseMethodDescriptor y.desc).map (fun d => d.parameters.length) = some na) (hlk : Cond.methodLinkNest own idx y host ∈ lw_tbl) (hin : Cond.initialized y.cls ∈ lw_all) (hst : Cond.static y ∈ lw_all) (hrc : rm.cells = mc) (hrs : rm.slots = ms) (hR : rm.frames + 1 ≤ R.frames ∧ 8 + (maxL + 11) + rm.locals ≤ R.locals) (hna : As.length = na) (hstk : stk = As.reverse ++ st) (hcat : (st.map fun v => v.category).sum ≤ 8) (hf : cells + mc ≤ R.cells ∧ slots + ms ≤ R.slots) (d : decode cc pc = .ok (.invokestatic idx, 3)) (h : bnd o kk = some res) (hn : pc + 3 = n) (k : ∀ (v : Int64) (ξ1 : XS), kk v ξ1 = some res → CF p l e R s m args below meth c nL (cells + mc) (slots + ms) (XB g A s ξ1) Q n lv (.long v :: st)) : CF p l e R s m args below meth c nL cells slots (XB g A s ξ) Q pc lv stk := by
  subst hn
  subst hstk
  obtain ⟨v, ξ1, ho, hk⟩ := bnd_some h
  intro H locs ls hB hl
  refine va_calll (va_runSN (As := As) (rest := st) E (hM v ξ1 ho H.size) ⟨va_cnB na E.2.2.2.2 hG rfl hrc hrs (hB.2.2.2.2.2.1 _ hlk rfl) (E.2.2.2.2 _ hin) hd hR, E.2.2.2.2 _ hst, trivial⟩ ⟨xblind, xpre hB⟩ rfl hna (hl.1) rfl (lv_room hcat) d hf) hB.2.2.1 (fun q _ h => xfree hB q h) (xfree hB) (fun r u t H1 locs1 ht hvm hw1 hB1 hz1 hk1 hS => ?_)
  obtain ⟨rfl, rfl⟩ := hw1
  exact k _ _ hk H1 locs1 ls (xbehind hB ht hB1 hS) hl
theorem xcallN0_l {own : String} (E : EV p s m args c cc nL own) {y : MethodName} {bytes : ByteArray} {maxL idx na : Nat} {ret : Option FieldType} {rm : Room} {stk : List Value} {host : String} {o : Option (Int64 × XS)} {kk : Int64 → XS → Option ρ} (As : List Value) (hM : ∀ v ξ1, o = some (v, ξ1) → MetXl l g y (ws_ y bytes maxL ret) rm As ξ v ξ1 0 0)
    (hG : GoodIn lw_all (ws_ y bytes maxL ret)) (hd : y.cls ≠ "java/lang/invoke/MethodHandle" ∧ y.cls ≠ "java/lang/invoke/VarHandle" ∧ (parseMethodDescriptor y.desc).map (fun d => d.parameters.length) = some na) (hlk : Cond.methodLinkNest own idx y host ∈ lw_tbl) (hin : Cond.initialized y.cls ∈ lw_all) (hst : Cond.static y ∈ lw_all) (hrc : rm.cells = 0) (hrs : rm.slots = 0) (hR : rm.frames + 1 ≤ R.frames ∧ 8 + (maxL + 11) + rm.locals ≤ R.locals) (hna : As.length = na) (hstk : stk = As.reverse ++ st) (hcat : (st.map fun v => v.category).sum ≤ 8) (hf : cells ≤ R.cells ∧ slots ≤ R.slots) (d : decode cc pc = .ok (.invokestatic idx, 3)) (h : bnd o kk = some res) (hn : pc + 3 = n) (k : ∀ (v : Int64) (ξ1 : XS), kk v ξ1 = some res → CF p l e R s m args below meth c nL cells slots (XB g A s ξ1) Q n lv (.long v :: st)) : CF p l e R s m args below meth c nL cells slots (XB g A s ξ) Q pc lv stk := by
  subst hn
  subst hstk
  obtain ⟨v, ξ1, ho, hk⟩ := bnd_some h
  intro H locs ls hB hl
  refine va_calll (va_runSN (As := As) (rest := st) E (hM v ξ1 ho H.size) ⟨va_cnB na E.2.2.2.2 hG rfl hrc hrs (hB.2.2.2.2.2.1 _ hlk rfl) (E.2.2.2.2 _ hin) hd hR, E.2.2.2.2 _ hst, trivial⟩ ⟨xblind, xpre hB⟩ rfl hna (hl.1) rfl (lv_room hcat) d hf) hB.2.2.1 (fun q _ h => xfree hB q h) (xfree hB) (fun r u t H1 locs1 ht hvm hw1 hB1 hz1 hk1 hS => ?_)
  obtain ⟨rfl, rfl⟩ := hw1
  exact k _ _ hk H1 locs1 ls (xbehind hB ht hB1 hS) hl
theorem xcallM_l {own : String} (E : EV p s m args c cc nL own) {y : MethodName} {bytes : ByteArray} {maxL idx na : Nat} {ret : Option FieldType} {rm : Room} {stk : List Value} {mc ms : Nat} {C host : String} {b : Nat} {o : Option (Int64 × XS)} {kk : Int64 → XS → Option ρ} (As : List Value) (hM : ∀ v ξ1, o = some (v, ξ1) → MetXl l g y (ws_ y bytes maxL ret) rm (.ref b :: As) ξ v ξ1 mc ms)
    (hG : GoodIn lw_all (ws_ y bytes maxL ret)) (hd : y.cls ≠ "java/lang/invoke/MethodHandle" ∧ y.cls ≠ "java/lang/invoke/VarHandle" ∧ (parseMethodDescriptor y.desc).map (fun d => d.parameters.length) = some na) (hlk : Cond.methodLinkNest own idx y host ∈ lw_tbl) (hin : Cond.initialized y.cls ∈ lw_all) (him : Cond.instanceMethod y ∈ lw_all) (hsl : Cond.selects C y y ∈ lw_all) (hrv : xrecv g ξ C b) (hrc : rm.cells = mc) (hrs : rm.slots = ms) (hR : rm.frames + 1 ≤ R.frames ∧ 8 + (maxL + 11) + rm.locals ≤ R.locals) (hna : As.length = na) (hstk : stk = As.reverse ++ .ref b :: st) (hcat : (st.map fun v => v.category).sum ≤ 8) (hf : cells + mc ≤ R.cells ∧ slots + ms ≤ R.slots) (d : decode cc pc = .ok (.invokevirtual idx, 3)) (h : bnd o kk = some res) (hn : pc + 3 = n) (k : ∀ (v : Int64) (ξ1 : XS), kk v ξ1 = some res → CF p l e R s m args below meth c nL (cells + mc) (slots + ms) (XB g A s ξ1) Q n lv (.long v :: st)) : CF p l e R s m args below meth c nL cells slots (XB g A s ξ) Q pc lv stk := by
  subst hn
  subst hstk
  obtain ⟨v, ξ1, ho, hk⟩ := bnd_some h
  intro H locs ls hB hl
  refine va_calll (va_runVN (As := As) (rest := st) E (hM v ξ1 ho H.size) ⟨va_cnB na E.2.2.2.2 hG rfl hrc hrs (hB.2.2.2.2.2.1 _ hlk rfl) (E.2.2.2.2 _ hin) hd hR, E.2.2.2.2 _ him, E.2.2.2.2 _ hsl⟩ ⟨xblind, xrecv_cell hB hrv, xpre hB⟩ rfl hna (hl.1) rfl (lv_room hcat) d hf) hB.2.2.1 (fun q _ h => xfree hB q h) (xfree hB) (fun r u t H1 locs1 ht hvm hw1 hB1 hz1 hk1 hS => ?_)
  obtain ⟨rfl, rfl⟩ := hw1
  exact k _ _ hk H1 locs1 ls (xbehind hB ht hB1 hS) hl
theorem xcallM0_l {own : String} (E : EV p s m args c cc nL own) {y : MethodName} {bytes : ByteArray} {maxL idx na : Nat} {ret : Option FieldType} {rm : Room} {stk : List Value} {C host : String} {b : Nat} {o : Option (Int64 × XS)} {kk : Int64 → XS → Option ρ} (As : List Value) (hM : ∀ v ξ1, o = some (v, ξ1) → MetXl l g y (ws_ y bytes maxL ret) rm (.ref b :: As) ξ v ξ1 0 0)
    (hG : GoodIn lw_all (ws_ y bytes maxL ret)) (hd : y.cls ≠ "java/lang/invoke/MethodHandle" ∧ y.cls ≠ "java/lang/invoke/VarHandle" ∧ (parseMethodDescriptor y.desc).map (fun d => d.parameters.length) = some na) (hlk : Cond.methodLinkNest own idx y host ∈ lw_tbl) (hin : Cond.initialized y.cls ∈ lw_all) (him : Cond.instanceMethod y ∈ lw_all) (hsl : Cond.selects C y y ∈ lw_all) (hrv : xrecv g ξ C b) (hrc : rm.cells = 0) (hrs : rm.slots = 0) (hR : rm.frames + 1 ≤ R.frames ∧ 8 + (maxL + 11) + rm.locals ≤ R.locals) (hna : As.length = na) (hstk : stk = As.reverse ++ .ref b :: st) (hcat : (st.map fun v => v.category).sum ≤ 8) (hf : cells ≤ R.cells ∧ slots ≤ R.slots) (d : decode cc pc = .ok (.invokevirtual idx, 3)) (h : bnd o kk = some res) (hn : pc + 3 = n) (k : ∀ (v : Int64) (ξ1 : XS), kk v ξ1 = some res → CF p l e R s m args below meth c nL cells slots (XB g A s ξ1) Q n lv (.long v :: st)) : CF p l e R s m args below meth c nL cells slots (XB g A s ξ) Q pc lv stk := by
  subst hn
  subst hstk
  obtain ⟨v, ξ1, ho, hk⟩ := bnd_some h
  intro H locs ls hB hl
  refine va_calll (va_runVN (As := As) (rest := st) E (hM v ξ1 ho H.size) ⟨va_cnB na E.2.2.2.2 hG rfl hrc hrs (hB.2.2.2.2.2.1 _ hlk rfl) (E.2.2.2.2 _ hin) hd hR, E.2.2.2.2 _ him, E.2.2.2.2 _ hsl⟩ ⟨xblind, xrecv_cell hB hrv, xpre hB⟩ rfl hna (hl.1) rfl (lv_room hcat) d hf) hB.2.2.1 (fun q _ h => xfree hB q h) (xfree hB) (fun r u t H1 locs1 ht hvm hw1 hB1 hz1 hk1 hS => ?_)
  obtain ⟨rfl, rfl⟩ := hw1
  exact k _ _ hk H1 locs1 ls (xbehind hB ht hB1 hS) hl
theorem xcallV_v {own : String} (E : EV p s m args c cc nL own) {y : MethodName} {bytes : ByteArray} {maxL idx na : Nat} {ret : Option FieldType} {rm : Room} {stk : List Value} {mc ms : Nat} {C : String} {b : Nat} {o : Option XS} {kk : XS → Option ρ} (As : List Value) (hM : ∀ ξ1, o = some ξ1 → MetXv l g y (ws_ y bytes maxL ret) rm (.ref b :: As) ξ ξ1 mc ms)
    (hG : GoodIn lw_all (wsV own idx C y (ws_ y bytes maxL ret))) (hd : y.cls = C ∧ y.cls ≠ "java/lang/invoke/MethodHandle" ∧ y.cls ≠ "java/lang/invoke/VarHandle" ∧ (parseMethodDescriptor y.desc).map (fun d => d.parameters.length) = some na) (hrv : xrecv g ξ C b) (hrc : rm.cells = mc) (hrs : rm.slots = ms) (hR : rm.frames + 1 ≤ R.frames ∧ 8 + (maxL + 11) + rm.locals ≤ R.locals) (hna : As.length = na) (hstk : stk = As.reverse ++ .ref b :: st) (hcat : (st.map fun v => v.category).sum ≤ 8) (hf : cells + mc ≤ R.cells ∧ slots + ms ≤ R.slots) (d : decode cc pc = .ok (.invokevirtual idx, 3)) (h : bnv o kk = some res) (hn : pc + 3 = n) (k : ∀ (ξ1 : XS), kk ξ1 = some res → CF p l e R s m args below meth c nL (cells + mc) (slots + ms) (XB g A s ξ1) Q n lv st) : CF p l e R s m args below meth c nL cells slots (XB g A s ξ) Q pc lv stk := by
  subst hn
  subst hstk
  obtain ⟨ξ1, ho, hk⟩ := bnv_some h
  intro H locs ls hB hl
  refine va_callv (va_runV (As := As) (rest := st) E (hM ξ1 ho H.size) (cwV na E.2.2.2.2 hG rfl hrc hrs hd hR) ⟨xblind, xrecv_cell hB hrv, xpre hB⟩ rfl hna (hl.1) rfl (lv_room hcat) d hf) hB.2.2.1 (fun q _ h => xfree hB q h) (xfree hB) (fun u t H1 locs1 ht hvm hw1 hB1 hz1 hk1 hS => ?_)
  have hw1 : u = ξ1 := hw1
  subst hw1
  exact k _ hk H1 locs1 ls (xbehind hB ht hB1 hS) hl
theorem xcallV0_v {own : String} (E : EV p s m args c cc nL own) {y : MethodName} {bytes : ByteArray} {maxL idx na : Nat} {ret : Option FieldType} {rm : Room} {stk : List Value} {C : String} {b : Nat} {o : Option XS} {kk : XS → Option ρ} (As : List Value) (hM : ∀ ξ1, o = some ξ1 → MetXv l g y (ws_ y bytes maxL ret) rm (.ref b :: As) ξ ξ1 0 0)
    (hG : GoodIn lw_all (wsV own idx C y (ws_ y bytes maxL ret))) (hd : y.cls = C ∧ y.cls ≠ "java/lang/invoke/MethodHandle" ∧ y.cls ≠ "java/lang/invoke/VarHandle" ∧ (parseMethodDescriptor y.desc).map (fun d => d.parameters.length) = some na) (hrv : xrecv g ξ C b) (hrc : rm.cells = 0) (hrs : rm.slots = 0) (hR : rm.frames + 1 ≤ R.frames ∧ 8 + (maxL + 11) + rm.locals ≤ R.locals) (hna : As.length = na) (hstk : stk = As.reverse ++ .ref b :: st) (hcat : (st.map fun v => v.category).sum ≤ 8) (hf : cells ≤ R.cells ∧ slots ≤ R.slots) (d : decode cc pc = .ok (.invokevirtual idx, 3)) (h : bnv o kk = some res) (hn : pc + 3 = n) (k : ∀ (ξ1 : XS), kk ξ1 = some res → CF p l e R s m args below meth c nL cells slots (XB g A s ξ1) Q n lv st) : CF p l e R s m args below meth c nL cells slots (XB g A s ξ) Q pc lv stk := by
  subst hn
  subst hstk
  obtain ⟨ξ1, ho, hk⟩ := bnv_some h
  intro H locs ls hB hl
  refine va_callv (va_runV (As := As) (rest := st) E (hM ξ1 ho H.size) (cwV na E.2.2.2.2 hG rfl hrc hrs hd hR) ⟨xblind, xrecv_cell hB hrv, xpre hB⟩ rfl hna (hl.1) rfl (lv_room hcat) d hf) hB.2.2.1 (fun q _ h => xfree hB q h) (xfree hB) (fun u t H1 locs1 ht hvm hw1 hB1 hz1 hk1 hS => ?_)
  have hw1 : u = ξ1 := hw1
  subst hw1
  exact k _ hk H1 locs1 ls (xbehind hB ht hB1 hS) hl
theorem xcallS_v {own : String} (E : EV p s m args c cc nL own) {y : MethodName} {bytes : ByteArray} {maxL idx na : Nat} {ret : Option FieldType} {rm : Room} {stk : List Value} {mc ms : Nat}  {o : Option XS} {kk : XS → Option ρ} (As : List Value) (hM : ∀ ξ1, o = some ξ1 → MetXv l g y (ws_ y bytes maxL ret) rm As ξ ξ1 mc ms)
    (hG : GoodIn lw_all (va_wsS own idx y (ws_ y bytes maxL ret))) (hd : y.cls ≠ "java/lang/invoke/MethodHandle" ∧ y.cls ≠ "java/lang/invoke/VarHandle" ∧ (parseMethodDescriptor y.desc).map (fun d => d.parameters.length) = some na) (hrc : rm.cells = mc) (hrs : rm.slots = ms) (hR : rm.frames + 1 ≤ R.frames ∧ 8 + (maxL + 11) + rm.locals ≤ R.locals) (hna : As.length = na) (hstk : stk = As.reverse ++ st) (hcat : (st.map fun v => v.category).sum ≤ 8) (hf : cells + mc ≤ R.cells ∧ slots + ms ≤ R.slots) (d : decode cc pc = .ok (.invokestatic idx, 3)) (h : bnv o kk = some res) (hn : pc + 3 = n) (k : ∀ (ξ1 : XS), kk ξ1 = some res → CF p l e R s m args below meth c nL (cells + mc) (slots + ms) (XB g A s ξ1) Q n lv st) : CF p l e R s m args below meth c nL cells slots (XB g A s ξ) Q pc lv stk := by
  subst hn
  subst hstk
  obtain ⟨ξ1, ho, hk⟩ := bnv_some h
  intro H locs ls hB hl
  refine va_callv (va_runS (As := As) (rest := st) E (hM ξ1 ho H.size) (va_cwS na E.2.2.2.2 hG rfl hrc hrs hd hR) ⟨xblind, xpre hB⟩ rfl hna (hl.1) rfl (lv_room hcat) d hf) hB.2.2.1 (fun q _ h => xfree hB q h) (xfree hB) (fun u t H1 locs1 ht hvm hw1 hB1 hz1 hk1 hS => ?_)
  have hw1 : u = ξ1 := hw1
  subst hw1
  exact k _ hk H1 locs1 ls (xbehind hB ht hB1 hS) hl
theorem xcallS0_v {own : String} (E : EV p s m args c cc nL own) {y : MethodName} {bytes : ByteArray} {maxL idx na : Nat} {ret : Option FieldType} {rm : Room} {stk : List Value}  {o : Option XS} {kk : XS → Option ρ} (As : List Value) (hM : ∀ ξ1, o = some ξ1 → MetXv l g y (ws_ y bytes maxL ret) rm As ξ ξ1 0 0)
    (hG : GoodIn lw_all (va_wsS own idx y (ws_ y bytes maxL ret))) (hd : y.cls ≠ "java/lang/invoke/MethodHandle" ∧ y.cls ≠ "java/lang/invoke/VarHandle" ∧ (parseMethodDescriptor y.desc).map (fun d => d.parameters.length) = some na) (hrc : rm.cells = 0) (hrs : rm.slots = 0) (hR : rm.frames + 1 ≤ R.frames ∧ 8 + (maxL + 11) + rm.locals ≤ R.locals) (hna : As.length = na) (hstk : stk = As.reverse ++ st) (hcat : (st.map fun v => v.category).sum ≤ 8) (hf : cells ≤ R.cells ∧ slots ≤ R.slots) (d : decode cc pc = .ok (.invokestatic idx, 3)) (h : bnv o kk = some res) (hn : pc + 3 = n) (k : ∀ (ξ1 : XS), kk ξ1 = some res → CF p l e R s m args below meth c nL cells slots (XB g A s ξ1) Q n lv st) : CF p l e R s m args below meth c nL cells slots (XB g A s ξ) Q pc lv stk := by
  subst hn
  subst hstk
  obtain ⟨ξ1, ho, hk⟩ := bnv_some h
  intro H locs ls hB hl
  refine va_callv (va_runS (As := As) (rest := st) E (hM ξ1 ho H.size) (va_cwS na E.2.2.2.2 hG rfl hrc hrs hd hR) ⟨xblind, xpre hB⟩ rfl hna (hl.1) rfl (lv_room hcat) d hf) hB.2.2.1 (fun q _ h => xfree hB q h) (xfree hB) (fun u t H1 locs1 ht hvm hw1 hB1 hz1 hk1 hS => ?_)
  have hw1 : u = ξ1 := hw1
  subst hw1
  exact k _ hk H1 locs1 ls (xbehind hB ht hB1 hS) hl
theorem xcallN_v {own : String} (E : EV p s m args c cc nL own) {y : MethodName} {bytes : ByteArray} {maxL idx na : Nat} {ret : Option FieldType} {rm : Room} {stk : List Value} {mc ms : Nat} {host : String} {o : Option XS} {kk : XS → Option ρ} (As : List Value) (hM : ∀ ξ1, o = some ξ1 → MetXv l g y (ws_ y bytes maxL ret) rm As ξ ξ1 mc ms)
    (hG : GoodIn lw_all (ws_ y bytes maxL ret)) (hd : y.cls ≠ "java/lang/invoke/MethodHandle" ∧ y.cls ≠ "java/lang/invoke/VarHandle" ∧ (parseMethodDescriptor y.desc).map (fun d => d.parameters.length) = some na) (hlk : Cond.methodLinkNest own idx y host ∈ lw_tbl) (hin : Cond.initialized y.cls ∈ lw_all) (hst : Cond.static y ∈ lw_all) (hrc : rm.cells = mc) (hrs : rm.slots = ms) (hR : rm.frames + 1 ≤ R.frames ∧ 8 + (maxL + 11) + rm.locals ≤ R.locals) (hna : As.length = na) (hstk : stk = As.reverse ++ st) (hcat : (st.map fun v => v.category).sum ≤ 8) (hf : cells + mc ≤ R.cells ∧ slots + ms ≤ R.slots) (d : decode cc pc = .ok (.invokestatic idx, 3)) (h : bnv o kk = some res) (hn : pc + 3 = n) (k : ∀ (ξ1 : XS), kk ξ1 = some res → CF p l e R s m args below meth c nL (cells + mc) (slots + ms) (XB g A s ξ1) Q n lv st) : CF p l e R s m args below meth c nL cells slots (XB g A s ξ) Q pc lv stk := by
  subst hn
  subst hstk
  obtain ⟨ξ1, ho, hk⟩ := bnv_some h
  intro H locs ls hB hl
  refine va_callv (va_runSN (As := As) (rest := st) E (hM ξ1 ho H.size) ⟨va_cnB na E.2.2.2.2 hG rfl hrc hrs (hB.2.2.2.2.2.1 _ hlk rfl) (E.2.2.2.2 _ hin) hd hR, E.2.2.2.2 _ hst, trivial⟩ ⟨xblind, xpre hB⟩ rfl hna (hl.1) rfl (lv_room hcat) d hf) hB.2.2.1 (fun q _ h => xfree hB q h) (xfree hB) (fun u t H1 locs1 ht hvm hw1 hB1 hz1 hk1 hS => ?_)
  have hw1 : u = ξ1 := hw1
  subst hw1
  exact k _ hk H1 locs1 ls (xbehind hB ht hB1 hS) hl
theorem xcallN0_v {own : String} (E : EV p s m args c cc nL own) {y : MethodName} {bytes : ByteArray} {maxL idx na : Nat} {ret : Option FieldType} {rm : Room} {stk : List Value} {host : String} {o : Option XS} {kk : XS → Option ρ} (As : List Value) (hM : ∀ ξ1, o = some ξ1 → MetXv l g y (ws_ y bytes maxL ret) rm As ξ ξ1 0 0)
    (hG : GoodIn lw_all (ws_ y bytes maxL ret)) (hd : y.cls ≠ "java/lang/invoke/MethodHandle" ∧ y.cls ≠ "java/lang/invoke/VarHandle" ∧ (parseMethodDescriptor y.desc).map (fun d => d.parameters.length) = some na) (hlk : Cond.methodLinkNest own idx y host ∈ lw_tbl) (hin : Cond.initialized y.cls ∈ lw_all) (hst : Cond.static y ∈ lw_all) (hrc : rm.cells = 0) (hrs : rm.slots = 0) (hR : rm.frames + 1 ≤ R.frames ∧ 8 + (maxL + 11) + rm.locals ≤ R.locals) (hna : As.length = na) (hstk : stk = As.reverse ++ st) (hcat : (st.map fun v => v.category).sum ≤ 8) (hf : cells ≤ R.cells ∧ slots ≤ R.slots) (d : decode cc pc = .ok (.invokestatic idx, 3)) (h : bnv o kk = some res) (hn : pc + 3 = n) (k : ∀ (ξ1 : XS), kk ξ1 = some res → CF p l e R s m args below meth c nL cells slots (XB g A s ξ1) Q n lv st) : CF p l e R s m args below meth c nL cells slots (XB g A s ξ) Q pc lv stk := by
  subst hn
  subst hstk
  obtain ⟨ξ1, ho, hk⟩ := bnv_some h
  intro H locs ls hB hl
  refine va_callv (va_runSN (As := As) (rest := st) E (hM ξ1 ho H.size) ⟨va_cnB na E.2.2.2.2 hG rfl hrc hrs (hB.2.2.2.2.2.1 _ hlk rfl) (E.2.2.2.2 _ hin) hd hR, E.2.2.2.2 _ hst, trivial⟩ ⟨xblind, xpre hB⟩ rfl hna (hl.1) rfl (lv_room hcat) d hf) hB.2.2.1 (fun q _ h => xfree hB q h) (xfree hB) (fun u t H1 locs1 ht hvm hw1 hB1 hz1 hk1 hS => ?_)
  have hw1 : u = ξ1 := hw1
  subst hw1
  exact k _ hk H1 locs1 ls (xbehind hB ht hB1 hS) hl
theorem xcallM_v {own : String} (E : EV p s m args c cc nL own) {y : MethodName} {bytes : ByteArray} {maxL idx na : Nat} {ret : Option FieldType} {rm : Room} {stk : List Value} {mc ms : Nat} {C host : String} {b : Nat} {o : Option XS} {kk : XS → Option ρ} (As : List Value) (hM : ∀ ξ1, o = some ξ1 → MetXv l g y (ws_ y bytes maxL ret) rm (.ref b :: As) ξ ξ1 mc ms)
    (hG : GoodIn lw_all (ws_ y bytes maxL ret)) (hd : y.cls ≠ "java/lang/invoke/MethodHandle" ∧ y.cls ≠ "java/lang/invoke/VarHandle" ∧ (parseMethodDescriptor y.desc).map (fun d => d.parameters.length) = some na) (hlk : Cond.methodLinkNest own idx y host ∈ lw_tbl) (hin : Cond.initialized y.cls ∈ lw_all) (him : Cond.instanceMethod y ∈ lw_all) (hsl : Cond.selects C y y ∈ lw_all) (hrv : xrecv g ξ C b) (hrc : rm.cells = mc) (hrs : rm.slots = ms) (hR : rm.frames + 1 ≤ R.frames ∧ 8 + (maxL + 11) + rm.locals ≤ R.locals) (hna : As.length = na) (hstk : stk = As.reverse ++ .ref b :: st) (hcat : (st.map fun v => v.category).sum ≤ 8) (hf : cells + mc ≤ R.cells ∧ slots + ms ≤ R.slots) (d : decode cc pc = .ok (.invokevirtual idx, 3)) (h : bnv o kk = some res) (hn : pc + 3 = n) (k : ∀ (ξ1 : XS), kk ξ1 = some res → CF p l e R s m args below meth c nL (cells + mc) (slots + ms) (XB g A s ξ1) Q n lv st) : CF p l e R s m args below meth c nL cells slots (XB g A s ξ) Q pc lv stk := by
  subst hn
  subst hstk
  obtain ⟨ξ1, ho, hk⟩ := bnv_some h
  intro H locs ls hB hl
  refine va_callv (va_runVN (As := As) (rest := st) E (hM ξ1 ho H.size) ⟨va_cnB na E.2.2.2.2 hG rfl hrc hrs (hB.2.2.2.2.2.1 _ hlk rfl) (E.2.2.2.2 _ hin) hd hR, E.2.2.2.2 _ him, E.2.2.2.2 _ hsl⟩ ⟨xblind, xrecv_cell hB hrv, xpre hB⟩ rfl hna (hl.1) rfl (lv_room hcat) d hf) hB.2.2.1 (fun q _ h => xfree hB q h) (xfree hB) (fun u t H1 locs1 ht hvm hw1 hB1 hz1 hk1 hS => ?_)
  have hw1 : u = ξ1 := hw1
  subst hw1
  exact k _ hk H1 locs1 ls (xbehind hB ht hB1 hS) hl
theorem xcallM0_v {own : String} (E : EV p s m args c cc nL own) {y : MethodName} {bytes : ByteArray} {maxL idx na : Nat} {ret : Option FieldType} {rm : Room} {stk : List Value} {C host : String} {b : Nat} {o : Option XS} {kk : XS → Option ρ} (As : List Value) (hM : ∀ ξ1, o = some ξ1 → MetXv l g y (ws_ y bytes maxL ret) rm (.ref b :: As) ξ ξ1 0 0)
    (hG : GoodIn lw_all (ws_ y bytes maxL ret)) (hd : y.cls ≠ "java/lang/invoke/MethodHandle" ∧ y.cls ≠ "java/lang/invoke/VarHandle" ∧ (parseMethodDescriptor y.desc).map (fun d => d.parameters.length) = some na) (hlk : Cond.methodLinkNest own idx y host ∈ lw_tbl) (hin : Cond.initialized y.cls ∈ lw_all) (him : Cond.instanceMethod y ∈ lw_all) (hsl : Cond.selects C y y ∈ lw_all) (hrv : xrecv g ξ C b) (hrc : rm.cells = 0) (hrs : rm.slots = 0) (hR : rm.frames + 1 ≤ R.frames ∧ 8 + (maxL + 11) + rm.locals ≤ R.locals) (hna : As.length = na) (hstk : stk = As.reverse ++ .ref b :: st) (hcat : (st.map fun v => v.category).sum ≤ 8) (hf : cells ≤ R.cells ∧ slots ≤ R.slots) (d : decode cc pc = .ok (.invokevirtual idx, 3)) (h : bnv o kk = some res) (hn : pc + 3 = n) (k : ∀ (ξ1 : XS), kk ξ1 = some res → CF p l e R s m args below meth c nL cells slots (XB g A s ξ1) Q n lv st) : CF p l e R s m args below meth c nL cells slots (XB g A s ξ) Q pc lv stk := by
  subst hn
  subst hstk
  obtain ⟨ξ1, ho, hk⟩ := bnv_some h
  intro H locs ls hB hl
  refine va_callv (va_runVN (As := As) (rest := st) E (hM ξ1 ho H.size) ⟨va_cnB na E.2.2.2.2 hG rfl hrc hrs (hB.2.2.2.2.2.1 _ hlk rfl) (E.2.2.2.2 _ hin) hd hR, E.2.2.2.2 _ him, E.2.2.2.2 _ hsl⟩ ⟨xblind, xrecv_cell hB hrv, xpre hB⟩ rfl hna (hl.1) rfl (lv_room hcat) d hf) hB.2.2.1 (fun q _ h => xfree hB q h) (xfree hB) (fun u t H1 locs1 ht hvm hw1 hB1 hz1 hk1 hS => ?_)
  have hw1 : u = ξ1 := hw1
  subst hw1
  exact k _ hk H1 locs1 ls (xbehind hB ht hB1 hS) hl
abbrev XTi (p : Program) (l : Launch) (e : Env) (R : Room) (s : State) (m : MethodId) (args : Array Value) (below : List Frame) (meth : Method) (c : Code) (cc : ByteArray) (nL cells slots : Nat) (A : Nat → Prop) (g : XG) (ty : FieldType) (Q : State → Prop) (res : Int32 × XS) : Prop := ∀ (pc : Nat) (lv : List (Nat × Value)), decode cc pc = .ok (.ireturn, 1) → narrow ty (.int res.1) = .int res.1 → CF p l e R s m args below meth c nL cells slots (XB g A s res.2) Q pc lv [.int res.1]
abbrev XTl (p : Program) (l : Launch) (e : Env) (R : Room) (s : State) (m : MethodId) (args : Array Value) (below : List Frame) (meth : Method) (c : Code) (cc : ByteArray) (nL cells slots : Nat) (A : Nat → Prop) (g : XG) (Q : State → Prop) (res : Int64 × XS) : Prop := ∀ (pc : Nat) (lv : List (Nat × Value)), decode cc pc = .ok (.lreturn, 1) → CF p l e R s m args below meth c nL cells slots (XB g A s res.2) Q pc lv [.long res.1]
abbrev XTv (p : Program) (l : Launch) (e : Env) (R : Room) (s : State) (m : MethodId) (args : Array Value) (below : List Frame) (meth : Method) (c : Code) (cc : ByteArray) (nL cells slots : Nat) (A : Nat → Prop) (g : XG) (Q : State → Prop) (res : XS) : Prop := ∀ (pc : Nat) (lv : List (Nat × Value)), decode cc pc = .ok (.return_, 1) → CF p l e R s m args below meth c nL cells slots (XB g A s res) Q pc lv []
theorem xret_i {v : Int32} {ty : FieldType} {res : Int32 × XS} (d : decode cc pc = .ok (.ireturn, 1)) (h : some (v, ξ) = some res) (hz : narrow ty (.int v) = .int v) (hq : XTi p l e R s m args below meth c cc nL cells slots A g ty Q res) : CF p l e R s m args below meth c nL cells slots (XB g A s ξ) Q pc lv [.int v] := by
  cases h
  exact hq pc lv d hz
theorem xret_z {v : Int32} {res : Int32 × XS} (d : decode cc pc = .ok (.ireturn, 1)) (h : (if v = 0 ∨ v = 1 then some (v, ξ) else none) = some res) (hq : XTi p l e R s m args below meth c cc nL cells slots A g .boolean Q res) : CF p l e R s m args below meth c nL cells slots (XB g A s ξ) Q pc lv [.int v] := by
  by_cases hv : v = 0 ∨ v = 1
  · rw [if_pos hv] at h
    cases h
    refine hq pc lv d ?_
    rcases hv with rfl | rfl
    · exact nzb0
    · exact nzb1
  · rw [if_neg hv] at h; cases h
theorem xret_l {v : Int64} {res : Int64 × XS} (d : decode cc pc = .ok (.lreturn, 1)) (h : some (v, ξ) = some res) (hq : XTl p l e R s m args below meth c cc nL cells slots A g Q res) : CF p l e R s m args below meth c nL cells slots (XB g A s ξ) Q pc lv [.long v] := by
  cases h
  exact hq pc lv d
theorem xret_v {res : XS} (d : decode cc pc = .ok (.return_, 1)) (h : some ξ = some res) (hq : XTv p l e R s m args below meth c cc nL cells slots A g Q res) : CF p l e R s m args below meth c nL cells slots (XB g A s ξ) Q pc lv [] := by
  cases h
  exact hq pc lv d
theorem xforce {o : Option Nat} {kk : Nat → Option ρ} (h : bno o kk = some res) (k : ∀ a, kk a = some res → CF p l e R s m args below meth c nL cells slots (XB g A s ξ) Q pc lv (.ref a :: st)) : CF p l e R s m args below meth c nL cells slots (XB g A s ξ) Q pc lv (va_rf o :: st) := by
  obtain ⟨a, rfl, h2⟩ := bno_some h
  exact k a h2
end XC
theorem met_xi {l : Launch} {g : XG} {ξ : XS} {cc : ByteArray} {own : String} {y : MethodName} {maxL mc ms : Nat} {rm : Room} {As : List Value} {v : Int32} {ξ1 : XS} {ty : FieldType} {lv0 : List (Nat × Value)} (hy : plainName y.cls = true) (hyc : y.cls = own) (hlen : (lg_sl As).length ≤ maxL) (hlv : lv_args 0 As = lv0)
    (body : ∀ (p : Program) (e : Env) (s : State) (m : MethodId) (below : List Frame) (meth : Method) (c : Code) (A : Nat → Prop) (Q : State → Prop), EV p s m As.toArray c cc maxL own → XTi p l e rm s m As.toArray below meth c cc maxL mc ms A g ty Q (v, ξ1) → CF p l e rm s m As.toArray below meth c maxL 0 0 (XB g A s ξ) Q 0 lv0 []) : MetXi l g y (ws_ y cc maxL (some ty)) rm As ξ v ξ1 mc ms := by
  intro sz
  refine Met.ofW (cc := cc) (maxL := maxL) (ret := (some ty)) hy rfl ?_
  intro p e s m args below meth c s₁ B hml hv
  obtain ⟨rfl, hsz, hP, hK, hD0, hN⟩ := hv
  have hts := atoms_spec (ws := ws_ y cc maxL (some ty)) B.pre
  have hts : ∀ w ∈ lw_all, w.before _ s = true := fun w h => hts w (List.mem_cons_of_mem _ h)
  have hown : s.vm.findClass own = some m.cls := by rw [← hyc]; exact findClass_of_methodNamed B.named
  have hlocks := B.notSynchronized
  subst hsz
  have hD := hD0.self (sz := s.heap.size)
  have hA : ∀ q : Nat, s.heap.size ≤ q → va_A (xcs g ξ) s.heap.size q := fun q h => Or.inr h
  have hS : va_S (va_A (xcs g ξ) s.heap.size) s.heap s.heap [] := va_S.rf
  have hl := lv_entry As (n := maxL) hlen
  rw [lg_entry_eq]
  rw [hlv] at hl
  have hb := body p e s m below meth c (va_A (xcs g ξ) s.heap.size) (MQ below (XQi g ξ s.heap.size v ξ1) As.toArray s mc ms (va_A (xcs g ξ) s.heap.size)) ⟨B.exec, B.bytes, hml, hown, hts⟩ ?_
  · exact hb s.heap [] _ ⟨hP, hD, hS, hK, hA, hN⟩ hl
  · intro pc lv d hz H locs ls hB hl
    obtain ⟨hP9, hD9, hS9, hK9, -⟩ := hB
    exact W.zret B.exec B.bytes B.returns hz (fun t ht hW => ⟨⟨v, ξ1, rfl, ⟨rfl, rfl⟩, by rw [ht]; exact hP9, va_K.moved hW.alike hK9, hD9⟩, hS9.F ht⟩) hS9.2.2 d hlocks
theorem met_xl {l : Launch} {g : XG} {ξ : XS} {cc : ByteArray} {own : String} {y : MethodName} {maxL mc ms : Nat} {rm : Room} {As : List Value} {v : Int64} {ξ1 : XS} {lv0 : List (Nat × Value)} (hy : plainName y.cls = true) (hyc : y.cls = own) (hlen : (lg_sl As).length ≤ maxL) (hlv : lv_args 0 As = lv0)
    (body : ∀ (p : Program) (e : Env) (s : State) (m : MethodId) (below : List Frame) (meth : Method) (c : Code) (A : Nat → Prop) (Q : State → Prop), EV p s m As.toArray c cc maxL own → XTl p l e rm s m As.toArray below meth c cc maxL mc ms A g Q (v, ξ1) → CF p l e rm s m As.toArray below meth c maxL 0 0 (XB g A s ξ) Q 0 lv0 []) : MetXl l g y (ws_ y cc maxL (some .long)) rm As ξ v ξ1 mc ms := by
  intro sz
  refine Met.ofW (cc := cc) (maxL := maxL) (ret := (some .long)) hy rfl ?_
  intro p e s m args below meth c s₁ B hml hv
  obtain ⟨rfl, hsz, hP, hK, hD0, hN⟩ := hv
  have hts := atoms_spec (ws := ws_ y cc maxL (some .long)) B.pre
  have hts : ∀ w ∈ lw_all, w.before _ s = true := fun w h => hts w (List.mem_cons_of_mem _ h)
  have hown : s.vm.findClass own = some m.cls := by rw [← hyc]; exact findClass_of_methodNamed B.named
  have hlocks := B.notSynchronized
  subst hsz
  have hD := hD0.self (sz := s.heap.size)
  have hA : ∀ q : Nat, s.heap.size ≤ q → va_A (xcs g ξ) s.heap.size q := fun q h => Or.inr h
  have hS : va_S (va_A (xcs g ξ) s.heap.size) s.heap s.heap [] := va_S.rf
  have hl := lv_entry As (n := maxL) hlen
  rw [lg_entry_eq]
  rw [hlv] at hl
  have hb := body p e s m below meth c (va_A (xcs g ξ) s.heap.size) (MQ below (XQl g ξ s.heap.size v ξ1) As.toArray s mc ms (va_A (xcs g ξ) s.heap.size)) ⟨B.exec, B.bytes, hml, hown, hts⟩ ?_
  · exact hb s.heap [] _ ⟨hP, hD, hS, hK, hA, hN⟩ hl
  · intro pc lv d H locs ls hB hl
    obtain ⟨hP9, hD9, hS9, hK9, -⟩ := hB
    exact W.lret B.exec B.bytes B.returns (fun t ht hW => ⟨⟨v, ξ1, rfl, ⟨rfl, rfl⟩, by rw [ht]; exact hP9, va_K.moved hW.alike hK9, hD9⟩, hS9.F ht⟩) hS9.2.2 d hlocks
theorem met_xv {l : Launch} {g : XG} {ξ : XS} {cc : ByteArray} {own : String} {y : MethodName} {maxL mc ms : Nat} {rm : Room} {As : List Value} {ξ1 : XS} {lv0 : List (Nat × Value)} (hy : plainName y.cls = true) (hyc : y.cls = own) (hlen : (lg_sl As).length ≤ maxL) (hlv : lv_args 0 As = lv0)
    (body : ∀ (p : Program) (e : Env) (s : State) (m : MethodId) (below : List Frame) (meth : Method) (c : Code) (A : Nat → Prop) (Q : State → Prop), EV p s m As.toArray c cc maxL own → XTv p l e rm s m As.toArray below meth c cc maxL mc ms A g Q ξ1 → CF p l e rm s m As.toArray below meth c maxL 0 0 (XB g A s ξ) Q 0 lv0 []) : MetXv l g y (ws_ y cc maxL none) rm As ξ ξ1 mc ms := by
  intro sz
  refine Met.ofW (cc := cc) (maxL := maxL) (ret := none) hy rfl ?_
  intro p e s m args below meth c s₁ B hml hv
  obtain ⟨rfl, hsz, hP, hK, hD0, hN⟩ := hv
  have hts := atoms_spec (ws := ws_ y cc maxL none) B.pre
  have hts : ∀ w ∈ lw_all, w.before _ s = true := fun w h => hts w (List.mem_cons_of_mem _ h)
  have hown : s.vm.findClass own = some m.cls := by rw [← hyc]; exact findClass_of_methodNamed B.named
  have hlocks := B.notSynchronized
  subst hsz
  have hD := hD0.self (sz := s.heap.size)
  have hA : ∀ q : Nat, s.heap.size ≤ q → va_A (xcs g ξ) s.heap.size q := fun q h => Or.inr h
  have hS : va_S (va_A (xcs g ξ) s.heap.size) s.heap s.heap [] := va_S.rf
  have hl := lv_entry As (n := maxL) hlen
  rw [lg_entry_eq]
  rw [hlv] at hl
  have hb := body p e s m below meth c (va_A (xcs g ξ) s.heap.size) (MQ below (XQv g ξ s.heap.size ξ1) As.toArray s mc ms (va_A (xcs g ξ) s.heap.size)) ⟨B.exec, B.bytes, hml, hown, hts⟩ ?_
  · exact hb s.heap [] _ ⟨hP, hD, hS, hK, hA, hN⟩ hl
  · intro pc lv d H locs ls hB hl
    obtain ⟨hP9, hD9, hS9, hK9, -⟩ := hB
    exact W.vret B.exec B.bytes B.returns (fun t ht hW => ⟨⟨ξ1, rfl, rfl, by rw [ht]; exact hP9, va_K.moved hW.alike hK9, hD9⟩, hS9.F ht⟩) hS9.2.2 d hlocks
