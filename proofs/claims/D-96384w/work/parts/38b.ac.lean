/-! ARRAYCOPY OVER TAPES: printed by gen/ac.py -/
set_option maxRecDepth 100000
/-! NullPointerException out of a native method: the machine's own note over any frames that lie above 'below' (Over), for launches without stack traces -/
theorem nv_in {below : List Frame} {W : State} {base : List Frame} (hO : Over W base below) (a : Addr) {m : MethodId} {meth : Method} {code : Code} (hm : W.vm.method? m = some meth) (hc : meth.code = some code) (hpl : W.plainMethod m) :
    (W.setFrames (.thenThrow a :: base)).frames = .thenThrow a :: base ∧ At ((W.setFrames (.thenThrow a :: base)).pushFrame (.java (pass0J m a 0 []))) m code below ∧ ((W.setFrames (.thenThrow a :: base)).pushFrame (.java (pass0J m a 0 []))).frames = .java (pass0J m a 0 []) :: .thenThrow a :: base := by
  obtain ⟨mid, hmid⟩ := hO.above
  have h1 : (W.setFrames (.thenThrow a :: base)).frames = .thenThrow a :: base := State.frames_setFrames _ hO.cur
  have h2 : (W.setFrames (.thenThrow a :: base)).cur < (W.setFrames (.thenThrow a :: base)).threads.size := State.cur_lt_of_frames h1
  have h3 : (W.setFrames (.thenThrow a :: base)).goesOn := ⟨hO.running, by simpa using hO.runnable, by simpa using hO.alone⟩
  refine ⟨h1, At.pushOn _ h3 h2 ⟨.thenThrow a :: mid, by rw [h1, hmid]; rfl⟩ hm hc hpl, ?_⟩
  have h4 : ((W.setFrames (.thenThrow a :: base)).pushFrame (.java (pass0J m a 0 []))).frames = .java (pass0J m a 0 []) :: (W.setFrames (.thenThrow a :: base)).frames := State.frames_setFrames _ h2
  rw [h4, h1]
theorem nv_ret {tb : Tables} [Ours tb] {e : Env} {below : List Frame} {W target : State} {base : List Frame} (hO : Over W base below) (hexec : tb.exec = Jvm.exec) {F : State → State} (hF : HeapOnly F) (a : Addr) {m : MethodId} {meth : Method} {code : Code}
    (hm : W.vm.method? m = some meth) (hc : meth.code = some code) (hpl : W.plainMethod m) (hl : meth.locks = false) (h5 : decode code.code 4 = .ok (.return_, 1)) (k : Steps tb e below ((F W).setFrames (.throwing a :: base)) target) :
    Steps tb e below ((F ((W.setFrames (.thenThrow a :: base)).pushFrame (.java (pass0J m a 0 [])))).setTop (pass0J m a 4 [])) target := by
  obtain ⟨-, hI, hfI⟩ := nv_in hO a hm hc hpl
  obtain ⟨mid, hmid⟩ := hO.above
  have hB : At (F ((W.setFrames (.thenThrow a :: base)).pushFrame (.java (pass0J m a 0 [])))) m code below := hF.at_ hI
  have hfF : (F ((W.setFrames (.thenThrow a :: base)).pushFrame (.java (pass0J m a 0 [])))).frames = .java (pass0J m a 0 []) :: .thenThrow a :: base := by rw [hF.frames]; exact hfI
  jvm_step hB [hexec, h5, return_.wp_sem]
  intro acts
  rw [ret_to (t := F ((W.setFrames (.thenThrow a :: base)).pushFrame (.java (pass0J m a 0 [])))) (f := pass0J m a 4 []) (f₀ := pass0J m a 0 []) (below := .thenThrow a :: base) (fs := .thenThrow a :: base) (meth := meth) hfF (by rw [hF.vm]; exact hm) hl rfl rfl rfl acts]
  have hcur := State.cur_lt_of_frames hfF
  have hf1 : ((F ((W.setFrames (.thenThrow a :: base)).pushFrame (.java (pass0J m a 0 [])))).setFrames (.thenThrow a :: base)).frames = .thenThrow a :: base := State.frames_setFrames _ hcur
  refine Steps.head ⟨hB.running, by simpa using hB.runnable, by simpa using hB.alone⟩ ⟨.thenThrow a :: mid, by rw [hf1, hmid]; rfl, by simp, by simp⟩ ?_
  rw [stepThread_thenThrow hf1]
  show Steps tb e below (((F ((W.setFrames (.thenThrow a :: base)).pushFrame (.java (pass0J m a 0 [])))).setFrames (.thenThrow a :: base)).setFrames (.throwing a :: base)) target
  rw [State.setFrames_setFrames, State.pushFrame, hF.setFrames, hF.setFrames, State.setFrames_setFrames, State.setFrames_setFrames]
  exact k
set_option maxHeartbeats 2000000 in
theorem nv_native {p : Program} {l : Launch} {e : Env} {R : Room} {s : State} {m : MethodId} {args : Array Value} {below : List Frame} {meth : Method} {c : Code} {T' : State} {locs : List Loc} {cells slots : Nat} (X : Stand p l e R s m args below meth c T' locs cells slots) (hexec : p.tables.exec = Jvm.exec) {g : JFrame} (hsize : g.locals.size = c.maxLocals) {nf : NFrame} (hnf : nf.words = 0)
    (T : ThrowableC) (L : T.Links e.platform s) (Z : Init0T) (LZ : Z.Laid T.toThrowableT) (N : NpeC) (LN : N.Links T e.platform s)
    (P1 : PassC) (L1 : P1.Links0 e.platform s) (Ps : List PassC) (hL : ∀ P, P ∈ Ps → P.Links0 e.platform s) (hlink1 : P1.sup = firstOf (Z.m T.toThrowableT) (Ps.map (·.toPassT))) (hlink : PassesOn (Z.m T.toThrowableT) (Ps.map (·.toPassT)))
    {kX : Class} (hfound : s.vm.findClass "java/lang/NullPointerException" = some P1.m.cls) (hk : s.vm.classes[P1.m.cls]? = some kX) (hinit : kX.init = .initialized) (hord : kX.kind = .ordinary)
    (hctor : kX.findMethod "<init>" "()V" = some P1.m.idx)
    {u0 sen : RefV} {cellS : Cell}
    (hsel0 : selectMethod e.platform s.vm P1.m.cls T.fill0 = .method T.fill0) (hselF : selectMethod e.platform s.vm P1.m.cls T.fill = .method N.fill)
    (hcellS : T'.heap[T.aS]? = some cellS) (hknownS : cellS.vm ≠ .unknown) (hvU : cellS.slots[T.fUnassigned.slot]? = some u0.v) (hvSen : cellS.slots[T.fSentinel.slot]? = some sen.v)
    (hv0 : (freshCell P1.m.cls kX).slots[N.fState.slot]? = some (.int 0)) (hneC : T.fCause.slot ≠ N.fState.slot) (hneSt : T.fStack.slot ≠ N.fState.slot) (hneP : T.fSupp.slot ≠ N.fState.slot)
    (htC : Takes s (freshCell P1.m.cls kX) T.fCause (.ref T'.heap.size)) (htS : Takes s (freshCell P1.m.cls kX) T.fStack u0.v) (htP : Takes s (freshCell P1.m.cls kX) T.fSupp sen.v) (ht1 : Takes s (freshCell P1.m.cls kX) N.fState (.int 1)) (hobjLocals : T.codeObj.maxLocals = 1)
    (hskip : SkipFacts T e.platform s (fun u => u) u0 ((npeCell N.toNpeT (preparedCellV T.toThrowableT (freshCell P1.m.cls kX) T'.heap.size u0 sen) T'.cur).withEntry T'.cur))
    (hnat : u0.v ≠ .null → ∀ u : State, At u T.fill T.codeFill below → s.WarmedH u.vm → u.heap[T'.heap.size]? = some ((npeCell N.toNpeT (preparedCellV T.toThrowableT (freshCell P1.m.cls kX) T'.heap.size u0 sen) T'.cur).withEntry T'.cur) →
      e.platform.stackFull (((u.setTop (fillJ T.fill T'.heap.size 16 [])).threads[(u.setTop (fillJ T.fill T'.heap.size 16 [])).cur]?).getD { frames := [] }) (u.setTop (fillJ T.fill T'.heap.size 16 [])).frames (nativeFrameWords "java/lang/Throwable" "fillInStackTrace" 2) = false → ∀ t' : State,
      Steps p.tables e below (u.setTop (fillJ T.fill T'.heap.size 19 [.ref T'.heap.size])) t' →
      Steps p.tables e below (doInvoke e (u.setTop (fillJ T.fill T'.heap.size 16 [])) [] T.fill0 #[.ref T'.heap.size, .int 0]).1 t')
    (hRframes : Ps.length + 6 < R.frames) (hRlocals : 2 * g.monitorRoom + (g.stack.map fun v => v.category).sum + 10240 ≤ R.locals) (hshort : 13 * Ps.length + 68 ≤ 10240)
    (hRcells : cells + 1 ≤ R.cells) (hRslots : slots + kX.instanceTypes.size ≤ R.slots) :
    ∃ vm', Stand p l e R s m args below meth c (((T'.pushCell (freshCell P1.m.cls kX)).setVm vm').setCell T'.heap.size (npeBareV T.toThrowableT N.toNpeT (freshCell P1.m.cls kX) T'.heap.size u0 sen))
        (locs ++ [⟨T'.heap.size, T.fCause.slot⟩, ⟨T'.heap.size, T.fStack.slot⟩, ⟨T'.heap.size, T.fSupp.slot⟩, ⟨T'.heap.size, N.fState.slot⟩, ⟨T'.heap.size, T.fStack.slot⟩]) (cells + 1) (slots + (freshCell P1.m.cls kX).slots.size) ∧
      Steps p.tables e below (T'.setFrames (.throwNew "java/lang/NullPointerException" none none :: .native nf :: .java g :: below)) ((((T'.pushCell (freshCell P1.m.cls kX)).setVm vm').setCell T'.heap.size (npeBareV T.toThrowableT N.toNpeT (freshCell P1.m.cls kX) T'.heap.size u0 sen)).setFrames (.throwing T'.heap.size :: .native nf :: .java g :: below)) ∧
      ∀ a0, a0 < T'.heap.size → (((T'.pushCell (freshCell P1.m.cls kX)).setVm vm').setCell T'.heap.size (npeBareV T.toThrowableT N.toNpeT (freshCell P1.m.cls kX) T'.heap.size u0 sen)).heap[a0]? = T'.heap[a0]? := by
  have hO := X.overNative g nf
  obtain ⟨hbeyond, hfreeW⟩ := X.vmMayThrowNative hsize hnf (.throwNew "java/lang/NullPointerException" none none) (fun f hf => by cases hf) rfl hRlocals
  have hfr : (Frame.native nf :: .java g :: below).length + Ps.length + 5 < (e.platform.stackLimits T'.me).1 := by
    have := X.framesAboveNative g nf (n := Ps.length + 5) (by omega)
    omega
  have hwd : (stackUse (.native nf :: .java g :: below)).2 + 13 * Ps.length + 68 ≤ (e.platform.stackLimits T'.me).2 := by
    have := X.stackAboveNative hsize hnf (K := 13 * Ps.length + 68) (by omega)
    omega
  obtain ⟨kX', hk', he'⟩ := X.warmed.alike.2.2 _ _ hk
  have hty : kX'.instanceTypes = kX.instanceTypes := by rw [he']
  have hfresh : freshCell P1.m.cls kX' = freshCell P1.m.cls kX := by
    show ({ cls := P1.m.cls, slots := kX'.instanceTypes.map defaultValue, vm := .none } : Cell) = _
    rw [hty]
  have hlt : T.aS < T'.heap.size := (Array.getElem?_eq_some_iff.mp hcellS).1
  have hO1 : Over (T'.pushCell (freshCell P1.m.cls kX)) (.native nf :: .java g :: below) below := (Over.pushCell_iff _).mpr hO
  have hS1 : (T'.pushCell (freshCell P1.m.cls kX)).heap[T.aS]? = some cellS := by
    rw [← hcellS]
    simp [State.pushCell, Array.getElem?_push, Nat.ne_of_lt hlt]
  have hself : (T'.pushCell (freshCell P1.m.cls kX)).heap[T'.heap.size]? = some (freshCell P1.m.cls kX) := State.heap_pushCell_size T' (freshCell P1.m.cls kX)
  have hW : s.WarmedH (T'.pushCell (freshCell P1.m.cls kX)).vm := X.warmed
  have hlim : e.platform.stackLimits (T'.pushCell (freshCell P1.m.cls kX)).me = e.platform.stackLimits T'.me := rfl
  generalize hBS : (Frame.native nf :: Frame.java g :: below) = base at hO hO1 hbeyond hfreeW hfr hwd ⊢
  have hctorS : ∃ vm', s.WarmedH vm' ∧ ∀ target, Steps p.tables e below ((((T'.pushCell (freshCell P1.m.cls kX)).setVm vm').setCell T'.heap.size ((((npeCell N.toNpeT (preparedCellV T.toThrowableT (freshCell P1.m.cls kX) T'.heap.size u0 sen) T'.cur).withEntry T'.cur).setSlot T.fStack.slot u0.v).left.left)).setFrames (.throwing T'.heap.size :: base)) target →
      Steps p.tables e below (doInvoke e ((T'.pushCell (freshCell P1.m.cls kX)).setFrames (.thenThrow T'.heap.size :: base)) [] P1.m #[.ref T'.heap.size]).1 target := by
    have hcurW : (T'.pushCell (freshCell P1.m.cls kX)).cur = T'.cur := rfl
    generalize T'.pushCell (freshCell P1.m.cls kX) = V at hO1 hS1 hself hW hlim hcurW ⊢
    have hm := hW.methodAt L1.method
    obtain ⟨hfN, hI, hfI⟩ := nv_in hO1 T'.heap.size hm L1.code (hW.plainAt L1.plain)
    have hlimN : e.platform.stackLimits (V.setFrames (.thenThrow T'.heap.size :: base)).me = e.platform.stackLimits T'.me := by rw [State.stackLimits_setFrames]; exact hlim
    have hroom := roomAbove (pl := e.platform) (u := V.setFrames (.thenThrow T'.heap.size :: base)) (vars := 1) (pushed := [.thenThrow T'.heap.size]) (base := base) (free := 13 * Ps.length + 68) (lim := e.platform.stackLimits T'.me) hfN hlimN
      (by simp only [List.length_cons, List.length_nil]; omega) (by omega) (by rw [stackUse_light _ _ (fun f hf => by cases hf) rfl, stackUse_nil]; show 0 + 1 + 11 ≤ _; omega)
    obtain ⟨vm1, hW1, st1⟩ := Steps.invokeInitCold (tb := p.tables) (s₀ := s) (U := ((V.setFrames (.thenThrow T'.heap.size :: base)).pushFrame (.java (pass0J P1.m T'.heap.size 0 [])))) (f := pass0J P1.m T'.heap.size 1 [.ref T'.heap.size]) (args := []) (rest := []) (a := T'.heap.size) hI hexec L1.at1 hW L1.links L1.right L1.notHandle L1.cls L1.file L1.pool
      L1.supClass L1.supMethod L1.supName L1.supStatic L1.supAbstract L1.supFound L1.supParams.symm rfl
    have hO2 : Over (V.setVm vm1) base below := hO1.setVm (hW.alike.symm.trans hW1.alike)
    obtain ⟨-, hI1, hfI1⟩ := nv_in hO2 T'.heap.size (hW1.methodAt L1.method) L1.code (hW1.plainAt (U := V.setVm vm1) L1.plain)
    have hZ : ∃ vm2, s.WarmedH vm2 ∧ ∀ t' : State, Steps p.tables e below ((((((V.setVm vm1).setFrames (.thenThrow T'.heap.size :: base)).pushFrame (.java (pass0J P1.m T'.heap.size 0 []))).setVm vm2).setCell T'.heap.size ((((npeCell N.toNpeT (preparedCellV T.toThrowableT (freshCell P1.m.cls kX) T'.heap.size u0 sen) T'.cur).withEntry T'.cur).setSlot T.fStack.slot u0.v).left.left)).setTop (pass0J P1.m T'.heap.size 4 [])) t' →
        Steps p.tables e below (doInvoke e ((((V.setVm vm1).setFrames (.thenThrow T'.heap.size :: base)).pushFrame (.java (pass0J P1.m T'.heap.size 0 []))).setTop (pass0J P1.m T'.heap.size 1 [])) [] (firstOf (Z.m T.toThrowableT) (Ps.map (·.toPassT))) #[.ref T'.heap.size]).1 t' := by
      have hXc : (((V.setVm vm1).setFrames (.thenThrow T'.heap.size :: base)).pushFrame (.java (pass0J P1.m T'.heap.size 0 []))).heap[T'.heap.size]? = some (freshCell P1.m.cls kX) := hself
      have hXS : (((V.setVm vm1).setFrames (.thenThrow T'.heap.size :: base)).pushFrame (.java (pass0J P1.m T'.heap.size 0 []))).heap[T.aS]? = some cellS := hS1
      have hXcur : (((V.setVm vm1).setFrames (.thenThrow T'.heap.size :: base)).pushFrame (.java (pass0J P1.m T'.heap.size 0 []))).cur = T'.cur := hcurW
      have hXW : s.WarmedH (((V.setVm vm1).setFrames (.thenThrow T'.heap.size :: base)).pushFrame (.java (pass0J P1.m T'.heap.size 0 []))).vm := hW1
      have hXlim : e.platform.stackLimits (((V.setVm vm1).setFrames (.thenThrow T'.heap.size :: base)).pushFrame (.java (pass0J P1.m T'.heap.size 0 []))).me = e.platform.stackLimits T'.me := by rw [State.stackLimits_pushFrame, State.stackLimits_setFrames]; exact hlim
      generalize (((V.setVm vm1).setFrames (.thenThrow T'.heap.size :: base)).pushFrame (.java (pass0J P1.m T'.heap.size 0 []))) = Y at hI1 hfI1 hXc hXS hXcur hXW hXlim ⊢
      exact Steps.initNpe0ColdByV p (V := Y) (g := pass0J P1.m T'.heap.size 1 []) (c := P1.code) (self := T'.heap.size) hI1 hexec T L Z LZ N LN hXW hXcur (Nn := fun u => u) heapOnly_id (fun _ _ => rfl) (fun _ => rfl) (fun u x y => setCell_twice _ _ _ _) (fun _ => Nat.le_refl _)
        hXc (by intro k h9; cases h9) (by intro h9; cases h9) rfl hk hsel0 hXS (Nat.ne_of_lt hlt) hknownS hvU hv0 hneC hneSt hneP htS ht1 (fun _ hu => hu) (fun _ hu => hu) rfl rfl rfl (by simp [npeCell, preparedCellV, Cell.setSlot, Cell.withEntry]) hskip hnat hselF hvSen htC htP hobjLocals Ps hL hlink (ig := .invokespecial P1.index) (len := 3) [] hXlim
        (by rw [hfI1]; simp only [List.length_cons]; omega)
        (by rw [hfI1, List.tail_cons, stackUse_java, stackUse_light _ _ (fun f hf => by cases hf) rfl]
            show (stackUse base).2 + (1 + 11 + 2 * 0 + operandWords []) + 13 * Ps.length + 55 ≤ _
            simp only [operandWords, List.foldl_nil]
            omega)
        L1.at1
    obtain ⟨vm2, hW2, st2⟩ := hZ
    refine ⟨vm2, hW2, fun target hrest => ?_⟩
    rw [(doInvoke_java (s := (V.setFrames (.thenThrow T'.heap.size :: base))) (e := e) (acts := []) (args := #[.ref T'.heap.size]) (meth := P1.meth) (code := P1.code) hm L1.code L1.locks (by rw [L1.locals]; exact hroom)).1, L1.locals]
    show Steps p.tables e below ((V.setFrames (.thenThrow T'.heap.size :: base)).pushFrame (.java (pass0J P1.m T'.heap.size 0 []))) target
    rw [← State.setTop_self (s := ((V.setFrames (.thenThrow T'.heap.size :: base)).pushFrame (.java (pass0J P1.m T'.heap.size 0 [])))) (State.topJava?_of_frames hfI)]
    jvm_step hI [hexec, L1.at0, Value.isRef]
    have e9 : (((V.setVm vm1).setFrames (.thenThrow T'.heap.size :: base)).pushFrame (.java (pass0J P1.m T'.heap.size 0 []))).setVm vm2 = (((V.setVm vm2).setFrames (.thenThrow T'.heap.size :: base)).pushFrame (.java (pass0J P1.m T'.heap.size 0 []))) := by rw [State.pushFrame_setVm, State.setFrames_setVm, State.setVm_twice]
    refine st1 target (by
      rw [hlink1]
      refine st2 target ?_
      rw [e9]
      exact nv_ret (W := V.setVm vm2) (hO1.setVm (hW.alike.symm.trans hW2.alike)) hexec (F := fun u => u.setCell T'.heap.size ((((npeCell N.toNpeT (preparedCellV T.toThrowableT (freshCell P1.m.cls kX) T'.heap.size u0 sen) T'.cur).withEntry T'.cur).setSlot T.fStack.slot u0.v).left.left)) (heapOnly_id.thenSetCell _ _) T'.heap.size (hW2.methodAt L1.method) L1.code (hW2.plainAt (U := V.setVm vm2) L1.plain) L1.locks L1.at4 hrest)
  obtain ⟨vm', hW', st⟩ := hctorS
  rw [npeBareV_eq T.toThrowableT N.toNpeT T'.heap.size u0 sen T'.cur rfl rfl] at st
  have X2 := (X.pushed (freshCell P1.m.cls kX)).noted hW'
  have hsz : ((T'.pushCell (freshCell P1.m.cls kX)).setVm vm').heap.size = T'.heap.size + 1 := State.heap_size_pushCell _ _
  have ha : T'.heap.size < ((T'.pushCell (freshCell P1.m.cls kX)).setVm vm').heap.size := by rw [hsz]; omega
  have hcell : ((T'.pushCell (freshCell P1.m.cls kX)).setVm vm').heap[T'.heap.size]? = some (freshCell P1.m.cls kX) := State.heap_pushCell_size T' (freshCell P1.m.cls kX)
  have X3 := ((((X2.stored hcell T.fCause.slot (.ref T'.heap.size)).storedAgain ha T.fStack.slot u0.v).storedAgain ha T.fSupp.slot sen.v).storedAgain ha N.fState.slot (.int 1)).storedAgain ha T.fStack.slot u0.v
  simp only [List.append_assoc, List.cons_append, List.nil_append] at X3
  refine ⟨vm', X3, ?_, fun a0 h0 => by
    rw [State.heap_setCell_other (by omega : T'.heap.size ≠ a0)]
    show (T'.heap.push _)[a0]? = _
    rw [Array.getElem?_push, if_neg (by omega)]⟩
  obtain ⟨mid, hmid⟩ := hO.above
  have hf0 : (T'.setFrames (.throwNew "java/lang/NullPointerException" none none :: base)).frames = .throwNew "java/lang/NullPointerException" none none :: base := State.frames_setFrames _ hO.cur
  refine Steps.head ⟨hO.running, by simpa using hO.runnable, by simpa using hO.alone⟩ ⟨.throwNew "java/lang/NullPointerException" none none :: mid, by rw [hf0, hmid]; rfl, by simp, by simp⟩ ?_
  rw [stepThread_throwNew hf0, stepThrowNew_plain (s := T'.setFrames (.throwNew "java/lang/NullPointerException" none none :: base)) (c := P1.m.cls) (k := kX') (i := P1.m.idx) (by decide) (by decide) (by show T'.vm.findClass _ = _; rw [X.warmed.alike.findClass]; exact hfound) hk' (by rw [he']; exact hinit) (by rw [he']; exact hord)
    (Launch.admits_hotImplicitExceptions X.admits) hbeyond hfreeW (by rw [he']; exact hctor) (X.cellsAbove hRcells) (by rw [hty]; exact X.slotsAbove hRslots)]
  have hN9 : ((T'.setFrames (.throwNew "java/lang/NullPointerException" none none :: base)).pushCell (freshCell P1.m.cls kX')).setFrames (.thenThrow ((T'.setFrames (.throwNew "java/lang/NullPointerException" none none :: base)).heap.size) :: base) = ((T'.pushCell (freshCell P1.m.cls kX)).setFrames (.thenThrow T'.heap.size :: base)) := by
    rw [State.pushCell_setFrames, State.setFrames_setFrames, hfresh]
    rfl
  rw [hN9]
  exact st _ (Steps.refl _)

set_option maxHeartbeats 1000000 in
theorem nnpeAt {p : Program} {l : Launch} {e : Env} {R : Room} {s : State} {m₀ : MethodId} {args : Array Value} {below : List Frame} {meth : Method} {c : Code} {W : State} {locs : List Loc} {cells slots : Nat}
    (X : Stand p l e R s m₀ args below meth c W locs cells slots) (hexec : p.tables.exec = Jvm.exec) (htr : e.platform.stackTraces = false) {n : Nat}
    (h : ∀ a ∈ Bundle.npeArmAtoms n, a.before args s = true)
    (hlocs : ∀ x ∈ locs, ∀ cell, s.heap[x.base]? = some cell → cell.vm.isStatics = false)
    {g : JFrame} (hg : g.method = m₀) (hsize : g.locals.size = c.maxLocals) {nf : NFrame} (hnf : nf.words = 0) (haw : nf.awaiting = false) (hnl : nf.locked = none)
    (hRframes : 8 < R.frames) (hRlocals : 2 * g.monitorRoom + (g.stack.map fun v => v.category).sum + 10240 ≤ R.locals)
    (hRcells : cells + 1 ≤ R.cells) (hRslots : slots + n ≤ R.slots) (hlocks : meth.locks = false) :
    ∃ (S : State) (q : Addr) (ce : Cell), (∀ target, Steps p.tables e below ((S.setTop g).pushFrame (.throwing q)) target → Steps p.tables e below (((W.setTop g).pushFrame (.native nf)).pushFrame (.throwNew "java/lang/NullPointerException" none none)) target) ∧
      Stand p l e R s m₀ args below meth c S locs (cells + 1) (slots + n) ∧ S.heap[q]? = some ce ∧ s.vm.findClass "java/lang/NullPointerException" = some ce.cls ∧ ce.vm = .none := by
  have howns : e.platform.frameOwnsMonitors = true := by rw [X.admits.platform]
  have hfin : e.platform.finalization = false := by rw [X.admits.platform]
  have hpl : e.platform.magicAccessors = ({} : Platform).magicAccessors := by rw [X.admits.platform]
  have hpl2 : e.platform.arrayCloneIsPublic = true := by rw [X.admits.platform]
  have a' : ∀ x, x ∈ Bundle.npeArmAtoms n → x.holds args s none s [] = true := fun x hx => h x hx
  obtain ⟨T, Z, L, LZ, Y⟩ := ThrowableC.of_atoms (args := args) howns hfin hpl (fun x hx => h x (by simp [Bundle.npeArmAtoms, hx]))
  obtain ⟨N, LN, hcN, hnNF, hordN, hffS⟩ := NpeC.of_atoms (args := args) hpl hpl2 L Y (fun x hx => h x (by simp [Bundle.npeArmAtoms, hx]))
  obtain ⟨P1, L1, hP1m, hP1s⟩ := PassC.of_atoms (args := args) (s := s) hpl (X := Bundle.nN) (Y := Bundle.rN) (by decide) (by decide) LibCode.NullPointerException.Init0.at_0 LibCode.NullPointerException.Init0.at_1 LibCode.NullPointerException.Init0.at_4 (fun x hx => h x (by simp [Bundle.npeArmAtoms, hx]))
  obtain ⟨PR, LR, hPRm, hPRs⟩ := PassC.of_atoms (args := args) (s := s) hpl (X := Bundle.rN) (Y := Bundle.eN) (by decide) (by decide) LibCode.RuntimeException.Init0.at_0 LibCode.RuntimeException.Init0.at_1 LibCode.RuntimeException.Init0.at_4 (fun x hx => h x (by simp [Bundle.npeArmAtoms, hx]))
  obtain ⟨PE, LEx, hPEm, hPEs⟩ := PassC.of_atoms (args := args) (s := s) hpl (X := Bundle.eN) (Y := Bundle.tN) (by decide) (by decide) LibCode.Exception.Init0.at_0 LibCode.Exception.Init0.at_1 LibCode.Exception.Init0.at_4 (fun x hx => h x (by simp [Bundle.npeArmAtoms, hx]))
  have hfound : s.vm.findClass Bundle.nN = some P1.m.cls := findClass_of_methodNamed hP1m
  have ecls : N.cN = P1.m.cls := Option.some.inj (hcN.symm.trans hfound)
  have hk : s.vm.classes[P1.m.cls]? = some N.kN := by rw [← ecls]; exact LN.cls
  have hinit := Cond.initialized_spec hfound hk (a' (.initialized Bundle.nN) (by simp [Bundle.npeArmAtoms]))
  have hctor : N.kN.findMethod "<init>" "()V" = some P1.m.idx := findMethod_of_methodNamed hP1m hk
  obtain ⟨c1, k1, hc1, hk1, -, -, -, hn⟩ := Cond.instantiable_spec (a' (.instantiable Bundle.nN n) (by simp [Bundle.npeArmAtoms]))
  cases Option.some.inj (hc1.symm.trans hfound)
  cases Option.some.inj (hk1.symm.trans hk)
  have hfsz : (freshCell P1.m.cls N.kN).slots.size = n := by simp [hn]
  have hlink1 : P1.sup = PR.m := Option.some.inj (hP1s.symm.trans hPRm)
  have hlinkR : PR.sup = PE.m := Option.some.inj (hPRs.symm.trans hPEm)
  have hlinkE : PE.sup = Z.m T.toThrowableT := Option.some.inj (hPEs.symm.trans Y.init0)
  have hLs : ∀ P, P ∈ [PR, PE] → P.Links0 e.platform s := fun P hP => by
    simp only [List.mem_cons, List.not_mem_nil, or_false] at hP
    rcases hP with rfl | rfl
    · exact LR
    · exact LEx
  have hsel0 : selectMethod e.platform s.vm P1.m.cls T.fill0 = .method T.fill0 := by
    obtain ⟨c2, r2, m2, q1, q2, q3, q4, -⟩ := Cond.selects_spec (a' (.selects Bundle.nN Bundle.tFill0 Bundle.tFill0) (by simp [Bundle.npeArmAtoms]))
    cases Option.some.inj (q1.symm.trans hfound)
    cases Option.some.inj (q2.symm.trans (State.methodFound?_of_named Y.fill0 (by decide)))
    cases Option.some.inj (q3.symm.trans Y.fill0)
    rw [Launch.admits_selectMethod X.admits]; exact q4
  have hselF : selectMethod e.platform s.vm P1.m.cls T.fill = .method N.fill := by
    obtain ⟨c2, r2, m2, q1, q2, q3, q4, -⟩ := Cond.selects_spec (a' (.selects Bundle.nN Bundle.tFill Bundle.nFill) (by simp [Bundle.npeArmAtoms]))
    cases Option.some.inj (q1.symm.trans hfound)
    cases Option.some.inj (q2.symm.trans (State.methodFound?_of_named Y.fill (by decide)))
    cases Option.some.inj (q3.symm.trans hnNF)
    rw [Launch.admits_selectMethod X.admits]; exact q4
  obtain ⟨cellS0, hcS0, hiss⟩ := Y.statics
  obtain ⟨u0, hu0⟩ := Cond.staticRefV Y.unassigned L.unassignedStatic L.statics hcS0 hiss (a' (.isRef (.static Bundle.tN "UNASSIGNED_STACK" Bundle.steD)) (by simp [Bundle.npeArmAtoms]))
  obtain ⟨sen, hsen⟩ := Cond.staticRefV Y.sentinel L.sentinelStatic L.statics hcS0 hiss (a' (.isRef (.static Bundle.tN "SUPPRESSED_SENTINEL" Bundle.listD)) (by simp [Bundle.npeArmAtoms]))
  obtain ⟨ci198, i198, fB, hk198, hg198, ha198, hsB, -, hnB, htB, hffB⟩ := Cond.ownField (t := .object "java/lang/Object") Y.found L.cls (by decide +kernel) (a' (.fieldLink Bundle.tN 198 Bundle.tN "backtrace" Bundle.objD) (by simp [Bundle.npeArmAtoms])) (a' (.lays Bundle.tN Bundle.tN "backtrace" Bundle.objD) (by simp [Bundle.npeArmAtoms])) e.platform hpl
  obtain ⟨cellS, hcS', heS, -, hkeep⟩ := X.same.2.2.2.2.2 T.aS cellS0 hcS0
  have hcellS : W.heap[T.aS]? = some cellS := hcS'
  have hout' : ∀ i, (⟨T.aS, i⟩ : Loc) ∉ locs := fun i hmem => by
    have := hlocs _ hmem cellS0 hcS0
    rw [hiss] at this; cases this
  have hknownS : cellS.vm ≠ .unknown := by
    rw [heS]; intro hu
    rw [show cellS0.vm = .unknown from hu] at hiss
    cases hiss
  have hvU : cellS.slots[T.fUnassigned.slot]? = some u0.v := by rw [hkeep _ (hout' _)]; exact hu0
  have hvSen : cellS.slots[T.fSentinel.slot]? = some sen.v := by rw [hkeep _ (hout' _)]; exact hsen
  obtain ⟨tyC, dC, hdC, hdnC⟩ := Cond.laysAt hfound hk Y.cause (a' (.lays Bundle.nN Bundle.tN "cause" "Ljava/lang/Throwable;") (by simp [Bundle.npeArmAtoms]))
  obtain ⟨tyS, dS, hdS, hdnS⟩ := Cond.laysAt hfound hk Y.stack (a' (.lays Bundle.nN Bundle.tN "stackTrace" Bundle.steD) (by simp [Bundle.npeArmAtoms]))
  obtain ⟨tyP, dP, hdP, hdnP⟩ := Cond.laysAt hfound hk Y.supp (a' (.lays Bundle.nN Bundle.tN "suppressedExceptions" Bundle.listD) (by simp [Bundle.npeArmAtoms]))
  obtain ⟨tyX, dX, hdX, hdnX⟩ := Cond.laysAt hfound hk hffS (a' (.lays Bundle.nN Bundle.nN "extendedMessageState" "I") (by simp [Bundle.npeArmAtoms, Bundle.npeAtoms]))
  obtain ⟨hnX, htX⟩ := State.fieldFound?_type hffS (t := .int) (by decide +kernel)
  have xC := Cond.laysApart hdC hdX hdnC hdnX (by rw [hnX, Y.causeName]; decide)
  have xS := Cond.laysApart hdS hdX hdnS hdnX (by rw [hnX, Y.stackName]; decide)
  have xP := Cond.laysApart hdP hdX hdnP hdnX (by rw [hnX, Y.suppName]; decide)
  have hv0 : (freshCell P1.m.cls N.kN).slots[N.fState.slot]? = some (.int 0) := by
    have := fresh_default (c := P1.m.cls) tyX
    rw [htX] at this; exact this
  obtain ⟨tyB, dB, hdB, hdnB⟩ := Cond.laysAt hfound hk hffB (a' (.lays Bundle.nN Bundle.tN "backtrace" Bundle.objD) (by simp [Bundle.npeArmAtoms]))
  have bC := Cond.laysApart hdB hdC hdnB hdnC (by rw [hnB, Y.causeName]; decide)
  have bS := Cond.laysApart hdB hdS hdnB hdnS (by rw [hnB, Y.stackName]; decide)
  have bP := Cond.laysApart hdB hdP hdnB hdnP (by rw [hnB, Y.suppName]; decide)
  have bX := Cond.laysApart hdB hdX hdnB hdnX (by rw [hnB, hnX]; decide)
  have hbk : ((npeCell N.toNpeT (preparedCellV T.toThrowableT (freshCell P1.m.cls N.kN) W.heap.size u0 sen) W.cur).withEntry W.cur).slots[fB.slot]? = some .null := by
    have := fresh_default (c := P1.m.cls) tyB
    rw [htB] at this
    simpa [npeCell, preparedCellV, Cell.setSlot, Cell.withEntry, Array.getElem?_setIfInBounds, bC, bS, bP, bX, bC.symm, bS.symm, bP.symm, bX.symm, defaultValue] using this
  have tkC := Takes.of_laid (v := .ref W.heap.size) hk hordN tyC (by rw [Y.causeType]; rfl)
  have tkS := Takes.of_laid (v := u0.v) hk hordN tyS (by rw [Y.stackType]; exact fits_refV_array _ u0)
  have tkP := Takes.of_laid (v := sen.v) hk hordN tyP (by rw [Y.suppType]; exact fits_refV_object _ sen)
  have tkX := Takes.of_laid (v := .int 1) hk hordN tyX (by rw [htX]; rfl)
  have hskip : SkipFacts T e.platform s (fun u => u) u0 ((npeCell N.toNpeT (preparedCellV T.toThrowableT (freshCell P1.m.cls N.kN) W.heap.size u0 sen) W.cur).withEntry W.cur) := ⟨{ ci198 := ci198, i198 := i198, fBack := fB }, ⟨hk198, hg198, ha198, hsB⟩, hbk, fun _ _ => rfl⟩
  obtain ⟨vm', X3, st, -⟩ := nv_native X hexec (g := g) hsize (nf := nf) hnf T L Z LZ N LN P1 L1 [PR, PE] hLs hlink1 ⟨hlinkR, hlinkE, trivial⟩ hfound hk hinit hordN hctor hsel0 hselF hcellS hknownS hvU hvSen
    hv0 xC xS xP tkC tkS tkP tkX Y.objLocals hskip (fun _ _ hA hW _ hroom _ hrest => L.nativeOff p htr hA hW hroom hrest) (by simpa using hRframes) hRlocals (by simp) hRcells (by rw [hn]; exact hRslots)
  have hlt : W.heap.size < ((W.pushCell (freshCell P1.m.cls N.kN)).setVm vm').heap.size := by
    show W.heap.size < (W.pushCell (freshCell P1.m.cls N.kN)).heap.size
    rw [State.heap_size_pushCell]; omega
  rw [hfsz] at X3
  obtain ⟨g₁, hfrM⟩ := X3.frames_eq
  have hU : ((((W.pushCell (freshCell P1.m.cls N.kN)).setVm vm').setCell W.heap.size (npeBareV T.toThrowableT N.toNpeT (freshCell P1.m.cls N.kN) W.heap.size u0 sen)).setTop g).pushFrame (.throwing W.heap.size) = (((W.pushCell (freshCell P1.m.cls N.kN)).setVm vm').setCell W.heap.size (npeBareV T.toThrowableT N.toNpeT (freshCell P1.m.cls N.kN) W.heap.size u0 sen)).setFrames (.throwing W.heap.size :: .java g :: below) := by
    rw [State.pushFrame, State.frames_setTop _ hfrM, State.setTop_of_frames _ hfrM, State.setFrames_setFrames]
  obtain ⟨g₂, hfrW⟩ := X.frames_eq
  have hV : ((W.setTop g).pushFrame (.native nf)).pushFrame (.throwNew "java/lang/NullPointerException" none none) = W.setFrames (.throwNew "java/lang/NullPointerException" none none :: .native nf :: .java g :: below) := by
    have hc9 : W.cur < W.threads.size := State.cur_lt_of_frames hfrW
    rw [State.pushFrame, State.pushFrame, State.frames_setTop _ hfrW, State.setTop_of_frames _ hfrW]
    simp only [State.setFrames_setFrames, State.frames_setFrames _ hc9]
  refine ⟨_, W.heap.size, _, fun target ht => (by
    rw [hV]
    exact st.trans (Steps.throwingLeavesNative ⟨X3.here.running, X3.here.runnable, X3.here.alone⟩ (State.cur_lt_of_frames hfrM) ⟨[.java g], rfl⟩ haw hnl (by rw [← hU]; exact ht))), X3.forget (fun y hy => ?_), heapAt_setCell_self _ hlt, hfound, rfl⟩
  simp only [List.mem_cons, List.not_mem_nil, or_false] at hy
  have hge : s.heap.size ≤ W.heap.size := X.same.2.1
  rcases hy with rfl | rfl | rfl | rfl | rfl <;> exact hge
def vxn_Note (p : Program) (l : Launch) (e : Env) (R : Room) (s : State) (m : MethodId) (args : Array Value) (below : List Frame) (meth : Method) (c : Code) (H : Heap) (locs : List Loc) (cells slots : Nat) (Q : State → Prop) (g : JFrame) (E : String) (msg : Option String) : Prop :=
  ∀ (T : State) (nf : NFrame), nf.words = 0 → nf.awaiting = false → nf.locked = none → T.heap = H → Stand p l e R s m args below meth c T locs cells slots → ∃ t, Steps p.tables e below (((T.setTop g).pushFrame (.native nf)).pushFrame (.throwNew E msg none)) t ∧ Q t
set_option maxHeartbeats 1000000 in
theorem vxn_vm {p : Program} {l : Launch} {e : Env} {R : Room} {s : State} {m : MethodId} {args : Array Value} {below : List Frame} {meth : Method} {c : Code} {H : Heap} {locs : List Loc} {cells slots : Nat} {pc : Nat} {ls : Array Slot} {rest : List Value} {Q : State → Prop} (hexec : p.tables.exec = Jvm.exec) (hl : l.stackTraces = false) {cls text : String} {names : List String} {nb : Nat} {A : Nat → Prop}
    (hcls : Bundle.fit cls = true) (hnames : ∀ n ∈ names, Bundle.fit n = true) (hsoe : (cls == "java/lang/StackOverflowError") = false) (hoom : (cls == "java/lang/OutOfMemoryError") = false)
    (hat : ∀ w ∈ vx_atM cls names, w.before args s = true) (hgood : ∀ w ∈ vx_atM cls names, vx_ot w = true)
    (hU : vx_Zq Bundle.tN "UNASSIGNED_STACK" Bundle.steD A s s.heap) (hN : vx_Zq Bundle.tN "SUPPRESSED_SENTINEL" Bundle.listD A s s.heap) (hS : va_S A s.heap H locs) (hsize : ls.size = c.maxLocals)
    (htext : (text == notModelled) = false) (hnb : (stringBytes (stringToUtf16 text)).size ≤ nb) (hnb1 : nb ≤ 1000)
    (hRframes : names.length + 5 < R.frames) (hRlocals : (rest.map fun v => v.category).sum + 10240 ≤ R.locals) (hshort : 13 * names.length + 55 ≤ 10240) (hRcells : cells + 3 ≤ R.cells) (hRslots : slots + (nb + 10) ≤ R.slots) (hlocks : meth.locks = false)
    (k : ∀ (H1 : Heap) (q9 : Addr) (ce : Cell), H.size ≤ H1.size → (∀ q : Nat, q < H.size → H1[q]? = H[q]?) → va_S A s.heap H1 locs → H1[q9]? = some ce → ce.vm = .none → s.vm.findClass cls = some ce.cls → vx_W p l e R s m args below meth c H1 locs (cells + 3) (slots + (nb + 10)) Q (F0 m pc ls rest) q9) :
    vxn_Note p l e R s m args below meth c H locs cells slots Q (F0 m pc ls rest) cls (some text) := by
  intro T nf hnf haw hnl hT X
  have htr : e.platform.stackTraces = false := (show e.platform.stackTraces = l.stackTraces by rw [X.admits.platform]).trans hl
  have Y := vx_rebase X (R' := { frames := R.frames, locals := R.locals, cells := 3, slots := nb + 10 }) (Nat.le_refl _) (Nat.le_refl _) hRcells hRslots
  have hhp : ((T.setVm s.vm).setFrames (.invoking m args :: below)).heap = H := hT
  have hW0 : s.WarmedH ((T.setVm s.vm).setFrames (.invoking m args :: below)).vm := State.WarmedH.refl s
  have hat' : ∀ w ∈ vx_atM cls names, w.before args ((T.setVm s.vm).setFrames (.invoking m args :: below)) = true := fun w hw => vx_ot_at hW0 rfl (hgood w hw) (hat w hw)
  have hU' : vx_Zq Bundle.tN "UNASSIGNED_STACK" Bundle.steD A ((T.setVm s.vm).setFrames (.invoking m args :: below)) ((T.setVm s.vm).setFrames (.invoking m args :: below)).heap := by rw [hhp]; exact vx_Zq.moved hW0.alike (hU.kept hS.2.1)
  have hN' : vx_Zq Bundle.tN "SUPPRESSED_SENTINEL" Bundle.listD A ((T.setVm s.vm).setFrames (.invoking m args :: below)) ((T.setVm s.vm).setFrames (.invoking m args :: below)).heap := by rw [hhp]; exact vx_Zq.moved hW0.alike (hN.kept hS.2.1)
  obtain ⟨S, q, ce, st, Z, hce, hcl', hv⟩ := nvmAt Y hexec htr (cls := cls) (names := names) (text := text) hcls hnames hsoe hoom (vx_own hat' (vx_isRefq hU'.1) (vx_isRefq hN'.1) hU'.2.word hN'.2.word) (fun x hx => nomatch hx) htext
    (by rw [Launch.admits_arrayLengthLimit X.admits]; omega) (by rw [Launch.admits_maxHeapBytes X.admits]; simp only [componentBytes]; omega)
    (g := F0 m pc ls rest) rfl hsize hnf haw hnl hRframes (by show 2 * 0 + (rest.map fun v => v.category).sum + 10240 ≤ R.locals; omega) hshort (by show 0 + 3 ≤ 3; omega) (by show 0 + (_ + 4 + 6) ≤ nb + 10; omega) hlocks
  obtain ⟨f1, f2⟩ := vx_frame Z.same
  have f1' : H.size ≤ S.heap.size := by rw [← hT]; exact f1
  have f2' : ∀ q : Nat, q < H.size → S.heap[q]? = H[q]? := fun q hq => by
    rw [← hT]
    exact f2 q (by rw [← hT] at hq; exact hq) (fun z hz => nomatch hz)
  have X5 := vx_back9 X Y Z
  have X6 : Stand p l e R s m args below meth c S locs (cells + 3) (slots + (nb + 10)) := { X5 with same := X5.same.mono (by omega) (by omega) }
  obtain ⟨t, a1, b1⟩ := k S.heap q ce f1' f2' ⟨Nat.le_trans hS.1 f1', fun q h1 h2 => (f2' q (Nat.lt_of_lt_of_le h1 hS.1)).trans (hS.2.1 q h1 h2), hS.2.2⟩ hce hv hcl' S rfl X6
  exact ⟨t, st t a1, b1⟩
set_option maxHeartbeats 1000000 in
theorem vxn_npe {p : Program} {l : Launch} {e : Env} {R : Room} {s : State} {m : MethodId} {args : Array Value} {below : List Frame} {meth : Method} {c : Code} {H : Heap} {locs : List Loc} {cells slots : Nat} {pc : Nat} {ls : Array Slot} {rest : List Value} {Q : State → Prop} (hexec : p.tables.exec = Jvm.exec) (hl : l.stackTraces = false) {nb : Nat} {A : Nat → Prop}
    (hat : ∀ w ∈ vx_atN nb, w.before args s = true) (hgood : ∀ w ∈ vx_atN nb, vx_ot w = true)
    (hU : vx_Zq Bundle.tN "UNASSIGNED_STACK" Bundle.steD A s s.heap) (hN : vx_Zq Bundle.tN "SUPPRESSED_SENTINEL" Bundle.listD A s s.heap) (hS : va_S A s.heap H locs) (hsize : ls.size = c.maxLocals)
    (hRframes : 8 < R.frames) (hRlocals : (rest.map fun v => v.category).sum + 10240 ≤ R.locals) (hRcells : cells + 1 ≤ R.cells) (hRslots : slots + nb ≤ R.slots) (hlocks : meth.locks = false)
    (k : ∀ (H1 : Heap) (q9 : Addr) (ce : Cell), H.size ≤ H1.size → (∀ q : Nat, q < H.size → H1[q]? = H[q]?) → va_S A s.heap H1 locs → H1[q9]? = some ce → ce.vm = .none → s.vm.findClass "java/lang/NullPointerException" = some ce.cls → vx_W p l e R s m args below meth c H1 locs (cells + 1) (slots + nb) Q (F0 m pc ls rest) q9) :
    vxn_Note p l e R s m args below meth c H locs cells slots Q (F0 m pc ls rest) "java/lang/NullPointerException" none := by
  intro T nf hnf haw hnl hT X
  have htr : e.platform.stackTraces = false := (show e.platform.stackTraces = l.stackTraces by rw [X.admits.platform]).trans hl
  have Y := vx_rebase X (R' := { frames := R.frames, locals := R.locals, cells := 1, slots := nb }) (Nat.le_refl _) (Nat.le_refl _) hRcells hRslots
  have hhp : ((T.setVm s.vm).setFrames (.invoking m args :: below)).heap = H := hT
  have hW0 : s.WarmedH ((T.setVm s.vm).setFrames (.invoking m args :: below)).vm := State.WarmedH.refl s
  have hat' : ∀ w ∈ vx_atN nb, w.before args ((T.setVm s.vm).setFrames (.invoking m args :: below)) = true := fun w hw => vx_ot_at hW0 rfl (hgood w hw) (hat w hw)
  have hU' : vx_Zq Bundle.tN "UNASSIGNED_STACK" Bundle.steD A ((T.setVm s.vm).setFrames (.invoking m args :: below)) ((T.setVm s.vm).setFrames (.invoking m args :: below)).heap := by rw [hhp]; exact vx_Zq.moved hW0.alike (hU.kept hS.2.1)
  have hN' : vx_Zq Bundle.tN "SUPPRESSED_SENTINEL" Bundle.listD A ((T.setVm s.vm).setFrames (.invoking m args :: below)) ((T.setVm s.vm).setFrames (.invoking m args :: below)).heap := by rw [hhp]; exact vx_Zq.moved hW0.alike (hN.kept hS.2.1)
  obtain ⟨S, q, ce, st, Z, hce, hcl', hv⟩ := nnpeAt Y hexec htr (n := nb) (vx_own hat' (vx_isRefq hU'.1) (vx_isRefq hN'.1) hU'.2.word hN'.2.word) (fun x hx => nomatch hx)
    (g := F0 m pc ls rest) rfl hsize hnf haw hnl hRframes (by show 2 * 0 + (rest.map fun v => v.category).sum + 10240 ≤ R.locals; omega) (by show 0 + 1 ≤ 1; omega) (by show 0 + nb ≤ nb; omega) hlocks
  obtain ⟨f1, f2⟩ := vx_frame Z.same
  have f1' : H.size ≤ S.heap.size := by rw [← hT]; exact f1
  have f2' : ∀ q : Nat, q < H.size → S.heap[q]? = H[q]? := fun q hq => by
    rw [← hT]
    exact f2 q (by rw [← hT] at hq; exact hq) (fun z hz => nomatch hz)
  have X5 := vx_back9 X Y Z
  have X6 : Stand p l e R s m args below meth c S locs (cells + 1) (slots + nb) := { X5 with same := X5.same.mono (by omega) (by omega) }
  obtain ⟨t, a1, b1⟩ := k S.heap q ce f1' f2' ⟨Nat.le_trans hS.1 f1', fun q h1 h2 => (f2' q (Nat.lt_of_lt_of_le h1 hS.1)).trans (hS.2.1 q h1 h2), hS.2.2⟩ hce hv hcl' S rfl X6
  exact ⟨t, st t a1, b1⟩
section XC
variable {p : Program} {l : Launch} {e : Env} {R : Room} {s : State} {m : MethodId} {args : Array Value} {below : List Frame} {meth : Method} {c : Code} {nL cells slots : Nat} {A : Nat → Prop} {g : XG} {ξ : XS} {Q : State → Prop} {pc n : Nat} {lv : List (Nat × Value)} {st : List Value} {cc : ByteArray} {ρ : Type} {res : ρ}
theorem cxn_npe {own : String} (E : EV p s m args c cc nL own) (hlt : l.stackTraces = false) (hlk : meth.locks = false) {mc ms : Nat} (hb : cells + mc ≤ R.cells ∧ slots + ms ≤ R.slots) (hm : 1 ≤ mc) (hs : 8 ≤ ms) (hR : 10 ≤ R.frames ∧ 10248 ≤ R.locals) (hcat : (st.map fun v => v.category).sum ≤ 8)
    (k : ∀ q, (cells + 1 + (mc - 1) ≤ R.cells ∧ slots + 8 + (ms - 8) ≤ R.slots) → CX p l e R s m args below meth c nL (cells + 1) (slots + 8) (XB g A s ξ) Q pc lv "java/lang/NullPointerException" q) {H : Heap} {locs : List Loc} {ls : Array Slot} (hB : XB g A s ξ H locs) (hl : lv_has ls nL lv) : vxn_Note p l e R s m args below meth c H locs cells slots Q (F0 m pc ls st) "java/lang/NullPointerException" none := by
  have hSG : SG g A s s.heap := hB.2.2.2.2.2.2.2
  refine vxn_npe (nb := 8) E.1 hlt (wl_at npeL_tbl npeL_ok E.2.2.2.2 hB.2.2.2.2.2.1) (wl_ot npeL_ok) hSG.1 hSG.2.1 hB.2.2.1 (by rw [E.2.2.1]; exact hl.1) (by have := hR.1; omega) (by have := hR.2; omega) (by omega) (by omega) hlk (fun H1 q9 ce h1 h2 hS hc1 hc2 hc3 => ?_)
  exact k q9 ⟨by omega, by omega⟩ H1 locs ls st ce (xbgrow hB h2 hS) hl hc1 hc2 hc3
theorem cxn_ase {own : String} (E : EV p s m args c cc nL own) (hlt : l.stackTraces = false) (hlk : meth.locks = false) {mc ms nb : Nat} {text : String} (htext : (text == notModelled) = false) (hnb : (stringBytes (stringToUtf16 text)).size ≤ nb) (hnb1 : nb ≤ 1000) (hb : cells + mc ≤ R.cells ∧ slots + ms ≤ R.slots) (hm : 3 ≤ mc) (hs : nb + 10 ≤ ms) (hR : 10 ≤ R.frames ∧ 10248 ≤ R.locals) (hcat : (st.map fun v => v.category).sum ≤ 8)
    (k : ∀ q, (cells + 3 + (mc - 3) ≤ R.cells ∧ slots + (nb + 10) + (ms - (nb + 10)) ≤ R.slots) → CX p l e R s m args below meth c nL (cells + 3) (slots + (nb + 10)) (XB g A s ξ) Q pc lv "java/lang/ArrayStoreException" q) {H : Heap} {locs : List Loc} {ls : Array Slot} (hB : XB g A s ξ H locs) (hl : lv_has ls nL lv) : vxn_Note p l e R s m args below meth c H locs cells slots Q (F0 m pc ls st) "java/lang/ArrayStoreException" (some text) := by
  have hSG : SG g A s s.heap := hB.2.2.2.2.2.2.2
  refine vxn_vm (nb := nb) (names := ["java/lang/RuntimeException", "java/lang/Exception"]) E.1 hlt (by decide +kernel) (by decide +kernel) (by decide +kernel) (by decide +kernel) (wl_at aseL_tbl aseL_ok E.2.2.2.2 hB.2.2.2.2.2.1) (wl_ot aseL_ok) hSG.1 hSG.2.1 hB.2.2.1 (by rw [E.2.2.1]; exact hl.1) htext hnb hnb1 (by have := hR.1; show 2 + 5 < _; omega) (by have := hR.2; omega) (by decide) (by omega) (by omega) hlk (fun H1 q9 ce h1 h2 hS hc1 hc2 hc3 => ?_)
  exact k q9 ⟨by omega, by omega⟩ H1 locs ls st ce (xbgrow hB h2 hS) hl hc1 hc2 hc3
theorem cxn_iob {own : String} (E : EV p s m args c cc nL own) (hlt : l.stackTraces = false) (hlk : meth.locks = false) {mc ms nb : Nat} {text : String} (htext : (text == notModelled) = false) (hnb : (stringBytes (stringToUtf16 text)).size ≤ nb) (hnb1 : nb ≤ 1000) (hb : cells + mc ≤ R.cells ∧ slots + ms ≤ R.slots) (hm : 3 ≤ mc) (hs : nb + 10 ≤ ms) (hR : 10 ≤ R.frames ∧ 10248 ≤ R.locals) (hcat : (st.map fun v => v.category).sum ≤ 8)
    (k : ∀ q, (cells + 3 + (mc - 3) ≤ R.cells ∧ slots + (nb + 10) + (ms - (nb + 10)) ≤ R.slots) → CX p l e R s m args below meth c nL (cells + 3) (slots + (nb + 10)) (XB g A s ξ) Q pc lv "java/lang/ArrayIndexOutOfBoundsException" q) {H : Heap} {locs : List Loc} {ls : Array Slot} (hB : XB g A s ξ H locs) (hl : lv_has ls nL lv) : vxn_Note p l e R s m args below meth c H locs cells slots Q (F0 m pc ls st) "java/lang/ArrayIndexOutOfBoundsException" (some text) := by
  have hSG : SG g A s s.heap := hB.2.2.2.2.2.2.2
  refine vxn_vm (nb := nb) (names := ["java/lang/IndexOutOfBoundsException", "java/lang/RuntimeException", "java/lang/Exception"]) E.1 hlt (by decide +kernel) (by decide +kernel) (by decide +kernel) (by decide +kernel) (wl_at iobL_tbl iobL_ok E.2.2.2.2 hB.2.2.2.2.2.1) (wl_ot iobL_ok) hSG.1 hSG.2.1 hB.2.2.1 (by rw [E.2.2.1]; exact hl.1) htext hnb hnb1 (by have := hR.1; show 3 + 5 < _; omega) (by have := hR.2; omega) (by decide) (by omega) (by omega) hlk (fun H1 q9 ce h1 h2 hS hc1 hc2 hc3 => ?_)
  exact k q9 ⟨by omega, by omega⟩ H1 locs ls st ce (xbgrow hB h2 hS) hl hc1 hc2 hc3
theorem xacX (E : EV p s m args c cc nL RX0) {v1 v2 : Option Nat} {sp dp nn : Int32} {cls : String} {msg : Option String} (hR : 1 ≤ R.frames ∧ 40 ≤ R.locals) (hcat : (st.map fun v => v.category).sum ≤ 8) (d : decode cc pc = .ok (.invokestatic 286, 3))
    (hw : ∀ (H : Heap) (locs : List Loc), XB g A s ξ H locs → ∀ (u : State) (E9 : CtlPost), u.heap = H → s.vm.Alike u.vm → (∀ acts', E9 (.throwNew cls msg) acts' u) → wp (Native.java_lang_System.arraycopy.sem #[va_rf v1, .int sp, va_rf v2, .int dp, .int nn]) (fun _ _ _ _ => False) E9 e false [] u)
    (hnote : ∀ (H : Heap) (locs : List Loc) (ls : Array Slot), XB g A s ξ H locs → lv_has ls nL lv → vxn_Note p l e R s m args below meth c H locs cells slots Q (F0 m pc ls st) cls msg) : CF p l e R s m args below meth c nL cells slots (XB g A s ξ) Q pc lv (.int nn :: .int dp :: va_rf v2 :: .int sp :: va_rf v1 :: st) := by
  intro H locs ls hB hl T hT X
  obtain ⟨vm', nf, X1, h1, h2, h3, st1⟩ := acThrow X E.1 E.2.2.2.1 (E.2.2.2.2 _ q1143) (E.2.2.2.2 _ q1038) (E.2.2.2.2 _ q1037) (E.2.2.2.2 _ q131) (v1 := v1) (v2 := v2) (sp := sp) (dp := dp) (n := nn) (fun u E9 h1 h2 h3 => hw H locs hB u E9 (h1.trans hT) h2 h3) (g := F0 m pc ls (.int nn :: .int dp :: va_rf v2 :: .int sp :: va_rf v1 :: st)) rfl (by show ls.size = _; rw [E.2.2.1]; exact hl.1) (rest := st) rfl (by rw [E.2.1]; exact d) hR.1 (by
    show 2 * 0 + _ + _ ≤ _
    have hw9 : nativeFrameWords "java/lang/System" "arraycopy" 5 + 11 ≤ 32 := Nat.le_of_ble_eq_true rfl
    have := hR.2
    omega)
  obtain ⟨t, a1, b1⟩ := hnote H locs ls hB hl (T.setVm vm') nf h1 h2 h3 hT X1
  exact ⟨t, st1 t a1, b1⟩
end XC
def FTj (j : Nat) : FieldType := if j = 0 then .int else if j = 1 then .byte else if j = 2 then .boolean else if j = 3 then .long else .short
def fitT (j : Nat) (f : Nat → Int32) (sp n : Nat) : Prop := ∀ i, i < n → fits (FTj j) (.int (f (sp + i))) = true
/-- arraycopy of tapes' rows: nothing there, other sorts, places that are not there, the copy -/
def acK (g : XG) (ξ : XS) (v1 v2 : Option Nat) (sp dp n : Int32) (mc ms : Nat) (kN kT kB : Nat → Prop) (k : XS → Prop) : Prop :=
  ((v1 = none ∨ v2 = none) ∧ mkX 1 8 mc ms kN) ∨
  ∃ (a b j j2 n0 n1 : Nat) (x0 x1 : (Nat → Int32) ⊕ (Nat → Int64) ⊕ (Nat → UInt32) ⊕ (Nat → UInt64) ⊕ (Nat → Option Nat)), v1 = some a ∧ v2 = some b ∧ j < 5 ∧ j2 < 5 ∧ dE ξ a = some (.inl (xc g j, n0, x0)) ∧ dE ξ b = some (.inl (xc g j2, n1, x1)) ∧ n0 ≤ 60 ∧ n1 ≤ 60 ∧
    ((j ≠ j2 ∧ mkX 3 610 mc ms kT) ∨ (j = j2 ∧ cpk sp dp n n0 n1 = false ∧ mkX 3 610 mc ms kB) ∨
     (j = j2 ∧ cpk sp dp n n0 n1 = true ∧ ∃ f0 f1, x0 = .inl f0 ∧ x1 = .inl f1 ∧ j ≠ 3 ∧ fitT j f0 sp.toNatClampNeg n.toNatClampNeg ∧ k (sXd ξ b (.inl (xc g j2, n1, .inl (va_cpy f0 f1 sp.toNatClampNeg dp.toNatClampNeg n.toNatClampNeg))))) ∨
     (j = j2 ∧ cpk sp dp n n0 n1 = true ∧ ∃ f0 f1, x0 = .inr (.inl f0) ∧ x1 = .inr (.inl f1) ∧ j = 3 ∧ k (sXd ξ b (.inl (xc g j2, n1, .inr (.inl (va_cpy f0 f1 sp.toNatClampNeg dp.toNatClampNeg n.toNatClampNeg)))))))
theorem kn_len {j : Nat} (h : j < 5) : (Native.java_lang_System.arraycopy.kindName (FTj j)).toList.length ≤ 7 := by
  have h5 : j = 0 ∨ j = 1 ∨ j = 2 ∨ j = 3 ∨ j = 4 := by omega
  rcases h5 with rfl | rfl | rfl | rfl | rfl <;> decide +kernel
theorem i32_print (n : Int32) : (toString n).toList.length ≤ 11 := int32_print n
theorem txt_bytes {t : String} {n : Nat} (h : t.toList.length ≤ n) : (stringBytes (stringToUtf16 t)).size ≤ 4 * n := by
  have b1 := stringBytes_size_le (stringToUtf16 t)
  have b2 := utf16_size_le t
  omega
theorem not_mod {t : String} {ch : Char} {r : List Char} (h : t.toList = ch :: r) (hc : ch ≠ '\u0000') : (t == notModelled) = false := by
  rw [beq_eq_false_iff_ne]
  intro h1
  have h2 := congrArg String.toList h1
  have h4 : notModelled.toList = '\u0000' :: " a message that is not modelled".toList := by decide
  rw [h, h4] at h2
  exact hc (List.cons.inj h2).1
theorem int_print {z : Int} (h0 : 0 ≤ z) (h : z < 10 ^ 10) : (toString z).toList.length ≤ 11 := by
  cases z with
  | ofNat m =>
    have h1 : (m : Int) < 10 ^ 10 := h
    have := nat_print (n := m) (by omega)
    show (toString m).toList.length ≤ 11
    omega
  | negSucc m => exact absurd h0 (by simp [Int.negSucc_eq])
theorem cpFault {j j2 n0 n1 : Nat} {sp dp n : Int32} (hj : j < 5) (hj2 : j2 < 5) (h0 : n0 ≤ 60) (h1 : n1 ≤ 60) (h : cpk sp dp n n0 n1 = false) : ∃ what, copyFault (FTj j) (FTj j2) n0 n1 sp dp n = some what ∧ ("arraycopy: " ++ what).toList.length ≤ 150 := by
  have k1 := kn_len hj
  have k2 := kn_len hj2
  have p0 := nat_print (n := n0) (by omega)
  have p1 := nat_print (n := n1) (by omega)
  have c0 : ("arraycopy: ").toList.length = 11 := by decide
  have c1 : (toString "source index ").toList.length = 13 := by decide
  have c2 : (toString " out of bounds for ").toList.length = 19 := by decide
  have c3 : (toString "[").toList.length = 1 := by decide
  have c4 : (toString "]").toList.length = 1 := by decide
  have c5 : (toString "destination index ").toList.length = 18 := by decide
  have c6 : (toString "length ").toList.length = 7 := by decide
  have c7 : (toString " is negative").toList.length = 12 := by decide
  have c8 : (toString "last source index ").toList.length = 18 := by decide
  have c9 : (toString "last destination index ").toList.length = 23 := by decide
  have ce : (toString "").toList.length = 0 := by decide
  have q1 := int32_print sp
  have q2 := int32_print dp
  have q3 := int32_print n
  have t1 := Int32.toInt_lt sp
  have t2 := Int32.toInt_lt dp
  have t3 := Int32.toInt_lt n
  have nn : ∀ z : Int32, ¬ z < 0 → z.toInt = (z.toNatClampNeg : Int) ∧ 0 ≤ z.toInt := by
    intro z hz
    have hz0 : (0 : Int) ≤ z.toInt := by
      have := Int32.not_lt.mp hz
      simpa using Int32.le_iff_toInt_le.mp this
    refine ⟨?_, hz0⟩
    show z.toInt = ((z.toInt.toNat : Nat) : Int)
    omega
  unfold copyFault
  by_cases a1 : sp < 0
  · rw [if_pos a1]
    refine ⟨_, rfl, ?_⟩
    show ("arraycopy: " ++ (toString "source index " ++ toString sp ++ toString " out of bounds for " ++ toString (toString "" ++ toString (Native.java_lang_System.arraycopy.kindName (FTj j)) ++ toString "[" ++ toString n0 ++ toString "]"))).toList.length ≤ 150
    have r1 : (toString (toString "" ++ toString (Native.java_lang_System.arraycopy.kindName (FTj j)) ++ toString "[" ++ toString n0 ++ toString "]")).toList.length ≤ 30 := by
      show (toString "" ++ toString (Native.java_lang_System.arraycopy.kindName (FTj j)) ++ toString "[" ++ toString n0 ++ toString "]").toList.length ≤ 30
      simp only [String.toList_append, List.length_append]
      have : (toString (Native.java_lang_System.arraycopy.kindName (FTj j))).toList.length ≤ 7 := k1
      omega
    simp only [String.toList_append, List.length_append] at r1 ⊢
    omega
  rw [if_neg a1]
  by_cases a2 : dp < 0
  · rw [if_pos a2]
    refine ⟨_, rfl, ?_⟩
    show ("arraycopy: " ++ (toString "destination index " ++ toString dp ++ toString " out of bounds for " ++ toString (toString "" ++ toString (Native.java_lang_System.arraycopy.kindName (FTj j2)) ++ toString "[" ++ toString n1 ++ toString "]"))).toList.length ≤ 150
    have r1 : (toString (toString "" ++ toString (Native.java_lang_System.arraycopy.kindName (FTj j2)) ++ toString "[" ++ toString n1 ++ toString "]")).toList.length ≤ 30 := by
      show (toString "" ++ toString (Native.java_lang_System.arraycopy.kindName (FTj j2)) ++ toString "[" ++ toString n1 ++ toString "]").toList.length ≤ 30
      simp only [String.toList_append, List.length_append]
      have : (toString (Native.java_lang_System.arraycopy.kindName (FTj j2))).toList.length ≤ 7 := k2
      omega
    simp only [String.toList_append, List.length_append] at r1 ⊢
    omega
  rw [if_neg a2]
  by_cases a3 : n < 0
  · rw [if_pos a3]
    refine ⟨_, rfl, ?_⟩
    show ("arraycopy: " ++ (toString "length " ++ toString n ++ toString " is negative")).toList.length ≤ 150
    simp only [String.toList_append, List.length_append]
    omega
  rw [if_neg a3]
  obtain ⟨e1, f1⟩ := nn sp a1
  obtain ⟨e2, f2⟩ := nn dp a2
  obtain ⟨e3, f3⟩ := nn n a3
  by_cases a4 : sp.toInt + n.toInt > (n0 : Int)
  · rw [if_pos a4]
    refine ⟨_, rfl, ?_⟩
    show ("arraycopy: " ++ (toString "last source index " ++ toString (sp.toInt + n.toInt) ++ toString " out of bounds for " ++ toString (toString "" ++ toString (Native.java_lang_System.arraycopy.kindName (FTj j)) ++ toString "[" ++ toString n0 ++ toString "]"))).toList.length ≤ 150
    have r1 : (toString (toString "" ++ toString (Native.java_lang_System.arraycopy.kindName (FTj j)) ++ toString "[" ++ toString n0 ++ toString "]")).toList.length ≤ 30 := by
      show (toString "" ++ toString (Native.java_lang_System.arraycopy.kindName (FTj j)) ++ toString "[" ++ toString n0 ++ toString "]").toList.length ≤ 30
      simp only [String.toList_append, List.length_append]
      have : (toString (Native.java_lang_System.arraycopy.kindName (FTj j))).toList.length ≤ 7 := k1
      omega
    have r2 := int_print (z := sp.toInt + n.toInt) (by omega) (by omega)
    simp only [String.toList_append, List.length_append] at r1 ⊢
    omega
  rw [if_neg a4]
  by_cases a5 : dp.toInt + n.toInt > (n1 : Int)
  · rw [if_pos a5]
    refine ⟨_, rfl, ?_⟩
    show ("arraycopy: " ++ (toString "last destination index " ++ toString (dp.toInt + n.toInt) ++ toString " out of bounds for " ++ toString (toString "" ++ toString (Native.java_lang_System.arraycopy.kindName (FTj j2)) ++ toString "[" ++ toString n1 ++ toString "]"))).toList.length ≤ 150
    have r1 : (toString (toString "" ++ toString (Native.java_lang_System.arraycopy.kindName (FTj j2)) ++ toString "[" ++ toString n1 ++ toString "]")).toList.length ≤ 30 := by
      show (toString "" ++ toString (Native.java_lang_System.arraycopy.kindName (FTj j2)) ++ toString "[" ++ toString n1 ++ toString "]").toList.length ≤ 30
      simp only [String.toList_append, List.length_append]
      have : (toString (Native.java_lang_System.arraycopy.kindName (FTj j2))).toList.length ≤ 7 := k2
      omega
    have r2 := int_print (z := dp.toInt + n.toInt) (by omega) (by omega)
    simp only [String.toList_append, List.length_append] at r1 ⊢
    omega
  exfalso
  have hc : cpk sp dp n n0 n1 = true := by
    simp only [cpk, Bool.and_eq_true, decide_eq_true_eq]
    exact ⟨a1, a2, a3, by omega, by omega⟩
  rw [hc] at h
  cases h
theorem acTypes {j j2 : Nat} (hj : j < 5) (hj2 : j2 < 5) (hne : j ≠ j2) : ((refKind (FTj j) != refKind (FTj j2)) || (!refKind (FTj j) && FTj j != FTj j2)) = true := by
  have h5 : j = 0 ∨ j = 1 ∨ j = 2 ∨ j = 3 ∨ j = 4 := by omega
  have h6 : j2 = 0 ∨ j2 = 1 ∨ j2 = 2 ∨ j2 = 3 ∨ j2 = 4 := by omega
  rcases h5 with rfl | rfl | rfl | rfl | rfl <;> rcases h6 with rfl | rfl | rfl | rfl | rfl <;> first | exact absurd rfl hne | decide +kernel
theorem acTypes0 {j : Nat} (hj : j < 5) : ((refKind (FTj j) != refKind (FTj j)) || (!refKind (FTj j) && FTj j != FTj j)) = false := by
  have h5 : j = 0 ∨ j = 1 ∨ j = 2 ∨ j = 3 ∨ j = 4 := by omega
  rcases h5 with rfl | rfl | rfl | rfl | rfl <;> decide +kernel
theorem xtyj {g : XG} {j : Nat} (hj : j < 5) : (xty g)[j]? = some (xc g j, FTj j) := by
  have h5 : j = 0 ∨ j = 1 ∨ j = 2 ∨ j = 3 ∨ j = 4 := by omega
  rcases h5 with rfl | rfl | rfl | rfl | rfl <;> rfl
theorem acText {j j2 : Nat} (hj : j < 5) (hj2 : j2 < 5) : (toString "arraycopy: type mismatch: can not copy " ++ toString (Native.java_lang_System.arraycopy.kindName (FTj j)) ++ toString "[] into " ++ toString (Native.java_lang_System.arraycopy.kindName (FTj j2)) ++ toString "[]").toList.length ≤ 150 ∧ ((toString "arraycopy: type mismatch: can not copy " ++ toString (Native.java_lang_System.arraycopy.kindName (FTj j)) ++ toString "[] into " ++ toString (Native.java_lang_System.arraycopy.kindName (FTj j2)) ++ toString "[]") == notModelled) = false := by
  have h5 : j = 0 ∨ j = 1 ∨ j = 2 ∨ j = 3 ∨ j = 4 := by omega
  have h6 : j2 = 0 ∨ j2 = 1 ∨ j2 = 2 ∨ j2 = 3 ∨ j2 = 4 := by omega
  rcases h5 with rfl | rfl | rfl | rfl | rfl <;> rcases h6 with rfl | rfl | rfl | rfl | rfl <;> exact ⟨by decide +kernel, by decide +kernel⟩
theorem prm9 {j : Nat} (hj : j < 5) : refKind (FTj j) = false := by
  have h5 : j = 0 ∨ j = 1 ∨ j = 2 ∨ j = 3 ∨ j = 4 := by omega
  rcases h5 with rfl | rfl | rfl | rfl | rfl <;> rfl
theorem vp_cell_sz9 (cA : ClassId) (n : Nat) (x : (Nat → Int32) ⊕ (Nat → Int64) ⊕ (Nat → UInt32) ⊕ (Nat → UInt64) ⊕ (Nat → Option Nat)) : (vp_cell cA (n, x)).slots.size = n := by
  obtain f | f | f | f | f := x <;> exact arrV_size _ _ _
theorem acMod (what : String) : (("arraycopy: " ++ what) == notModelled) = false := by
  refine not_mod (ch := 'a') (r := "rraycopy: ".toList ++ what.toList) ?_ (by decide)
  rw [String.toList_append]
  rfl
section XC
variable {p : Program} {l : Launch} {e : Env} {R : Room} {s : State} {m : MethodId} {args : Array Value} {below : List Frame} {meth : Method} {c : Code} {nL cells slots : Nat} {A : Nat → Prop} {g : XG} {ξ : XS} {Q : State → Prop} {pc n : Nat} {lv : List (Nat × Value)} {st : List Value} {cc : ByteArray} {ρ : Type} {res : ρ}
theorem xac (E : EV p s m args c cc nL RX0) (hlt : l.stackTraces = false) (hlk : meth.locks = false) {v1 v2 : Option Nat} {sp dp nn : Int32} {mc ms : Nat} {kN kT kB : Nat → Prop} {kk : XS → Prop} (hb : cells + mc ≤ R.cells ∧ slots + ms ≤ R.slots) (hR : 10 ≤ R.frames ∧ 10248 ≤ R.locals) (hcat : (st.map fun v => v.category).sum ≤ 8) (d : decode cc pc = .ok (.invokestatic 286, 3)) (h : acK g ξ v1 v2 sp dp nn mc ms kN kT kB kk) (hn : pc + 3 = n)
    (xN : ∀ q, (cells + 1 + (mc - 1) ≤ R.cells ∧ slots + 8 + (ms - 8) ≤ R.slots) → kN q → CX p l e R s m args below meth c nL (cells + 1) (slots + 8) (XB g A s ξ) Q pc lv "java/lang/NullPointerException" q)
    (xT : ∀ q, (cells + 3 + (mc - 3) ≤ R.cells ∧ slots + 610 + (ms - 610) ≤ R.slots) → kT q → CX p l e R s m args below meth c nL (cells + 3) (slots + 610) (XB g A s ξ) Q pc lv "java/lang/ArrayStoreException" q)
    (xP : ∀ q, (cells + 3 + (mc - 3) ≤ R.cells ∧ slots + 610 + (ms - 610) ≤ R.slots) → kB q → CX p l e R s m args below meth c nL (cells + 3) (slots + 610) (XB g A s ξ) Q pc lv "java/lang/ArrayIndexOutOfBoundsException" q)
    (k : ∀ ξ1 : XS, kk ξ1 → CF p l e R s m args below meth c nL cells slots (XB g A s ξ1) Q n lv st) : CF p l e R s m args below meth c nL cells slots (XB g A s ξ) Q pc lv (.int nn :: .int dp :: va_rf v2 :: .int sp :: va_rf v1 :: st) := by
  subst hn
  have hR1 : 1 ≤ R.frames ∧ 40 ≤ R.locals := ⟨by omega, by omega⟩
  rcases h with ⟨hnone, h⟩ | ⟨a, b, j, j2, n0, n1, x0, x1, rfl, rfl, hj, hj2, he0, he1, hl0, hl1, h⟩
  · refine xacX E hR1 hcat d (fun H locs hB u E9 h1 h2 h3 => ?_) (fun H locs ls hB hl => cxn_npe E hlt hlk hb h.1 h.2.1 hR hcat (fun q hq => xN q hq (h.2.2 q)) hB hl)
    cases v1 with
    | none => exact W.arraycopy_null1 sp dp nn _ (h3 _)
    | some a =>
      cases v2 with
      | none => exact W.arraycopy_null2 a sp dp nn (h3 _)
      | some b => rcases hnone with h9 | h9 <;> cases h9
  · obtain ⟨q0, hq0⟩ := dE_at (g := g) he0
    obtain ⟨q1, hq1⟩ := dE_at (g := g) he1
    have hat : ∀ (H : Heap) (locs : List Loc), XB g A s ξ H locs → ∀ u : State, u.heap = H → s.vm.Alike u.vm → ∃ (ks kd : Class) (sC dC : ClassId), u.heap[a]? = some (vp_cell (xc g j) (n0, x0)) ∧ u.heap[b]? = some (vp_cell (xc g j2) (n1, x1)) ∧ u.vm.classes[(vp_cell (xc g j) (n0, x0)).cls]? = some ks ∧ u.vm.classes[(vp_cell (xc g j2) (n1, x1)).cls]? = some kd ∧ ks.kind = .array sC (FTj j) ∧ kd.kind = .array dC (FTj j2) := by
      intro H locs hB u hu hal
      obtain ⟨-, k0, hk0, cm0, hkk0⟩ := (hB.2.2.2.1.2 j _ (xtyj hj)).1 n0 (fun _ => .null)
      obtain ⟨-, k1, hk1, cm1, hkk1⟩ := (hB.2.2.2.1.2 j2 _ (xtyj hj2)).1 n1 (fun _ => .null)
      obtain ⟨k0', e0, e0'⟩ := hal.2.2 _ _ hk0
      obtain ⟨k1', e1, e1'⟩ := hal.2.2 _ _ hk1
      refine ⟨k0', k1', cm0, cm1, by rw [hu]; exact hB.1 q0 _ hq0, by rw [hu]; exact hB.1 q1 _ hq1, ?_, ?_, by rw [e0']; exact hkk0, by rw [e1']; exact hkk1⟩
      · rw [vp_cell_cls9]; exact e0
      · rw [vp_cell_cls9]; exact e1
    rcases h with ⟨hne, h⟩ | ⟨rfl, hc, h⟩ | ⟨rfl, hc, f0, f1, rfl, rfl, h3j, hfit, h⟩ | ⟨rfl, hc, f0, f1, rfl, rfl, rfl, h⟩
    · refine xacX (v1 := some a) (v2 := some b) E hR1 hcat d (fun H locs hB u E9 h1 h2 h3 => ?_) (fun H locs ls hB hl => cxn_ase E hlt hlk (nb := 600) (acText hj hj2).2 (txt_bytes (acText hj hj2).1) (by decide) hb h.1 h.2.1 hR hcat (fun q hq => xT q hq (h.2.2 q)) hB hl)
      obtain ⟨ks, kd, sC, dC, g1, g2, g3, g4, g5, g6⟩ := hat H locs hB u h1 h2
      exact W.arraycopy_types g1 g2 (fun k9 e9 => by have := vp_cell_vm9 (xc g j) (n0, x0); rw [e9] at this; cases this) (fun k9 e9 => by have := vp_cell_vm9 (xc g j2) (n1, x1); rw [e9] at this; cases this) g3 g4 g5 g6 (acTypes hj hj2 hne) (h3 _)
    · obtain ⟨what, hw1, hw2⟩ := cpFault hj hj2 hl0 hl1 hc
      refine xacX (v1 := some a) (v2 := some b) E hR1 hcat d (fun H locs hB u E9 h1 h2 h3 => ?_) (fun H locs ls hB hl => cxn_iob E hlt hlk (nb := 600) (acMod what) (txt_bytes hw2) (by decide) hb h.1 h.2.1 hR hcat (fun q hq => xP q hq (h.2.2 q)) hB hl)
      obtain ⟨ks, kd, sC, dC, g1, g2, g3, g4, g5, g6⟩ := hat H locs hB u h1 h2
      have z0 : (vp_cell (xc g j) (n0, x0)).slots.size = n0 := vp_cell_sz9 _ _ _
      have z1 : (vp_cell (xc g j) (n1, x1)).slots.size = n1 := vp_cell_sz9 _ _ _
      exact W.arraycopy_bounds g1 g2 (fun k9 e9 => by have := vp_cell_vm9 (xc g j) (n0, x0); rw [e9] at this; cases this) (fun k9 e9 => by have := vp_cell_vm9 (xc g j) (n1, x1); rw [e9] at this; cases this) g3 g4 g5 g6 (acTypes0 hj) (by rw [z0, z1]; exact hw1) (h3 _)
    · have hcp := cpk_at hc
      intro H locs ls hB hl
      refine va_copyi (ty := FTj j) E.1 E.2.1 (E.2.2.1.trans hl.1.symm) E.2.2.2.1 (E.2.2.2.2 _ q1143) (E.2.2.2.2 _ q1038) (E.2.2.2.2 _ q1037) (E.2.2.2.2 _ q131) hB.2.2.2.1 hB.1 hB.2.1 hB.2.2.1 q0 q1 j j hq0 hq1 (xtyj hj) (xtyj hj) (prm9 hj) hcp.1 hcp.2.1 hcp.2.2.1 hcp.2.2.2.1 hcp.2.2.2.2 hfit hR1.1 (Nat.le_trans (Nat.add_le_add hcat (Nat.le_of_ble_eq_true (m := 32) rfl)) hR1.2) d (fun H1 locs1 hP hD hS => ?_)
      rw [xcs_set hB.2.1 he1 hq1] at hP hD
      exact k _ h H1 locs1 ls ⟨hP, hD, hS, hB.2.2.2⟩ hl
    · have hcp := cpk_at hc
      intro H locs ls hB hl
      refine va_copyl (ty := .long) E.1 E.2.1 (E.2.2.1.trans hl.1.symm) E.2.2.2.1 (E.2.2.2.2 _ q1143) (E.2.2.2.2 _ q1038) (E.2.2.2.2 _ q1037) (E.2.2.2.2 _ q131) hB.2.2.2.1 hB.1 hB.2.1 hB.2.2.1 q0 q1 3 3 hq0 hq1 rfl rfl rfl hcp.1 hcp.2.1 hcp.2.2.1 hcp.2.2.2.1 hcp.2.2.2.2 (fun _ _ => rfl) hR1.1 (Nat.le_trans (Nat.add_le_add hcat (Nat.le_of_ble_eq_true (m := 32) rfl)) hR1.2) d (fun H1 locs1 hP hD hS => ?_)
      rw [xcs_set hB.2.1 he1 hq1] at hP hD
      exact k _ h H1 locs1 ls ⟨hP, hD, hS, hB.2.2.2⟩ hl
end XC
