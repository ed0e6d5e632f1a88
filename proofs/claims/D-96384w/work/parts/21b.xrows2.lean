/-! MORE ROWS over the world of HatsDecide: printed by gen/xrows2.py -/
set_option maxRecDepth 100000
def XQr (g : XG) (ξ : XS) (sz : Nat) (v : Nat) (ξ1 : XS) : Array Value → State → Outcome → State → Prop := va_Qq (fun (r : Option Nat) (u : XS) => r = some v ∧ u = ξ1) (XBt g (va_A (xcs g ξ) sz)) (va_A (xcs g ξ) sz)
def MetXr (l : Launch) (g : XG) (y : MethodName) (ws : List Cond) (rm : Room) (As : List Value) (ξ : XS) (v : Nat) (ξ1 : XS) (mc ms : Nat) : Prop := ∀ sz, Met l y ws rm (XPc g ξ As sz) (XQr g ξ sz v ξ1) mc ms (va_A (xcs g ξ) sz)
/-- a made array of references -/
def dAq (ξ : XS) (a : Nat) (c : ClassId) : Option (Nat × (Nat → Option Nat)) := match dE ξ a with
  | some (.inl (cA, n, .inr (.inr (.inr (.inr f))))) => if cA = c then some (n, f) else none
  | _ => none
theorem dAq_at {ξ : XS} {a : Nat} {c : ClassId} {n : Nat} {f : Nat → Option Nat} (h : dAq ξ a c = some (n, f)) : dE ξ a = some (.inl (c, n, .inr (.inr (.inr (.inr f))))) := by
  unfold dAq at h
  split at h
  · rename_i cA n' f' he
    split at h
    · rename_i hc
      cases h
      rw [he, hc]
    · cases h
  · cases h
theorem dCi_at {ξ : XS} {a ci : Nat} (h : dCi ξ a = some ci) : ∃ fs, dE ξ a = some (.inr (ci, fs)) := by
  unfold dCi at h
  split at h
  · rename_i c' fs he
    cases h
    exact ⟨fs, he⟩
  · cases h
theorem xrecv_d {g : XG} {ξ : XS} {a ci : Nat} {q : vw_C} (h : dCi ξ a = some ci) (hq : vwCl[ci]? = some q) : xrecv g ξ q.1 a := by
  obtain ⟨fs, he⟩ := dCi_at h
  obtain ⟨q0, h0⟩ := dE_at (g := g) he
  exact ⟨q0, ci, fs, q, h0, hq, rfl⟩
/-- a reference field, not null, of a made object whose class is one of fam -/
def dRs (ξ : XS) (a : Nat) (fam : List Nat) (k : Nat) : Option Nat := match dE ξ a with
  | some (.inr (ci, fs)) => if ci ∈ fam then (match fs[k]? with | some (.ref v) => some v | _ => none) else none
  | _ => none
theorem dRs_at {ξ : XS} {a : Nat} {fam : List Nat} {k : Nat} {v : Nat} (h : dRs ξ a fam k = some v) : ∃ ci fs, dE ξ a = some (.inr (ci, fs)) ∧ ci ∈ fam ∧ fs[k]? = some (.ref v) := by
  unfold dRs at h
  split at h
  · rename_i ci fs he
    split at h
    · rename_i hc
      split at h
      · rename_i w hw
        cases h
        exact ⟨ci, fs, he, hc, hw⟩
      · cases h
    · cases h
  · cases h
def isC (ξ : XS) (a lo hi : Nat) : Bool := match dCi ξ a with
  | some ci => decide (lo ≤ ci ∧ ci ≤ hi)
  | none => false
theorem isC_at {ξ : XS} {a lo hi : Nat} (h : isC ξ a lo hi = true) : ∃ ci, dCi ξ a = some ci ∧ lo ≤ ci ∧ ci ≤ hi := by
  unfold isC at h
  split at h
  · rename_i ci hc
    exact ⟨ci, hc, of_decide_eq_true h⟩
  · cases h
def isH (ξ : XS) (a : Nat) (fam : List Nat) : Bool := match dCi ξ a with
  | some ci => decide (ci ∈ fam)
  | none => false
theorem isH_at {ξ : XS} {a : Nat} {fam : List Nat} (h : isH ξ a fam = true) : ∃ ci, dCi ξ a = some ci ∧ ci ∈ fam := by
  unfold isH at h
  split at h
  · rename_i ci hc
    exact ⟨ci, hc, of_decide_eq_true h⟩
  · cases h
theorem vwAt {ci : Nat} (h : ci < 21) : ∃ q, vwCl[ci]? = some q := ⟨_, List.getElem?_eq_getElem h⟩
theorem lw_U {own : String} {idx : Nat} {C owner : String} {x y : MethodName} {b : ByteArray} {L : Nat} {r : Option FieldType} (h1 : Cond.methodLink own idx x ∈ lw_all) (h2 : Cond.sameMethod x.cls owner x.name x.desc ∈ lw_all) (h3 : Cond.selects C x y ∈ lw_all) (h4 : Cond.instanceMethod y ∈ lw_all) (h5 : Cond.initialized y.cls ∈ lw_all) (h6 : Cond.code y b L r ∈ lw_all) : GoodIn lw_all (va_wsU own idx C owner x y (ws_ y b L r)) := by
  refine lw_app ?_ (lw_meth h6)
  intro w hw
  simp only [List.mem_cons, List.not_mem_nil, or_false] at hw
  rcases hw with e | e | e | e | e
  · rw [e]; exact h1
  · rw [e]; exact h2
  · rw [e]; exact h3
  · rw [e]; exact h4
  · rw [e]; exact h5
theorem lw_O {own : String} {idx : Nat} {C owner : String} {x y : MethodName} {b : ByteArray} {L : Nat} {r : Option FieldType} (h1 : Cond.methodLink own idx x ∈ lw_all) (h2 : Cond.sameMethod x.cls owner x.name x.desc ∈ lw_all) (h9 : Cond.instanceMethod ⟨owner, x.name, x.desc⟩ ∈ lw_all) (h3 : Cond.selects C x y ∈ lw_all) (h4 : Cond.instanceMethod y ∈ lw_all) (h5 : Cond.initialized y.cls ∈ lw_all) (h6 : Cond.code y b L r ∈ lw_all) : GoodIn lw_all (va_wsO own idx C owner x y (ws_ y b L r)) := by
  refine lw_app ?_ (lw_meth h6)
  intro w hw
  simp only [List.mem_cons, List.not_mem_nil, or_false] at hw
  rcases hw with e | e | e | e | e | e
  · rw [e]; exact h1
  · rw [e]; exact h2
  · rw [e]; exact h9
  · rw [e]; exact h3
  · rw [e]; exact h4
  · rw [e]; exact h5
theorem lw_SU {own : String} {idx : Nat} {y : MethodName} {b : ByteArray} {L : Nat} {r : Option FieldType} (h1 : Cond.methodLink own idx y ∈ lw_all) (h2 : Cond.sameMethod y.cls y.cls y.name y.desc ∈ lw_all) (h3 : Cond.superclass own y.cls ∈ lw_all) (h4 : Cond.instanceMethod y ∈ lw_all) (h5 : Cond.initialized y.cls ∈ lw_all) (h6 : Cond.code y b L r ∈ lw_all) : GoodIn lw_all (va_wsSU own idx y (ws_ y b L r)) := by
  refine lw_app ?_ (lw_meth h6)
  intro w hw
  simp only [List.mem_cons, List.not_mem_nil, or_false] at hw
  rcases hw with e | e | e | e | e
  · rw [e]; exact h1
  · rw [e]; exact h2
  · rw [e]; exact h3
  · rw [e]; exact h4
  · rw [e]; exact h5
section XC
variable {p : Program} {l : Launch} {e : Env} {R : Room} {s : State} {m : MethodId} {args : Array Value} {below : List Frame} {meth : Method} {c : Code} {nL cells slots : Nat} {A : Nat → Prop} {g : XG} {ξ : XS} {Q : State → Prop} {pc n : Nat} {lv : List (Nat × Value)} {st : List Value} {cc : ByteArray} {ρ : Type} {res : ρ}
theorem cf_null {B : Heap → List Loc → Prop} {own : String} (E : EV p s m args c cc nL own) (d : decode cc pc = .ok (.aconst_null, 1)) (hn : pc + 1 = n) (k : CF p l e R s m args below meth c nL cells slots B Q n lv (.null :: st)) : CF p l e R s m args below meth c nL cells slots B Q pc lv st := by
  subst hn
  exact fun H locs ls hB hl => lv_null E.1 E.2.1 d (k H locs ls hB hl)
theorem xdaldq {own : String} (E : EV p s m args c cc nL own) {i : Int32} {a : Nat} {kk : Nat → (Nat → Option Nat) → Nat → Option ρ} (d : decode cc pc = .ok (.aaload, 1)) (h : bnd (dAq ξ a (xc g 7)) (fun n f => if inb i n = true then bno (f i.toNatClampNeg) (kk n f) else none) = some res) (hn : pc + 1 = n) (k : ∀ n9 f b, kk n9 f b = some res → CF p l e R s m args below meth c nL cells slots (XB g A s ξ) Q n lv (.ref b :: st)) : CF p l e R s m args below meth c nL cells slots (XB g A s ξ) Q pc lv (.int i :: .ref a :: st) := by
  subst hn
  obtain ⟨n9, f, hd, h⟩ := bnd_some h
  by_cases hi : inb i n9 = true
  · have h : (if inb i n9 = true then bno (f i.toNatClampNeg) (kk n9 f) else none) = some res := h
    rw [if_pos hi] at h
    obtain ⟨b, hb, h⟩ := bno_some h
    obtain ⟨q0, hq⟩ := dE_at (g := g) (dAq_at hd)
    intro H locs ls hB hl
    refine va_aldq E.1 E.2.1 hB.2.2.2.1 hB.1 q0 7 hq rfl (inb_in hi) d ?_
    rw [hb]
    exact k n9 f b h H locs ls hB hl
  · have h : (if inb i n9 = true then bno (f i.toNatClampNeg) (kk n9 f) else none) = some res := h
    rw [if_neg hi] at h; cases h
/-- super.m(..) where m stands higher up: own's superclass is U, m is W's, U's superclass W -/
theorem xrunSI {y x : MethodName} {bytes : ByteArray} {maxL mc ms na index : Nat} {ret : Option FieldType} {ws : List Cond} {rm : Room} {Pc : Array Value → State → Prop} {Qc : Array Value → State → Outcome → State → Prop} {free : Addr → Prop} {own C : String} {cC : ClassId} {b : Addr} {As rest : List Value} {f9 : JFrame} {H : Heap} {locs : List Loc}
    (hat : ClassAt s C cC) (S : CallFix p m c cc nL s args lw_all own) (hM : Met l y ws rm Pc Qc mc ms free)
    (hrc : rm.cells = mc) (hrs : rm.slots = ms) (hfr : rm.frames + 1 ≤ R.frames) (hlo : 8 + (maxL + 11) + rm.locals ≤ R.locals) (hws : ∀ w ∈ ws, ∀ (a' : Array Value) (U : State), s.WarmedH U.vm → w.before a' U = true) (hcw : Cond.code y bytes maxL ret ∈ ws)
    (hl1 : (Cond.methodLink own index x).before args s = true) (hl2 : (Cond.sameMethod x.cls y.cls x.name x.desc).before args s = true) (hl3 : (Cond.superclass own x.cls).before args s = true) (hl4 : (Cond.superclass x.cls y.cls).before args s = true) (hin : (Cond.instanceMethod y).before args s = true) (hini : (Cond.initialized y.cls).before args s = true) (hcode : (Cond.code y bytes maxL ret).before args s = true) (hno : y.name ≠ "<init>") (hxy : y.name = x.name ∧ y.desc = x.desc) (hlen : ∀ sig, parseMethodDescriptor y.desc = some sig → na = sig.parameters.length)
    (hp : PreV s H C b Pc As)
    (hg : f9.method = m) (hn : As.length = na) (hsize : f9.locals.size = nL) (hstack : f9.stack = As.reverse ++ .ref b :: rest) (hW : 2 * f9.monitorRoom + (rest.map fun v => v.category).sum ≤ 8) (hdg : decode cc f9.pc = .ok (.invokespecial index, 3)) (hf : cells + mc ≤ R.cells ∧ slots + ms ≤ R.slots) :
    va_Run p l e R s m args below meth c H locs cells slots mc ms f9 rest (Qc (Value.ref b :: As).toArray) (free) := by
  have hK : Back l R p e below s args y 3 8 (PreOf R mc ms Pc) (PostOf Qc mc ms free) := back_of (bytes := bytes) (maxL := maxL) (ret := ret) hM hp.1 hrc hrs hfr hlo hws hcw (fun a' U hW => word_at hW (Or.inl (by first | rfl | simp [Cond.onTables, Cond.keeps, Cond.steady])) hini)
  obtain ⟨hx, hb, hml, ho, -⟩ := S
  obtain ⟨-, ⟨cellB, hcB, hoB, hclB⟩, hPc⟩ := hp
  obtain ⟨hfc, kB, hkB, -⟩ := hat
  cases hfc.symm.trans hclB
  intro T hT X
  obtain ⟨mk, methM, hnamed, hmethM, hstM, habM⟩ := Cond.instanceMethod_spec hin
  obtain ⟨methM', cM, hmethM', -, -, -, -, -, -, hsigM⟩ := Cond.code_spec hnamed hcode
  cases hmethM.symm.trans hmethM'
  obtain ⟨ps, dk, kp, hps, hdk, hkp, hsuper, -, -, hnid⟩ := Cond.superclass_spec ho hl3
  obtain ⟨ps2, dk2, kp2, hps2, hdk2, hkp2, hsuper2, -, -, -⟩ := Cond.superclass_spec hps hl4
  have hnm : s.methodNamed? ⟨y.cls, x.name, x.desc⟩ = some mk := by
    rw [← hxy.1, ← hxy.2]
    exact hnamed
  have hpm : ps2 = mk.cls := Option.some.inj (hps2.symm.trans (findClass_of_methodNamed hnamed))
  have hsub : s.vm.isSubclass ps mk.cls = true := by
    have hpos : 0 < s.vm.classes.size := Nat.lt_of_le_of_lt (Nat.zero_le _) (Array.getElem?_eq_some_iff.mp hkp).1
    obtain ⟨z, hz⟩ : ∃ z, s.vm.classes.size = z + 1 := ⟨s.vm.classes.size - 1, by omega⟩
    rw [← hpm]
    simp [Vm.isSubclass, Vm.isSubclassAux, hz, hdk2, hsuper2]
  obtain ⟨vm₁, X₁, hstep₁⟩ := X.invokespecialUp hx ho hl1 hl2 hnm hmethM hstM habM (by rw [← hxy.1]; exact hno) hdk hnid hps hsuper hsub (a := b) (cell := cellB) (by rw [hT]; exact hcB)
    (fun z h => by rw [h] at hoB; cases hoB) hkB (g := f9) hg (argsL := As) (rest := rest) (hn.trans (hlen _ hsigM)) hstack (by rw [hb]; exact hdg)
  obtain ⟨v, B, X', hpost, hsteps⟩ := hK m meth c ⟨T.setVm vm₁, locs, cells, slots⟩ { f9 with stack := rest } (.invokespecial index) mk (Value.ref b :: As).toArray X₁ hg (hsize.trans hml.symm) (by rw [hb]; exact hdg) hW (X₁.named hnamed) ⟨hf.1, hf.2, hPc (T.setVm vm₁) hT X₁.warmed⟩
  obtain ⟨g', mk', t, L, e1, e2, hq, h1, hL, h2, h3⟩ := hpost
  obtain ⟨U', l2, c2, s2⟩ := B
  dsimp only [Pt.U, Pt.locs, Pt.cells, Pt.slots] at X' e1 e2 h1 h2 h3 hsteps
  subst h1; subst h2; subst h3
  exact ⟨v, (T.setVm vm₁).calling g' mk' (Value.ref b :: As).toArray, t, U', L, hT, X', hL, e1, e2, hq, fun target h => hstep₁ _ (by rw [doInvoke_state]; exact hsteps.trans h)⟩
theorem xrecvT {g : XG} {ξ : XS} {τ : Nat} (hτ : τ < 3) : xrecv g ξ RX1 (xa g (200 + 10 * τ)) := by
  rcases t3 hτ with rfl | rfl | rfl
  · exact ⟨25, 2, _, _, rfl, rfl, rfl⟩
  · exact ⟨28, 2, _, _, rfl, rfl, rfl⟩
  · exact ⟨31, 2, _, _, rfl, rfl, rfl⟩
theorem xdald_i {own : String} (E : EV p s m args c cc nL own) {i : Int32} {a : Nat} {kk : Nat → (Nat → Int32) → Option ρ} (d : decode cc pc = .ok (.iaload, 1)) (h : bnd (dA ξ a (xc g 0)) (fun n f => if inb i n = true then kk n f else none) = some res) (hn : pc + 1 = n) (k : ∀ n9 f, kk n9 f = some res → CF p l e R s m args below meth c nL cells slots (XB g A s ξ) Q n lv (.int (f i.toNatClampNeg) :: st)) : CF p l e R s m args below meth c nL cells slots (XB g A s ξ) Q pc lv (.int i :: .ref a :: st) := by
  subst hn
  obtain ⟨n9, f, hd, h⟩ := bnd_some h
  by_cases hi : inb i n9 = true
  · have h : (if inb i n9 = true then kk n9 f else none) = some res := h
    rw [if_pos hi] at h
    obtain ⟨q0, hq⟩ := dE_at (g := g) (dA_at hd)
    exact fun H locs ls hB hl => va_iald E.1 E.2.1 hB.2.2.2.1 hB.1 q0 0 hq rfl (inb_in hi) d (k n9 f h H locs ls hB hl)
  · have h : (if inb i n9 = true then kk n9 f else none) = some res := h
    rw [if_neg hi] at h; cases h
theorem xdald_b {own : String} (E : EV p s m args c cc nL own) {i : Int32} {a : Nat} {kk : Nat → (Nat → Int32) → Option ρ} (d : decode cc pc = .ok (.baload, 1)) (h : bnd (dA ξ a (xc g 1)) (fun n f => if inb i n = true then kk n f else none) = some res) (hn : pc + 1 = n) (k : ∀ n9 f, kk n9 f = some res → CF p l e R s m args below meth c nL cells slots (XB g A s ξ) Q n lv (.int (f i.toNatClampNeg) :: st)) : CF p l e R s m args below meth c nL cells slots (XB g A s ξ) Q pc lv (.int i :: .ref a :: st) := by
  subst hn
  obtain ⟨n9, f, hd, h⟩ := bnd_some h
  by_cases hi : inb i n9 = true
  · have h : (if inb i n9 = true then kk n9 f else none) = some res := h
    rw [if_pos hi] at h
    obtain ⟨q0, hq⟩ := dE_at (g := g) (dA_at hd)
    exact fun H locs ls hB hl => va_bald E.1 E.2.1 hB.2.2.2.1 hB.1 q0 1 hq rfl (inb_in hi) d (k n9 f h H locs ls hB hl)
  · have h : (if inb i n9 = true then kk n9 f else none) = some res := h
    rw [if_neg hi] at h; cases h
theorem xcallV0_r {own : String} (E : EV p s m args c cc nL own) {y : MethodName} {bytes : ByteArray} {maxL idx na : Nat} {ret : Option FieldType} {rm : Room} {stk : List Value} {C : String} {b : Nat} {o : Option (Nat × XS)} {kk : Nat → XS → Option ρ} (As : List Value) (hM : ∀ v ξ1, o = some (v, ξ1) → MetXr l g y (ws_ y bytes maxL ret) rm (.ref b :: As) ξ v ξ1 0 0)
    (hG : GoodIn lw_all (wsV own idx C y (ws_ y bytes maxL ret))) (hd : y.cls = C ∧ y.cls ≠ "java/lang/invoke/MethodHandle" ∧ y.cls ≠ "java/lang/invoke/VarHandle" ∧ (parseMethodDescriptor y.desc).map (fun d => d.parameters.length) = some na) (hrv : xrecv g ξ C b) (hrc : rm.cells = 0) (hrs : rm.slots = 0) (hR : rm.frames + 1 ≤ R.frames ∧ 8 + (maxL + 11) + rm.locals ≤ R.locals) (hna : As.length = na) (hstk : stk = As.reverse ++ .ref b :: st) (hcat : (st.map fun v => v.category).sum ≤ 8) (hf : cells ≤ R.cells ∧ slots ≤ R.slots) (d : decode cc pc = .ok (.invokevirtual idx, 3)) (h : bnd o kk = some res) (hn : pc + 3 = n) (k : ∀ (v : Nat) (ξ1 : XS), kk v ξ1 = some res → CF p l e R s m args below meth c nL cells slots (XB g A s ξ1) Q n lv (.ref v :: st)) : CF p l e R s m args below meth c nL cells slots (XB g A s ξ) Q pc lv stk := by
  subst hn
  subst hstk
  obtain ⟨v, ξ1, ho, hk⟩ := bnd_some h
  intro H locs ls hB hl
  refine va_callq (va_runV (As := As) (rest := st) E (hM v ξ1 ho H.size) (cwV na E.2.2.2.2 hG rfl hrc hrs hd hR) ⟨xblind, xrecv_cell hB hrv, xpre hB⟩ rfl hna (hl.1) rfl (lv_room hcat) d hf) hB.2.2.1 (fun q _ h => xfree hB q h) (xfree hB) (fun r u t H1 locs1 ht hvm hw1 hB1 hz1 hk1 hS => ?_)
  obtain ⟨rfl, rfl⟩ := hw1
  exact k _ _ hk H1 locs1 ls (xbehind hB ht hB1 hS) hl
theorem xcallS0_r {own : String} (E : EV p s m args c cc nL own) {y : MethodName} {bytes : ByteArray} {maxL idx na : Nat} {ret : Option FieldType} {rm : Room} {stk : List Value}  {o : Option (Nat × XS)} {kk : Nat → XS → Option ρ} (As : List Value) (hM : ∀ v ξ1, o = some (v, ξ1) → MetXr l g y (ws_ y bytes maxL ret) rm As ξ v ξ1 0 0)
    (hG : GoodIn lw_all (va_wsS own idx y (ws_ y bytes maxL ret))) (hd : y.cls ≠ "java/lang/invoke/MethodHandle" ∧ y.cls ≠ "java/lang/invoke/VarHandle" ∧ (parseMethodDescriptor y.desc).map (fun d => d.parameters.length) = some na) (hrc : rm.cells = 0) (hrs : rm.slots = 0) (hR : rm.frames + 1 ≤ R.frames ∧ 8 + (maxL + 11) + rm.locals ≤ R.locals) (hna : As.length = na) (hstk : stk = As.reverse ++ st) (hcat : (st.map fun v => v.category).sum ≤ 8) (hf : cells ≤ R.cells ∧ slots ≤ R.slots) (d : decode cc pc = .ok (.invokestatic idx, 3)) (h : bnd o kk = some res) (hn : pc + 3 = n) (k : ∀ (v : Nat) (ξ1 : XS), kk v ξ1 = some res → CF p l e R s m args below meth c nL cells slots (XB g A s ξ1) Q n lv (.ref v :: st)) : CF p l e R s m args below meth c nL cells slots (XB g A s ξ) Q pc lv stk := by
  subst hn
  subst hstk
  obtain ⟨v, ξ1, ho, hk⟩ := bnd_some h
  intro H locs ls hB hl
  refine va_callq (va_runS (As := As) (rest := st) E (hM v ξ1 ho H.size) (va_cwS na E.2.2.2.2 hG rfl hrc hrs hd hR) ⟨xblind, xpre hB⟩ rfl hna (hl.1) rfl (lv_room hcat) d hf) hB.2.2.1 (fun q _ h => xfree hB q h) (xfree hB) (fun r u t H1 locs1 ht hvm hw1 hB1 hz1 hk1 hS => ?_)
  obtain ⟨rfl, rfl⟩ := hw1
  exact k _ _ hk H1 locs1 ls (xbehind hB ht hB1 hS) hl
theorem xcallU0_i {own : String} (E : EV p s m args c cc nL own) {y : MethodName} {bytes : ByteArray} {maxL idx na : Nat} {ret : Option FieldType} {rm : Room} {stk : List Value} {C owner : String} {x : MethodName} {b : Nat} {o : Option (Int32 × XS)} {kk : Int32 → XS → Option ρ} (As : List Value) (hM : ∀ v ξ1, o = some (v, ξ1) → MetXi l g y (ws_ y bytes maxL ret) rm (.ref b :: As) ξ v ξ1 0 0)
    (hG : GoodIn lw_all (va_wsU own idx C owner x y (ws_ y bytes maxL ret))) (hyx : y = ⟨owner, x.name, x.desc⟩) (hd : owner ≠ "java/lang/invoke/MethodHandle" ∧ owner ≠ "java/lang/invoke/VarHandle" ∧ (parseMethodDescriptor x.desc).map (fun d => d.parameters.length) = some na) (hrv : xrecv g ξ C b) (hrc : rm.cells = 0) (hrs : rm.slots = 0) (hR : rm.frames + 1 ≤ R.frames ∧ 8 + (maxL + 11) + rm.locals ≤ R.locals) (hna : As.length = na) (hstk : stk = As.reverse ++ .ref b :: st) (hcat : (st.map fun v => v.category).sum ≤ 8) (hf : cells ≤ R.cells ∧ slots ≤ R.slots) (d : decode cc pc = .ok (.invokevirtual idx, 3)) (h : bnd o kk = some res) (hn : pc + 3 = n) (k : ∀ (v : Int32) (ξ1 : XS), kk v ξ1 = some res → CF p l e R s m args below meth c nL cells slots (XB g A s ξ1) Q n lv (.int v :: st)) : CF p l e R s m args below meth c nL cells slots (XB g A s ξ) Q pc lv stk := by
  subst hn
  subst hstk
  obtain ⟨v, ξ1, ho, hk⟩ := bnd_some h
  intro H locs ls hB hl
  refine va_calli (va_runU (As := As) (rest := st) E (hM v ξ1 ho H.size) (va_cwU na E.2.2.2.2 hG rfl hrc hrs hyx hd hR) ⟨xblind, xrecv_cell hB hrv, xpre hB⟩ rfl hna (hl.1) rfl (lv_room hcat) d hf) hB.2.2.1 (fun q _ h => xfree hB q h) (xfree hB) (fun r u t H1 locs1 ht hvm hw1 hB1 hz1 hk1 hS => ?_)
  obtain ⟨rfl, rfl⟩ := hw1
  exact k _ _ hk H1 locs1 ls (xbehind hB ht hB1 hS) hl
theorem xcallO0_i {own : String} (E : EV p s m args c cc nL own) {y : MethodName} {bytes : ByteArray} {maxL idx na : Nat} {ret : Option FieldType} {rm : Room} {stk : List Value} {C owner : String} {x : MethodName} {b : Nat} {o : Option (Int32 × XS)} {kk : Int32 → XS → Option ρ} (As : List Value) (hM : ∀ v ξ1, o = some (v, ξ1) → MetXi l g y (ws_ y bytes maxL ret) rm (.ref b :: As) ξ v ξ1 0 0)
    (hG : GoodIn lw_all (va_wsO own idx C owner x y (ws_ y bytes maxL ret))) {b0 : ByteArray} {m0 : Nat} {r0 : Option FieldType} (h0 : Cond.code ⟨owner, x.name, x.desc⟩ b0 m0 r0 ∈ lw_all) (hd : owner ≠ "java/lang/invoke/MethodHandle" ∧ owner ≠ "java/lang/invoke/VarHandle" ∧ (parseMethodDescriptor x.desc).map (fun d => d.parameters.length) = some na) (hrv : xrecv g ξ C b) (hrc : rm.cells = 0) (hrs : rm.slots = 0) (hR : rm.frames + 1 ≤ R.frames ∧ 8 + (maxL + 11) + rm.locals ≤ R.locals) (hna : As.length = na) (hstk : stk = As.reverse ++ .ref b :: st) (hcat : (st.map fun v => v.category).sum ≤ 8) (hf : cells ≤ R.cells ∧ slots ≤ R.slots) (d : decode cc pc = .ok (.invokevirtual idx, 3)) (h : bnd o kk = some res) (hn : pc + 3 = n) (k : ∀ (v : Int32) (ξ1 : XS), kk v ξ1 = some res → CF p l e R s m args below meth c nL cells slots (XB g A s ξ1) Q n lv (.int v :: st)) : CF p l e R s m args below meth c nL cells slots (XB g A s ξ) Q pc lv stk := by
  subst hn
  subst hstk
  obtain ⟨v, ξ1, ho, hk⟩ := bnd_some h
  intro H locs ls hB hl
  refine va_calli (va_runU (As := As) (rest := st) E (hM v ξ1 ho H.size) (va_cwO na E.2.2.2.2 hG rfl hrc hrs h0 hd hR) ⟨xblind, xrecv_cell hB hrv, xpre hB⟩ rfl hna (hl.1) rfl (lv_room hcat) d hf) hB.2.2.1 (fun q _ h => xfree hB q h) (xfree hB) (fun r u t H1 locs1 ht hvm hw1 hB1 hz1 hk1 hS => ?_)
  obtain ⟨rfl, rfl⟩ := hw1
  exact k _ _ hk H1 locs1 ls (xbehind hB ht hB1 hS) hl
theorem xcallA0_i {own : String} (E : EV p s m args c cc nL own) {y : MethodName} {bytes : ByteArray} {maxL idx na : Nat} {ret : Option FieldType} {rm : Room} {stk : List Value} {C owner : String} {x : MethodName} {b : Nat} {o : Option (Int32 × XS)} {kk : Int32 → XS → Option ρ} (As : List Value) (hM : ∀ v ξ1, o = some (v, ξ1) → MetXi l g y (ws_ y bytes maxL ret) rm (.ref b :: As) ξ v ξ1 0 0)
    (hG : GoodIn lw_all (va_wsU own idx C owner x y (ws_ y bytes maxL ret))) (hdc : Cond.declares ⟨owner, x.name, x.desc⟩ ∈ lw_tbl) (hd : owner ≠ "java/lang/invoke/MethodHandle" ∧ owner ≠ "java/lang/invoke/VarHandle" ∧ (parseMethodDescriptor x.desc).map (fun d => d.parameters.length) = some na) (hrv : xrecv g ξ C b) (hrc : rm.cells = 0) (hrs : rm.slots = 0) (hR : rm.frames + 1 ≤ R.frames ∧ 8 + (maxL + 11) + rm.locals ≤ R.locals) (hna : As.length = na) (hstk : stk = As.reverse ++ .ref b :: st) (hcat : (st.map fun v => v.category).sum ≤ 8) (hf : cells ≤ R.cells ∧ slots ≤ R.slots) (d : decode cc pc = .ok (.invokevirtual idx, 3)) (h : bnd o kk = some res) (hn : pc + 3 = n) (k : ∀ (v : Int32) (ξ1 : XS), kk v ξ1 = some res → CF p l e R s m args below meth c nL cells slots (XB g A s ξ1) Q n lv (.int v :: st)) : CF p l e R s m args below meth c nL cells slots (XB g A s ξ) Q pc lv stk := by
  subst hn
  subst hstk
  obtain ⟨v, ξ1, ho, hk⟩ := bnd_some h
  intro H locs ls hB hl
  refine va_calli (va_runU (As := As) (rest := st) E (hM v ξ1 ho H.size) (va_cwA na E.2.2.2.2 hG rfl hrc hrs (hB.2.2.2.2.2.1 _ hdc rfl) hd hR) ⟨xblind, xrecv_cell hB hrv, xpre hB⟩ rfl hna (hl.1) rfl (lv_room hcat) d hf) hB.2.2.1 (fun q _ h => xfree hB q h) (xfree hB) (fun r u t H1 locs1 ht hvm hw1 hB1 hz1 hk1 hS => ?_)
  obtain ⟨rfl, rfl⟩ := hw1
  exact k _ _ hk H1 locs1 ls (xbehind hB ht hB1 hS) hl
theorem xcallP0_i {own : String} (E : EV p s m args c cc nL own) {y : MethodName} {bytes : ByteArray} {maxL idx na : Nat} {ret : Option FieldType} {rm : Room} {stk : List Value} {b : Nat} {o : Option (Int32 × XS)} {kk : Int32 → XS → Option ρ} (As : List Value) (hM : ∀ v ξ1, o = some (v, ξ1) → MetXi l g y (ws_ y bytes maxL ret) rm (.ref b :: As) ξ v ξ1 0 0)
    (hG : GoodIn lw_all (va_wsSU own idx y (ws_ y bytes maxL ret))) (hd : y.name ≠ "<init>" ∧ (parseMethodDescriptor y.desc).map (fun d => d.parameters.length) = some na) {ci : Nat} {q9 : vw_C} (hci : dCi ξ b = some ci) (hq9 : vwCl[ci]? = some q9) (hrc : rm.cells = 0) (hrs : rm.slots = 0) (hR : rm.frames + 1 ≤ R.frames ∧ 8 + (maxL + 11) + rm.locals ≤ R.locals) (hna : As.length = na) (hstk : stk = As.reverse ++ .ref b :: st) (hcat : (st.map fun v => v.category).sum ≤ 8) (hf : cells ≤ R.cells ∧ slots ≤ R.slots) (d : decode cc pc = .ok (.invokespecial idx, 3)) (h : bnd o kk = some res) (hn : pc + 3 = n) (k : ∀ (v : Int32) (ξ1 : XS), kk v ξ1 = some res → CF p l e R s m args below meth c nL cells slots (XB g A s ξ1) Q n lv (.int v :: st)) : CF p l e R s m args below meth c nL cells slots (XB g A s ξ) Q pc lv stk := by
  subst hn
  subst hstk
  obtain ⟨v, ξ1, ho, hk⟩ := bnd_some h
  intro H locs ls hB hl
  refine va_calli (va_runSU (As := As) (rest := st) (hB.2.2.2.1.1 ci q9 hq9).2 E (hM v ξ1 ho H.size) (va_cwSU na E.2.2.2.2 hG rfl hrc hrs hd hR) ⟨xblind, xrecv_cell hB (xrecv_d hci hq9), xpre hB⟩ rfl hna (hl.1) rfl (lv_room hcat) d hf) hB.2.2.1 (fun q _ h => xfree hB q h) (xfree hB) (fun r u t H1 locs1 ht hvm hw1 hB1 hz1 hk1 hS => ?_)
  obtain ⟨rfl, rfl⟩ := hw1
  exact k _ _ hk H1 locs1 ls (xbehind hB ht hB1 hS) hl
theorem xcallI0_i {own : String} (E : EV p s m args c cc nL own) {y : MethodName} {bytes : ByteArray} {maxL idx na : Nat} {ret : Option FieldType} {rm : Room} {stk : List Value} {x : MethodName} {b : Nat} {o : Option (Int32 × XS)} {kk : Int32 → XS → Option ρ} (As : List Value) (hM : ∀ v ξ1, o = some (v, ξ1) → MetXi l g y (ws_ y bytes maxL ret) rm (.ref b :: As) ξ v ξ1 0 0)
    (hG : GoodIn lw_all (ws_ y bytes maxL ret)) (hl1 : Cond.methodLink own idx x ∈ lw_all) (hl2 : Cond.sameMethod x.cls y.cls x.name x.desc ∈ lw_all) (hl3 : Cond.superclass own x.cls ∈ lw_all) (hl4 : Cond.superclass x.cls y.cls ∈ lw_all) (hin : Cond.instanceMethod y ∈ lw_all) (hini : Cond.initialized y.cls ∈ lw_all) (hcd : Cond.code y bytes maxL ret ∈ lw_all) (hxy : y.name = x.name ∧ y.desc = x.desc) (hd : y.name ≠ "<init>" ∧ (parseMethodDescriptor y.desc).map (fun d => d.parameters.length) = some na) {ci : Nat} {q9 : vw_C} (hci : dCi ξ b = some ci) (hq9 : vwCl[ci]? = some q9) (hrc : rm.cells = 0) (hrs : rm.slots = 0) (hR : rm.frames + 1 ≤ R.frames ∧ 8 + (maxL + 11) + rm.locals ≤ R.locals) (hna : As.length = na) (hstk : stk = As.reverse ++ .ref b :: st) (hcat : (st.map fun v => v.category).sum ≤ 8) (hf : cells ≤ R.cells ∧ slots ≤ R.slots) (d : decode cc pc = .ok (.invokespecial idx, 3)) (h : bnd o kk = some res) (hn : pc + 3 = n) (k : ∀ (v : Int32) (ξ1 : XS), kk v ξ1 = some res → CF p l e R s m args below meth c nL cells slots (XB g A s ξ1) Q n lv (.int v :: st)) : CF p l e R s m args below meth c nL cells slots (XB g A s ξ) Q pc lv stk := by
  subst hn
  subst hstk
  obtain ⟨v, ξ1, ho, hk⟩ := bnd_some h
  intro H locs ls hB hl
  refine va_calli (xrunSI (bytes := bytes) (maxL := maxL) (ret := ret) (As := As) (rest := st) (na := na) (hB.2.2.2.1.1 ci q9 hq9).2 E (hM v ξ1 ho H.size) hrc hrs hR.1 hR.2 (pay_in E.2.2.2.2 hG) List.mem_cons_self (E.2.2.2.2 _ hl1) (E.2.2.2.2 _ hl2) (E.2.2.2.2 _ hl3) (E.2.2.2.2 _ hl4) (E.2.2.2.2 _ hin) (E.2.2.2.2 _ hini) (E.2.2.2.2 _ hcd) hd.1 hxy (fun sig h9 => by have h2 := hd.2; rw [h9] at h2; exact (Option.some.inj h2).symm) ⟨xblind, xrecv_cell hB (xrecv_d hci hq9), xpre hB⟩ rfl hna (hl.1) rfl (lv_room hcat) d hf) hB.2.2.1 (fun q _ h => xfree hB q h) (xfree hB) (fun r u t H1 locs1 ht hvm hw1 hB1 hz1 hk1 hS => ?_)
  obtain ⟨rfl, rfl⟩ := hw1
  exact k _ _ hk H1 locs1 ls (xbehind hB ht hB1 hS) hl
abbrev XTr (p : Program) (l : Launch) (e : Env) (R : Room) (s : State) (m : MethodId) (args : Array Value) (below : List Frame) (meth : Method) (c : Code) (cc : ByteArray) (nL cells slots : Nat) (A : Nat → Prop) (g : XG) (Q : State → Prop) (res : Nat × XS) : Prop := ∀ (pc : Nat) (lv : List (Nat × Value)), decode cc pc = .ok (.areturn, 1) → CF p l e R s m args below meth c nL cells slots (XB g A s res.2) Q pc lv [.ref res.1]
theorem xret_r {v : Nat} {res : Nat × XS} (d : decode cc pc = .ok (.areturn, 1)) (h : some (v, ξ) = some res) (hq : XTr p l e R s m args below meth c cc nL cells slots A g Q res) : CF p l e R s m args below meth c nL cells slots (XB g A s ξ) Q pc lv [.ref v] := by
  cases h
  exact hq pc lv d
/-- a cast that stands: the object's class is one of those -/
theorem xcast {own nm C : String} {idx a ci : Nat} {q9 : vw_C} (E : EV p s m args c cc nL own) (hlk : Cond.classLink own idx nm ∈ lw_all) (hci : dCi ξ a = some ci) (hq9 : vwCl[ci]? = some q9) (hc : Cond.castable q9.1 nm ∈ lw_tbl) (d : decode cc pc = .ok (.checkcast idx, 3)) (hn : pc + 3 = n) (k : CF p l e R s m args below meth c nL cells slots (XB g A s ξ) Q n lv (.ref a :: st)) : CF p l e R s m args below meth c nL cells slots (XB g A s ξ) Q pc lv (.ref a :: st) := by
  subst hn
  exact fun H locs ls hB hl => va_castY E.1 E.2.1 E.2.2.2.1 (E.2.2.2.2 _ hlk) (hB.2.2.2.2.2.1 _ hc rfl) (xrecv_cell hB (xrecv_d hci hq9)) d (k H locs ls hB hl)
theorem xcastS {own : String} {idx a ci : Nat} {q9 : vw_C} (E : EV p s m args c cc nL own) (hq9 : vwCl[ci]? = some q9) (hlk : Cond.classLink own idx q9.1 ∈ lw_all) (hci : dCi ξ a = some ci) (d : decode cc pc = .ok (.checkcast idx, 3)) (hn : pc + 3 = n) (k : CF p l e R s m args below meth c nL cells slots (XB g A s ξ) Q n lv (.ref a :: st)) : CF p l e R s m args below meth c nL cells slots (XB g A s ξ) Q pc lv (.ref a :: st) := by
  subst hn
  exact fun H locs ls hB hl => va_castS E.1 E.2.1 E.2.2.2.1 (E.2.2.2.2 _ hlk) (hB.2.2.2.1.1 ci q9 hq9).2 (xrecv_cell hB (xrecv_d hci hq9)) d (k H locs ls hB hl)
end XC
theorem met_xr {l : Launch} {g : XG} {ξ : XS} {cc : ByteArray} {own : String} {y : MethodName} {maxL mc ms : Nat} {rm : Room} {As : List Value} {v : Nat} {ξ1 : XS} {rt : FieldType} (hrt : (∃ n, rt = .object n) ∨ ∃ t, rt = .array t) {lv0 : List (Nat × Value)} (hy : plainName y.cls = true) (hyc : y.cls = own) (hlen : (lg_sl As).length ≤ maxL) (hlv : lv_args 0 As = lv0)
    (body : ∀ (p : Program) (e : Env) (s : State) (m : MethodId) (below : List Frame) (meth : Method) (c : Code) (A : Nat → Prop) (Q : State → Prop), EV p s m As.toArray c cc maxL own → XTr p l e rm s m As.toArray below meth c cc maxL mc ms A g Q (v, ξ1) → CF p l e rm s m As.toArray below meth c maxL 0 0 (XB g A s ξ) Q 0 lv0 []) : MetXr l g y (ws_ y cc maxL (some rt)) rm As ξ v ξ1 mc ms := by
  intro sz
  refine Met.ofW (cc := cc) (maxL := maxL) (ret := (some rt)) hy rfl ?_
  intro p e s m args below meth c s₁ B hml hv
  obtain ⟨rfl, hsz, hP, hK, hD0, hN⟩ := hv
  have hts := atoms_spec (ws := ws_ y cc maxL (some rt)) B.pre
  have hts : ∀ w ∈ lw_all, w.before _ s = true := fun w h => hts w (List.mem_cons_of_mem _ h)
  have hown : s.vm.findClass own = some m.cls := by rw [← hyc]; exact findClass_of_methodNamed B.named
  have hlocks := B.notSynchronized
  subst hsz
  have hD := hD0.self (sz := s.heap.size)
  have hA : ∀ q : Nat, s.heap.size ≤ q → va_A (xcs g ξ) s.heap.size q := fun q h => Or.inr h
  have hS : va_S (va_A (xcs g ξ) s.heap.size) s.heap s.heap [] := va_S.rf
  have hl := lv_entry As (n := maxL) hlen
  rw [lg_entry_eq]
  rw [hlv] at hl
  have hb := body p e s m below meth c (va_A (xcs g ξ) s.heap.size) (MQ below (XQr g ξ s.heap.size v ξ1) As.toArray s mc ms (va_A (xcs g ξ) s.heap.size)) ⟨B.exec, B.bytes, hml, hown, hts⟩ ?_
  · exact hb s.heap [] _ ⟨hP, hD, hS, hK, hA, hN⟩ hl
  · intro pc lv d H locs ls hB hl
    obtain ⟨hP9, hD9, hS9, hK9, -⟩ := hB
    exact W.aret B.exec B.bytes B.returns hrt (Or.inr ⟨_, rfl⟩) (fun t ht hW => ⟨⟨some v, ξ1, rfl, ⟨rfl, rfl⟩, by rw [ht]; exact hP9, va_K.moved hW.alike hK9, hD9⟩, hS9.F ht⟩) hS9.2.2 d hlocks
