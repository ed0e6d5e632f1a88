/-! MAKING AN Off: printed by gen/off.py -/
set_option maxRecDepth 100000
def free9 (a : Nat) (H : Heap) : Prop := ∃ ce : Cell, H[a]? = some ce ∧ ce.monitor.owner = none ∧ ce.monitor.count = 0
def XB9 (g : XG) (A : Nat → Prop) (s : State) (ξ : XS) (a : Nat) : Heap → List Loc → Prop := fun H locs => XB g A s ξ H locs ∧ free9 a H
abbrev offN : String := "HatsDecide$Off"
abbrev rteN : String := "java/lang/RuntimeException"
def offL : List Cond := Bundle.throwableAtoms ++ Bundle.chain0Atoms rteN ["java/lang/Exception"] ++ [.methodLink offN 1 (Bundle.init0 rteN), .selects offN Bundle.tFill0 Bundle.tFill0, .selects offN Bundle.tFill Bundle.tFill, .fieldLink Bundle.tN 198 Bundle.tN "backtrace" "Ljava/lang/Object;", .lays Bundle.tN Bundle.tN "backtrace" "Ljava/lang/Object;", .isRef (.static Bundle.tN "UNASSIGNED_STACK" Bundle.steD), .isRef (.static Bundle.tN "SUPPRESSED_SENTINEL" Bundle.listD)]
theorem offL_tbl : offL.filter vx_no = ([120, 840, 849, 869, 872, 874, 841, 842, 144, 145, 843, 848, 870, 889, 830, 890, 832, 891, 834, 844, 846, 836, 879, 880, 881, 882, 823, 882, 883, 884, 841, 825, 878, 827, 828, 839, 838] : List Nat).filterMap (fun i => lw_tbl[i]?) := by decide +kernel
theorem offL_ok : (offL.filter vx_no).all (fun w => goodWord w || (isN w && w.onTables)) = true := by decide +kernel
theorem offL_at {args : Array Value} {s : State} (hts : ∀ w ∈ lw_all, w.before args s = true) (hN : NW s) : ∀ w ∈ offL.filter vx_no, w.before args s = true := by
  intro w hw
  have h1 := List.all_eq_true.mp offL_ok w hw
  have h2 : w ∈ lw_tbl := by
    rw [offL_tbl] at hw
    obtain ⟨i, -, hi⟩ := List.mem_filterMap.mp hw
    exact List.mem_of_getElem? hi
  simp only [Bool.or_eq_true, Bool.and_eq_true] at h1
  rcases h1 with h1 | ⟨h1, h3⟩
  · exact hts w (lw_g h2 h1)
  · exact va_tabs h3 rfl (hN w h2 h1)
theorem offL_ot : ∀ w ∈ offL.filter vx_no, vx_ot w = true := by
  intro w hw
  have h1 := List.all_eq_true.mp offL_ok w hw
  simp only [Bool.or_eq_true, Bool.and_eq_true] at h1
  simp only [vx_ot, Bool.or_eq_true]
  rcases h1 with h1 | ⟨h1, h3⟩
  · exact Or.inr h1
  · exact Or.inl h3
section OFF
variable {p : Program} {l : Launch} {e : Env} {R : Room} {s : State} {m : MethodId} {args : Array Value} {below : List Frame} {meth : Method} {c : Code} {nL cells slots : Nat} {A : Nat → Prop} {g : XG} {ξ : XS} {Q : State → Prop} {pc n : Nat} {lv : List (Nat × Value)} {st : List Value} {cc : ByteArray}
theorem vx_back9L {H : Heap} {locs L : List Loc} {T S : State} {R' : Room} {k n : Nat} (X : Stand p l e R s m args below meth c T locs cells slots) (Y : Stand p l e R' ((T.setVm s.vm).setFrames (.invoking m args :: below)) m args below meth c T [] 0 0) (Z : Stand p l e R' ((T.setVm s.vm).setFrames (.invoking m args :: below)) m args below meth c S L k n) :
    Stand p l e R s m args below meth c S (locs ++ L) (cells + k) (slots + n) := by
  have hW0 : s.WarmedH ((T.setVm s.vm).setFrames (.invoking m args :: below)).vm := State.WarmedH.refl s
  refine { admits := X.admits, cas := X.cas, clock := X.clock, frames := X.frames, room := X.room, hears := X.hears, method := X.method, code := X.code, here := Z.here, tail := Z.tail, warmed := State.WarmedH.trans hW0 Z.warmed, limits := Z.limits.trans (Y.limits.symm.trans X.limits), bytes := Z.bytes.trans (Y.bytes.symm.trans X.bytes), same := ?_ }
  obtain ⟨e1, e2⟩ := Z.same
  rw [State.setFrames_setFrames] at e1
  have h2 : (T.setVm s.vm).sameButNew (S.setVm s.vm) L k n := ⟨e1, e2⟩
  exact X.same.trans h2
theorem offTakes {s : State} {ce : Cell} {cX : ClassId} {kX : Class} {f : Field} {v v0 : Value} (hk : s.vm.classes[cX]? = some kX) (hc : ce.cls = cX) (hvm : ce.vm = .none) (hord : kX.kind = .ordinary) (hty : kX.instanceTypes[f.slot]? = some f.type) (hsl : ce.slots[f.slot]? = some v0) (hv : fits f.type v = true) : Takes s ce f v := by
  refine ⟨(Array.getElem?_eq_some_iff.mp hsl).1, ?_⟩
  simp [State.fitsSlot, State.slotType?, hc, hvm, hk, hord, hty, hv]
theorem xsupT (E : EV p s m args c cc nL offN) (hl : l.stackTraces = false) {a : Nat} {fs : List Value} (he : dE ξ a = some (.inr (16, fs))) (h4 : vp_V fs 4 = .null) (hR : 4 < R.frames ∧ 100 ≤ R.locals) (hcr : cells ≤ R.cells ∧ slots ≤ R.slots) (hcat : (st.map fun v => v.category).sum ≤ 8) (d : decode cc pc = .ok (.invokespecial 1, 3)) (hn : pc + 3 = n)
    (k : ∀ fs' : List Value, fs'.length = 7 → vp_V fs' 6 = vp_V fs 6 → CF p l e R s m args below meth c nL cells slots (XB g A s (sXd ξ a (.inr (16, fs')))) Q n lv st) : CF p l e R s m args below meth c nL cells slots (XB9 g A s ξ a) Q pc lv (.ref a :: st) := by
  subst hn
  intro H locs ls hB9 hlv T hT X
  subst hT
  obtain ⟨hB, ce0, hce0, hmo, hmc⟩ := hB9
  obtain ⟨hexec, hb, hml, hown, hts⟩ := E
  have htr : e.platform.stackTraces = false := (show e.platform.stackTraces = l.stackTraces by rw [X.admits.platform]).trans hl
  have Y := vx_rebase X (R' := { frames := R.frames, locals := R.locals, cells := 0, slots := 0 }) (Nat.le_refl _) (Nat.le_refl _) hcr.1 hcr.2
  obtain ⟨s', hA'⟩ : ∃ z, z = (T.setVm s.vm).setFrames (.invoking m args :: below) := ⟨_, rfl⟩
  rw [← hA'] at Y
  have hvm : s'.vm = s.vm := by rw [hA']; rfl
  have hhp : s'.heap = T.heap := by rw [hA']; rfl
  have hW0 : s.WarmedH s'.vm := by rw [hvm]; exact State.WarmedH.refl s
  have hSG : SG g A s s.heap := hB.2.2.2.2.2.2.2
  have hat' : ∀ w ∈ offL.filter vx_no, w.before args s' = true := fun w hw => vx_ot_at hW0 hvm.symm (offL_ot w hw) (offL_at hts hB.2.2.2.2.2.1 w hw)
  have hU' : vx_Zq Bundle.tN "UNASSIGNED_STACK" Bundle.steD A s' s'.heap := by rw [hhp]; exact vx_Zq.moved hW0.alike (hSG.1.kept hB.2.2.1.2.1)
  have hN' : vx_Zq Bundle.tN "SUPPRESSED_SENTINEL" Bundle.listD A s' s'.heap := by rw [hhp]; exact vx_Zq.moved hW0.alike (hSG.2.1.kept hB.2.2.1.2.1)
  have h : ∀ w ∈ offL, w.before args s' = true := vx_own hat' (vx_isRefq hU'.1) (vx_isRefq hN'.1) hU'.2.word hN'.2.word
  have hts' : ∀ w ∈ lw_all, w.before args s' = true := fun w hw => word_at hW0 (lw_self w hw).2 (hts w hw)
  have hown' : s'.vm.findClass offN = some m.cls := by rw [hvm]; exact hown
  have hK' : va_K g.1 vwCl (xty g) s' := va_K.moved hW0.alike hB.2.2.2.1
  have hP' := hB.1
  obtain ⟨q0, hq0⟩ := dE_at (g := g) he
  obtain ⟨r9, hr9, ce, g1, g2, g3, g4⟩ := hP' q0 _ hq0
  cases hr9
  have hcc : ce = ce0 := Option.some.inj (g1.symm.trans hce0)
  subst hcc
  have hKn := hK'.1 16 _ (show vwCl[16]? = some (RX15, TX15, 7) from rfl)
  obtain ⟨hS, hfX, kX, hkX, -⟩ := id hKn
  have hap := va_apart (own := offN) (D := g.1) (cl := vwCl) (tys := xty g) (C := RX15) (T := TX15) (N := 7) (ci := 16) hts' in_X15 tyX15 tyX15_ok nmX15 hK' rfl
  have howns : e.platform.frameOwnsMonitors = true := by rw [X.admits.platform]
  have hfin : e.platform.finalization = false := by rw [X.admits.platform]
  have hpl : e.platform.magicAccessors = ({} : Platform).magicAccessors := by rw [X.admits.platform]
  have a' : ∀ x, x ∈ offL → x.holds args s' none s' [] = true := fun x hx => h x hx
  obtain ⟨T0, Z, L, LZ, Yt⟩ := ThrowableC.of_atoms (args := args) howns hfin hpl (fun x hx => h x (by simp [offL, hx]))
  obtain ⟨P1, Ps, hlen, L1, hL, hP1m, hlink1, hlink⟩ := Bundle.chain0 (args := args) hpl Yt.init0 ["java/lang/Exception"] rteN (by decide +kernel) (by decide +kernel) (fun x hx => h x (by simp [offL, hx]))
  obtain ⟨c1, kX', hc1, hk, hord, -, -, hn6⟩ := Cond.instantiable_spec (show (Cond.instantiable offN 7).holds args s' none s' [] = true from hts' _ q819)
  cases Option.some.inj (hc1.symm.trans hfX)
  cases Option.some.inj (hkX.symm.trans hk)
  have hsel0 : selectMethod e.platform s'.vm ce.cls T0.fill0 = .method T0.fill0 := by
    obtain ⟨c2, r2, m2, q1, q2, q3, q4, -⟩ := Cond.selects_spec (a' (.selects offN Bundle.tFill0 Bundle.tFill0) (by simp [offL]))
    cases Option.some.inj (q1.symm.trans hfX)
    cases Option.some.inj (q2.symm.trans (State.methodFound?_of_named Yt.fill0 (by decide)))
    cases Option.some.inj (q3.symm.trans Yt.fill0)
    rw [g2, Launch.admits_selectMethod X.admits]; exact q4
  have hselF : selectMethod e.platform s'.vm ce.cls T0.fill = .method T0.fill := by
    obtain ⟨c2, r2, m2, q1, q2, q3, q4, -⟩ := Cond.selects_spec (a' (.selects offN Bundle.tFill Bundle.tFill) (by simp [offL]))
    cases Option.some.inj (q1.symm.trans hfX)
    cases Option.some.inj (q2.symm.trans (State.methodFound?_of_named Yt.fill (by decide)))
    cases Option.some.inj (q3.symm.trans Yt.fill)
    rw [g2, Launch.admits_selectMethod X.admits]; exact q4
  obtain ⟨cellS, hcS, hiss⟩ := Yt.statics
  obtain ⟨u0, hu0⟩ := Cond.staticRefV Yt.unassigned L.unassignedStatic L.statics hcS hiss (a' (.isRef (.static Bundle.tN "UNASSIGNED_STACK" Bundle.steD)) (by simp [offL]))
  obtain ⟨sen, hsen⟩ := Cond.staticRefV Yt.sentinel L.sentinelStatic L.statics hcS hiss (a' (.isRef (.static Bundle.tN "SUPPRESSED_SENTINEL" Bundle.listD)) (by simp [offL]))
  obtain ⟨ci198, i198, fB, hk198, hg198, ha198, hsB, -, hnB, htB, hffB⟩ := Cond.ownField (t := .object "java/lang/Object") Yt.found L.cls (by decide +kernel) (a' (.fieldLink Bundle.tN 198 Bundle.tN "backtrace" "Ljava/lang/Object;") (by simp [offL])) (a' (.lays Bundle.tN Bundle.tN "backtrace" "Ljava/lang/Object;") (by simp [offL])) e.platform hpl
  have hcellS : T.heap[T0.aS]? = some cellS := by rw [← hhp]; exact hcS
  have hknownS : cellS.vm ≠ .unknown := by
    intro hu
    rw [hu] at hiss
    cases hiss
  have hneS : T0.aS ≠ a := by
    intro hz
    rw [hz] at hcellS
    cases Option.some.inj (hcellS.symm.trans g1)
    rw [g3] at hiss
    cases hiss
  obtain ⟨_, _, _, f0, hf0, e0⟩ := hS 0 (by decide)
  cases Option.some.inj (hf0.symm.trans Yt.cause)
  obtain ⟨_, _, _, f1, hf1, e1⟩ := hS 1 (by decide)
  cases Option.some.inj (hf1.symm.trans Yt.stack)
  obtain ⟨_, _, _, f2, hf2, e2⟩ := hS 2 (by decide)
  cases Option.some.inj (hf2.symm.trans Yt.supp)
  obtain ⟨_, _, _, f4, hf4, e4⟩ := hS 4 (by decide)
  cases Option.some.inj (hf4.symm.trans hffB)
  have ty0 := (u_facts hfX hkX (u_lays hts' in_X15 (show (0 : Nat) < 7 by decide)) hf0).2.2
  have ty1 := (u_facts hfX hkX (u_lays hts' in_X15 (show (1 : Nat) < 7 by decide)) hf1).2.2
  have ty2 := (u_facts hfX hkX (u_lays hts' in_X15 (show (2 : Nat) < 7 by decide)) hf2).2.2
  have s0 := g4 0 (by decide)
  have s1 := g4 1 (by decide)
  have s2 := g4 2 (by decide)
  have s4 := g4 4 (by decide)
  rw [← e0] at s0
  rw [← e1] at s1
  rw [← e2] at s2
  rw [← e4, h4] at s4
  have a04 := hap 0 4 (by decide) (by decide) (by decide)
  have a14 := hap 1 4 (by decide) (by decide) (by decide)
  have a24 := hap 2 4 (by decide) (by decide) (by decide)
  have a06 := hap 0 6 (by decide) (by decide) (by decide)
  have a16 := hap 1 6 (by decide) (by decide) (by decide)
  have a26 := hap 2 6 (by decide) (by decide) (by decide)
  rw [← e0, ← e4] at a04
  rw [← e1, ← e4] at a14
  rw [← e2, ← e4] at a24
  rw [← e0] at a06
  rw [← e1] at a16
  rw [← e2] at a26
  have hskip : SkipFacts T0 e.platform s' (fun u => u) u0 ((preparedCellV T0.toThrowableT ce a u0 sen).withEntry T.cur) :=
    ⟨{ ci198 := ci198, i198 := i198, fBack := fB }, ⟨hk198, hg198, ha198, hsB⟩, by
      simpa [preparedCellV, Cell.setSlot, Cell.withEntry, Array.getElem?_setIfInBounds, a04, a14, a24, a04.symm, a14.symm, a24.symm] using s4, fun _ _ => rfl⟩
  have hsz : ls.size = c.maxLocals := by rw [hml]; exact hlv.1
  have hd6 : decode c.code pc = .ok (.invokespecial 1, 3) := by rw [hb]; exact d
  obtain ⟨tm, methC, cdC, kC, vm₁, hnC, -, -, -, -, -, -, -, hW₁, st1⟩ := Steps.initCold (tb := p.tables) (e := e) (below := below) (s := s') (U := T) Y.here hexec Y.warmed hpl hown' (t := Bundle.init0 rteN) rfl rfl (Bundle.fit_spec (n := rteN) (by decide +kernel)).2
    (a' (.methodLink offN 1 (Bundle.init0 rteN)) (by simp [offL])) (h (.instanceMethod (Bundle.init0 rteN)) (by simp [offL, Bundle.chain0Atoms, Bundle.passAtoms])) (bytes := Bundle.five) (maxL := 1) (h (.code (Bundle.init0 rteN) Bundle.five 1 none) (by simp [offL, Bundle.chain0Atoms, Bundle.passAtoms]))
    (f := F0 m pc ls (.ref a :: st)) rfl (a := a) (rest := st) rfl hd6
  cases Option.some.inj (hnC.symm.trans hP1m)
  have X₁ := Y.noted hW₁
  have hu1 : cellS.slots[T0.fUnassigned.slot]? = some u0.v := hu0
  have hu2 : cellS.slots[T0.fSentinel.slot]? = some sen.v := hsen
  obtain ⟨vm₂, X₂, st2⟩ := X₁.ctorPlainOffV hexec (g := F0 m pc ls st) rfl hsz T0 L Z LZ (P1 :: Ps)
    (fun P hP => by rcases List.mem_cons.mp hP with rfl | hP; exact L1; exact hL P hP) ⟨hlink1, hlink⟩ (u0 := u0) (sen := sen) (self := a) (cell := ce) (cellS := cellS)
    g1 (fun _ => by rw [g3]; simp) (by rw [g3]; simp) hmo hmc hsel0 hselF hcellS hneS hknownS hu1 hu2
    (offTakes hkX g2 g3 hord ty0 s0 (by rw [Yt.causeType]; rfl)) (offTakes hkX g2 g3 hord ty1 s1 (by rw [Yt.stackType]; exact fits_refV_array _ u0)) (offTakes hkX g2 g3 hord ty2 s2 (by rw [Yt.suppType]; exact fits_refV_object _ sen)) Yt.objLocals hskip htr [] hd6
    (by simp only [List.length_cons, hlen]; have := hR.1; omega) (by simp only [List.length_cons, hlen, F0, JFrame.monitorRoom]; have := hR.2; simp; omega)
  have hlt : a < T.heap.size := (Array.getElem?_eq_some_iff.mp g1).1
  generalize hce9 : (preparedCellV T0.toThrowableT ce a u0 sen).setSlot T0.fStack.slot u0.v = ce9 at X₂ st2
  subst hA'
  have X3 := vx_back9L (H := T.heap) X Y X₂
  have hz9 : ce9.slots.size = ce.slots.size := by rw [← hce9]; simp [preparedCellV, Cell.setSlot]
  have hfs : ∀ k : Nat, k < 7 → ce9.slots[g.1.2 16 k]? = some (vp_V ((List.range 7).map (fun k => (ce9.slots[g.1.2 16 k]?).getD .null)) k) := by
    intro k hk
    have h1 : g.1.2 16 k < ce9.slots.size := by rw [hz9]; exact (Array.getElem?_eq_some_iff.mp (g4 k hk)).1
    have h2 : ((List.range 7).map (fun k => (ce9.slots[g.1.2 16 k]?).getD .null)).getD k .null = (ce9.slots[g.1.2 16 k]?).getD .null := by
      rw [List.getD_eq_getElem?_getD, List.getElem?_map, List.getElem?_range hk]; rfl
    unfold vp_V
    rw [h2, Array.getElem?_eq_getElem h1]
    rfl
  have hc9 : ce9.cls = g.1.1 16 := by rw [← hce9]; exact g2
  have hv9 : ce9.vm = .none := by rw [← hce9]; exact g3
  have h69 : ce9.slots[g.1.2 16 6]? = ce.slots[g.1.2 16 6]? := by
    rw [← hce9]
    simp [preparedCellV, Cell.setSlot, Array.getElem?_setIfInBounds, a06, a16, a26, a06.symm, a16.symm, a26.symm]
  have hV : vp_V ((List.range 7).map (fun k => (ce9.slots[g.1.2 16 k]?).getD .null)) 6 = vp_V fs 6 := by
    have h1 := hfs 6 (by decide)
    rw [h69] at h1
    exact Option.some.inj (h1.symm.trans (g4 6 (by decide)))
  have hself : ((((T.setVm vm₁).setVm vm₂).setCell a ce9)).heap[a]? = some ce9 := heapAt_setCell_self (s := (T.setVm vm₁).setVm vm₂) ce9 hlt
  have hoth : ∀ q : Nat, q ≠ a → ((((T.setVm vm₁).setVm vm₂).setCell a ce9)).heap[q]? = T.heap[q]? := by
    intro q hq
    show (T.heap.setIfInBounds a ce9)[q]? = _
    rw [Array.getElem?_setIfInBounds, if_neg (fun h => hq h.symm)]
  have hsz9 : ((((T.setVm vm₁).setVm vm₂).setCell a ce9)).heap.size = T.heap.size := by
    show (T.heap.setIfInBounds a ce9).size = _
    simp
  have hAa : A a := hB.2.1.2 q0 _ hq0
  obtain ⟨t, a1, b1⟩ := k _ (by simp) hV _ (locs ++ _) ls ⟨by
      rw [← xcs_set hB.2.1 he hq0]
      exact hB.1.set hB.2.1 hq0 ⟨_, rfl, ce9, hself, hc9, hv9, hfs⟩ hoth, by
      rw [← xcs_set hB.2.1 he hq0]
      exact hB.2.1.set hq0, ⟨by rw [hsz9]; exact hB.2.2.1.1, fun q h1 h2 => (hoth q (fun hz => h2 (by rw [hz]; exact hAa))).trans (hB.2.2.1.2.1 q h1 h2), fun z hz => by
        rcases List.mem_append.mp hz with hz | hz
        · exact hB.2.2.1.2.2 z hz
        · simp only [List.nil_append, List.mem_cons, List.not_mem_nil, or_false] at hz
          rcases hz with rfl | rfl | rfl | rfl <;> exact hAa⟩, hB.2.2.2⟩ hlv _ rfl X3
  exact ⟨t, st1 _ (fun acts => by rw [doInvoke_state]; exact st2 _ a1), b1⟩
end OFF
