/-! A CAST THAT FAILS: printed by gen/xcce.py -/
set_option maxRecDepth 100000
theorem findClass_hid {vm : Vm} {name : String} {c : ClassId} {k : Class} (h : vm.findClass name = some c) (hk : vm.classes[c]? = some k) : k.hidden = none := by
  obtain ⟨hlt, hp, _⟩ := Array.findIdx?_eq_some_iff_getElem.mp h
  have h1 : vm.classes[c] = k := by simpa [hlt] using hk
  rw [h1] at hp
  simp only [Bool.and_eq_true, Option.isNone_iff_eq_none] at hp
  exact hp.1.1.2
theorem modName {s : State} {vm : Vm} (hm : vm.modules = s.vm.modules) (hMR : modulesRight_1 s = true) {k : Class} (hl : k.loader = none) (hp : packageOf k.name = "") {mi : ModuleInfo} (h : vm.moduleOf k = some mi) : mi.name = "java.base" := by
  unfold Vm.moduleOf at h
  split at h
  · have h1 := List.find?_some h
    simpa using h1
  · have h1 := List.find?_some h
    have h2 := List.mem_of_find?_eq_some h
    rw [hm] at h2
    simp only [Bool.and_eq_true, beq_iff_eq, hl, hp] at h1
    have h3 := List.all_eq_true.mp hMR mi h2
    simp only [Bool.or_eq_true, beq_iff_eq, Bool.not_eq_true'] at h3
    rcases h3 with (h3 | h3) | h3
    · rw [h1.1] at h3; cases h3
    · exact h3
    · have h4 : (castPackages_1.any fun p => mi.packages.contains p) = true := List.any_eq_true.mpr ⟨"", by decide, h1.2⟩
      rw [h4] at h3; cases h3
theorem homeLen {s : State} {vm : Vm} (hm : vm.modules = s.vm.modules) (hMR : modulesRight_1 s = true) {k : Class} (hl : k.loader = none) (hp : packageOf k.name = "") : (vm.home k).toList.length ≤ 38 := by
  unfold Vm.home
  rw [hl]
  have a1 : (" of loader ").toList.length = 11 := by decide
  have a2 : (vm.loaderName none).toList.length = 11 := by show ("'bootstrap'").toList.length = 11; decide
  cases hmo : vm.moduleOf k with
  | none =>
    simp only [String.toList_append, List.length_append]
    have a3 : ("unnamed module").toList.length = 14 := by decide
    omega
  | some mi =>
    simp only [modName hm hMR hl hp hmo]
    simp only [String.toList_append, List.length_append]
    have a3 : ("module ").toList.length = 7 := by decide
    have a4 : ("java.base").toList.length = 9 := by decide
    omega
theorem cceLen {vm : Vm} {ks kt : Class} (hs : ks.shown.toList.length ≤ 17) (ht : kt.shown.toList.length ≤ 17) (h1 : (vm.home ks).toList.length ≤ 38) (h2 : (vm.home kt).toList.length ≤ 38) : (checkcast.message vm ks kt).toList.length ≤ 210 := by
  unfold checkcast.message
  have hh : (vm.homes ks kt).toList.length ≤ 130 := by
    unfold Vm.homes
    split
    · show (toString ks.shown ++ toString " and " ++ toString kt.shown ++ toString " are in " ++ toString (vm.home ks)).toList.length ≤ 130
      simp only [String.toList_append, List.length_append]
      have a1 : (toString " and ").toList.length = 5 := by decide
      have a2 : (toString " are in ").toList.length = 8 := by decide
      have a3 : (toString ks.shown).toList.length ≤ 17 := hs
      have a4 : (toString kt.shown).toList.length ≤ 17 := ht
      have a5 : (toString (vm.home ks)).toList.length ≤ 38 := h1
      omega
    · show (toString ks.shown ++ toString " is in " ++ toString (vm.home ks) ++ toString "; " ++ toString kt.shown ++ toString " is in " ++ toString (vm.home kt)).toList.length ≤ 130
      simp only [String.toList_append, List.length_append]
      have a1 : (toString " is in ").toList.length = 7 := by decide
      have a2 : (toString "; ").toList.length = 2 := by decide
      have a3 : (toString ks.shown).toList.length ≤ 17 := hs
      have a4 : (toString kt.shown).toList.length ≤ 17 := ht
      have a5 : (toString (vm.home ks)).toList.length ≤ 38 := h1
      have a6 : (toString (vm.home kt)).toList.length ≤ 38 := h2
      omega
  show (toString "class " ++ toString ks.shown ++ toString " cannot be cast to class " ++ toString kt.shown ++ toString " (" ++ toString (vm.homes ks kt) ++ toString ")").toList.length ≤ 210
  simp only [String.toList_append, List.length_append]
  have a1 : (toString "class ").toList.length = 6 := by decide
  have a2 : (toString " cannot be cast to class ").toList.length = 25 := by decide
  have a3 : (toString " (").toList.length = 2 := by decide
  have a4 : (toString ")").toList.length = 1 := by decide
  have a5 : (toString ks.shown).toList.length ≤ 17 := hs
  have a6 : (toString kt.shown).toList.length ≤ 17 := ht
  have a7 : (toString (vm.homes ks kt)).toList.length ≤ 130 := hh
  omega
theorem cceMod (vm : Vm) (ks kt : Class) : ((checkcast.message vm ks kt) == notModelled) = false := by
  rw [beq_eq_false_iff_ne]
  intro h
  have h2 := congrArg String.toList h
  have h3 : ∃ r, (checkcast.message vm ks kt).toList = 'c' :: r := by
    refine ⟨"lass ".toList ++ (toString ks.shown).toList ++ (toString " cannot be cast to class ").toList ++ (toString kt.shown).toList ++ (toString " (").toList ++ (toString (vm.homes ks kt)).toList ++ (toString ")").toList, ?_⟩
    show (toString "class " ++ toString ks.shown ++ toString " cannot be cast to class " ++ toString kt.shown ++ toString " (" ++ toString (vm.homes ks kt) ++ toString ")").toList = _
    simp only [String.toList_append]
    rfl
  obtain ⟨r, hr⟩ := h3
  have h4 : notModelled.toList = '\u0000' :: " a message that is not modelled".toList := by decide
  rw [hr, h4] at h2
  simp at h2
/-- names whose cast's text is bounded -/
def shortN (n : String) : Bool := decide ((dotted n).toList.length ≤ 17) && decide (packageOf n = "")
section XC
variable {p : Program} {l : Launch} {e : Env} {R : Room} {s : State} {m : MethodId} {args : Array Value} {below : List Frame} {meth : Method} {c : Code} {nL cells slots : Nat} {A : Nat → Prop} {g : XG} {ξ : XS} {Q : State → Prop} {pc n : Nat} {lv : List (Nat × Value)} {st : List Value} {cc : ByteArray} {ρ : Type} {res : ρ}
theorem castofNo {H : Heap} {locs : List Loc} {T : State} (X : Stand p l e R s m args below meth c T locs cells slots) (hexec : p.tables.exec = Jvm.exec)
    {own name : String} {index : Nat} (hown : s.vm.findClass own = some m.cls) (hlink : (Cond.classLink own index name).before args s = true)
    {a : Addr} {cell : Cell} {cT : ClassId} {ks : Class} (hcell : T.heap[a]? = some cell) (hobj : cell.vm.isStatics = false) (hks : s.vm.classes[cell.cls]? = some ks) (hcT : s.vm.findClass name = some cT) (hasg : s.vm.assignable cell.cls cT = false)
    {g : JFrame} (hg : g.method = m) {rest : List Value} (hstack : g.stack = .ref a :: rest) (hdg : decode c.code g.pc = .ok (.checkcast index, 3)) :
    ∃ (vm' : Vm) (ks' kt' : Class), Stand p l e R s m args below meth c (T.setVm vm') locs cells slots ∧ s.vm.Alike vm' ∧ vm'.classes[cell.cls]? = some ks' ∧ vm'.classes[cT]? = some kt' ∧
      ∀ target, Steps p.tables e below (((T.setVm vm').setTop g).pushFrame (.throwNew "java/lang/ClassCastException" (some (checkcast.message vm' ks' kt')) none)) target → Steps p.tables e below (T.setTop g) target := by
  have hpl : e.platform.magicAccessors = ({} : Platform).magicAccessors := by rw [X.admits.platform]
  obtain ⟨c', hc', hcl⟩ := Cond.classLink_spec hown hlink e.platform hpl
  cases hcT.symm.trans hc'
  obtain ⟨dk, _, _, kt, hd, _, _, _, _, hkt, _, hopen⟩ := hcl.here
  have hcl₀ := X.warmed.classLinks hcl
  have hW' : s.WarmedH (T.vm.noted m.cls index (.cls cT)) := X.warmed.noted hd hopen (State.rightAt_cls hcl)
  obtain ⟨ks', hks', -⟩ := hW'.alike.2.2 _ _ hks
  obtain ⟨kt', hkt', -⟩ := hW'.alike.2.2 _ _ hkt
  refine ⟨_, ks', kt', X.noted hW', hW'.alike, hks', hkt', fun target hrest => ?_⟩
  subst hg
  jvm_step X.here [hexec, hdg, checkcast.wp_cold (e := e) (s := T) (f := g) X.here.top hstack (resolveClass_links e.toSetting hcl₀) hcl₀.ready,
    checkcast.wp_ready (e := e) (s := T.setVm (T.vm.noted g.method.cls index (.cls cT))) (f := g) X.here.top hcl₀.ready hstack]
  have h1 : (T.vm.noted g.method.cls index (Resolved.cls cT)).assignable cell.cls cT = false := by rw [hW'.alike.assignable]; exact hasg
  refine ⟨cell, hcell, VmData.noStatics_of hobj, ks', hks', kt', hkt', ?_⟩
  simp only [h1]
  exact hrest
theorem xcastNo {own C9 nm : String} (E : EV p s m args c cc nL own) (hlt : l.stackTraces = false) (hlk : meth.locks = false) {mc ms idx a : Nat} {kk : Nat → Prop} (hc1 : shortN C9 = true) (hc2 : shortN nm = true) (hq : Cond.classLink own idx nm ∈ lw_all) (hnc : (C9, nm) ∈ ncs) (hr : ∀ H locs, XB g A s ξ H locs → ∃ cell : Cell, H[a]? = some cell ∧ cell.vm.isStatics = false ∧ s.vm.findClass C9 = some cell.cls) (hb : cells + mc ≤ R.cells ∧ slots + ms ≤ R.slots) (hR : 8 ≤ R.frames ∧ 10248 ≤ R.locals) (hcat : ((Value.ref a :: st).map fun v => v.category).sum ≤ 8) (d : decode cc pc = .ok (.checkcast idx, 3)) (h : mkX 3 850 mc ms kk)
    (k : ∀ q, (cells + 3 + (mc - 3) ≤ R.cells ∧ slots + 850 + (ms - 850) ≤ R.slots) → kk q → CX p l e R s m args below meth c nL (cells + 3) (slots + 850) (XB g A s ξ) Q pc lv "java/lang/ClassCastException" q) : CF p l e R s m args below meth c nL cells slots (XB g A s ξ) Q pc lv (.ref a :: st) := by
  intro H locs ls hB hl T hT X
  obtain ⟨cell, g1, g2, g3⟩ := hr H locs hB
  obtain ⟨c0, t0, f1, f2, f3⟩ := hB.2.2.2.2.2.2.1 _ hnc
  cases Option.some.inj (f1.symm.trans g3)
  obtain ⟨k0, hk0, hn0⟩ := Vm.findClass_spec f1
  obtain ⟨kt0, hkt0, hnt0⟩ := Vm.findClass_spec f2
  have hMR : modulesRight_1 s = true := hB.2.2.2.2.2.2.2.2.2.2.2.2.2.2.1
  obtain ⟨vm', ks', kt', X1, hal, hks', hkt', st1⟩ := castofNo (H := H) X E.1 E.2.2.2.1 (E.2.2.2.2 _ hq) (by rw [hT]; exact g1) g2 hk0 f2 f3 (g := F0 m pc ls (.ref a :: st)) rfl (rest := st) rfl (by rw [E.2.1]; exact d)
  obtain ⟨ks2, e1, e2⟩ := hal.2.2 _ _ hk0
  cases Option.some.inj (e1.symm.trans hks')
  obtain ⟨kt2, e3, e4⟩ := hal.2.2 _ _ hkt0
  cases Option.some.inj (e3.symm.trans hkt')
  have hmm : vm'.modules = s.vm.modules := by rw [hal.1]
  have hls : ks'.loader = none := by rw [e2]; exact (show k0.loader = none from Vm.findClass_boot f1 hk0)
  have hlt9 : kt'.loader = none := by rw [e4]; exact (show kt0.loader = none from Vm.findClass_boot f2 hkt0)
  have hns : ks'.name = C9 := by rw [e2]; exact hn0
  have hnt : kt'.name = nm := by rw [e4]; exact hnt0
  have hhs : ks'.hidden = none := by rw [e2]; exact (show k0.hidden = none from findClass_hid f1 hk0)
  have hht : kt'.hidden = none := by rw [e4]; exact (show kt0.hidden = none from findClass_hid f2 hkt0)
  simp only [shortN, Bool.and_eq_true, decide_eq_true_eq] at hc1 hc2
  have hlen := cceLen (vm := vm') (ks := ks') (kt := kt') (by unfold Class.shown; rw [hhs, hns]; exact hc1.1) (by unfold Class.shown; rw [hht, hnt]; exact hc2.1) (homeLen hmm hMR hls (by rw [hns]; exact hc1.2)) (homeLen hmm hMR hlt9 (by rw [hnt]; exact hc2.2))
  have hby : (stringBytes (stringToUtf16 (checkcast.message vm' ks' kt'))).size ≤ 840 := by
    have b1 := stringBytes_size_le (stringToUtf16 (checkcast.message vm' ks' kt'))
    have b2 := utf16_size_le (checkcast.message vm' ks' kt')
    omega
  obtain ⟨t, st2, q⟩ := cx_cce E hlt hlk (nb := 840) (st := .ref a :: st) (cceMod vm' ks' kt') hby (by decide) hb h.1 h.2.1 hR hcat (fun q hq => k q hq (h.2.2 q)) hB hl (T.setVm vm') hT X1
  exact ⟨t, st1 t st2, q⟩
end XC

def canA (g : XG) (ξ : XS) (v : Option Nat) (j : Nat) : Bool := match v with
  | none => true
  | some b => decide (inA g ξ (some b) j = 1)
section XC
variable {p : Program} {l : Launch} {e : Env} {R : Room} {s : State} {m : MethodId} {args : Array Value} {below : List Frame} {meth : Method} {c : Code} {nL cells slots : Nat} {A : Nat → Prop} {g : XG} {ξ : XS} {Q : State → Prop} {pc n : Nat} {lv : List (Nat × Value)} {st : List Value} {cc : ByteArray} {ρ : Type} {res : ρ}
theorem xkB {own : String} (E : EV p s m args c cc nL own) (hlt : l.stackTraces = false) (hlk : meth.locks = false) {mc ms idx : Nat} {v : Option Nat} {A9 : Prop} {kk : Nat → Prop} (hlk9 : Cond.classLink own idx "[B" ∈ lw_all) (hb : cells + mc ≤ R.cells ∧ slots + ms ≤ R.slots) (hR : 8 ≤ R.frames ∧ 10248 ≤ R.locals) (hcat : ((Value.ref 0 :: st).map fun v => v.category).sum ≤ 8) (d : decode cc pc = .ok (.checkcast idx, 3)) (h : if okRow g ξ v = true then (if canA g ξ v 1 = true then A9 else mkX 3 850 mc ms kk) else False) (hn : pc + 3 = n) (kX : ∀ q, (cells + 3 + (mc - 3) ≤ R.cells ∧ slots + 850 + (ms - 850) ≤ R.slots) → kk q → CX p l e R s m args below meth c nL (cells + 3) (slots + 850) (XB g A s ξ) Q pc lv "java/lang/ClassCastException" q) (k : A9 → CF p l e R s m args below meth c nL cells slots (XB g A s ξ) Q n lv (va_rf v :: st)) : CF p l e R s m args below meth c nL cells slots (XB g A s ξ) Q pc lv (va_rf v :: st) := by
  subst hn
  by_cases hi : okRow g ξ v = true
  · rw [if_pos hi] at h
    cases v with
    | none =>
      have h : A9 := by simpa [canA] using h
      exact fun H locs ls hB hl => lv_castN E.1 E.2.1 d (k h H locs ls hB hl)
    | some b =>
      obtain ⟨cA, n9, x, he, hc9⟩ := okRow_at hi
      obtain ⟨q0, hq⟩ := dE_at (g := g) he
      rcases hc9 with rfl | rfl | rfl | rfl | rfl
      · by_cases hj : xc g 0 = xc g 1
        · have hc9 : canA g ξ (some b) 1 = true := by unfold canA inA; simp [he, hj]
          rw [if_pos hc9] at h
          intro H locs ls hB hl
          have hj2 : (xcs g ξ)[q0]? = some (b, .inl (xc g 1, n9, x)) := by rw [hq, hj]
          exact va_castA E.1 E.2.1 E.2.2.2.1 (E.2.2.2.2 _ hlk9) hB.1 q0 hj2 (arrCls hB.2.2.2.1 1 rfl (fun _ h9 => by cases h9)) d (k h H locs ls hB hl)
        · have hc9 : ¬ canA g ξ (some b) 1 = true := by unfold canA inA; simp [he, hj]
          rw [if_neg hc9] at h
          exact xcastNo (C9 := "[I") (nm := "[B") E hlt hlk (by decide +kernel) (by decide +kernel) hlk9 (by decide +kernel) (fun H locs hB => ⟨_, hB.1 q0 _ hq, vpvm, by rw [vpcls]; exact arrCls hB.2.2.2.1 0 rfl (fun _ h9 => by cases h9)⟩) hb hR hcat d h kX
      · by_cases hj : xc g 1 = xc g 1
        · have hc9 : canA g ξ (some b) 1 = true := by unfold canA inA; simp [he, hj]
          rw [if_pos hc9] at h
          intro H locs ls hB hl
          have hj2 : (xcs g ξ)[q0]? = some (b, .inl (xc g 1, n9, x)) := by rw [hq, hj]
          exact va_castA E.1 E.2.1 E.2.2.2.1 (E.2.2.2.2 _ hlk9) hB.1 q0 hj2 (arrCls hB.2.2.2.1 1 rfl (fun _ h9 => by cases h9)) d (k h H locs ls hB hl)
        · exact absurd rfl hj
      · by_cases hj : xc g 2 = xc g 1
        · have hc9 : canA g ξ (some b) 1 = true := by unfold canA inA; simp [he, hj]
          rw [if_pos hc9] at h
          intro H locs ls hB hl
          have hj2 : (xcs g ξ)[q0]? = some (b, .inl (xc g 1, n9, x)) := by rw [hq, hj]
          exact va_castA E.1 E.2.1 E.2.2.2.1 (E.2.2.2.2 _ hlk9) hB.1 q0 hj2 (arrCls hB.2.2.2.1 1 rfl (fun _ h9 => by cases h9)) d (k h H locs ls hB hl)
        · have hc9 : ¬ canA g ξ (some b) 1 = true := by unfold canA inA; simp [he, hj]
          rw [if_neg hc9] at h
          exact xcastNo (C9 := "[Z") (nm := "[B") E hlt hlk (by decide +kernel) (by decide +kernel) hlk9 (by decide +kernel) (fun H locs hB => ⟨_, hB.1 q0 _ hq, vpvm, by rw [vpcls]; exact arrCls hB.2.2.2.1 2 rfl (fun _ h9 => by cases h9)⟩) hb hR hcat d h kX
      · by_cases hj : xc g 3 = xc g 1
        · have hc9 : canA g ξ (some b) 1 = true := by unfold canA inA; simp [he, hj]
          rw [if_pos hc9] at h
          intro H locs ls hB hl
          have hj2 : (xcs g ξ)[q0]? = some (b, .inl (xc g 1, n9, x)) := by rw [hq, hj]
          exact va_castA E.1 E.2.1 E.2.2.2.1 (E.2.2.2.2 _ hlk9) hB.1 q0 hj2 (arrCls hB.2.2.2.1 1 rfl (fun _ h9 => by cases h9)) d (k h H locs ls hB hl)
        · have hc9 : ¬ canA g ξ (some b) 1 = true := by unfold canA inA; simp [he, hj]
          rw [if_neg hc9] at h
          exact xcastNo (C9 := "[J") (nm := "[B") E hlt hlk (by decide +kernel) (by decide +kernel) hlk9 (by decide +kernel) (fun H locs hB => ⟨_, hB.1 q0 _ hq, vpvm, by rw [vpcls]; exact arrCls hB.2.2.2.1 3 rfl (fun _ h9 => by cases h9)⟩) hb hR hcat d h kX
      · by_cases hj : xc g 4 = xc g 1
        · have hc9 : canA g ξ (some b) 1 = true := by unfold canA inA; simp [he, hj]
          rw [if_pos hc9] at h
          intro H locs ls hB hl
          have hj2 : (xcs g ξ)[q0]? = some (b, .inl (xc g 1, n9, x)) := by rw [hq, hj]
          exact va_castA E.1 E.2.1 E.2.2.2.1 (E.2.2.2.2 _ hlk9) hB.1 q0 hj2 (arrCls hB.2.2.2.1 1 rfl (fun _ h9 => by cases h9)) d (k h H locs ls hB hl)
        · have hc9 : ¬ canA g ξ (some b) 1 = true := by unfold canA inA; simp [he, hj]
          rw [if_neg hc9] at h
          exact xcastNo (C9 := "[S") (nm := "[B") E hlt hlk (by decide +kernel) (by decide +kernel) hlk9 (by decide +kernel) (fun H locs hB => ⟨_, hB.1 q0 _ hq, vpvm, by rw [vpcls]; exact arrCls hB.2.2.2.1 4 rfl (fun _ h9 => by cases h9)⟩) hb hR hcat d h kX
  · rw [if_neg hi] at h; cases h
end XC
/-- a hat, or null -/
def okH (ξ : XS) (v : Option Nat) : Bool := match v with
  | none => true
  | some b => isC ξ b 8 14
def canH (ξ : XS) (v : Option Nat) (fam : List Nat) : Bool := match v with
  | none => true
  | some b => isH ξ b fam
section XC
variable {p : Program} {l : Launch} {e : Env} {R : Room} {s : State} {m : MethodId} {args : Array Value} {below : List Frame} {meth : Method} {c : Code} {nL cells slots : Nat} {A : Nat → Prop} {g : XG} {ξ : XS} {Q : State → Prop} {pc n : Nat} {lv : List (Nat × Value)} {st : List Value} {cc : ByteArray} {ρ : Type} {res : ρ}
theorem xkH_21 (E : EV p s m args c cc nL RX0) (hlt : l.stackTraces = false) (hlk : meth.locks = false) {mc ms : Nat} {v : Option Nat} {A9 : Prop} {kk : Nat → Prop} (hb : cells + mc ≤ R.cells ∧ slots + ms ≤ R.slots) (hR : 8 ≤ R.frames ∧ 10248 ≤ R.locals) (hcat : ((Value.ref 0 :: st).map fun v => v.category).sum ≤ 8) (d : decode cc pc = .ok (.checkcast 21, 3)) (h : if okH ξ v = true then (if canH ξ v [8, 9, 10, 11, 12, 13, 14] = true then A9 else mkX 3 850 mc ms kk) else False) (hn : pc + 3 = n) (kX : ∀ q, (cells + 3 + (mc - 3) ≤ R.cells ∧ slots + 850 + (ms - 850) ≤ R.slots) → kk q → CX p l e R s m args below meth c nL (cells + 3) (slots + 850) (XB g A s ξ) Q pc lv "java/lang/ClassCastException" q) (k : A9 → CF p l e R s m args below meth c nL cells slots (XB g A s ξ) Q n lv (va_rf v :: st)) : CF p l e R s m args below meth c nL cells slots (XB g A s ξ) Q pc lv (va_rf v :: st) := by
  by_cases hi : okH ξ v = true
  · rw [if_pos hi] at h
    cases v with
    | none =>
      have h : A9 := by simpa [canH] using h
      subst hn
      exact fun H locs ls hB hl => lv_castN E.1 E.2.1 d (k h H locs ls hB hl)
    | some b =>
      obtain ⟨ci, hci, h1, h2⟩ := isC_at (show isC ξ b 8 14 = true from hi)
      have hci9 : ci = 8 ∨ ci = 9 ∨ ci = 10 ∨ ci = 11 ∨ ci = 12 ∨ ci = 13 ∨ ci = 14 := by omega
      rcases hci9 with rfl | rfl | rfl | rfl | rfl | rfl | rfl
      · have hf : canH ξ (some b) [8, 9, 10, 11, 12, 13, 14] = true := by unfold canH isH; simp [hci]
        rw [if_pos hf] at h
        exact xcastS E (ci := 8) (q9 := (RX7, TX7, 5)) rfl q146 hci d hn (k h)
      · have hf : canH ξ (some b) [8, 9, 10, 11, 12, 13, 14] = true := by unfold canH isH; simp [hci]
        rw [if_pos hf] at h
        exact xcast (C := "") E (nm := "HatsDecide$Hat") q146 (ci := 9) (q9 := (RX8, TX8, 6)) hci rfl q2168 d hn (k h)
      · have hf : canH ξ (some b) [8, 9, 10, 11, 12, 13, 14] = true := by unfold canH isH; simp [hci]
        rw [if_pos hf] at h
        exact xcast (C := "") E (nm := "HatsDecide$Hat") q146 (ci := 10) (q9 := (RX9, TX9, 6)) hci rfl q2170 d hn (k h)
      · have hf : canH ξ (some b) [8, 9, 10, 11, 12, 13, 14] = true := by unfold canH isH; simp [hci]
        rw [if_pos hf] at h
        exact xcast (C := "") E (nm := "HatsDecide$Hat") q146 (ci := 11) (q9 := (RX10, TX10, 6)) hci rfl q2165 d hn (k h)
      · have hf : canH ξ (some b) [8, 9, 10, 11, 12, 13, 14] = true := by unfold canH isH; simp [hci]
        rw [if_pos hf] at h
        exact xcast (C := "") E (nm := "HatsDecide$Hat") q146 (ci := 12) (q9 := (RX11, TX11, 7)) hci rfl q2167 d hn (k h)
      · have hf : canH ξ (some b) [8, 9, 10, 11, 12, 13, 14] = true := by unfold canH isH; simp [hci]
        rw [if_pos hf] at h
        exact xcast (C := "") E (nm := "HatsDecide$Hat") q146 (ci := 13) (q9 := (RX12, TX12, 7)) hci rfl q2166 d hn (k h)
      · have hf : canH ξ (some b) [8, 9, 10, 11, 12, 13, 14] = true := by unfold canH isH; simp [hci]
        rw [if_pos hf] at h
        exact xcast (C := "") E (nm := "HatsDecide$Hat") q146 (ci := 14) (q9 := (RX13, TX13, 8)) hci rfl q2169 d hn (k h)
  · rw [if_neg hi] at h; cases h
theorem xkH_140 (E : EV p s m args c cc nL RX0) (hlt : l.stackTraces = false) (hlk : meth.locks = false) {mc ms : Nat} {v : Option Nat} {A9 : Prop} {kk : Nat → Prop} (hb : cells + mc ≤ R.cells ∧ slots + ms ≤ R.slots) (hR : 8 ≤ R.frames ∧ 10248 ≤ R.locals) (hcat : ((Value.ref 0 :: st).map fun v => v.category).sum ≤ 8) (d : decode cc pc = .ok (.checkcast 140, 3)) (h : if okH ξ v = true then (if canH ξ v [9, 12] = true then A9 else mkX 3 850 mc ms kk) else False) (hn : pc + 3 = n) (kX : ∀ q, (cells + 3 + (mc - 3) ≤ R.cells ∧ slots + 850 + (ms - 850) ≤ R.slots) → kk q → CX p l e R s m args below meth c nL (cells + 3) (slots + 850) (XB g A s ξ) Q pc lv "java/lang/ClassCastException" q) (k : A9 → CF p l e R s m args below meth c nL cells slots (XB g A s ξ) Q n lv (va_rf v :: st)) : CF p l e R s m args below meth c nL cells slots (XB g A s ξ) Q pc lv (va_rf v :: st) := by
  by_cases hi : okH ξ v = true
  · rw [if_pos hi] at h
    cases v with
    | none =>
      have h : A9 := by simpa [canH] using h
      subst hn
      exact fun H locs ls hB hl => lv_castN E.1 E.2.1 d (k h H locs ls hB hl)
    | some b =>
      obtain ⟨ci, hci, h1, h2⟩ := isC_at (show isC ξ b 8 14 = true from hi)
      have hci9 : ci = 8 ∨ ci = 9 ∨ ci = 10 ∨ ci = 11 ∨ ci = 12 ∨ ci = 13 ∨ ci = 14 := by omega
      rcases hci9 with rfl | rfl | rfl | rfl | rfl | rfl | rfl
      · have hf : ¬ canH ξ (some b) [9, 12] = true := by unfold canH isH; simp [hci]
        rw [if_neg hf] at h
        exact xcastNo (C9 := "HatsDecide$Hat") (nm := "HatsDecide$Tight") E hlt hlk (by decide +kernel) (by decide +kernel) q429 (by decide +kernel) (fun H locs hB => xrecv_cell hB (xrecv_d (q := (RX7, TX7, 5)) hci rfl)) hb hR hcat d h kX
      · have hf : canH ξ (some b) [9, 12] = true := by unfold canH isH; simp [hci]
        rw [if_pos hf] at h
        exact xcastS E (ci := 9) (q9 := (RX8, TX8, 6)) rfl q429 hci d hn (k h)
      · have hf : ¬ canH ξ (some b) [9, 12] = true := by unfold canH isH; simp [hci]
        rw [if_neg hf] at h
        exact xcastNo (C9 := "HatsDecide$Worn") (nm := "HatsDecide$Tight") E hlt hlk (by decide +kernel) (by decide +kernel) q429 (by decide +kernel) (fun H locs hB => xrecv_cell hB (xrecv_d (q := (RX9, TX9, 6)) hci rfl)) hb hR hcat d h kX
      · have hf : ¬ canH ξ (some b) [9, 12] = true := by unfold canH isH; simp [hci]
        rw [if_neg hf] at h
        exact xcastNo (C9 := "HatsDecide$Crown") (nm := "HatsDecide$Tight") E hlt hlk (by decide +kernel) (by decide +kernel) q429 (by decide +kernel) (fun H locs hB => xrecv_cell hB (xrecv_d (q := (RX10, TX10, 6)) hci rfl)) hb hR hcat d h kX
      · have hf : canH ξ (some b) [9, 12] = true := by unfold canH isH; simp [hci]
        rw [if_pos hf] at h
        exact xcast (C := "") E (nm := "HatsDecide$Tight") q429 (ci := 12) (q9 := (RX11, TX11, 7)) hci rfl q2171 d hn (k h)
      · have hf : ¬ canH ξ (some b) [9, 12] = true := by unfold canH isH; simp [hci]
        rw [if_neg hf] at h
        exact xcastNo (C9 := "HatsDecide$Frayed") (nm := "HatsDecide$Tight") E hlt hlk (by decide +kernel) (by decide +kernel) q429 (by decide +kernel) (fun H locs hB => xrecv_cell hB (xrecv_d (q := (RX12, TX12, 7)) hci rfl)) hb hR hcat d h kX
      · have hf : ¬ canH ξ (some b) [9, 12] = true := by unfold canH isH; simp [hci]
        rw [if_neg hf] at h
        exact xcastNo (C9 := "HatsDecide$Told") (nm := "HatsDecide$Tight") E hlt hlk (by decide +kernel) (by decide +kernel) q429 (by decide +kernel) (fun H locs hB => xrecv_cell hB (xrecv_d (q := (RX13, TX13, 8)) hci rfl)) hb hR hcat d h kX
  · rw [if_neg hi] at h; cases h
theorem xkH_145 (E : EV p s m args c cc nL RX0) (hlt : l.stackTraces = false) (hlk : meth.locks = false) {mc ms : Nat} {v : Option Nat} {A9 : Prop} {kk : Nat → Prop} (hb : cells + mc ≤ R.cells ∧ slots + ms ≤ R.slots) (hR : 8 ≤ R.frames ∧ 10248 ≤ R.locals) (hcat : ((Value.ref 0 :: st).map fun v => v.category).sum ≤ 8) (d : decode cc pc = .ok (.checkcast 145, 3)) (h : if okH ξ v = true then (if canH ξ v [10, 13] = true then A9 else mkX 3 850 mc ms kk) else False) (hn : pc + 3 = n) (kX : ∀ q, (cells + 3 + (mc - 3) ≤ R.cells ∧ slots + 850 + (ms - 850) ≤ R.slots) → kk q → CX p l e R s m args below meth c nL (cells + 3) (slots + 850) (XB g A s ξ) Q pc lv "java/lang/ClassCastException" q) (k : A9 → CF p l e R s m args below meth c nL cells slots (XB g A s ξ) Q n lv (va_rf v :: st)) : CF p l e R s m args below meth c nL cells slots (XB g A s ξ) Q pc lv (va_rf v :: st) := by
  by_cases hi : okH ξ v = true
  · rw [if_pos hi] at h
    cases v with
    | none =>
      have h : A9 := by simpa [canH] using h
      subst hn
      exact fun H locs ls hB hl => lv_castN E.1 E.2.1 d (k h H locs ls hB hl)
    | some b =>
      obtain ⟨ci, hci, h1, h2⟩ := isC_at (show isC ξ b 8 14 = true from hi)
      have hci9 : ci = 8 ∨ ci = 9 ∨ ci = 10 ∨ ci = 11 ∨ ci = 12 ∨ ci = 13 ∨ ci = 14 := by omega
      rcases hci9 with rfl | rfl | rfl | rfl | rfl | rfl | rfl
      · have hf : ¬ canH ξ (some b) [10, 13] = true := by unfold canH isH; simp [hci]
        rw [if_neg hf] at h
        exact xcastNo (C9 := "HatsDecide$Hat") (nm := "HatsDecide$Worn") E hlt hlk (by decide +kernel) (by decide +kernel) q472 (by decide +kernel) (fun H locs hB => xrecv_cell hB (xrecv_d (q := (RX7, TX7, 5)) hci rfl)) hb hR hcat d h kX
      · have hf : ¬ canH ξ (some b) [10, 13] = true := by unfold canH isH; simp [hci]
        rw [if_neg hf] at h
        exact xcastNo (C9 := "HatsDecide$Tight") (nm := "HatsDecide$Worn") E hlt hlk (by decide +kernel) (by decide +kernel) q472 (by decide +kernel) (fun H locs hB => xrecv_cell hB (xrecv_d (q := (RX8, TX8, 6)) hci rfl)) hb hR hcat d h kX
      · have hf : canH ξ (some b) [10, 13] = true := by unfold canH isH; simp [hci]
        rw [if_pos hf] at h
        exact xcastS E (ci := 10) (q9 := (RX9, TX9, 6)) rfl q472 hci d hn (k h)
      · have hf : ¬ canH ξ (some b) [10, 13] = true := by unfold canH isH; simp [hci]
        rw [if_neg hf] at h
        exact xcastNo (C9 := "HatsDecide$Crown") (nm := "HatsDecide$Worn") E hlt hlk (by decide +kernel) (by decide +kernel) q472 (by decide +kernel) (fun H locs hB => xrecv_cell hB (xrecv_d (q := (RX10, TX10, 6)) hci rfl)) hb hR hcat d h kX
      · have hf : ¬ canH ξ (some b) [10, 13] = true := by unfold canH isH; simp [hci]
        rw [if_neg hf] at h
        exact xcastNo (C9 := "HatsDecide$Stiff") (nm := "HatsDecide$Worn") E hlt hlk (by decide +kernel) (by decide +kernel) q472 (by decide +kernel) (fun H locs hB => xrecv_cell hB (xrecv_d (q := (RX11, TX11, 7)) hci rfl)) hb hR hcat d h kX
      · have hf : canH ξ (some b) [10, 13] = true := by unfold canH isH; simp [hci]
        rw [if_pos hf] at h
        exact xcast (C := "") E (nm := "HatsDecide$Worn") q472 (ci := 13) (q9 := (RX12, TX12, 7)) hci rfl q2172 d hn (k h)
      · have hf : ¬ canH ξ (some b) [10, 13] = true := by unfold canH isH; simp [hci]
        rw [if_neg hf] at h
        exact xcastNo (C9 := "HatsDecide$Told") (nm := "HatsDecide$Worn") E hlt hlk (by decide +kernel) (by decide +kernel) q472 (by decide +kernel) (fun H locs hB => xrecv_cell hB (xrecv_d (q := (RX13, TX13, 8)) hci rfl)) hb hR hcat d h kX
  · rw [if_neg hi] at h; cases h
theorem xkH_148 (E : EV p s m args c cc nL RX0) (hlt : l.stackTraces = false) (hlk : meth.locks = false) {mc ms : Nat} {v : Option Nat} {A9 : Prop} {kk : Nat → Prop} (hb : cells + mc ≤ R.cells ∧ slots + ms ≤ R.slots) (hR : 8 ≤ R.frames ∧ 10248 ≤ R.locals) (hcat : ((Value.ref 0 :: st).map fun v => v.category).sum ≤ 8) (d : decode cc pc = .ok (.checkcast 148, 3)) (h : if okH ξ v = true then (if canH ξ v [11, 14] = true then A9 else mkX 3 850 mc ms kk) else False) (hn : pc + 3 = n) (kX : ∀ q, (cells + 3 + (mc - 3) ≤ R.cells ∧ slots + 850 + (ms - 850) ≤ R.slots) → kk q → CX p l e R s m args below meth c nL (cells + 3) (slots + 850) (XB g A s ξ) Q pc lv "java/lang/ClassCastException" q) (k : A9 → CF p l e R s m args below meth c nL cells slots (XB g A s ξ) Q n lv (va_rf v :: st)) : CF p l e R s m args below meth c nL cells slots (XB g A s ξ) Q pc lv (va_rf v :: st) := by
  by_cases hi : okH ξ v = true
  · rw [if_pos hi] at h
    cases v with
    | none =>
      have h : A9 := by simpa [canH] using h
      subst hn
      exact fun H locs ls hB hl => lv_castN E.1 E.2.1 d (k h H locs ls hB hl)
    | some b =>
      obtain ⟨ci, hci, h1, h2⟩ := isC_at (show isC ξ b 8 14 = true from hi)
      have hci9 : ci = 8 ∨ ci = 9 ∨ ci = 10 ∨ ci = 11 ∨ ci = 12 ∨ ci = 13 ∨ ci = 14 := by omega
      rcases hci9 with rfl | rfl | rfl | rfl | rfl | rfl | rfl
      · have hf : ¬ canH ξ (some b) [11, 14] = true := by unfold canH isH; simp [hci]
        rw [if_neg hf] at h
        exact xcastNo (C9 := "HatsDecide$Hat") (nm := "HatsDecide$Crown") E hlt hlk (by decide +kernel) (by decide +kernel) q487 (by decide +kernel) (fun H locs hB => xrecv_cell hB (xrecv_d (q := (RX7, TX7, 5)) hci rfl)) hb hR hcat d h kX
      · have hf : ¬ canH ξ (some b) [11, 14] = true := by unfold canH isH; simp [hci]
        rw [if_neg hf] at h
        exact xcastNo (C9 := "HatsDecide$Tight") (nm := "HatsDecide$Crown") E hlt hlk (by decide +kernel) (by decide +kernel) q487 (by decide +kernel) (fun H locs hB => xrecv_cell hB (xrecv_d (q := (RX8, TX8, 6)) hci rfl)) hb hR hcat d h kX
      · have hf : ¬ canH ξ (some b) [11, 14] = true := by unfold canH isH; simp [hci]
        rw [if_neg hf] at h
        exact xcastNo (C9 := "HatsDecide$Worn") (nm := "HatsDecide$Crown") E hlt hlk (by decide +kernel) (by decide +kernel) q487 (by decide +kernel) (fun H locs hB => xrecv_cell hB (xrecv_d (q := (RX9, TX9, 6)) hci rfl)) hb hR hcat d h kX
      · have hf : canH ξ (some b) [11, 14] = true := by unfold canH isH; simp [hci]
        rw [if_pos hf] at h
        exact xcastS E (ci := 11) (q9 := (RX10, TX10, 6)) rfl q487 hci d hn (k h)
      · have hf : ¬ canH ξ (some b) [11, 14] = true := by unfold canH isH; simp [hci]
        rw [if_neg hf] at h
        exact xcastNo (C9 := "HatsDecide$Stiff") (nm := "HatsDecide$Crown") E hlt hlk (by decide +kernel) (by decide +kernel) q487 (by decide +kernel) (fun H locs hB => xrecv_cell hB (xrecv_d (q := (RX11, TX11, 7)) hci rfl)) hb hR hcat d h kX
      · have hf : ¬ canH ξ (some b) [11, 14] = true := by unfold canH isH; simp [hci]
        rw [if_neg hf] at h
        exact xcastNo (C9 := "HatsDecide$Frayed") (nm := "HatsDecide$Crown") E hlt hlk (by decide +kernel) (by decide +kernel) q487 (by decide +kernel) (fun H locs hB => xrecv_cell hB (xrecv_d (q := (RX12, TX12, 7)) hci rfl)) hb hR hcat d h kX
      · have hf : canH ξ (some b) [11, 14] = true := by unfold canH isH; simp [hci]
        rw [if_pos hf] at h
        exact xcast (C := "") E (nm := "HatsDecide$Crown") q487 (ci := 14) (q9 := (RX13, TX13, 8)) hci rfl q2173 d hn (k h)
  · rw [if_neg hi] at h; cases h
theorem xkH_151 (E : EV p s m args c cc nL RX0) (hlt : l.stackTraces = false) (hlk : meth.locks = false) {mc ms : Nat} {v : Option Nat} {A9 : Prop} {kk : Nat → Prop} (hb : cells + mc ≤ R.cells ∧ slots + ms ≤ R.slots) (hR : 8 ≤ R.frames ∧ 10248 ≤ R.locals) (hcat : ((Value.ref 0 :: st).map fun v => v.category).sum ≤ 8) (d : decode cc pc = .ok (.checkcast 151, 3)) (h : if okH ξ v = true then (if canH ξ v [12] = true then A9 else mkX 3 850 mc ms kk) else False) (hn : pc + 3 = n) (kX : ∀ q, (cells + 3 + (mc - 3) ≤ R.cells ∧ slots + 850 + (ms - 850) ≤ R.slots) → kk q → CX p l e R s m args below meth c nL (cells + 3) (slots + 850) (XB g A s ξ) Q pc lv "java/lang/ClassCastException" q) (k : A9 → CF p l e R s m args below meth c nL cells slots (XB g A s ξ) Q n lv (va_rf v :: st)) : CF p l e R s m args below meth c nL cells slots (XB g A s ξ) Q pc lv (va_rf v :: st) := by
  by_cases hi : okH ξ v = true
  · rw [if_pos hi] at h
    cases v with
    | none =>
      have h : A9 := by simpa [canH] using h
      subst hn
      exact fun H locs ls hB hl => lv_castN E.1 E.2.1 d (k h H locs ls hB hl)
    | some b =>
      obtain ⟨ci, hci, h1, h2⟩ := isC_at (show isC ξ b 8 14 = true from hi)
      have hci9 : ci = 8 ∨ ci = 9 ∨ ci = 10 ∨ ci = 11 ∨ ci = 12 ∨ ci = 13 ∨ ci = 14 := by omega
      rcases hci9 with rfl | rfl | rfl | rfl | rfl | rfl | rfl
      · have hf : ¬ canH ξ (some b) [12] = true := by unfold canH isH; simp [hci]
        rw [if_neg hf] at h
        exact xcastNo (C9 := "HatsDecide$Hat") (nm := "HatsDecide$Stiff") E hlt hlk (by decide +kernel) (by decide +kernel) q502 (by decide +kernel) (fun H locs hB => xrecv_cell hB (xrecv_d (q := (RX7, TX7, 5)) hci rfl)) hb hR hcat d h kX
      · have hf : ¬ canH ξ (some b) [12] = true := by unfold canH isH; simp [hci]
        rw [if_neg hf] at h
        exact xcastNo (C9 := "HatsDecide$Tight") (nm := "HatsDecide$Stiff") E hlt hlk (by decide +kernel) (by decide +kernel) q502 (by decide +kernel) (fun H locs hB => xrecv_cell hB (xrecv_d (q := (RX8, TX8, 6)) hci rfl)) hb hR hcat d h kX
      · have hf : ¬ canH ξ (some b) [12] = true := by unfold canH isH; simp [hci]
        rw [if_neg hf] at h
        exact xcastNo (C9 := "HatsDecide$Worn") (nm := "HatsDecide$Stiff") E hlt hlk (by decide +kernel) (by decide +kernel) q502 (by decide +kernel) (fun H locs hB => xrecv_cell hB (xrecv_d (q := (RX9, TX9, 6)) hci rfl)) hb hR hcat d h kX
      · have hf : ¬ canH ξ (some b) [12] = true := by unfold canH isH; simp [hci]
        rw [if_neg hf] at h
        exact xcastNo (C9 := "HatsDecide$Crown") (nm := "HatsDecide$Stiff") E hlt hlk (by decide +kernel) (by decide +kernel) q502 (by decide +kernel) (fun H locs hB => xrecv_cell hB (xrecv_d (q := (RX10, TX10, 6)) hci rfl)) hb hR hcat d h kX
      · have hf : canH ξ (some b) [12] = true := by unfold canH isH; simp [hci]
        rw [if_pos hf] at h
        exact xcastS E (ci := 12) (q9 := (RX11, TX11, 7)) rfl q502 hci d hn (k h)
      · have hf : ¬ canH ξ (some b) [12] = true := by unfold canH isH; simp [hci]
        rw [if_neg hf] at h
        exact xcastNo (C9 := "HatsDecide$Frayed") (nm := "HatsDecide$Stiff") E hlt hlk (by decide +kernel) (by decide +kernel) q502 (by decide +kernel) (fun H locs hB => xrecv_cell hB (xrecv_d (q := (RX12, TX12, 7)) hci rfl)) hb hR hcat d h kX
      · have hf : ¬ canH ξ (some b) [12] = true := by unfold canH isH; simp [hci]
        rw [if_neg hf] at h
        exact xcastNo (C9 := "HatsDecide$Told") (nm := "HatsDecide$Stiff") E hlt hlk (by decide +kernel) (by decide +kernel) q502 (by decide +kernel) (fun H locs hB => xrecv_cell hB (xrecv_d (q := (RX13, TX13, 8)) hci rfl)) hb hR hcat d h kX
  · rw [if_neg hi] at h; cases h
theorem xkH_154 (E : EV p s m args c cc nL RX0) (hlt : l.stackTraces = false) (hlk : meth.locks = false) {mc ms : Nat} {v : Option Nat} {A9 : Prop} {kk : Nat → Prop} (hb : cells + mc ≤ R.cells ∧ slots + ms ≤ R.slots) (hR : 8 ≤ R.frames ∧ 10248 ≤ R.locals) (hcat : ((Value.ref 0 :: st).map fun v => v.category).sum ≤ 8) (d : decode cc pc = .ok (.checkcast 154, 3)) (h : if okH ξ v = true then (if canH ξ v [13] = true then A9 else mkX 3 850 mc ms kk) else False) (hn : pc + 3 = n) (kX : ∀ q, (cells + 3 + (mc - 3) ≤ R.cells ∧ slots + 850 + (ms - 850) ≤ R.slots) → kk q → CX p l e R s m args below meth c nL (cells + 3) (slots + 850) (XB g A s ξ) Q pc lv "java/lang/ClassCastException" q) (k : A9 → CF p l e R s m args below meth c nL cells slots (XB g A s ξ) Q n lv (va_rf v :: st)) : CF p l e R s m args below meth c nL cells slots (XB g A s ξ) Q pc lv (va_rf v :: st) := by
  by_cases hi : okH ξ v = true
  · rw [if_pos hi] at h
    cases v with
    | none =>
      have h : A9 := by simpa [canH] using h
      subst hn
      exact fun H locs ls hB hl => lv_castN E.1 E.2.1 d (k h H locs ls hB hl)
    | some b =>
      obtain ⟨ci, hci, h1, h2⟩ := isC_at (show isC ξ b 8 14 = true from hi)
      have hci9 : ci = 8 ∨ ci = 9 ∨ ci = 10 ∨ ci = 11 ∨ ci = 12 ∨ ci = 13 ∨ ci = 14 := by omega
      rcases hci9 with rfl | rfl | rfl | rfl | rfl | rfl | rfl
      · have hf : ¬ canH ξ (some b) [13] = true := by unfold canH isH; simp [hci]
        rw [if_neg hf] at h
        exact xcastNo (C9 := "HatsDecide$Hat") (nm := "HatsDecide$Frayed") E hlt hlk (by decide +kernel) (by decide +kernel) q518 (by decide +kernel) (fun H locs hB => xrecv_cell hB (xrecv_d (q := (RX7, TX7, 5)) hci rfl)) hb hR hcat d h kX
      · have hf : ¬ canH ξ (some b) [13] = true := by unfold canH isH; simp [hci]
        rw [if_neg hf] at h
        exact xcastNo (C9 := "HatsDecide$Tight") (nm := "HatsDecide$Frayed") E hlt hlk (by decide +kernel) (by decide +kernel) q518 (by decide +kernel) (fun H locs hB => xrecv_cell hB (xrecv_d (q := (RX8, TX8, 6)) hci rfl)) hb hR hcat d h kX
      · have hf : ¬ canH ξ (some b) [13] = true := by unfold canH isH; simp [hci]
        rw [if_neg hf] at h
        exact xcastNo (C9 := "HatsDecide$Worn") (nm := "HatsDecide$Frayed") E hlt hlk (by decide +kernel) (by decide +kernel) q518 (by decide +kernel) (fun H locs hB => xrecv_cell hB (xrecv_d (q := (RX9, TX9, 6)) hci rfl)) hb hR hcat d h kX
      · have hf : ¬ canH ξ (some b) [13] = true := by unfold canH isH; simp [hci]
        rw [if_neg hf] at h
        exact xcastNo (C9 := "HatsDecide$Crown") (nm := "HatsDecide$Frayed") E hlt hlk (by decide +kernel) (by decide +kernel) q518 (by decide +kernel) (fun H locs hB => xrecv_cell hB (xrecv_d (q := (RX10, TX10, 6)) hci rfl)) hb hR hcat d h kX
      · have hf : ¬ canH ξ (some b) [13] = true := by unfold canH isH; simp [hci]
        rw [if_neg hf] at h
        exact xcastNo (C9 := "HatsDecide$Stiff") (nm := "HatsDecide$Frayed") E hlt hlk (by decide +kernel) (by decide +kernel) q518 (by decide +kernel) (fun H locs hB => xrecv_cell hB (xrecv_d (q := (RX11, TX11, 7)) hci rfl)) hb hR hcat d h kX
      · have hf : canH ξ (some b) [13] = true := by unfold canH isH; simp [hci]
        rw [if_pos hf] at h
        exact xcastS E (ci := 13) (q9 := (RX12, TX12, 7)) rfl q518 hci d hn (k h)
      · have hf : ¬ canH ξ (some b) [13] = true := by unfold canH isH; simp [hci]
        rw [if_neg hf] at h
        exact xcastNo (C9 := "HatsDecide$Told") (nm := "HatsDecide$Frayed") E hlt hlk (by decide +kernel) (by decide +kernel) q518 (by decide +kernel) (fun H locs hB => xrecv_cell hB (xrecv_d (q := (RX13, TX13, 8)) hci rfl)) hb hR hcat d h kX
  · rw [if_neg hi] at h; cases h
theorem xkH_157 (E : EV p s m args c cc nL RX0) (hlt : l.stackTraces = false) (hlk : meth.locks = false) {mc ms : Nat} {v : Option Nat} {A9 : Prop} {kk : Nat → Prop} (hb : cells + mc ≤ R.cells ∧ slots + ms ≤ R.slots) (hR : 8 ≤ R.frames ∧ 10248 ≤ R.locals) (hcat : ((Value.ref 0 :: st).map fun v => v.category).sum ≤ 8) (d : decode cc pc = .ok (.checkcast 157, 3)) (h : if okH ξ v = true then (if canH ξ v [14] = true then A9 else mkX 3 850 mc ms kk) else False) (hn : pc + 3 = n) (kX : ∀ q, (cells + 3 + (mc - 3) ≤ R.cells ∧ slots + 850 + (ms - 850) ≤ R.slots) → kk q → CX p l e R s m args below meth c nL (cells + 3) (slots + 850) (XB g A s ξ) Q pc lv "java/lang/ClassCastException" q) (k : A9 → CF p l e R s m args below meth c nL cells slots (XB g A s ξ) Q n lv (va_rf v :: st)) : CF p l e R s m args below meth c nL cells slots (XB g A s ξ) Q pc lv (va_rf v :: st) := by
  by_cases hi : okH ξ v = true
  · rw [if_pos hi] at h
    cases v with
    | none =>
      have h : A9 := by simpa [canH] using h
      subst hn
      exact fun H locs ls hB hl => lv_castN E.1 E.2.1 d (k h H locs ls hB hl)
    | some b =>
      obtain ⟨ci, hci, h1, h2⟩ := isC_at (show isC ξ b 8 14 = true from hi)
      have hci9 : ci = 8 ∨ ci = 9 ∨ ci = 10 ∨ ci = 11 ∨ ci = 12 ∨ ci = 13 ∨ ci = 14 := by omega
      rcases hci9 with rfl | rfl | rfl | rfl | rfl | rfl | rfl
      · have hf : ¬ canH ξ (some b) [14] = true := by unfold canH isH; simp [hci]
        rw [if_neg hf] at h
        exact xcastNo (C9 := "HatsDecide$Hat") (nm := "HatsDecide$Told") E hlt hlk (by decide +kernel) (by decide +kernel) q534 (by decide +kernel) (fun H locs hB => xrecv_cell hB (xrecv_d (q := (RX7, TX7, 5)) hci rfl)) hb hR hcat d h kX
      · have hf : ¬ canH ξ (some b) [14] = true := by unfold canH isH; simp [hci]
        rw [if_neg hf] at h
        exact xcastNo (C9 := "HatsDecide$Tight") (nm := "HatsDecide$Told") E hlt hlk (by decide +kernel) (by decide +kernel) q534 (by decide +kernel) (fun H locs hB => xrecv_cell hB (xrecv_d (q := (RX8, TX8, 6)) hci rfl)) hb hR hcat d h kX
      · have hf : ¬ canH ξ (some b) [14] = true := by unfold canH isH; simp [hci]
        rw [if_neg hf] at h
        exact xcastNo (C9 := "HatsDecide$Worn") (nm := "HatsDecide$Told") E hlt hlk (by decide +kernel) (by decide +kernel) q534 (by decide +kernel) (fun H locs hB => xrecv_cell hB (xrecv_d (q := (RX9, TX9, 6)) hci rfl)) hb hR hcat d h kX
      · have hf : ¬ canH ξ (some b) [14] = true := by unfold canH isH; simp [hci]
        rw [if_neg hf] at h
        exact xcastNo (C9 := "HatsDecide$Crown") (nm := "HatsDecide$Told") E hlt hlk (by decide +kernel) (by decide +kernel) q534 (by decide +kernel) (fun H locs hB => xrecv_cell hB (xrecv_d (q := (RX10, TX10, 6)) hci rfl)) hb hR hcat d h kX
      · have hf : ¬ canH ξ (some b) [14] = true := by unfold canH isH; simp [hci]
        rw [if_neg hf] at h
        exact xcastNo (C9 := "HatsDecide$Stiff") (nm := "HatsDecide$Told") E hlt hlk (by decide +kernel) (by decide +kernel) q534 (by decide +kernel) (fun H locs hB => xrecv_cell hB (xrecv_d (q := (RX11, TX11, 7)) hci rfl)) hb hR hcat d h kX
      · have hf : ¬ canH ξ (some b) [14] = true := by unfold canH isH; simp [hci]
        rw [if_neg hf] at h
        exact xcastNo (C9 := "HatsDecide$Frayed") (nm := "HatsDecide$Told") E hlt hlk (by decide +kernel) (by decide +kernel) q534 (by decide +kernel) (fun H locs hB => xrecv_cell hB (xrecv_d (q := (RX12, TX12, 7)) hci rfl)) hb hR hcat d h kX
      · have hf : canH ξ (some b) [14] = true := by unfold canH isH; simp [hci]
        rw [if_pos hf] at h
        exact xcastS E (ci := 14) (q9 := (RX13, TX13, 8)) rfl q534 hci d hn (k h)
  · rw [if_neg hi] at h; cases h
theorem xkindN (E : EV p s m args c cc nL RX0) (hlt : l.stackTraces = false) (hlk : meth.locks = false) {mc ms : Nat} {kk : Nat → Prop} (hb : cells + mc ≤ R.cells ∧ slots + ms ≤ R.slots) (hR : 8 ≤ R.frames ∧ 10248 ≤ R.locals) (hcat : (st.map fun v => v.category).sum ≤ 8) (d : decode cc pc = .ok (.invokevirtual 178, 3)) (h : mkX 1 8 mc ms kk)
    (k : ∀ q, (cells + 1 + (mc - 1) ≤ R.cells ∧ slots + 8 + (ms - 8) ≤ R.slots) → kk q → CX p l e R s m args below meth c nL (cells + 1) (slots + 8) (XB g A s ξ) Q pc lv "java/lang/NullPointerException" q) : CF p l e R s m args below meth c nL cells slots (XB g A s ξ) Q pc lv (.null :: st) :=
  fun H locs ls hB hl => vx_invokeN (C := "HatsDecide$Hat") (As := []) E.1 E.2.1 E.2.2.2.1 (E.2.2.2.2 _ q570) (E.2.2.2.2 _ q571) (E.2.2.2.2 _ q592) (E.2.2.2.2 _ q572) (by decide) (by decide +kernel) d (cx_npe E hlt hlk hb h.1 h.2.1 hR hcat (fun q hq => k q hq (h.2.2 q)) hB hl) rfl
end XC
