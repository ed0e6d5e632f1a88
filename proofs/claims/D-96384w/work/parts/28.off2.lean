/-! new Off(x): printed by gen/off2.py -/
set_option maxRecDepth 100000
def offFs0 : List Value := [.null, .null, .null, .null, .null, .int 0, .int 0]
/-- a new Off of place x -/
def mkOff (ξ : XS) (x : Int32) (mc ms : Nat) (kk : Nat → XS → Prop) : Prop := 1 ≤ mc ∧ 7 ≤ ms ∧ ∀ (q : Nat) (fs : List Value), q ∉ xL ξ → fs.length = 7 → vp_V fs 6 = .int x → kk q (pXd ξ q (.inr (16, fs)))
def MetO (l : Launch) (g : XG) (a : Nat) (x : Int32) (ξ : XS) (K : XS → Prop) : Prop := ∀ sz, Met l yX15_init (ws_ yX15_init cX15_init 2 none) { frames := 5, cells := 0, slots := 0, locals := 100 } (fun v U => XPc g ξ [.ref a, .int x] sz v U ∧ free9 a U.heap) (va_Qv K (XBt g (va_A (xcs g ξ) sz)) (va_A (xcs g ξ) sz)) 0 0 (va_A (xcs g ξ) sz)
theorem oblind {g : XG} {ξ : XS} {As : List Value} {sz a : Nat} : FrameBlind (fun v U => XPc g ξ As sz v U ∧ free9 a U.heap) := fun v U g9 mk q => ⟨xblind v U g9 mk q.1, q.2⟩
section XC
variable {p : Program} {l : Launch} {e : Env} {R : Room} {s : State} {m : MethodId} {args : Array Value} {below : List Frame} {meth : Method} {c : Code} {nL cells slots : Nat} {A : Nat → Prop} {g : XG} {ξ : XS} {Q : State → Prop} {pc n : Nat} {lv : List (Nat × Value)} {st : List Value} {cc : ByteArray}
theorem xnewO {own : String} (E : EV p s m args c cc nL own) {idx mc ms : Nat} (hcl : Cond.classLink own idx offN ∈ lw_all) (hb : cells + mc ≤ R.cells ∧ slots + ms ≤ R.slots) (hm : 1 ≤ mc) (hs : 7 ≤ ms) (d : decode cc pc = .ok (.new idx, 3)) (hn : pc + 3 = n)
    (k : ∀ q, q ∉ xL ξ → (cells + 1 + (mc - 1) ≤ R.cells ∧ slots + 7 + (ms - 7) ≤ R.slots) → CF p l e R s m args below meth c nL (cells + 1) (slots + 7) (XB9 g A s (pXd ξ q (.inr (16, offFs0))) q) Q n lv (.ref q :: st)) : CF p l e R s m args below meth c nL cells slots (XB g A s ξ) Q pc lv st := by
  subst hn
  intro H locs ls hB hl
  have hKn := hB.2.2.2.1.1 16 _ (show vwCl[16]? = some (RX15, TX15, 7) from rfl)
  refine W.newcK E.1 E.2.1 E.2.2.2.1 (E.2.2.2.2 _ hcl) (E.2.2.2.2 _ q819) (E.2.2.2.2 _ q123) rfl d (by omega) (by omega) hKn.2.1 rfl fun H1 kC hkC e1 z1 o1 => ?_
  have hk : ∀ (k : Nat) (x : Nat × va_E), (xcs g ξ)[k]? = some x → H1[x.1]? = H[x.1]? := fun k x hx => o1 x.1 ((hB.1 k x hx).lt)
  have hP : va_P g.1 vwCl (xcs g ξ ++ [(H.size, .inr (16, offFs0))]) H1 := (hB.1.kept hk).app (fun k x hx => by
    have hz : k < 1 := (List.getElem?_eq_some_iff.mp hx).1
    rw [show k = 0 by omega] at hx
    cases hx
    exact ⟨_, rfl, (u_born tyX15 E.2.2.2.2 in_X15 hKn hkC e1 tyX15_ok).to (by decide)⟩)
  have hD : va_D A (xcs g ξ ++ [(H.size, .inr (16, offFs0))]) := hB.2.1.push hB.1 rfl (hB.2.2.2.2.1 _ hB.2.2.1.1)
  have hS : va_S A s.heap H1 locs := ⟨Nat.le_trans hB.2.2.1.1 (by omega), fun x h1 h2 => (o1 x (Nat.lt_of_lt_of_le h1 hB.2.2.1.1)).trans (hB.2.2.1.2.1 x h1 h2), hB.2.2.1.2.2⟩
  have hq := xpush hD
  rw [xcs_push hq] at hP hD
  exact k H.size hq ⟨by omega, by omega⟩ H1 locs ls ⟨⟨hP, hD, hS, hB.2.2.2⟩, _, e1, rfl, rfl⟩ hl
end XC
theorem met_off {l : Launch} (hl : l.stackTraces = false) (g : XG) (a : Nat) (x : Int32) (ξ : XS) (fs : List Value) (he : dE ξ a = some (.inr (16, fs))) (h4 : vp_V fs 4 = .null) : MetO l g a x ξ (fun ξ1 => ∃ fs' : List Value, fs'.length = 7 ∧ vp_V fs' 6 = .int x ∧ ξ1 = sXd ξ a (.inr (16, fs'))) := by
  intro sz
  refine Met.ofW (cc := cX15_init) (maxL := 2) (ret := none) (by decide) rfl ?_
  intro p e s m args below meth c s₁ B hml hv
  obtain ⟨⟨rfl, hsz, hP, hK, hD0, hN⟩, hfr⟩ := hv
  have hts := atoms_spec (ws := ws_ yX15_init cX15_init 2 none) B.pre
  have hts : ∀ w ∈ lw_all, w.before _ s = true := fun w h => hts w (List.mem_cons_of_mem _ h)
  have hown : s.vm.findClass offN = some m.cls := findClass_of_methodNamed B.named
  have hin : meth.name = "<init>" := (name_of_methodNamed B.named B.method).1
  have hlocks := B.notSynchronized
  subst hsz
  have hD := hD0.self (sz := s.heap.size)
  have hA : ∀ q : Nat, s.heap.size ≤ q → va_A (xcs g ξ) s.heap.size q := fun q h => Or.inr h
  have hS : va_S (va_A (xcs g ξ) s.heap.size) s.heap s.heap [] := va_S.rf
  have hl9 := lv_entry [.ref a, .int x] (n := 2) (Nat.le_of_ble_eq_true rfl)
  rw [lg_entry_eq]
  rw [show lv_args 0 [.ref a, .int x] = [(0, .ref a), (1, .int x)] from rfl] at hl9
  have E : EV p s m [Value.ref a, .int x].toArray c cX15_init 2 offN := ⟨B.exec, B.bytes, hml, hown, hts⟩
  have hb : CF p l e { frames := 5, cells := 0, slots := 0, locals := 100 } s m [Value.ref a, .int x].toArray below meth c 2 0 0 (XB9 g (va_A (xcs g ξ) s.heap.size) s ξ a) (MQ below (va_Qv (fun ξ1 => ∃ fs' : List Value, fs'.length = 7 ∧ vp_V fs' 6 = .int x ∧ ξ1 = sXd ξ a (.inr (16, fs'))) (XBt g (va_A (xcs g ξ) s.heap.size)) (va_A (xcs g ξ) s.heap.size)) [Value.ref a, .int x].toArray s 0 0 (va_A (xcs g ξ) s.heap.size)) 0 [(0, .ref a), (1, .int x)] [] := by
    refine cf_aload_n E dX15_init_0 0 rfl rfl ?_
    refine xsupT E hl he h4 ⟨by decide, by decide⟩ ⟨Nat.le_refl _, Nat.le_refl _⟩ (Nat.le_of_ble_eq_true rfl) dX15_init_1 rfl (fun fs' hf1 hf2 => ?_)
    refine cf_aload_n E dX15_init_4 0 rfl rfl ?_
    refine cf_iload_n E dX15_init_5 1 rfl rfl ?_
    refine xdpF (C9 := RX15) (T := TX15) (N := 7) (ci := 16) (j := 6) (ty := .int) E in_X15 (fun D9 hK9 => va_apart (own := offN) E.2.2.2.2 in_X15 tyX15 tyX15_ok nmX15 hK9 rfl) rfl (dE_sX (dE_in he)) (by decide) q885 (fun _ h9 => h9) rfl hin rfl (by decide +kernel) rfl rfl (by omega) dX15_init_6 rfl ?_
    rw [sXd2]
    intro H locs ls hB hl
    obtain ⟨hP9, hD9, hS9, hK9, -⟩ := hB
    exact W.vret B.exec B.bytes B.returns (fun t ht hW => ⟨⟨_, rfl, ⟨fs'.set 6 (.int x), by simp [hf1], by simp [vp_V, List.getD_eq_getElem?_getD, List.getElem?_set, hf1], rfl⟩, by rw [ht]; exact hP9, va_K.moved hW.alike hK9, hD9⟩, hS9.F ht⟩) hS9.2.2 dX15_init_9 hlocks
  exact hb s.heap [] _ ⟨⟨hP, hD, hS, hK, hA, hN⟩, hfr⟩ hl9
section XC
variable {p : Program} {l : Launch} {e : Env} {R : Room} {s : State} {m : MethodId} {args : Array Value} {below : List Frame} {meth : Method} {c : Code} {nL cells slots : Nat} {A : Nat → Prop} {g : XG} {ξ : XS} {Q : State → Prop} {pc n : Nat} {lv : List (Nat × Value)} {st : List Value} {cc : ByteArray}
theorem xinitO {own : String} (E : EV p s m args c cc nL own) (hlt : l.stackTraces = false) {idx q : Nat} {x : Int32} (hq : q ∉ xL ξ) (hlk : Cond.methodLink own idx yX15_init ∈ lw_all) (hR : 6 ≤ R.frames ∧ 121 ≤ R.locals) (hc : cells ≤ R.cells ∧ slots ≤ R.slots) (hcat : (st.map fun v => v.category).sum ≤ 8) (d : decode cc pc = .ok (.invokespecial idx, 3)) (hn : pc + 3 = n)
    (k : ∀ fs : List Value, fs.length = 7 → vp_V fs 6 = .int x → CF p l e R s m args below meth c nL cells slots (XB g A s (pXd ξ q (.inr (16, fs)))) Q n lv st) : CF p l e R s m args below meth c nL cells slots (XB9 g A s (pXd ξ q (.inr (16, offFs0))) q) Q pc lv (.int x :: .ref q :: st) := by
  subst hn
  intro H locs ls hB9 hl
  obtain ⟨hB, hF⟩ := hB9
  refine va_callv (va_runI (As := [.int x]) (rest := st) E (met_off hlt g q x _ offFs0 dE_pX rfl H.size) (cwI 1 E.2.2.2.2 (lw_good (fun w hw => (List.mem_cons.mp hw).elim (fun h => by rw [h]; exact q877) id)) rfl rfl rfl (E.2.2.2.2 _ q123) (E.2.2.2.2 _ hlk) (E.2.2.2.2 _ q876) rfl ⟨by decide, by decide, by decide +kernel⟩ ⟨hR.1, hR.2⟩) ⟨oblind, fun U hU hW => ⟨xpre hB U hU hW, by rw [hU]; exact hF⟩⟩ rfl rfl (hl.1) rfl (lv_room hcat) d hc) hB.2.2.1 (fun q _ h => xfree hB q h) (xfree hB) (fun u t H1 locs1 ht hvm hw1 hB1 hz1 hk1 hS => ?_)
  obtain ⟨fs, h1, h2, rfl⟩ := hw1
  rw [sXpX] at hB1
  exact k fs h1 h2 H1 locs1 ls (xbehind hB ht hB1 hS) hl
end XC
