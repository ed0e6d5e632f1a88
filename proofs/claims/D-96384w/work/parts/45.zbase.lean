/-! THE ROWS AGAIN, over made cells alone: printed by gen/zero.py -/
set_option maxRecDepth 100000
def xst_0 (g : XG) (ξ : XS) : va_W := []
def xcs_0 (g : XG) (ξ : XS) : va_W := xst_0 g ξ ++ va_pl (xL ξ) (xd ξ)
def XB_0 (g : XG) (A : Nat → Prop) (s : State) (ξ : XS) (H : Heap) (locs : List Loc) : Prop :=
  va_P g.1 vwCl (xcs_0 g ξ) H ∧ va_D A (xcs_0 g ξ) ∧ va_S A s.heap H locs ∧ va_K g.1 vwCl (xty g) s ∧ (∀ q, s.heap.size ≤ q → A q) ∧ GV g A s
def XPc_0 (g : XG) (ξ : XS) (As : List Value) (sz : Nat) : Array Value → State → Prop := va_Pc As (fun U => U.heap.size = sz ∧ va_P g.1 vwCl (xcs_0 g ξ) U.heap ∧ va_K g.1 vwCl (xty g) U ∧ va_D (fun _ => True) (xcs_0 g ξ) ∧ GV g (va_A (xcs_0 g ξ) sz) U)
def XBt_0 (g : XG) (A : Nat → Prop) (u : XS) (t : State) : Prop := va_P g.1 vwCl (xcs_0 g u) t.heap ∧ va_K g.1 vwCl (xty g) t ∧ va_D A (xcs_0 g u)
section XC
variable {p : Program} {l : Launch} {e : Env} {R : Room} {s : State} {m : MethodId} {args : Array Value} {below : List Frame} {meth : Method} {c : Code} {nL cells slots : Nat} {A : Nat → Prop} {g : XG} {ξ : XS} {Q : State → Prop} {pc n : Nat} {lv : List (Nat × Value)} {st : List Value} {cc : ByteArray} {ρ : Type} {res : ρ}
set_option maxHeartbeats 4000000 in
theorem dE_at_0 {g : XG} {ξ : XS} {a : Nat} {e : va_E} (h : dE ξ a = some e) : ∃ q0 : Nat, (xcs_0 g ξ)[q0]? = some (a, e) := by
  unfold dE at h
  by_cases ha : a ∈ xL ξ
  · rw [if_pos ha] at h
    cases h
    obtain ⟨k, hk⟩ := va_pl_get (X := xst_0 g ξ) (f := xd ξ) ha
    exact ⟨k, hk⟩
  · rw [if_neg ha] at h; cases h
set_option maxHeartbeats 4000000 in
theorem xfree_0 {g : XG} {A : Nat → Prop} {s : State} {ξ : XS} {H : Heap} {locs : List Loc} (hB : XB_0 g A s ξ H locs) : ∀ q, va_A (xcs_0 g ξ) H.size q → A q := by
  intro q h9
  rcases h9 with ⟨k9, e9, h9⟩ | h9
  · exact hB.2.1.2 k9 (q, e9) h9
  · exact hB.2.2.2.2.1 q (Nat.le_trans hB.2.2.1.1 h9)
set_option maxHeartbeats 4000000 in
theorem xblind_0 {g : XG} {ξ : XS} {As : List Value} {sz : Nat} : FrameBlind (XPc_0 g ξ As sz) := fun a U g9 mk q => by
  obtain ⟨q0, q1, qP, qK, qD, qN⟩ := q
  exact ⟨q0, q1, qP, va_K.moved (u := U) (U := U.calling g9 mk a) (Vm.Alike.refl U.vm) qK, qD, GV.same (s := U) (U := U.calling g9 mk a) rfl rfl qN⟩
set_option maxHeartbeats 4000000 in
theorem xpre_0 {g : XG} {A : Nat → Prop} {s : State} {ξ : XS} {H : Heap} {locs : List Loc} {As : List Value} (hB : XB_0 g A s ξ H locs) : ∀ U : State, U.heap = H → s.WarmedH U.vm → XPc_0 g ξ As H.size As.toArray U := fun U hU hW => ⟨rfl, by rw [hU], by rw [hU]; exact hB.1, va_K.moved hW.alike hB.2.2.2.1, hB.2.1.weaken (fun _ _ _ _ => trivial), GV.go hW hB.2.2.1 hU (xfree_0 hB) hB.2.2.2.2.2⟩
set_option maxHeartbeats 4000000 in
theorem xbehind_0 {g : XG} {A : Nat → Prop} {s : State} {ξ ξ1 : XS} {H H1 : Heap} {locs locs1 : List Loc} {t : State} (hB : XB_0 g A s ξ H locs) (ht : t.heap = H1) (h1 : XBt_0 g (va_A (xcs_0 g ξ) H.size) ξ1 t) (hS : va_S A s.heap H1 locs1) : XB_0 g A s ξ1 H1 locs1 := by
  obtain ⟨hP1, hK1, hD1⟩ := h1
  rw [ht] at hP1
  exact ⟨hP1, hD1.weaken (fun k q _ h => xfree_0 hB q.1 h), hS, hB.2.2.2⟩
end XC
abbrev YTv_0 (p : Program) (l : Launch) (e : Env) (R : Room) (s : State) (m : MethodId) (args : Array Value) (below : List Frame) (meth : Method) (c : Code) (cc : ByteArray) (nL : Nat) (A : Nat → Prop) (g : XG) (Q : State → Prop) (K : XS → Prop) : Prop := ∀ (pc : Nat) (lv : List (Nat × Value)) (ξ1 : XS) (cells slots : Nat), cells ≤ R.cells → slots ≤ R.slots → decode cc pc = .ok (.return_, 1) → K ξ1 → CF p l e R s m args below meth c nL cells slots (XB_0 g A s ξ1) Q pc lv []
def MetYv_0 (l : Launch) (g : XG) (y : MethodName) (ws : List Cond) (fr lo : Nat) (As : List Value) (ξ : XS) (mc ms : Nat) (K : XS → Prop) : Prop := ∀ sz, Met l y ws { frames := fr, cells := mc, slots := ms, locals := lo } (XPc_0 g ξ As sz) (va_Qv K (XBt_0 g (va_A (xcs_0 g ξ) sz)) (va_A (xcs_0 g ξ) sz)) mc ms (va_A (xcs_0 g ξ) sz)
section XC
variable {p : Program} {l : Launch} {e : Env} {R : Room} {s : State} {m : MethodId} {args : Array Value} {below : List Frame} {meth : Method} {c : Code} {nL cells slots : Nat} {A : Nat → Prop} {g : XG} {ξ : XS} {Q : State → Prop} {pc n : Nat} {lv : List (Nat × Value)} {st : List Value} {cc : ByteArray} {ρ : Type} {res : ρ}
set_option maxHeartbeats 4000000 in
theorem met_yv_0 {l : Launch} {g : XG} {ξ : XS} {cc : ByteArray} {own : String} {y : MethodName} {maxL mc ms fr lo : Nat} {As : List Value} {K : XS → Prop}  {lv0 : List (Nat × Value)} (hy : plainName y.cls = true) (hyc : y.cls = own) (hlen : (lg_sl As).length ≤ maxL) (hlv : lv_args 0 As = lv0)
    (body : ∀ (p : Program) (e : Env) (s : State) (m : MethodId) (below : List Frame) (meth : Method) (c : Code) (A : Nat → Prop) (Q : State → Prop), EV p s m As.toArray c cc maxL own → meth.name = y.name → YTv_0 p l e { frames := fr, cells := mc, slots := ms, locals := lo } s m As.toArray below meth c cc maxL A g Q K → CF p l e { frames := fr, cells := mc, slots := ms, locals := lo } s m As.toArray below meth c maxL 0 0 (XB_0 g A s ξ) Q 0 lv0 []) : MetYv_0 l g y (ws_ y cc maxL none) fr lo As ξ mc ms K := by
  intro sz
  refine Met.ofW (cc := cc) (maxL := maxL) (ret := none) hy rfl ?_
  intro p e s m args below meth c s₁ B hml hv
  obtain ⟨rfl, hsz, hP, hK, hD0, hN⟩ := hv
  have hts := atoms_spec (ws := ws_ y cc maxL none) B.pre
  have hts : ∀ w ∈ lw_all, w.before _ s = true := fun w h => hts w (List.mem_cons_of_mem _ h)
  have hown : s.vm.findClass own = some m.cls := by rw [← hyc]; exact findClass_of_methodNamed B.named
  have hin : meth.name = y.name := (name_of_methodNamed B.named B.method).1
  have hlocks := B.notSynchronized
  subst hsz
  have hD := hD0.self (sz := s.heap.size)
  have hA : ∀ q : Nat, s.heap.size ≤ q → va_A (xcs_0 g ξ) s.heap.size q := fun q h => Or.inr h
  have hS : va_S (va_A (xcs_0 g ξ) s.heap.size) s.heap s.heap [] := va_S.rf
  have hl := lv_entry As (n := maxL) hlen
  rw [lg_entry_eq]
  rw [hlv] at hl
  have hb := body p e s m below meth c (va_A (xcs_0 g ξ) s.heap.size) (MQ below (va_Qv K (XBt_0 g (va_A (xcs_0 g ξ) s.heap.size)) (va_A (xcs_0 g ξ) s.heap.size)) As.toArray s mc ms (va_A (xcs_0 g ξ) s.heap.size)) ⟨B.exec, B.bytes, hml, hown, hts⟩ hin ?_
  · exact hb s.heap [] _ ⟨hP, hD, hS, hK, hA, hN⟩ hl
  · intro pc lv ξ1 k n h1 h2 d hk H locs ls hB hl
    obtain ⟨hP9, hD9, hS9, hK9, -⟩ := hB
    refine W.widen (k := mc) (n := ms) h1 h2 ?_
    exact W.vret B.exec B.bytes B.returns (fun t ht hW => ⟨⟨ξ1, rfl, hk, by rw [ht]; exact hP9, va_K.moved hW.alike hK9, hD9⟩, hS9.F ht⟩) hS9.2.2 d hlocks
set_option maxHeartbeats 4000000 in
theorem ycallI_v_0 {own : String} (E : EV p s m args c cc nL own) {y : MethodName} {bytes : ByteArray} {maxL idx na mc ms fr lo : Nat}  {stk : List Value} {b : Nat} {K : XS → Prop} (As : List Value) (hM : MetYv_0 l g y (ws_ y bytes maxL none) fr lo (.ref b :: As) ξ mc ms K)
    (hG : GoodIn lw_all (ws_ y bytes maxL none)) (hini : Cond.initialized y.cls ∈ lw_all) (hlk : Cond.methodLink own idx y ∈ lw_all) (hin : Cond.instanceMethod y ∈ lw_all) (hd : y.name = "<init>" ∧ y.cls ≠ "java/lang/invoke/MethodHandle" ∧ y.cls ≠ "java/lang/invoke/VarHandle" ∧ (parseMethodDescriptor y.desc).map (fun d => d.parameters.length) = some na) (hR : fr + 1 ≤ R.frames ∧ 8 + (maxL + 11) + lo ≤ R.locals) (hna : As.length = na) (hstk : stk = As.reverse ++ .ref b :: st) (hcat : (st.map fun v => v.category).sum ≤ 8) (hf : cells + mc ≤ R.cells ∧ slots + ms ≤ R.slots) (d : decode cc pc = .ok (.invokespecial idx, 3)) (hn : pc + 3 = n) (k : ∀ (ξ1 : XS), K ξ1 → CF p l e R s m args below meth c nL (cells + mc) (slots + ms) (XB_0 g A s ξ1) Q n lv st) : CF p l e R s m args below meth c nL cells slots (XB_0 g A s ξ) Q pc lv stk := by
  subst hn
  subst hstk
  intro H locs ls hB hl
  refine va_callv (va_runI (As := As) (rest := st) E (hM H.size) (cwI na E.2.2.2.2 hG rfl rfl rfl (E.2.2.2.2 _ hini) (E.2.2.2.2 _ hlk) (E.2.2.2.2 _ hin) hd.1 hd.2 hR) ⟨xblind_0, xpre_0 hB⟩ rfl hna (hl.1) rfl (lv_room hcat) d hf) hB.2.2.1 (fun q _ h => xfree_0 hB q h) (xfree_0 hB) (fun u t H1 locs1 ht hvm hw1 hB1 hz1 hk1 hS => ?_)
  exact k _ hw1 H1 locs1 ls (xbehind_0 hB ht hB1 hS) hl
set_option maxHeartbeats 4000000 in
theorem ycallP_v_0 {own : String} (E : EV p s m args c cc nL own) {y : MethodName} {bytes : ByteArray} {maxL idx na mc ms fr lo : Nat}  {stk : List Value} {host : String} {b : Nat} {K : XS → Prop} (As : List Value) (hM : MetYv_0 l g y (ws_ y bytes maxL none) fr lo (.ref b :: As) ξ mc ms K)
    (hG : GoodIn lw_all (ws_ y bytes maxL none)) (hini : Cond.initialized y.cls ∈ lw_all) (hlk : Cond.methodLinkNest own idx y host ∈ lw_tbl) (hin : Cond.instanceMethod y ∈ lw_all) (hd : y.name = "<init>" ∧ y.cls ≠ "java/lang/invoke/MethodHandle" ∧ y.cls ≠ "java/lang/invoke/VarHandle" ∧ (parseMethodDescriptor y.desc).map (fun d => d.parameters.length) = some na) (hR : fr + 1 ≤ R.frames ∧ 8 + (maxL + 11) + lo ≤ R.locals) (hna : As.length = na) (hstk : stk = As.reverse ++ .ref b :: st) (hcat : (st.map fun v => v.category).sum ≤ 8) (hf : cells + mc ≤ R.cells ∧ slots + ms ≤ R.slots) (d : decode cc pc = .ok (.invokespecial idx, 3)) (hn : pc + 3 = n) (k : ∀ (ξ1 : XS), K ξ1 → CF p l e R s m args below meth c nL (cells + mc) (slots + ms) (XB_0 g A s ξ1) Q n lv st) : CF p l e R s m args below meth c nL cells slots (XB_0 g A s ξ) Q pc lv stk := by
  subst hn
  subst hstk
  intro H locs ls hB hl
  refine va_callv (va_runIN (As := As) (rest := st) E (hM H.size) ⟨va_cnB na E.2.2.2.2 hG rfl rfl rfl (hB.2.2.2.2.2.1 _ hlk rfl) (E.2.2.2.2 _ hini) hd.2 hR, hd.1, E.2.2.2.2 _ hin⟩ ⟨xblind_0, xpre_0 hB⟩ rfl hna (hl.1) rfl (lv_room hcat) d hf) hB.2.2.1 (fun q _ h => xfree_0 hB q h) (xfree_0 hB) (fun u t H1 locs1 ht hvm hw1 hB1 hz1 hk1 hS => ?_)
  exact k _ hw1 H1 locs1 ls (xbehind_0 hB ht hB1 hS) hl
set_option maxHeartbeats 4000000 in
theorem xpush_0 {A : Nat → Prop} {g : XG} {ξ : XS} {q : Nat} {e9 : va_E} (hD : va_D A (xcs_0 g ξ ++ [(q, e9)])) : q ∉ xL ξ := by
  intro hq
  obtain ⟨k, hk⟩ := va_pl_get (X := xst_0 g ξ) (f := xd ξ) hq
  have hk' : (xcs_0 g ξ)[k]? = some (q, xd ξ q) := hk
  have hl := (List.getElem?_eq_some_iff.mp hk').1
  have h1 : (xcs_0 g ξ ++ [(q, e9)])[k]? = some (q, xd ξ q) := by rw [List.getElem?_append_left hl]; exact hk'
  have h2 : (xcs_0 g ξ ++ [(q, e9)])[(xcs_0 g ξ).length]? = some (q, e9) := by rw [List.getElem?_append_right (Nat.le_refl _), Nat.sub_self]; rfl
  have := hD.1 k _ _ _ h1 h2 rfl
  omega
set_option maxHeartbeats 4000000 in
theorem xcs_push_0 {g : XG} {ξ : XS} {q : Nat} {e9 : va_E} (h : q ∉ xL ξ) : xcs_0 g ξ ++ [(q, e9)] = xcs_0 g (pXd ξ q e9) := by
  show (xst_0 g ξ ++ va_pl (xL ξ) (xd ξ)) ++ [(q, e9)] = xst_0 g (pXd ξ q e9) ++ va_pl (xL ξ ++ [q]) (va_up (xd ξ) q e9)
  rw [List.append_assoc, va_pl_push h]
  rfl
set_option maxHeartbeats 4000000 in
theorem xcs_set_0 {A : Nat → Prop} {g : XG} {ξ : XS} {a k : Nat} {e0 e9 : va_E} (hD : va_D A (xcs_0 g ξ)) (h : dE ξ a = some e0) (hk : (xcs_0 g ξ)[k]? = some (a, e0)) : (xcs_0 g ξ).set k (a, e9) = xcs_0 g (sXd ξ a e9) := by
  unfold dE at h
  by_cases ha : a ∈ xL ξ
  · rw [if_pos ha] at h
    cases h
    exact va_pl_set (X := xst_0 g ξ) hD ha hk
  · rw [if_neg ha] at h; cases h
set_option maxHeartbeats 4000000 in
theorem xoi_0 {own : String} (E : EV p s m args c cc nL own) {a idx : Nat} (hlk : Cond.methodLink own idx Lib.objectInit ∈ lw_all) (hin : Cond.instanceMethod Lib.objectInit ∈ lw_all) (hcd : Cond.code Lib.objectInit ⟨#[0xb1]⟩ 1 none ∈ lw_all) (hR : 1 ≤ R.frames ∧ 40 ≤ R.locals) (hcat : (st.map fun v => v.category).sum ≤ 8) (d : decode cc pc = .ok (.invokespecial idx, 3)) (hn : pc + 3 = n) (k : CF p l e R s m args below meth c nL cells slots (XB_0 g A s ξ) Q n lv st) : CF p l e R s m args below meth c nL cells slots (XB_0 g A s ξ) Q pc lv (.ref a :: st) := by
  subst hn
  intro H locs ls hB hl
  exact W.objInit E.1 E.2.1 E.2.2.2.1 (E.2.2.2.2 _ hlk) (E.2.2.2.2 _ hin) (E.2.2.2.2 _ hcd) rfl (hl.1.trans E.2.2.1.symm) rfl d hR.1 (by have := hR.2; show 2 * 0 + _ + 12 ≤ _; omega) (k H locs ls hB hl)
set_option maxHeartbeats 4000000 in
theorem xnew_0 {own C9 : String} {T : u_T} {N ci idx mc ms : Nat} {fs : List Value} (E : EV p s m args c cc nL own) (hin : ∀ w ∈ u_ws C9 T N, w ∈ lw_all) (ty : Nat → FieldType) (hty : ∀ k, k < N → parseFieldDescriptor (T k).2.2.1 = some (ty k)) (hcl : Cond.classLink own idx C9 ∈ lw_all) (hinst : Cond.instantiable C9 N ∈ lw_all) (hini : Cond.initialized C9 ∈ lw_all) (hc : vwCl[ci]? = some (C9, T, N)) (hfs : ∀ j, j < N → defaultValue (ty j) = vp_V fs j) (hb : cells + mc ≤ R.cells ∧ slots + ms ≤ R.slots) {kk : Nat → Prop} (d : decode cc pc = .ok (.new idx, 3)) (h : mkc ξ N mc ms kk) (hn : pc + 3 = n) (k : ∀ q, (cells + 1 + (mc - 1) ≤ R.cells ∧ slots + N + (ms - N) ≤ R.slots) → kk q → CF p l e R s m args below meth c nL (cells + 1) (slots + N) (XB_0 g A s (pXd ξ q (.inr (ci, fs)))) Q n lv (.ref q :: st)) : CF p l e R s m args below meth c nL cells slots (XB_0 g A s ξ) Q pc lv st := by
  subst hn
  obtain ⟨h1, h2, h3⟩ := h
  intro H locs ls hB hl
  refine va_new E.1 E.2.1 E.2.2.2.2 hin ty hty E.2.2.2.1 (E.2.2.2.2 _ hcl) (E.2.2.2.2 _ hinst) (E.2.2.2.2 _ hini) hB.2.2.2.1 hB.1 hB.2.1 hB.2.2.1 hB.2.2.2.2.1 hc hfs (by omega) (by omega) d (fun q H1 hP hD hS => ?_)
  have hq := xpush_0 hD
  rw [xcs_push_0 hq] at hP hD
  exact k q ⟨by omega, by omega⟩ (h3 q hq) H1 locs ls ⟨hP, hD, hS, hB.2.2.2⟩ hl
set_option maxHeartbeats 4000000 in
theorem xdpF_0 {own ref C9 : String} {T : u_T} {N ci idx a j : Nat} {fs : List Value} {v : Value} {ty : FieldType} (E : EV p s m args c cc nL own) (hin : ∀ w ∈ u_ws C9 T N, w ∈ lw_all) (hap : ∀ D : va_G, va_K D vwCl (xty g) s → ∀ x y, x < N → y < N → x ≠ y → (D.2 ci) x ≠ (D.2 ci) y) (hc : vwCl[ci]? = some (C9, T, N)) (he : dE ξ a = some (.inr (ci, fs))) (hj : j < N) (hlk : Cond.fieldLink own idx ref (T j).2.1 (T j).2.2.1 ∈ lw_all) (hsame : ∀ x, s.fieldFound? (T j).1 (T j).2.1 (T j).2.2.1 = some x → s.fieldFound? ref (T j).2.1 (T j).2.2.1 = some x) (hfin : (T j).2.2.2 = true) (hmn : meth.name = "<init>") (hdecl : (T j).1 = own) (hd : parseFieldDescriptor (T j).2.2.1 = some ty) (hnr : narrow ty v = v) (hfit : fits ty v = true) (hl9 : j < fs.length) (d : decode cc pc = .ok (.putfield idx, 3)) (hn : pc + 3 = n) (k : CF p l e R s m args below meth c nL cells slots (XB_0 g A s (sXd ξ a (.inr (ci, fs.set j v)))) Q n lv st) : CF p l e R s m args below meth c nL cells slots (XB_0 g A s ξ) Q pc lv (v :: .ref a :: st) := by
  subst hn
  intro H locs ls hB hl
  obtain ⟨q0, hq⟩ := dE_at_0 (g := g) he
  refine va_putF2 E.1 E.2.1 E.2.2.2.2 hin (hap g.1 hB.2.2.2.1) E.2.2.2.1 hB.2.2.2.1 hB.1 hB.2.1 hB.2.2.1 q0 hq hc j hj (E.2.2.2.2 _ hlk) hsame hfin hmn hdecl hd hnr hfit hl9 d (fun H1 locs1 hP hD hS => ?_)
  rw [xcs_set_0 hB.2.1 he hq] at hP hD
  exact k H1 locs1 ls ⟨hP, hD, hS, hB.2.2.2⟩ hl
set_option maxHeartbeats 4000000 in
theorem xdp_0 {own ref C9 : String} {T : u_T} {N ci idx a j : Nat} {fs : List Value} {v : Value} {ty : FieldType} (E : EV p s m args c cc nL own) (hin : ∀ w ∈ u_ws C9 T N, w ∈ lw_all) (ty0 : Nat → FieldType) (hty : ∀ k, k < N → parseFieldDescriptor (T k).2.2.1 = some (ty0 k)) (hnm : ∀ a, a < N → ∀ b, b < N → a ≠ b → (T a).2.1 ≠ (T b).2.1) (hc : vwCl[ci]? = some (C9, T, N)) (he : dE ξ a = some (.inr (ci, fs))) (hj : j < N) (hlk : Cond.fieldLink own idx ref (T j).2.1 (T j).2.2.1 ∈ lw_all) (hsame : ∀ x, s.fieldFound? (T j).1 (T j).2.1 (T j).2.2.1 = some x → s.fieldFound? ref (T j).2.1 (T j).2.2.1 = some x) (hfin : (T j).2.2.2 = false) (hd : parseFieldDescriptor (T j).2.2.1 = some ty) (hnr : narrow ty v = v) (hfit : fits ty v = true) (hl9 : j < fs.length) (d : decode cc pc = .ok (.putfield idx, 3)) (hn : pc + 3 = n) (k : CF p l e R s m args below meth c nL cells slots (XB_0 g A s (sXd ξ a (.inr (ci, fs.set j v)))) Q n lv st) : CF p l e R s m args below meth c nL cells slots (XB_0 g A s ξ) Q pc lv (v :: .ref a :: st) := by
  subst hn
  intro H locs ls hB hl
  obtain ⟨q0, hq⟩ := dE_at_0 (g := g) he
  refine va_put E.1 E.2.1 E.2.2.2.2 hin ty0 hty hnm E.2.2.2.1 hB.2.2.2.1 hB.1 hB.2.1 hB.2.2.1 q0 hq hc j hj (E.2.2.2.2 _ hlk) hsame hfin hd hnr hfit hl9 d (fun H1 locs1 hP hD hS => ?_)
  rw [xcs_set_0 hB.2.1 he hq] at hP hD
  exact k H1 locs1 ls ⟨hP, hD, hS, hB.2.2.2⟩ hl
set_option maxHeartbeats 4000000 in
theorem xnewa_0_0 {own : String} {i : Int32} {mc ms : Nat} (E : EV p s m args c cc nL own) (hb : cells + mc ≤ R.cells ∧ slots + ms ≤ R.slots) {kk : Nat → Prop} (d : decode cc pc = .ok (.newarray .int, 2)) (h : if (¬ i < 0 ∧ i.toNatClampNeg ≤ 10000) then mkc ξ i.toNatClampNeg mc ms kk else False) (hn : pc + 2 = n) (k : ∀ q, (cells + 1 + (mc - 1) ≤ R.cells ∧ slots + i.toNatClampNeg + (ms - i.toNatClampNeg) ≤ R.slots) → kk q → CF p l e R s m args below meth c nL (cells + 1) (slots + i.toNatClampNeg) (XB_0 g A s (pXd ξ q (.inl (xc g 0, i.toNatClampNeg, .inl (fun _ => 0))))) Q n lv (.ref q :: st)) : CF p l e R s m args below meth c nL cells slots (XB_0 g A s ξ) Q pc lv (.int i :: st) := by
  subst hn
  by_cases hi : ¬ i < 0 ∧ i.toNatClampNeg ≤ 10000
  · rw [if_pos hi] at h
    obtain ⟨h1, h2, h3⟩ := h
    intro H locs ls hB hl
    refine va_newa (atype := .int) (ty := .int) E.1 E.2.1 (E.2.2.2.2 _ q171) rfl hB.2.2.2.1 hB.1 hB.2.1 hB.2.2.1 hB.2.2.2.2.1 (a0 := (i.toNatClampNeg, .inl (fun _ => 0))) (fun cA => rfl) hi.1 rfl (Nat.le_trans (Nat.mul_le_mul hi.2 (show componentBytes .int ≤ 8 by decide)) (Nat.le_of_ble_eq_true rfl)) (by omega) (by omega) d (fun q cA H1 hK1 hP hD hS => ?_)
    have e1 : s.vm.findClass ("[" ++ (.int : FieldType).toString) = some cA := arrCls hK1 8 rfl (fun _ h9 => by cases h9)
    have e2 : s.vm.findClass ("[" ++ (.int : FieldType).toString) = some (xc g 0) := arrCls hB.2.2.2.1 0 rfl (fun _ h9 => by cases h9)
    have e3 : cA = xc g 0 := Option.some.inj (e1.symm.trans e2)
    subst e3
    have hq := xpush_0 hD
    rw [xcs_push_0 hq] at hP hD
    exact k q ⟨by omega, by omega⟩ (h3 q hq) H1 locs ls ⟨hP, hD, hS, hB.2.2.2⟩ hl
  · rw [if_neg hi] at h; cases h
set_option maxHeartbeats 4000000 in
theorem xnewa_1_0 {own : String} {i : Int32} {mc ms : Nat} (E : EV p s m args c cc nL own) (hb : cells + mc ≤ R.cells ∧ slots + ms ≤ R.slots) {kk : Nat → Prop} (d : decode cc pc = .ok (.newarray .byte, 2)) (h : if (¬ i < 0 ∧ i.toNatClampNeg ≤ 10000) then mkc ξ i.toNatClampNeg mc ms kk else False) (hn : pc + 2 = n) (k : ∀ q, (cells + 1 + (mc - 1) ≤ R.cells ∧ slots + i.toNatClampNeg + (ms - i.toNatClampNeg) ≤ R.slots) → kk q → CF p l e R s m args below meth c nL (cells + 1) (slots + i.toNatClampNeg) (XB_0 g A s (pXd ξ q (.inl (xc g 1, i.toNatClampNeg, .inl (fun _ => 0))))) Q n lv (.ref q :: st)) : CF p l e R s m args below meth c nL cells slots (XB_0 g A s ξ) Q pc lv (.int i :: st) := by
  subst hn
  by_cases hi : ¬ i < 0 ∧ i.toNatClampNeg ≤ 10000
  · rw [if_pos hi] at h
    obtain ⟨h1, h2, h3⟩ := h
    intro H locs ls hB hl
    refine va_newa (atype := .byte) (ty := .byte) E.1 E.2.1 (E.2.2.2.2 _ q172) rfl hB.2.2.2.1 hB.1 hB.2.1 hB.2.2.1 hB.2.2.2.2.1 (a0 := (i.toNatClampNeg, .inl (fun _ => 0))) (fun cA => rfl) hi.1 rfl (Nat.le_trans (Nat.mul_le_mul hi.2 (show componentBytes .byte ≤ 8 by decide)) (Nat.le_of_ble_eq_true rfl)) (by omega) (by omega) d (fun q cA H1 hK1 hP hD hS => ?_)
    have e1 : s.vm.findClass ("[" ++ (.byte : FieldType).toString) = some cA := arrCls hK1 8 rfl (fun _ h9 => by cases h9)
    have e2 : s.vm.findClass ("[" ++ (.byte : FieldType).toString) = some (xc g 1) := arrCls hB.2.2.2.1 1 rfl (fun _ h9 => by cases h9)
    have e3 : cA = xc g 1 := Option.some.inj (e1.symm.trans e2)
    subst e3
    have hq := xpush_0 hD
    rw [xcs_push_0 hq] at hP hD
    exact k q ⟨by omega, by omega⟩ (h3 q hq) H1 locs ls ⟨hP, hD, hS, hB.2.2.2⟩ hl
  · rw [if_neg hi] at h; cases h
set_option maxHeartbeats 4000000 in
theorem xnewa_2_0 {own : String} {i : Int32} {mc ms : Nat} (E : EV p s m args c cc nL own) (hb : cells + mc ≤ R.cells ∧ slots + ms ≤ R.slots) {kk : Nat → Prop} (d : decode cc pc = .ok (.newarray .boolean, 2)) (h : if (¬ i < 0 ∧ i.toNatClampNeg ≤ 10000) then mkc ξ i.toNatClampNeg mc ms kk else False) (hn : pc + 2 = n) (k : ∀ q, (cells + 1 + (mc - 1) ≤ R.cells ∧ slots + i.toNatClampNeg + (ms - i.toNatClampNeg) ≤ R.slots) → kk q → CF p l e R s m args below meth c nL (cells + 1) (slots + i.toNatClampNeg) (XB_0 g A s (pXd ξ q (.inl (xc g 2, i.toNatClampNeg, .inl (fun _ => 0))))) Q n lv (.ref q :: st)) : CF p l e R s m args below meth c nL cells slots (XB_0 g A s ξ) Q pc lv (.int i :: st) := by
  subst hn
  by_cases hi : ¬ i < 0 ∧ i.toNatClampNeg ≤ 10000
  · rw [if_pos hi] at h
    obtain ⟨h1, h2, h3⟩ := h
    intro H locs ls hB hl
    refine va_newa (atype := .boolean) (ty := .boolean) E.1 E.2.1 (E.2.2.2.2 _ q1428) rfl hB.2.2.2.1 hB.1 hB.2.1 hB.2.2.1 hB.2.2.2.2.1 (a0 := (i.toNatClampNeg, .inl (fun _ => 0))) (fun cA => rfl) hi.1 rfl (Nat.le_trans (Nat.mul_le_mul hi.2 (show componentBytes .boolean ≤ 8 by decide)) (Nat.le_of_ble_eq_true rfl)) (by omega) (by omega) d (fun q cA H1 hK1 hP hD hS => ?_)
    have e1 : s.vm.findClass ("[" ++ (.boolean : FieldType).toString) = some cA := arrCls hK1 8 rfl (fun _ h9 => by cases h9)
    have e2 : s.vm.findClass ("[" ++ (.boolean : FieldType).toString) = some (xc g 2) := arrCls hB.2.2.2.1 2 rfl (fun _ h9 => by cases h9)
    have e3 : cA = xc g 2 := Option.some.inj (e1.symm.trans e2)
    subst e3
    have hq := xpush_0 hD
    rw [xcs_push_0 hq] at hP hD
    exact k q ⟨by omega, by omega⟩ (h3 q hq) H1 locs ls ⟨hP, hD, hS, hB.2.2.2⟩ hl
  · rw [if_neg hi] at h; cases h
set_option maxHeartbeats 4000000 in
theorem xnewa_3_0 {own : String} {i : Int32} {mc ms : Nat} (E : EV p s m args c cc nL own) (hb : cells + mc ≤ R.cells ∧ slots + ms ≤ R.slots) {kk : Nat → Prop} (d : decode cc pc = .ok (.newarray .long, 2)) (h : if (¬ i < 0 ∧ i.toNatClampNeg ≤ 10000) then mkc ξ i.toNatClampNeg mc ms kk else False) (hn : pc + 2 = n) (k : ∀ q, (cells + 1 + (mc - 1) ≤ R.cells ∧ slots + i.toNatClampNeg + (ms - i.toNatClampNeg) ≤ R.slots) → kk q → CF p l e R s m args below meth c nL (cells + 1) (slots + i.toNatClampNeg) (XB_0 g A s (pXd ξ q (.inl (xc g 3, i.toNatClampNeg, .inr (.inl (fun _ => 0)))))) Q n lv (.ref q :: st)) : CF p l e R s m args below meth c nL cells slots (XB_0 g A s ξ) Q pc lv (.int i :: st) := by
  subst hn
  by_cases hi : ¬ i < 0 ∧ i.toNatClampNeg ≤ 10000
  · rw [if_pos hi] at h
    obtain ⟨h1, h2, h3⟩ := h
    intro H locs ls hB hl
    refine va_newa (atype := .long) (ty := .long) E.1 E.2.1 (E.2.2.2.2 _ q1427) rfl hB.2.2.2.1 hB.1 hB.2.1 hB.2.2.1 hB.2.2.2.2.1 (a0 := (i.toNatClampNeg, .inr (.inl (fun _ => 0)))) (fun cA => rfl) hi.1 rfl (Nat.le_trans (Nat.mul_le_mul hi.2 (show componentBytes .long ≤ 8 by decide)) (Nat.le_of_ble_eq_true rfl)) (by omega) (by omega) d (fun q cA H1 hK1 hP hD hS => ?_)
    have e1 : s.vm.findClass ("[" ++ (.long : FieldType).toString) = some cA := arrCls hK1 8 rfl (fun _ h9 => by cases h9)
    have e2 : s.vm.findClass ("[" ++ (.long : FieldType).toString) = some (xc g 3) := arrCls hB.2.2.2.1 3 rfl (fun _ h9 => by cases h9)
    have e3 : cA = xc g 3 := Option.some.inj (e1.symm.trans e2)
    subst e3
    have hq := xpush_0 hD
    rw [xcs_push_0 hq] at hP hD
    exact k q ⟨by omega, by omega⟩ (h3 q hq) H1 locs ls ⟨hP, hD, hS, hB.2.2.2⟩ hl
  · rw [if_neg hi] at h; cases h
set_option maxHeartbeats 4000000 in
theorem xdast_ip_0 {own : String} (E : EV p s m args c cc nL own) {i : Int32} {x : Int32} {a : Nat} {kk : XS → Prop} (d : decode cc pc = .ok (.iastore, 1)) (h : bndp (dA ξ a (xc g 0)) (fun n f => if inb i n = true then nx (sXd ξ a (.inl (xc g 0, n, .inl (upd f i.toNatClampNeg x)))) kk else False)) (hn : pc + 1 = n) (k : ∀ ξ1 : XS, kk ξ1 → CF p l e R s m args below meth c nL cells slots (XB_0 g A s ξ1) Q n lv st) : CF p l e R s m args below meth c nL cells slots (XB_0 g A s ξ) Q pc lv (.int x :: .int i :: .ref a :: st) := by
  subst hn
  obtain ⟨n9, f, hd, h⟩ := h
  by_cases hi : inb i n9 = true
  · have h : (if inb i n9 = true then nx (sXd ξ a (.inl (xc g 0, n9, .inl (upd f i.toNatClampNeg x)))) kk else False) := h
    rw [if_pos hi] at h
    have he := dA_at hd
    obtain ⟨q0, hq⟩ := dE_at_0 (g := g) he
    intro H locs ls hB hl
    refine va_iast E.1 E.2.1 hB.2.2.2.1 hB.1 hB.2.1 hB.2.2.1 q0 0 hq rfl (inb_in hi) d (fun H1 locs1 hP hD hS => ?_)
    rw [xcs_set_0 hB.2.1 he hq] at hP hD
    exact k _ h H1 locs1 ls ⟨hP, hD, hS, hB.2.2.2⟩ hl
  · have h : (if inb i n9 = true then nx (sXd ξ a (.inl (xc g 0, n9, .inl (upd f i.toNatClampNeg x)))) kk else False) := h
    rw [if_neg hi] at h; cases h
set_option maxHeartbeats 4000000 in
theorem xdqJ1_7_0 (E : EV p s m args c cc nL RJ1) {a : Nat} {v : Int32} {kk : XS → Prop} (d : decode cc pc = .ok (.putfield 7, 3)) (h : bndp (dO ξ a) (fun ci fs => (if (ci = 4 ∧ 0 < fs.length) then nx (sXd ξ a (.inr (ci, fs.set 0 (.int v)))) kk else False))) (hn : pc + 3 = n) (k : ∀ ξ1 : XS, kk ξ1 → CF p l e R s m args below meth c nL cells slots (XB_0 g A s ξ1) Q n lv st) : CF p l e R s m args below meth c nL cells slots (XB_0 g A s ξ) Q pc lv (.int v :: .ref a :: st) := by
  obtain ⟨ci, fs, hO, h⟩ := h
  by_cases hi : (ci = 4 ∧ 0 < fs.length)
  · have h : (if (ci = 4 ∧ 0 < fs.length) then nx (sXd ξ a (.inr (ci, fs.set 0 (.int v)))) kk else False) := h
    rw [if_pos hi] at h
    have he := dO_at hO
    obtain ⟨rfl, hi⟩ : ci = 4 ∧ _ := hi
    have hi : True ∧ _ := ⟨trivial, hi⟩
    exact xdp_0 (C9 := RJ2) (T := TJ2) (N := 3) (ci := 4) (j := 0) (ty := .int) E in_J2 tyJ2 tyJ2_ok nmJ2 rfl he (by decide) q195 (fun _ h9 => h9) rfl (by decide +kernel) rfl rfl hi.2 d hn (k _ h)
  · have h : (if (ci = 4 ∧ 0 < fs.length) then nx (sXd ξ a (.inr (ci, fs.set 0 (.int v)))) kk else False) := h
    rw [if_neg hi] at h; cases h
set_option maxHeartbeats 4000000 in
theorem xgsJ2_39_0 (E : EV p s m args c cc nL RJ2) (d : decode cc pc = .ok (.getstatic 39, 3)) (hn : pc + 3 = n) (k : CF p l e R s m args below meth c nL cells slots (XB_0 g A s ξ) Q n lv (.ref (xa g 400) :: st)) : CF p l e R s m args below meth c nL cells slots (XB_0 g A s ξ) Q pc lv st := by
  subst hn
  exact fun H locs ls hB hl => va_gets E.1 E.2.1 hB.2.2.2.2.2.2.2.2.2.1 hB.2.2.1 E.2.2.2.1 (E.2.2.2.2 _ q191) (fun _ h9 => h9) d (k H locs ls hB hl)
set_option maxHeartbeats 4000000 in
theorem xdqJ2_9_0 (E : EV p s m args c cc nL RJ2) {a : Nat} {v : Nat} {kk : XS → Prop} (d : decode cc pc = .ok (.putfield 9, 3)) (h : bndp (dO ξ a) (fun ci fs => (if (ci = 4 ∧ 1 < fs.length) then nx (sXd ξ a (.inr (ci, fs.set 1 (.ref v)))) kk else False))) (hn : pc + 3 = n) (k : ∀ ξ1 : XS, kk ξ1 → CF p l e R s m args below meth c nL cells slots (XB_0 g A s ξ1) Q n lv st) : CF p l e R s m args below meth c nL cells slots (XB_0 g A s ξ) Q pc lv (.ref v :: .ref a :: st) := by
  obtain ⟨ci, fs, hO, h⟩ := h
  by_cases hi : (ci = 4 ∧ 1 < fs.length)
  · have h : (if (ci = 4 ∧ 1 < fs.length) then nx (sXd ξ a (.inr (ci, fs.set 1 (.ref v)))) kk else False) := h
    rw [if_pos hi] at h
    have he := dO_at hO
    obtain ⟨rfl, hi⟩ : ci = 4 ∧ _ := hi
    have hi : True ∧ _ := ⟨trivial, hi⟩
    exact xdp_0 (C9 := RJ2) (T := TJ2) (N := 3) (ci := 4) (j := 1) (ty := .array (.object "java/lang/Object")) E in_J2 tyJ2 tyJ2_ok nmJ2 rfl he (by decide) q193 (fun _ h9 => h9) rfl (by decide +kernel) rfl rfl hi.2 d hn (k _ h)
  · have h : (if (ci = 4 ∧ 1 < fs.length) then nx (sXd ξ a (.inr (ci, fs.set 1 (.ref v)))) kk else False) := h
    rw [if_neg hi] at h; cases h
set_option maxHeartbeats 4000000 in
theorem xnwX2_9_0 (E : EV p s m args c cc nL RX2) {mc ms : Nat} (hb : cells + mc ≤ R.cells ∧ slots + ms ≤ R.slots) {kk : Nat → Prop} (d : decode cc pc = .ok (.new 9, 3)) (h : mkc ξ 3 mc ms kk) (hn : pc + 3 = n) (k : ∀ q, (cells + 1 + (mc - 1) ≤ R.cells ∧ slots + 3 + (ms - 3) ≤ R.slots) → kk q → CF p l e R s m args below meth c nL (cells + 1) (slots + 3) (XB_0 g A s (pXd ξ q (.inr (4, [.int 0, .null, .int 0])))) Q n lv (.ref q :: st)) : CF p l e R s m args below meth c nL cells slots (XB_0 g A s ξ) Q pc lv st :=
  xnew_0 (C9 := RJ2) (T := TJ2) E in_J2 tyJ2 tyJ2_ok q179 q180 q101 rfl (fun j hj => by rcases (show j = 0 ∨ j = 1 ∨ j = 2 by omega) with rfl | rfl | rfl <;> rfl) hb d h hn k
set_option maxHeartbeats 4000000 in
theorem xdqX2_12_0 (E : EV p s m args c cc nL RX2) {a : Nat} {v : Nat} {kk : XS → Prop} (hmn : meth.name = "<init>") (d : decode cc pc = .ok (.putfield 12, 3)) (h : bndp (dO ξ a) (fun ci fs => (if (ci = 3 ∧ 0 < fs.length) then nx (sXd ξ a (.inr (ci, fs.set 0 (.ref v)))) kk else False))) (hn : pc + 3 = n) (k : ∀ ξ1 : XS, kk ξ1 → CF p l e R s m args below meth c nL cells slots (XB_0 g A s ξ1) Q n lv st) : CF p l e R s m args below meth c nL cells slots (XB_0 g A s ξ) Q pc lv (.ref v :: .ref a :: st) := by
  obtain ⟨ci, fs, hO, h⟩ := h
  by_cases hi : (ci = 3 ∧ 0 < fs.length)
  · have h : (if (ci = 3 ∧ 0 < fs.length) then nx (sXd ξ a (.inr (ci, fs.set 0 (.ref v)))) kk else False) := h
    rw [if_pos hi] at h
    have he := dO_at hO
    obtain ⟨rfl, hi⟩ : ci = 3 ∧ _ := hi
    have hi : True ∧ _ := ⟨trivial, hi⟩
    exact xdpF_0 (C9 := RX2) (T := TX2) (N := 4) (ci := 3) (j := 0) (ty := .object "java/util/ArrayList") E in_X2 (fun D9 hK9 => va_apart (own := RX2) E.2.2.2.2 in_X2 tyX2 tyX2_ok nmX2 hK9 rfl) rfl he (by decide) q205 (fun _ h9 => h9) rfl hmn rfl (by decide +kernel) rfl rfl hi.2 d hn (k _ h)
  · have h : (if (ci = 3 ∧ 0 < fs.length) then nx (sXd ξ a (.inr (ci, fs.set 0 (.ref v)))) kk else False) := h
    rw [if_neg hi] at h; cases h
set_option maxHeartbeats 4000000 in
theorem xdqX2_18_0 (E : EV p s m args c cc nL RX2) {a : Nat} {v : Nat} {kk : XS → Prop} (hmn : meth.name = "<init>") (d : decode cc pc = .ok (.putfield 18, 3)) (h : bndp (dO ξ a) (fun ci fs => (if (ci = 3 ∧ 1 < fs.length) then nx (sXd ξ a (.inr (ci, fs.set 1 (.ref v)))) kk else False))) (hn : pc + 3 = n) (k : ∀ ξ1 : XS, kk ξ1 → CF p l e R s m args below meth c nL cells slots (XB_0 g A s ξ1) Q n lv st) : CF p l e R s m args below meth c nL cells slots (XB_0 g A s ξ) Q pc lv (.ref v :: .ref a :: st) := by
  obtain ⟨ci, fs, hO, h⟩ := h
  by_cases hi : (ci = 3 ∧ 1 < fs.length)
  · have h : (if (ci = 3 ∧ 1 < fs.length) then nx (sXd ξ a (.inr (ci, fs.set 1 (.ref v)))) kk else False) := h
    rw [if_pos hi] at h
    have he := dO_at hO
    obtain ⟨rfl, hi⟩ : ci = 3 ∧ _ := hi
    have hi : True ∧ _ := ⟨trivial, hi⟩
    exact xdpF_0 (C9 := RX2) (T := TX2) (N := 4) (ci := 3) (j := 1) (ty := .array .int) E in_X2 (fun D9 hK9 => va_apart (own := RX2) E.2.2.2.2 in_X2 tyX2 tyX2_ok nmX2 hK9 rfl) rfl he (by decide) q207 (fun _ h9 => h9) rfl hmn rfl (by decide +kernel) rfl rfl hi.2 d hn (k _ h)
  · have h : (if (ci = 3 ∧ 1 < fs.length) then nx (sXd ξ a (.inr (ci, fs.set 1 (.ref v)))) kk else False) := h
    rw [if_neg hi] at h; cases h
set_option maxHeartbeats 4000000 in
theorem met_yj0_init_0 (l : Launch) (g : XG) (N : Nat) (a0 : Nat)   (ξ : XS) (mc ms : Nat) (K : XS → Prop) (h : yj0_init N g a0  ξ mc ms K) : MetYv_0 l g yJ0_init (ws_ yJ0_init cJ0_init 1 none) 1 40 [.ref a0] ξ mc ms K := by
  refine met_yv_0 (lv0 := [(0, .ref a0)]) (own := RJ0) (by decide) rfl (Nat.le_of_ble_eq_true rfl) rfl ?_
  intro p e s m below meth c A Q E hmn hq
  have hmn : meth.name = "<init>" := hmn
  have hR : 1 ≤ ({ frames := 1, cells := mc, slots := ms, locals := 40 } : Room).frames ∧ 40 ≤ ({ frames := 1, cells := mc, slots := ms, locals := 40 } : Room).locals := ⟨Nat.le_refl _, Nat.le_refl _⟩
  have hb : 0 + mc ≤ ({ frames := 1, cells := mc, slots := ms, locals := 40 } : Room).cells ∧ 0 + ms ≤ ({ frames := 1, cells := mc, slots := ms, locals := 40 } : Room).slots := ⟨Nat.le_of_eq (Nat.zero_add _), Nat.le_of_eq (Nat.zero_add _)⟩
  unfold yj0_init at h
  refine cf_aload_n E dJ0_init_0 0 rfl rfl ?_
  refine xoi_0 E q190 q144 q145 (rmle hR rfl rfl) (Nat.le_of_ble_eq_true rfl) dJ0_init_1 rfl ?_
  exact hq _ _ _ _ _ (hb0 hb).1 (hb0 hb).2 dJ0_init_4 h
set_option maxHeartbeats 4000000 in
theorem yclJ1_1_0 (E : EV p s m args c cc nL RJ1) {N mc ms : Nat} {a0 : Nat}   {kk : Nat → Nat → XS → Prop} (hR : 2 ≤ R.frames ∧ 60 ≤ R.locals) (hcat : (st.map fun v => v.category).sum ≤ 8) (hb : cells + mc ≤ R.cells ∧ slots + ms ≤ R.slots) (d : decode cc pc = .ok (.invokespecial 1, 3)) (h : bnyv (yj0_init N g a0  ξ) mc ms kk) (hn : pc + 3 = n) (k : ∀ (m1 n1 : Nat) (ξ1 : XS), (cells + m1 + (mc - m1) ≤ R.cells ∧ slots + n1 + (ms - n1) ≤ R.slots) → kk m1 n1 ξ1 → CF p l e R s m args below meth c nL (cells + m1) (slots + n1) (XB_0 g A s ξ1) Q n lv st) : CF p l e R s m args below meth c nL cells slots (XB_0 g A s ξ) Q pc lv (.ref a0 :: st) := by
  obtain ⟨m1, n1, h1, h2, h⟩ := h
  exact ycallI_v_0 (na := 0) E [] (met_yj0_init_0 l g N a0   ξ m1 n1 _ h) (lw_meth q189) q99 q187 q188 (by decide +kernel) hR rfl rfl hcat ⟨by omega, by omega⟩ d hn (fun ξ1 hk => k m1 n1 ξ1 ⟨by omega, by omega⟩ hk)
set_option maxHeartbeats 4000000 in
theorem met_yj1_init_0 (l : Launch) (g : XG) (N : Nat) (a0 : Nat)   (ξ : XS) (mc ms : Nat) (K : XS → Prop) (h : yj1_init N g a0  ξ mc ms K) : MetYv_0 l g yJ1_init (ws_ yJ1_init cJ1_init 1 none) 2 60 [.ref a0] ξ mc ms K := by
  refine met_yv_0 (lv0 := [(0, .ref a0)]) (own := RJ1) (by decide) rfl (Nat.le_of_ble_eq_true rfl) rfl ?_
  intro p e s m below meth c A Q E hmn hq
  have hmn : meth.name = "<init>" := hmn
  have hR : 2 ≤ ({ frames := 2, cells := mc, slots := ms, locals := 60 } : Room).frames ∧ 60 ≤ ({ frames := 2, cells := mc, slots := ms, locals := 60 } : Room).locals := ⟨Nat.le_refl _, Nat.le_refl _⟩
  have hb : 0 + mc ≤ ({ frames := 2, cells := mc, slots := ms, locals := 60 } : Room).cells ∧ 0 + ms ≤ ({ frames := 2, cells := mc, slots := ms, locals := 60 } : Room).slots := ⟨Nat.le_of_eq (Nat.zero_add _), Nat.le_of_eq (Nat.zero_add _)⟩
  unfold yj1_init at h
  refine cf_aload_n E dJ1_init_0 0 rfl rfl ?_
  refine yclJ1_1_0 E (rmle hR rfl rfl) (Nat.le_of_ble_eq_true rfl) hb dJ1_init_1 h rfl (fun m_1 n_2 s_3 hb h => ?_)
  refine cf_aload_n E dJ1_init_4 0 rfl rfl ?_
  refine cf_iconst E dJ1_init_5 ic_0 rfl ?_
  refine xdqJ1_7_0 E dJ1_init_6 h rfl (fun s_5 h => ?_)
  exact hq _ _ _ _ _ (hb0 hb).1 (hb0 hb).2 dJ1_init_9 h
set_option maxHeartbeats 4000000 in
theorem yclJ2_1_0 (E : EV p s m args c cc nL RJ2) {N mc ms : Nat} {a0 : Nat}   {kk : Nat → Nat → XS → Prop} (hR : 3 ≤ R.frames ∧ 80 ≤ R.locals) (hcat : (st.map fun v => v.category).sum ≤ 8) (hb : cells + mc ≤ R.cells ∧ slots + ms ≤ R.slots) (d : decode cc pc = .ok (.invokespecial 1, 3)) (h : bnyv (yj1_init N g a0  ξ) mc ms kk) (hn : pc + 3 = n) (k : ∀ (m1 n1 : Nat) (ξ1 : XS), (cells + m1 + (mc - m1) ≤ R.cells ∧ slots + n1 + (ms - n1) ≤ R.slots) → kk m1 n1 ξ1 → CF p l e R s m args below meth c nL (cells + m1) (slots + n1) (XB_0 g A s ξ1) Q n lv st) : CF p l e R s m args below meth c nL cells slots (XB_0 g A s ξ) Q pc lv (.ref a0 :: st) := by
  obtain ⟨m1, n1, h1, h2, h⟩ := h
  exact ycallI_v_0 (na := 0) E [] (met_yj1_init_0 l g N a0   ξ m1 n1 _ h) (lw_meth q186) q100 q184 q185 (by decide +kernel) hR rfl rfl hcat ⟨by omega, by omega⟩ d hn (fun ξ1 hk => k m1 n1 ξ1 ⟨by omega, by omega⟩ hk)
set_option maxHeartbeats 4000000 in
theorem met_yj2_init_0 (l : Launch) (g : XG) (N : Nat) (a0 : Nat)   (ξ : XS) (mc ms : Nat) (K : XS → Prop) (h : yj2_init N g a0  ξ mc ms K) : MetYv_0 l g yJ2_init (ws_ yJ2_init cJ2_init 1 none) 3 80 [.ref a0] ξ mc ms K := by
  refine met_yv_0 (lv0 := [(0, .ref a0)]) (own := RJ2) (by decide) rfl (Nat.le_of_ble_eq_true rfl) rfl ?_
  intro p e s m below meth c A Q E hmn hq
  have hmn : meth.name = "<init>" := hmn
  have hR : 3 ≤ ({ frames := 3, cells := mc, slots := ms, locals := 80 } : Room).frames ∧ 80 ≤ ({ frames := 3, cells := mc, slots := ms, locals := 80 } : Room).locals := ⟨Nat.le_refl _, Nat.le_refl _⟩
  have hb : 0 + mc ≤ ({ frames := 3, cells := mc, slots := ms, locals := 80 } : Room).cells ∧ 0 + ms ≤ ({ frames := 3, cells := mc, slots := ms, locals := 80 } : Room).slots := ⟨Nat.le_of_eq (Nat.zero_add _), Nat.le_of_eq (Nat.zero_add _)⟩
  unfold yj2_init at h
  refine cf_aload_n E dJ2_init_0 0 rfl rfl ?_
  refine yclJ2_1_0 E (rmle hR rfl rfl) (Nat.le_of_ble_eq_true rfl) hb dJ2_init_1 h rfl (fun m_1 n_2 s_3 hb h => ?_)
  refine cf_aload_n E dJ2_init_4 0 rfl rfl ?_
  refine xgsJ2_39_0 E dJ2_init_5 rfl ?_
  refine xdqJ2_9_0 E dJ2_init_8 h rfl (fun s_5 h => ?_)
  exact hq _ _ _ _ _ (hb0 hb).1 (hb0 hb).2 dJ2_init_11 h
set_option maxHeartbeats 4000000 in
theorem yclX2_11_0 (E : EV p s m args c cc nL RX2) {N mc ms : Nat} {a0 : Nat}   {kk : Nat → Nat → XS → Prop} (hR : 4 ≤ R.frames ∧ 100 ≤ R.locals) (hcat : (st.map fun v => v.category).sum ≤ 8) (hb : cells + mc ≤ R.cells ∧ slots + ms ≤ R.slots) (d : decode cc pc = .ok (.invokespecial 11, 3)) (h : bnyv (yj2_init N g a0  ξ) mc ms kk) (hn : pc + 3 = n) (k : ∀ (m1 n1 : Nat) (ξ1 : XS), (cells + m1 + (mc - m1) ≤ R.cells ∧ slots + n1 + (ms - n1) ≤ R.slots) → kk m1 n1 ξ1 → CF p l e R s m args below meth c nL (cells + m1) (slots + n1) (XB_0 g A s ξ1) Q n lv st) : CF p l e R s m args below meth c nL cells slots (XB_0 g A s ξ) Q pc lv (.ref a0 :: st) := by
  obtain ⟨m1, n1, h1, h2, h⟩ := h
  exact ycallI_v_0 (na := 0) E [] (met_yj2_init_0 l g N a0   ξ m1 n1 _ h) (lw_meth q183) q101 q181 q182 (by decide +kernel) hR rfl rfl hcat ⟨by omega, by omega⟩ d hn (fun ξ1 hk => k m1 n1 ξ1 ⟨by omega, by omega⟩ hk)
set_option maxHeartbeats 4000000 in
theorem met_y2_init_0 (l : Launch) (g : XG) (N : Nat) (a0 : Nat)   (ξ : XS) (mc ms : Nat) (K : XS → Prop) (h : y2_init N g a0  ξ mc ms K) : MetYv_0 l g yX2_init (ws_ yX2_init cX2_init 1 none) 4 100 [.ref a0] ξ mc ms K := by
  refine met_yv_0 (lv0 := [(0, .ref a0)]) (own := RX2) (by decide) rfl (Nat.le_of_ble_eq_true rfl) rfl ?_
  intro p e s m below meth c A Q E hmn hq
  have hmn : meth.name = "<init>" := hmn
  have hR : 4 ≤ ({ frames := 4, cells := mc, slots := ms, locals := 100 } : Room).frames ∧ 100 ≤ ({ frames := 4, cells := mc, slots := ms, locals := 100 } : Room).locals := ⟨Nat.le_refl _, Nat.le_refl _⟩
  have hb : 0 + mc ≤ ({ frames := 4, cells := mc, slots := ms, locals := 100 } : Room).cells ∧ 0 + ms ≤ ({ frames := 4, cells := mc, slots := ms, locals := 100 } : Room).slots := ⟨Nat.le_of_eq (Nat.zero_add _), Nat.le_of_eq (Nat.zero_add _)⟩
  unfold y2_init at h
  refine cf_aload_n E dX2_init_0 0 rfl rfl ?_
  refine xoi_0 E q178 q144 q145 (rmle hR rfl rfl) (Nat.le_of_ble_eq_true rfl) dX2_init_1 rfl ?_
  refine cf_aload_n E dX2_init_4 0 rfl rfl ?_
  refine xnwX2_9_0 E hb dX2_init_5 h rfl (fun q_1 hb h => ?_)
  refine cf_dup E dX2_init_8 rfl rfl ?_
  refine yclX2_11_0 E (rmle hR rfl rfl) (Nat.le_of_ble_eq_true rfl) hb dX2_init_9 h rfl (fun m_2 n_3 s_4 hb h => ?_)
  refine xdqX2_12_0 E hmn dX2_init_12 h rfl (fun s_6 h => ?_)
  refine cf_aload_n E dX2_init_15 0 rfl rfl ?_
  refine cf_iconst E dX2_init_16 ic_5 rfl ?_
  refine xnewa_0_0 E hb dX2_init_17 h rfl (fun q_9 hb h => ?_)
  refine cf_dup E dX2_init_19 rfl rfl ?_
  refine cf_iconst E dX2_init_20 ic_0 rfl ?_
  refine cf_bipush E dX2_init_21 bp_10 rfl ?_
  refine xdast_ip_0 E dX2_init_23 h rfl (fun s_10 h => ?_)
  refine cf_dup E dX2_init_24 rfl rfl ?_
  refine cf_iconst E dX2_init_25 ic_1 rfl ?_
  refine cf_bipush E dX2_init_26 bp_10 rfl ?_
  refine xdast_ip_0 E dX2_init_28 h rfl (fun s_13 h => ?_)
  refine cf_dup E dX2_init_29 rfl rfl ?_
  refine cf_iconst E dX2_init_30 ic_2 rfl ?_
  refine cf_bipush E dX2_init_31 bp_10 rfl ?_
  refine xdast_ip_0 E dX2_init_33 h rfl (fun s_16 h => ?_)
  refine cf_dup E dX2_init_34 rfl rfl ?_
  refine cf_iconst E dX2_init_35 ic_3 rfl ?_
  refine cf_bipush E dX2_init_36 bp_10 rfl ?_
  refine xdast_ip_0 E dX2_init_38 h rfl (fun s_19 h => ?_)
  refine cf_dup E dX2_init_39 rfl rfl ?_
  refine cf_iconst E dX2_init_40 ic_4 rfl ?_
  refine cf_bipush E dX2_init_41 bp_10 rfl ?_
  refine xdast_ip_0 E dX2_init_43 h rfl (fun s_22 h => ?_)
  refine xdqX2_18_0 E hmn dX2_init_44 h rfl (fun s_25 h => ?_)
  exact hq _ _ _ _ _ (hb0 hb).1 (hb0 hb).2 dX2_init_47 h
end XC
section XC
variable {p : Program} {l : Launch} {e : Env} {R : Room} {s : State} {m : MethodId} {args : Array Value} {below : List Frame} {meth : Method} {c : Code} {nL cells slots : Nat} {A : Nat → Prop} {g : XG} {ξ : XS} {Q : State → Prop} {pc n : Nat} {lv : List (Nat × Value)} {st : List Value} {cc : ByteArray} {ρ : Type} {res : ρ}
theorem xnewqHA {own : String} (E : EV p s m args c cc nL own) {i : Int32} {mc ms idx : Nat} {kk : Nat → Prop} (hq9 : Cond.classLink own idx "HatsDecide$Hat" ∈ lw_all) (hb : cells + mc ≤ R.cells ∧ slots + ms ≤ R.slots) (d : decode cc pc = .ok (.anewarray idx, 3)) (h : if (¬ i < 0 ∧ i.toNatClampNeg ≤ 10000) then mkc ξ i.toNatClampNeg mc ms kk else False) (hn : pc + 3 = n) (k : ∀ q, (cells + 1 + (mc - 1) ≤ R.cells ∧ slots + i.toNatClampNeg + (ms - i.toNatClampNeg) ≤ R.slots) → kk q → CF p l e R s m args below meth c nL (cells + 1) (slots + i.toNatClampNeg) (XB_0 g A s (pXd ξ q (.inl (xc g 5, i.toNatClampNeg, .inr (.inr (.inr (.inr (fun _ => none)))))))) Q n lv (.ref q :: st)) : CF p l e R s m args below meth c nL cells slots (XB_0 g A s ξ) Q pc lv (.int i :: st) := by
  subst hn
  by_cases hi : (¬ i < 0 ∧ i.toNatClampNeg ≤ 10000)
  · rw [if_pos hi] at h
    obtain ⟨h1, h2, h3⟩ := h
    intro H locs ls hB hl
    refine va_newq E.1 E.2.1 E.2.2.2.1 (E.2.2.2.2 _ hq9) hB.2.2.2.2.2.2.2.2.2.2.2.2.2.2.2.2.2.2.1 hB.2.2.2.1 hB.1 hB.2.1 hB.2.2.1 hB.2.2.2.2.1 hi.1 rfl (by omega) (by omega) (by omega) d (fun q cA H1 hK hP hD hS => ?_)
    have hcA : cA = xc g 5 := by
      obtain ⟨_, _, -, -, -, e1⟩ := (hK.2 8 (cA, .object "HatsDecide$Hat") rfl).2
      obtain ⟨_, _, -, -, -, e2⟩ := (hB.2.2.2.1.2 5 (xc g 5, .object "HatsDecide$Hat") rfl).2
      exact Option.some.inj (e1.symm.trans e2)
    subst hcA
    have hq := xpush_0 hD
    rw [xcs_push_0 hq] at hP hD
    exact k q ⟨by omega, by omega⟩ (h3 q hq) H1 locs ls ⟨hP, hD, hS, hB.2.2.2⟩ hl
  · rw [if_neg hi] at h; cases h
theorem xnewqTP {own : String} (E : EV p s m args c cc nL own) {i : Int32} {mc ms idx : Nat} {kk : Nat → Prop} (hq9 : Cond.classLink own idx "HatsDecide$Tape" ∈ lw_all) (hb : cells + mc ≤ R.cells ∧ slots + ms ≤ R.slots) (d : decode cc pc = .ok (.anewarray idx, 3)) (h : if (¬ i < 0 ∧ i.toNatClampNeg ≤ 10000) then mkc ξ i.toNatClampNeg mc ms kk else False) (hn : pc + 3 = n) (k : ∀ q, (cells + 1 + (mc - 1) ≤ R.cells ∧ slots + i.toNatClampNeg + (ms - i.toNatClampNeg) ≤ R.slots) → kk q → CF p l e R s m args below meth c nL (cells + 1) (slots + i.toNatClampNeg) (XB_0 g A s (pXd ξ q (.inl (xc g 6, i.toNatClampNeg, .inr (.inr (.inr (.inr (fun _ => none)))))))) Q n lv (.ref q :: st)) : CF p l e R s m args below meth c nL cells slots (XB_0 g A s ξ) Q pc lv (.int i :: st) := by
  subst hn
  by_cases hi : (¬ i < 0 ∧ i.toNatClampNeg ≤ 10000)
  · rw [if_pos hi] at h
    obtain ⟨h1, h2, h3⟩ := h
    intro H locs ls hB hl
    refine va_newq E.1 E.2.1 E.2.2.2.1 (E.2.2.2.2 _ hq9) hB.2.2.2.2.2.2.2.2.2.2.2.2.2.2.2.2.2.2.2 hB.2.2.2.1 hB.1 hB.2.1 hB.2.2.1 hB.2.2.2.2.1 hi.1 rfl (by omega) (by omega) (by omega) d (fun q cA H1 hK hP hD hS => ?_)
    have hcA : cA = xc g 6 := by
      obtain ⟨_, _, -, -, -, e1⟩ := (hK.2 8 (cA, .object "HatsDecide$Tape") rfl).2
      obtain ⟨_, _, -, -, -, e2⟩ := (hB.2.2.2.1.2 6 (xc g 6, .object "HatsDecide$Tape") rfl).2
      exact Option.some.inj (e1.symm.trans e2)
    subst hcA
    have hq := xpush_0 hD
    rw [xcs_push_0 hq] at hP hD
    exact k q ⟨by omega, by omega⟩ (h3 q hq) H1 locs ls ⟨hP, hD, hS, hB.2.2.2⟩ hl
  · rw [if_neg hi] at h; cases h
theorem xastTPp {own : String} (E : EV p s m args c cc nL own) {i : Int32} {a b : Nat} {kk : XS → Prop} (d : decode cc pc = .ok (.aastore, 1)) (h : bndp (dAq ξ b (xc g 6)) (fun n f => if inb i n = true ∧ isC ξ a 7 7 = true then nx (sXd ξ b (.inl (xc g 6, n, .inr (.inr (.inr (.inr (va_up f i.toNatClampNeg (some a)))))))) kk else False)) (hn : pc + 1 = n) (k : ∀ ξ1 : XS, kk ξ1 → CF p l e R s m args below meth c nL cells slots (XB_0 g A s ξ1) Q n lv st) : CF p l e R s m args below meth c nL cells slots (XB_0 g A s ξ) Q pc lv (.ref a :: .int i :: .ref b :: st) := by
  subst hn
  obtain ⟨n9, f9, hd, h⟩ := h
  by_cases hi : inb i n9 = true ∧ isC ξ a 7 7 = true
  · rw [if_pos hi] at h
    have hx := dAq_at hd
    intro H locs ls hB hl
    obtain ⟨q0, hq⟩ := dE_at_0 (g := g) hx
    obtain ⟨ci, hci, h1, h2⟩ := isC_at hi.2
    have e9 : ci = 7 := by omega
    subst e9
    obtain ⟨fs9, he9⟩ := dCi_at hci
    obtain ⟨q1, hq1⟩ := dE_at_0 (g := g) he9
    refine va_astq E.1 E.2.1 hB.2.2.2.1 hB.1 hB.2.1 hB.2.2.1 q0 6 q1 7 (r := (RX5, TX5, 1)) hq rfl hq1 rfl (inb_in hi.1) d (fun H1 locs1 hP hD hS => ?_)
    rw [xcs_set_0 hB.2.1 hx hq] at hP hD
    exact k _ h H1 locs1 ls ⟨hP, hD, hS, hB.2.2.2⟩ hl
  · rw [if_neg hi] at h; cases h
end XC
