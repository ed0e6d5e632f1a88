/-! THE LAW: its world (both), its calls: printed by gen/law.py -/
set_option maxRecDepth 100000
def R_law : String := "HatsDecideLaw"
def gm (g : XG) : MG := ((g.1, vwCl, 0), (xa g 500, fun k => xa g (600 + k)), (xc g 0, xc g 2, xc g 3))
def LB (g : XG) (A : Nat → Prop) (s : State) (b L : Nat) (xs : Nat → Int32) (σ : MS) (ξ : XS) (H : Heap) (locs : List Loc) : Prop :=
  va_P g.1 vwCl (mcs (gm g) σ ++ xcs g ξ) H ∧ va_D A (mcs (gm g) σ ++ xcs g ξ) ∧ va_S A s.heap H locs ∧ va_K g.1 vwCl (xty g) s ∧ (∀ q, s.heap.size ≤ q → A q) ∧ GV g A s ∧ (va_X b L xs s s.heap ∧ b < s.heap.size ∧ ¬ A b)
theorem app_r9 {α : Type} {a b : List α} {k : Nat} {x : α} (h : b[k]? = some x) : (a ++ b)[a.length + k]? = some x := by
  rw [List.getElem?_append_right (Nat.le_add_right _ _), Nat.add_sub_cancel_left]; exact h
theorem app_l9 {α : Type} {a b : List α} {k : Nat} {x : α} (h : a[k]? = some x) : (a ++ b)[k]? = some x := by
  rw [List.getElem?_append_left (List.getElem?_eq_some_iff.mp h).1]; exact h
section LW
variable {g : XG} {A : Nat → Prop} {s : State} {b L : Nat} {xs : Nat → Int32} {σ σ1 : MS} {ξ ξ1 : XS} {H H1 : Heap} {locs locs1 : List Loc} {t : State}
theorem LB.toX (hB : LB g A s b L xs σ ξ H locs) : XB g A s ξ H locs :=
  ⟨fun k x hx => hB.1 _ x (app_r9 hx), ⟨fun i j x y hi hj he => by
    have := hB.2.1.1 _ _ x y (app_r9 hi) (app_r9 hj) he
    omega, fun k x hx => hB.2.1.2 _ x (app_r9 hx)⟩, hB.2.2.1, hB.2.2.2.1, hB.2.2.2.2.1, hB.2.2.2.2.2.1⟩
theorem mty_K (hK : va_K g.1 vwCl (xty g) s) : va_K (gm g).1.1 (gm g).1.2.1 (mty (gm g)) s := by
  refine ⟨hK.1, fun t x hx => ?_⟩
  rcases t with _ | _ | _ | t
  · exact hK.2 0 x hx
  · exact hK.2 2 x hx
  · exact hK.2 3 x hx
  · cases hx
theorem LB.toM (hB : LB g A s b L xs σ ξ H locs) : MB (gm g) A s σ H locs :=
  ⟨rfl, fun k x hx => hB.1 _ x (app_l9 hx), ⟨fun i j x y hi hj he => hB.2.1.1 _ _ x y (app_l9 hi) (app_l9 hj) he, fun k x hx => hB.2.1.2 _ x (app_l9 hx)⟩, hB.2.2.1, mty_K hB.2.2.2.1, hB.2.2.2.2.1⟩
theorem LB.apart (hB : LB g A s b L xs σ ξ H locs) {i j : Nat} {x y : Nat × va_E} (hi : (mcs (gm g) σ)[i]? = some x) (hj : (xcs g ξ)[j]? = some y) : x.1 ≠ y.1 := by
  intro he
  have h1 := hB.2.1.1 _ _ x y (app_l9 hi) (app_r9 hj) he
  have h2 := (List.getElem?_eq_some_iff.mp hi).1
  omega
theorem LB.mNot (hB : LB g A s b L xs σ ξ H locs) {i : Nat} {x : Nat × va_E} (hi : (mcs (gm g) σ)[i]? = some x) : x.1 < H.size ∧ ¬ va_A (xcs g ξ) H.size x.1 := by
  have hlt : x.1 < H.size := (hB.1 _ x (app_l9 hi)).lt
  refine ⟨hlt, fun h => ?_⟩
  rcases h with ⟨k9, e9, h9⟩ | h9
  · exact hB.apart hi h9 rfl
  · omega
theorem LB.xNot (hB : LB g A s b L xs σ ξ H locs) {i : Nat} {x : Nat × va_E} (hi : (xcs g ξ)[i]? = some x) : x.1 < H.size ∧ ¬ va_A (mcs (gm g) σ) H.size x.1 := by
  have hlt : x.1 < H.size := (hB.1 _ x (app_r9 hi)).lt
  refine ⟨hlt, fun h => ?_⟩
  rcases h with ⟨k9, e9, h9⟩ | h9
  · exact hB.apart h9 hi rfl
  · omega
theorem va_Papp {D : va_G} {cl : List vw_C} {w1 w2 : va_W} (h1 : va_P D cl w1 H) (h2 : va_P D cl w2 H) : va_P D cl (w1 ++ w2) H := by
  intro k x hx
  by_cases hk : k < w1.length
  · rw [List.getElem?_append_left hk] at hx
    exact h1 k x hx
  · rw [List.getElem?_append_right (by omega)] at hx
    exact h2 _ x hx
theorem va_Dapp {w1 w2 : va_W} (h1 : va_D A w1) (h2 : va_D A w2) (h : ∀ (i j : Nat) (x y : Nat × va_E), w1[i]? = some x → w2[j]? = some y → x.1 ≠ y.1) : va_D A (w1 ++ w2) := by
  refine ⟨fun i j x y hi hj he => ?_, fun k x hx => ?_⟩
  · by_cases a1 : i < w1.length <;> by_cases a2 : j < w1.length
    · rw [List.getElem?_append_left a1] at hi
      rw [List.getElem?_append_left a2] at hj
      exact h1.1 i j x y hi hj he
    · rw [List.getElem?_append_left a1] at hi
      rw [List.getElem?_append_right (by omega)] at hj
      exact absurd he (h _ _ x y hi hj)
    · rw [List.getElem?_append_right (by omega)] at hi
      rw [List.getElem?_append_left a2] at hj
      exact absurd he.symm (h _ _ y x hj hi)
    · rw [List.getElem?_append_right (by omega)] at hi
      rw [List.getElem?_append_right (by omega)] at hj
      have := h2.1 _ _ x y hi hj he
      omega
  · by_cases hk : k < w1.length
    · rw [List.getElem?_append_left hk] at hx
      exact h1.2 k x hx
    · rw [List.getElem?_append_right (by omega)] at hx
      exact h2.2 _ x hx
theorem LB.behindX (hB : LB g A s b L xs σ ξ H locs) (ht : t.heap = H1) (h1 : XBt g (va_A (xcs g ξ) H.size) ξ1 t) (hk : ∀ q : Nat, q < H.size → ¬ va_A (xcs g ξ) H.size q → H1[q]? = H[q]?) (hS : va_S A s.heap H1 locs1) : LB g A s b L xs σ ξ1 H1 locs1 := by
  have hX := xbehind hB.toX ht h1 hS
  refine ⟨va_Papp (hB.toM.2.1.kept (fun k x hx => hk x.1 (hB.mNot hx).1 (hB.mNot hx).2)) hX.1, va_Dapp hB.toM.2.2.1 hX.2.1 (fun i j x y hi hj he => ?_), hS, hB.2.2.2⟩
  have h2 := h1.2.2.2 j y hj
  rw [← he] at h2
  exact (hB.mNot hi).2 h2
theorem LB.behindM (hB : LB g A s b L xs σ ξ H locs) (ht : t.heap = H1) (h1 : MBt (gm g) σ1 t) (hk : ∀ q : Nat, q < H.size → ¬ va_A (mcs (gm g) σ) H.size q → H1[q]? = H[q]?) (hS : va_S A s.heap H1 locs1) : LB g A s b L xs σ1 ξ H1 locs1 := by
  obtain ⟨hP1, hK1⟩ := h1
  rw [ht] at hP1
  refine ⟨va_Papp hP1 (hB.toX.1.kept (fun k x hx => hk x.1 (hB.xNot hx).1 (hB.xNot hx).2)), va_Dapp (hB.toM.2.2.1.same (mcs_fst (gm g) σ σ1)) hB.toX.2.1 (fun i j x y hi hj he => ?_), hS, hB.2.2.2⟩
  have h2 : ((mcs (gm g) σ1).map Prod.fst)[i]? = some x.1 := by rw [List.getElem?_map, hi]; rfl
  rw [mcs_fst (gm g) σ σ1, List.getElem?_map] at h2
  cases h3 : (mcs (gm g) σ)[i]? with
  | none => rw [h3] at h2; cases h2
  | some z =>
    rw [h3] at h2
    have h4 : z.1 = x.1 := Option.some.inj h2
    exact hB.apart h3 hj (h4.trans he)
theorem LB.mfree (hB : LB g A s b L xs σ ξ H locs) : ∀ q, va_A (mcs (gm g) σ) H.size q → A q := by
  intro q h9
  rcases h9 with ⟨k9, e9, h9⟩ | h9
  · exact hB.toM.2.2.1.2 k9 (q, e9) h9
  · exact hB.2.2.2.2.1 q (Nat.le_trans hB.2.2.1.1 h9)
end LW
section XC
variable {p : Program} {l : Launch} {e : Env} {R : Room} {s : State} {m : MethodId} {args : Array Value} {below : List Frame} {meth : Method} {c : Code} {nL cells slots : Nat} {A : Nat → Prop} {g : XG} {ξ : XS} {σ : MS} {b L : Nat} {xs : Nat → Int32} {Q : State → Prop} {pc n : Nat} {lv : List (Nat × Value)} {st : List Value} {cc : ByteArray} {ρ : Type} {res : ρ}
theorem lcallX_i {own : String} (E : EV p s m args c cc nL own) {y : MethodName} {bytes : ByteArray} {maxL idx na : Nat} {ret : Option FieldType} {rm : Room} {stk : List Value} {C9 : String} {b9 : Nat} {v : Int32} {ξ1 : XS} (As : List Value) (hM : MetXi l g y (ws_ y bytes maxL ret) rm (.ref b9 :: As) ξ v ξ1 0 0)
    (hG : GoodIn lw_all (wsV own idx C9 y (ws_ y bytes maxL ret))) (hd : y.cls = C9 ∧ y.cls ≠ "java/lang/invoke/MethodHandle" ∧ y.cls ≠ "java/lang/invoke/VarHandle" ∧ (parseMethodDescriptor y.desc).map (fun d => d.parameters.length) = some na) (hrv : xrecv g ξ C9 b9) (hrc : rm.cells = 0) (hrs : rm.slots = 0) (hR : rm.frames + 1 ≤ R.frames ∧ 8 + (maxL + 11) + rm.locals ≤ R.locals) (hna : As.length = na) (hstk : stk = As.reverse ++ .ref b9 :: st) (hcat : (st.map fun v => v.category).sum ≤ 8) (hf : cells ≤ R.cells ∧ slots ≤ R.slots) (d : decode cc pc = .ok (.invokevirtual idx, 3)) (hn : pc + 3 = n) (k : CF p l e R s m args below meth c nL cells slots (LB g A s b L xs σ ξ1) Q n lv (.int v :: st)) : CF p l e R s m args below meth c nL cells slots (LB g A s b L xs σ ξ) Q pc lv stk := by
  subst hn
  subst hstk
  intro H locs ls hB hl
  refine va_calli (va_runV (As := As) (rest := st) E (hM H.size) (cwV na E.2.2.2.2 hG rfl hrc hrs hd hR) ⟨xblind, xrecv_cell hB.toX hrv, xpre hB.toX⟩ rfl hna (hl.1) rfl (lv_room hcat) d hf) hB.2.2.1 (fun q _ h => xfree hB.toX q h) (xfree hB.toX) (fun r u t H1 locs1 ht hvm hw1 hB1 hz1 hk1 hS => ?_)
  obtain ⟨rfl, rfl⟩ := hw1
  exact k H1 locs1 ls (hB.behindX ht hB1 hk1 hS) hl
theorem lcallY_i {own : String} (E : EV p s m args c cc nL own) {y : MethodName} {bytes : ByteArray} {maxL idx na mc ms fr lo : Nat} {ret : Option FieldType} {stk : List Value} {C9 : String} {b9 : Nat} {K : Int32 → XS → Prop} (As : List Value) (hM : MetYi l g y (ws_ y bytes maxL ret) fr lo (.ref b9 :: As) ξ mc ms K)
    (hG : GoodIn lw_all (wsV own idx C9 y (ws_ y bytes maxL ret))) (hd : y.cls = C9 ∧ y.cls ≠ "java/lang/invoke/MethodHandle" ∧ y.cls ≠ "java/lang/invoke/VarHandle" ∧ (parseMethodDescriptor y.desc).map (fun d => d.parameters.length) = some na) (hrv : xrecv g ξ C9 b9) (hR : fr + 1 ≤ R.frames ∧ 8 + (maxL + 11) + lo ≤ R.locals) (hna : As.length = na) (hstk : stk = As.reverse ++ .ref b9 :: st) (hcat : (st.map fun v => v.category).sum ≤ 8) (hf : cells + mc ≤ R.cells ∧ slots + ms ≤ R.slots) (d : decode cc pc = .ok (.invokevirtual idx, 3)) (hn : pc + 3 = n) (k : ∀ (v : Int32) (ξ1 : XS), K v ξ1 → CF p l e R s m args below meth c nL (cells + mc) (slots + ms) (LB g A s b L xs σ ξ1) Q n lv (.int v :: st)) : CF p l e R s m args below meth c nL cells slots (LB g A s b L xs σ ξ) Q pc lv stk := by
  subst hn
  subst hstk
  intro H locs ls hB hl
  refine va_calli (va_runV (As := As) (rest := st) E (hM H.size) (cwV na E.2.2.2.2 hG rfl rfl rfl hd hR) ⟨xblind, xrecv_cell hB.toX hrv, xpre hB.toX⟩ rfl hna (hl.1) rfl (lv_room hcat) d hf) hB.2.2.1 (fun q _ h => xfree hB.toX q h) (xfree hB.toX) (fun r u t H1 locs1 ht hvm hw1 hB1 hz1 hk1 hS => ?_)
  exact k _ _ hw1 H1 locs1 ls (hB.behindX ht hB1 hk1 hS) hl
theorem lcallM_i {own : String} (E : EV p s m args c cc nL own) {y : MethodName} {bytes : ByteArray} {maxL idx na : Nat} {ret : Option FieldType} {rm : Room} {stk : List Value} {v : Int32} {σ1 : MS} (As : List Value) (hM : MetMi l (gm g) y (ws_ y bytes maxL ret) rm As σ v σ1)
    (hG : GoodIn lw_all (wsV own idx RX6 y (ws_ y bytes maxL ret))) (hd : y.cls = RX6 ∧ y.cls ≠ "java/lang/invoke/MethodHandle" ∧ y.cls ≠ "java/lang/invoke/VarHandle" ∧ (parseMethodDescriptor y.desc).map (fun d => d.parameters.length) = some na) (hrc : rm.cells = 0) (hrs : rm.slots = 0) (hR : rm.frames + 1 ≤ R.frames ∧ 8 + (maxL + 11) + rm.locals ≤ R.locals) (hna : As.length = na) (hstk : stk = As.reverse ++ .ref (xa g 500) :: st) (hcat : (st.map fun v => v.category).sum ≤ 8) (hf : cells ≤ R.cells ∧ slots ≤ R.slots) (d : decode cc pc = .ok (.invokevirtual idx, 3)) (hn : pc + 3 = n) (k : CF p l e R s m args below meth c nL cells slots (LB g A s b L xs σ1 ξ) Q n lv (.int v :: st)) : CF p l e R s m args below meth c nL cells slots (LB g A s b L xs σ ξ) Q pc lv stk := by
  subst hn
  subst hstk
  intro H locs ls hB hl
  obtain ⟨hc, hP, hD, hS, hK, hA⟩ := hB.toM
  refine va_calli (va_runV (As := As) (rest := st) E (hM H.size) (cwV na E.2.2.2.2 hG rfl hrc hrs hd hR) ⟨fun a U g9 mk q => by obtain ⟨q0, q1, qc, qP, qK, qD⟩ := q; exact ⟨q0, q1, qc, qP, va_K.moved (u := U) (U := U.calling g9 mk a) (Vm.Alike.refl U.vm) qK, qD⟩, va_recv hK hP hc (q0 := 0) rfl, fun U hU hW => ⟨rfl, by rw [hU], hc, by rw [hU]; exact hP, va_K.moved hW.alike hK, hD.weaken (fun _ _ _ _ => trivial)⟩⟩ rfl hna (hl.1) rfl (lv_room hcat) d hf) hS (fun q _ h => hB.mfree q h) hB.mfree (fun r u t H1 locs1 ht hvm hw1 hB1 hz1 hk1 hS => ?_)
  obtain ⟨rfl, rfl⟩ := hw1
  exact k H1 locs1 ls (hB.behindM ht hB1 hk1 hS) hl
theorem lcallX_l {own : String} (E : EV p s m args c cc nL own) {y : MethodName} {bytes : ByteArray} {maxL idx na : Nat} {ret : Option FieldType} {rm : Room} {stk : List Value} {C9 : String} {b9 : Nat} {v : Int64} {ξ1 : XS} (As : List Value) (hM : MetXl l g y (ws_ y bytes maxL ret) rm (.ref b9 :: As) ξ v ξ1 0 0)
    (hG : GoodIn lw_all (wsV own idx C9 y (ws_ y bytes maxL ret))) (hd : y.cls = C9 ∧ y.cls ≠ "java/lang/invoke/MethodHandle" ∧ y.cls ≠ "java/lang/invoke/VarHandle" ∧ (parseMethodDescriptor y.desc).map (fun d => d.parameters.length) = some na) (hrv : xrecv g ξ C9 b9) (hrc : rm.cells = 0) (hrs : rm.slots = 0) (hR : rm.frames + 1 ≤ R.frames ∧ 8 + (maxL + 11) + rm.locals ≤ R.locals) (hna : As.length = na) (hstk : stk = As.reverse ++ .ref b9 :: st) (hcat : (st.map fun v => v.category).sum ≤ 8) (hf : cells ≤ R.cells ∧ slots ≤ R.slots) (d : decode cc pc = .ok (.invokevirtual idx, 3)) (hn : pc + 3 = n) (k : CF p l e R s m args below meth c nL cells slots (LB g A s b L xs σ ξ1) Q n lv (.long v :: st)) : CF p l e R s m args below meth c nL cells slots (LB g A s b L xs σ ξ) Q pc lv stk := by
  subst hn
  subst hstk
  intro H locs ls hB hl
  refine va_calll (va_runV (As := As) (rest := st) E (hM H.size) (cwV na E.2.2.2.2 hG rfl hrc hrs hd hR) ⟨xblind, xrecv_cell hB.toX hrv, xpre hB.toX⟩ rfl hna (hl.1) rfl (lv_room hcat) d hf) hB.2.2.1 (fun q _ h => xfree hB.toX q h) (xfree hB.toX) (fun r u t H1 locs1 ht hvm hw1 hB1 hz1 hk1 hS => ?_)
  obtain ⟨rfl, rfl⟩ := hw1
  exact k H1 locs1 ls (hB.behindX ht hB1 hk1 hS) hl
theorem lcallY_l {own : String} (E : EV p s m args c cc nL own) {y : MethodName} {bytes : ByteArray} {maxL idx na mc ms fr lo : Nat} {ret : Option FieldType} {stk : List Value} {C9 : String} {b9 : Nat} {K : Int64 → XS → Prop} (As : List Value) (hM : MetYl l g y (ws_ y bytes maxL ret) fr lo (.ref b9 :: As) ξ mc ms K)
    (hG : GoodIn lw_all (wsV own idx C9 y (ws_ y bytes maxL ret))) (hd : y.cls = C9 ∧ y.cls ≠ "java/lang/invoke/MethodHandle" ∧ y.cls ≠ "java/lang/invoke/VarHandle" ∧ (parseMethodDescriptor y.desc).map (fun d => d.parameters.length) = some na) (hrv : xrecv g ξ C9 b9) (hR : fr + 1 ≤ R.frames ∧ 8 + (maxL + 11) + lo ≤ R.locals) (hna : As.length = na) (hstk : stk = As.reverse ++ .ref b9 :: st) (hcat : (st.map fun v => v.category).sum ≤ 8) (hf : cells + mc ≤ R.cells ∧ slots + ms ≤ R.slots) (d : decode cc pc = .ok (.invokevirtual idx, 3)) (hn : pc + 3 = n) (k : ∀ (v : Int64) (ξ1 : XS), K v ξ1 → CF p l e R s m args below meth c nL (cells + mc) (slots + ms) (LB g A s b L xs σ ξ1) Q n lv (.long v :: st)) : CF p l e R s m args below meth c nL cells slots (LB g A s b L xs σ ξ) Q pc lv stk := by
  subst hn
  subst hstk
  intro H locs ls hB hl
  refine va_calll (va_runV (As := As) (rest := st) E (hM H.size) (cwV na E.2.2.2.2 hG rfl rfl rfl hd hR) ⟨xblind, xrecv_cell hB.toX hrv, xpre hB.toX⟩ rfl hna (hl.1) rfl (lv_room hcat) d hf) hB.2.2.1 (fun q _ h => xfree hB.toX q h) (xfree hB.toX) (fun r u t H1 locs1 ht hvm hw1 hB1 hz1 hk1 hS => ?_)
  exact k _ _ hw1 H1 locs1 ls (hB.behindX ht hB1 hk1 hS) hl
theorem lcallM_l {own : String} (E : EV p s m args c cc nL own) {y : MethodName} {bytes : ByteArray} {maxL idx na : Nat} {ret : Option FieldType} {rm : Room} {stk : List Value} {v : Int64} {σ1 : MS} (As : List Value) (hM : MetMl l (gm g) y (ws_ y bytes maxL ret) rm As σ v σ1)
    (hG : GoodIn lw_all (wsV own idx RX6 y (ws_ y bytes maxL ret))) (hd : y.cls = RX6 ∧ y.cls ≠ "java/lang/invoke/MethodHandle" ∧ y.cls ≠ "java/lang/invoke/VarHandle" ∧ (parseMethodDescriptor y.desc).map (fun d => d.parameters.length) = some na) (hrc : rm.cells = 0) (hrs : rm.slots = 0) (hR : rm.frames + 1 ≤ R.frames ∧ 8 + (maxL + 11) + rm.locals ≤ R.locals) (hna : As.length = na) (hstk : stk = As.reverse ++ .ref (xa g 500) :: st) (hcat : (st.map fun v => v.category).sum ≤ 8) (hf : cells ≤ R.cells ∧ slots ≤ R.slots) (d : decode cc pc = .ok (.invokevirtual idx, 3)) (hn : pc + 3 = n) (k : CF p l e R s m args below meth c nL cells slots (LB g A s b L xs σ1 ξ) Q n lv (.long v :: st)) : CF p l e R s m args below meth c nL cells slots (LB g A s b L xs σ ξ) Q pc lv stk := by
  subst hn
  subst hstk
  intro H locs ls hB hl
  obtain ⟨hc, hP, hD, hS, hK, hA⟩ := hB.toM
  refine va_calll (va_runV (As := As) (rest := st) E (hM H.size) (cwV na E.2.2.2.2 hG rfl hrc hrs hd hR) ⟨fun a U g9 mk q => by obtain ⟨q0, q1, qc, qP, qK, qD⟩ := q; exact ⟨q0, q1, qc, qP, va_K.moved (u := U) (U := U.calling g9 mk a) (Vm.Alike.refl U.vm) qK, qD⟩, va_recv hK hP hc (q0 := 0) rfl, fun U hU hW => ⟨rfl, by rw [hU], hc, by rw [hU]; exact hP, va_K.moved hW.alike hK, hD.weaken (fun _ _ _ _ => trivial)⟩⟩ rfl hna (hl.1) rfl (lv_room hcat) d hf) hS (fun q _ h => hB.mfree q h) hB.mfree (fun r u t H1 locs1 ht hvm hw1 hB1 hz1 hk1 hS => ?_)
  obtain ⟨rfl, rfl⟩ := hw1
  exact k H1 locs1 ls (hB.behindM ht hB1 hk1 hS) hl
theorem lcallZ_i {own : String} (E : EV p s m args c cc nL own) {y : MethodName} {bytes : ByteArray} {maxL idx na mc ms fr lo : Nat} {ret : Option FieldType} {stk : List Value} {C9 : String} {b9 : Nat} {hh : List (Nat × Nat × Nat × Nat)} {K : Int32 → XS → Prop} (As : List Value) (hM : MetZi l g y (wsW_ y bytes maxL ret hh) fr lo (.ref b9 :: As) ξ mc ms K (fun _ _ _ => False))
    (hG : GoodIn lw_all (wsV own idx C9 y (wsW_ y bytes maxL ret hh))) (hd : y.cls = C9 ∧ y.cls ≠ "java/lang/invoke/MethodHandle" ∧ y.cls ≠ "java/lang/invoke/VarHandle" ∧ (parseMethodDescriptor y.desc).map (fun d => d.parameters.length) = some na) (hrv : xrecv g ξ C9 b9) (hR : fr + 1 ≤ R.frames ∧ 8 + (maxL + 11) + lo ≤ R.locals) (hna : As.length = na) (hstk : stk = As.reverse ++ .ref b9 :: st) (hcat : (st.map fun v => v.category).sum ≤ 8) (hf : cells + mc ≤ R.cells ∧ slots + ms ≤ R.slots) (d : decode cc pc = .ok (.invokevirtual idx, 3)) (hn : pc + 3 = n) (k : ∀ (v : Int32) (ξ1 : XS), K v ξ1 → CF p l e R s m args below meth c nL (cells + mc) (slots + ms) (LB g A s b L xs σ ξ1) Q n lv (.int v :: st)) : CF p l e R s m args below meth c nL cells slots (LB g A s b L xs σ ξ) Q pc lv stk := by
  subst hn
  subst hstk
  intro H locs ls hB hl
  refine vx_calli (vx_runVX (As := As) (rest := st) E (hM H.size) (vx_cwVW na E.2.2.2.2 hG rfl rfl rfl hd hR) ⟨xblind, xrecv_cell hB.toX hrv, xpre hB.toX⟩ rfl hna (hl.1) rfl (lv_room hcat) d hf) hB.2.2.1 (fun q _ h => xfree hB.toX q h) (xfree hB.toX) (fun q _ h => xfree hB.toX q h) (fun E9 ce q9 u t H1 locs1 ht hvm hw1 hB1 hz1 hk1 hS hc1 hc2 hc3 => hw1.elim) (fun r u t H1 locs1 ht hvm hw1 hB1 hz1 hk1 hS => ?_)
  exact k _ _ hw1 H1 locs1 ls (hB.behindX ht hB1 hk1 hS) hl
theorem lsld {own : String} (E : EV p s m args c cc nL own) {i : Int32} (hi : inb i L = true) (d : decode cc pc = .ok (.iaload, 1)) (hn : pc + 1 = n) (k : CF p l e R s m args below meth c nL cells slots (LB g A s b L xs σ ξ) Q n lv (.int (xs i.toNatClampNeg) :: st)) : CF p l e R s m args below meth c nL cells slots (LB g A s b L xs σ ξ) Q pc lv (.int i :: .ref b :: st) := by
  subst hn
  exact fun H locs ls hB hl => va_sld E.1 E.2.1 hB.2.2.2.2.2.2.1 hB.2.2.2.2.2.2.2.1 hB.2.2.2.2.2.2.2.2 hB.2.2.1 (inb_in hi) d (k H locs ls hB hl)
theorem lslen {own : String} (E : EV p s m args c cc nL own) (d : decode cc pc = .ok (.arraylength, 1)) (hn : pc + 1 = n) (k : CF p l e R s m args below meth c nL cells slots (LB g A s b L xs σ ξ) Q n lv (.int (Int32.ofNat L) :: st)) : CF p l e R s m args below meth c nL cells slots (LB g A s b L xs σ ξ) Q pc lv (.ref b :: st) := by
  subst hn
  exact fun H locs ls hB hl => va_slen E.1 E.2.1 hB.2.2.2.2.2.2.1 hB.2.2.2.2.2.2.2.1 hB.2.2.2.2.2.2.2.2 hB.2.2.1 d (k H locs ls hB hl)
theorem lifeq {own : String} (E : EV p s m args c cc nL own) {v : Int32} {off : Int} {tgt : Nat} (d : decode cc pc = .ok (.if_icmp .eq off, 3)) (ht : (pc : Int) + off = (tgt : Int)) (k : CF p l e R s m args below meth c nL cells slots (LB g A s b L xs σ ξ) Q tgt lv st) : CF p l e R s m args below meth c nL cells slots (LB g A s b L xs σ ξ) Q pc lv (.int v :: .int v :: st) := by
  intro H locs ls hB hl
  exact lv_icmp_eq E.1 E.2.1 d ht (fun _ => k H locs ls hB hl) (fun hc => absurd rfl hc)
theorem lifz {own : String} (E : EV p s m args c cc nL own) {v : Int64} {off : Int} {tgt : Nat} (d : decode cc pc = .ok (.ifCond .eq off, 3)) (ht : (pc : Int) + off = (tgt : Int)) (k : CF p l e R s m args below meth c nL cells slots (LB g A s b L xs σ ξ) Q tgt lv st) : CF p l e R s m args below meth c nL cells slots (LB g A s b L xs σ ξ) Q pc lv (.int (lg_cmp v v) :: st) := by
  intro H locs ls hB hl
  exact lv_if_eq E.1 E.2.1 d ht (fun _ => k H locs ls hB hl) (fun hc => absurd (show lg_cmp v v = 0 by simp [lg_cmp]) hc)
theorem CFwiden {nL cells slots k n pc : Nat} {B : Heap → List Loc → Prop} {lv : List (Nat × Value)} {st : List Value} (h1 : cells ≤ k) (h2 : slots ≤ n) (kk : CF p l e R s m args below meth c nL k n B Q pc lv st) : CF p l e R s m args below meth c nL cells slots B Q pc lv st := fun H locs ls hB hl => W.widen h1 h2 (kk H locs ls hB hl)
end XC
