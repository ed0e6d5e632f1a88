/-! ROWS IN p: printed by gen/prow.py -/
set_option maxRecDepth 100000
def bndp {α β : Type} (o : Option (α × β)) (k : α → β → Prop) : Prop := ∃ a b, o = some (a, b) ∧ k a b
def bnvp {β : Type} (o : Option β) (k : β → Prop) : Prop := ∃ b, o = some b ∧ k b
def bnop {α : Type} (o : Option α) (k : α → Prop) : Prop := ∃ a, o = some a ∧ k a
section CFR
variable {p : Program} {l : Launch} {e : Env} {R : Room} {s : State} {m : MethodId} {args : Array Value} {below : List Frame} {meth : Method} {c : Code} {nL cells slots : Nat} {B : Heap → List Loc → Prop} {Q : State → Prop} {pc n : Nat} {lv : List (Nat × Value)} {st : List Value} {cc : ByteArray} {own : String} {ρ : Type} {res : ρ}
theorem cf_istore_np (E : EV p s m args c cc nL own) {kf : Fin 4} {x : Int32} {kk : Int32 → Prop} (d : decode cc pc = .ok (.istore_n kf, 1)) (h : nx x kk) (lv' : Int32 → List (Nat × Value)) (hb : (kf : Nat) < nL) (hl : ∀ x : Int32, ((kf : Nat), Value.int x) :: lv.filter (fun q => !(q.1 == (kf : Nat)) && !(q.1 + 1 == (kf : Nat) && q.2.category == 2)) = lv' x) (hn : pc + 1 = n) (k : ∀ x : Int32, kk x → CF p l e R s m args below meth c nL cells slots B Q n (lv' x) st) : CF p l e R s m args below meth c nL cells slots B Q pc lv (.int x :: st) := by
  subst hn
  exact fun H locs ls hB h9 => lv_istore_n E.1 E.2.1 d rfl h9 hb (hl x) (fun ls' hl' => k x h H locs ls' hB hl')
theorem cf_istorep (E : EV p s m args c cc nL own) {kf : Nat} {x : Int32} {kk : Int32 → Prop} (d : decode cc pc = .ok (.istore kf, 2)) (h : nx x kk) (lv' : Int32 → List (Nat × Value)) (hb : kf < nL) (hl : ∀ x : Int32, (kf, Value.int x) :: lv.filter (fun q => !(q.1 == kf) && !(q.1 + 1 == kf && q.2.category == 2)) = lv' x) (hn : pc + 2 = n) (k : ∀ x : Int32, kk x → CF p l e R s m args below meth c nL cells slots B Q n (lv' x) st) : CF p l e R s m args below meth c nL cells slots B Q pc lv (.int x :: st) := by
  subst hn
  exact fun H locs ls hB h9 => lv_istore E.1 E.2.1 d h9 hb (hl x) (fun ls' hl' => k x h H locs ls' hB hl')
theorem cf_lstore_np (E : EV p s m args c cc nL own) {kf : Fin 4} {x : Int64} {kk : Int64 → Prop} (d : decode cc pc = .ok (.lstore_n kf, 1)) (h : nx x kk) (lv' : Int64 → List (Nat × Value)) (hb : (kf : Nat) + 1 < nL) (hl : ∀ x : Int64, ((kf : Nat), Value.long x) :: lv.filter (fun q => !(q.1 == (kf : Nat)) && (!(q.1 == (kf : Nat) + 1) && !(q.1 + 1 == (kf : Nat) && q.2.category == 2))) = lv' x) (hn : pc + 1 = n) (k : ∀ x : Int64, kk x → CF p l e R s m args below meth c nL cells slots B Q n (lv' x) st) : CF p l e R s m args below meth c nL cells slots B Q pc lv (.long x :: st) := by
  subst hn
  exact fun H locs ls hB h9 => lv_lstore_n E.1 E.2.1 d rfl h9 hb (hl x) (fun ls' hl' => k x h H locs ls' hB hl')
theorem cf_lstorep (E : EV p s m args c cc nL own) {kf : Nat} {x : Int64} {kk : Int64 → Prop} (d : decode cc pc = .ok (.lstore kf, 2)) (h : nx x kk) (lv' : Int64 → List (Nat × Value)) (hb : kf + 1 < nL) (hl : ∀ x : Int64, (kf, Value.long x) :: lv.filter (fun q => !(q.1 == kf) && (!(q.1 == kf + 1) && !(q.1 + 1 == kf && q.2.category == 2))) = lv' x) (hn : pc + 2 = n) (k : ∀ x : Int64, kk x → CF p l e R s m args below meth c nL cells slots B Q n (lv' x) st) : CF p l e R s m args below meth c nL cells slots B Q pc lv (.long x :: st) := by
  subst hn
  exact fun H locs ls hB h9 => lv_lstore E.1 E.2.1 d h9 hb (hl x) (fun ls' hl' => k x h H locs ls' hB hl')
theorem cf_iincp (E : EV p s m args c cc nL own) {i : Nat} {z : Int} {x y : Int32} {kk : Int32 → Prop} (d : decode cc pc = .ok (.iinc i z, 3)) (hz : Int32.ofInt z = y) (h : nx (x + y) kk) (j : Nat) (hj : lv[j]? = some (i, .int x)) (lv' : Int32 → List (Nat × Value)) (hb : i < nL) (hl : ∀ x : Int32, (i, Value.int x) :: lv.filter (fun q => !(q.1 == i) && !(q.1 + 1 == i && q.2.category == 2)) = lv' x) (hn : pc + 3 = n) (k : ∀ x : Int32, kk x → CF p l e R s m args below meth c nL cells slots B Q n (lv' x) st) : CF p l e R s m args below meth c nL cells slots B Q pc lv st := by
  subst hn
  subst hz
  exact fun H locs ls hB h9 => lv_iinc E.1 E.2.1 d h9 hj rfl hb (hl _) (fun ls' hl' => k _ h H locs ls' hB hl')
theorem cf_idivp (E : EV p s m args c cc nL own) {x y : Int32} {A9 : Prop} (d : decode cc pc = .ok (.idiv, 1)) (h : (if y = 0 then False else A9)) (hn : pc + 1 = n) (k : A9 → CF p l e R s m args below meth c nL cells slots B Q n lv (.int (x / y) :: st)) : CF p l e R s m args below meth c nL cells slots B Q pc lv (.int y :: .int x :: st) := by
  subst hn
  by_cases hy : y = 0
  · rw [if_pos hy] at h; cases h
  · rw [if_neg hy] at h
    exact fun H locs ls hB hl => lv_idiv E.1 E.2.1 d hy (k h H locs ls hB hl)
theorem cf_iremp (E : EV p s m args c cc nL own) {x y : Int32} {A9 : Prop} (d : decode cc pc = .ok (.irem, 1)) (h : (if y = 0 then False else A9)) (hn : pc + 1 = n) (k : A9 → CF p l e R s m args below meth c nL cells slots B Q n lv (.int (x - x / y * y) :: st)) : CF p l e R s m args below meth c nL cells slots B Q pc lv (.int y :: .int x :: st) := by
  subst hn
  by_cases hy : y = 0
  · rw [if_pos hy] at h; cases h
  · rw [if_neg hy] at h
    exact fun H locs ls hB hl => lv_irem E.1 E.2.1 d hy (k h H locs ls hB hl)
theorem cf_ldivp (E : EV p s m args c cc nL own) {x y : Int64} {A9 : Prop} (d : decode cc pc = .ok (.ldiv, 1)) (h : (if y = 0 then False else A9)) (hn : pc + 1 = n) (k : A9 → CF p l e R s m args below meth c nL cells slots B Q n lv (.long (x / y) :: st)) : CF p l e R s m args below meth c nL cells slots B Q pc lv (.long y :: .long x :: st) := by
  subst hn
  by_cases hy : y = 0
  · rw [if_pos hy] at h; cases h
  · rw [if_neg hy] at h
    exact fun H locs ls hB hl => lv_ldiv E.1 E.2.1 d hy (k h H locs ls hB hl)
theorem cf_lremp (E : EV p s m args c cc nL own) {x y : Int64} {A9 : Prop} (d : decode cc pc = .ok (.lrem, 1)) (h : (if y = 0 then False else A9)) (hn : pc + 1 = n) (k : A9 → CF p l e R s m args below meth c nL cells slots B Q n lv (.long (x - x / y * y) :: st)) : CF p l e R s m args below meth c nL cells slots B Q pc lv (.long y :: .long x :: st) := by
  subst hn
  by_cases hy : y = 0
  · rw [if_pos hy] at h; cases h
  · rw [if_neg hy] at h
    exact fun H locs ls hB hl => lv_lrem E.1 E.2.1 d hy (k h H locs ls hB hl)
theorem cf_if_eqp (E : EV p s m args c cc nL own) {x : Int32} {off : Int} {tgt : Nat} {At Bf : Prop} (d : decode cc pc = .ok (.ifCond .eq off, 3)) (h : (if x = 0 then At else Bf)) (ht : (pc : Int) + off = (tgt : Int)) (hn : pc + 3 = n) (kt : At → CF p l e R s m args below meth c nL cells slots B Q tgt lv st) (kf : Bf → CF p l e R s m args below meth c nL cells slots B Q n lv st) : CF p l e R s m args below meth c nL cells slots B Q pc lv (.int x :: st) := by
  subst hn
  intro H locs ls hB hl
  refine lv_if_eq E.1 E.2.1 d ht (fun hc => ?_) (fun hc => ?_)
  · exact kt (by rw [if_pos hc] at h; exact h) H locs ls hB hl
  · exact kf (by rw [if_neg hc] at h; exact h) H locs ls hB hl
theorem cf_if_nep (E : EV p s m args c cc nL own) {x : Int32} {off : Int} {tgt : Nat} {At Bf : Prop} (d : decode cc pc = .ok (.ifCond .ne off, 3)) (h : (if x = 0 then Bf else At)) (ht : (pc : Int) + off = (tgt : Int)) (hn : pc + 3 = n) (kt : At → CF p l e R s m args below meth c nL cells slots B Q tgt lv st) (kf : Bf → CF p l e R s m args below meth c nL cells slots B Q n lv st) : CF p l e R s m args below meth c nL cells slots B Q pc lv (.int x :: st) := by
  subst hn
  intro H locs ls hB hl
  refine lv_if_ne E.1 E.2.1 d ht (fun hc => ?_) (fun hc => ?_)
  · exact kt (by rw [if_neg hc] at h; exact h) H locs ls hB hl
  · exact kf (by rw [if_pos hc] at h; exact h) H locs ls hB hl
theorem cf_if_ltp (E : EV p s m args c cc nL own) {x : Int32} {off : Int} {tgt : Nat} {At Bf : Prop} (d : decode cc pc = .ok (.ifCond .lt off, 3)) (h : (if x < 0 then At else Bf)) (ht : (pc : Int) + off = (tgt : Int)) (hn : pc + 3 = n) (kt : At → CF p l e R s m args below meth c nL cells slots B Q tgt lv st) (kf : Bf → CF p l e R s m args below meth c nL cells slots B Q n lv st) : CF p l e R s m args below meth c nL cells slots B Q pc lv (.int x :: st) := by
  subst hn
  intro H locs ls hB hl
  refine lv_if_lt E.1 E.2.1 d ht (fun hc => ?_) (fun hc => ?_)
  · exact kt (by rw [if_pos hc] at h; exact h) H locs ls hB hl
  · exact kf (by rw [if_neg hc] at h; exact h) H locs ls hB hl
theorem cf_if_gep (E : EV p s m args c cc nL own) {x : Int32} {off : Int} {tgt : Nat} {At Bf : Prop} (d : decode cc pc = .ok (.ifCond .ge off, 3)) (h : (if 0 ≤ x then At else Bf)) (ht : (pc : Int) + off = (tgt : Int)) (hn : pc + 3 = n) (kt : At → CF p l e R s m args below meth c nL cells slots B Q tgt lv st) (kf : Bf → CF p l e R s m args below meth c nL cells slots B Q n lv st) : CF p l e R s m args below meth c nL cells slots B Q pc lv (.int x :: st) := by
  subst hn
  intro H locs ls hB hl
  refine lv_if_ge E.1 E.2.1 d ht (fun hc => ?_) (fun hc => ?_)
  · exact kt (by rw [if_pos hc] at h; exact h) H locs ls hB hl
  · exact kf (by rw [if_neg hc] at h; exact h) H locs ls hB hl
theorem cf_if_gtp (E : EV p s m args c cc nL own) {x : Int32} {off : Int} {tgt : Nat} {At Bf : Prop} (d : decode cc pc = .ok (.ifCond .gt off, 3)) (h : (if 0 < x then At else Bf)) (ht : (pc : Int) + off = (tgt : Int)) (hn : pc + 3 = n) (kt : At → CF p l e R s m args below meth c nL cells slots B Q tgt lv st) (kf : Bf → CF p l e R s m args below meth c nL cells slots B Q n lv st) : CF p l e R s m args below meth c nL cells slots B Q pc lv (.int x :: st) := by
  subst hn
  intro H locs ls hB hl
  refine lv_if_gt E.1 E.2.1 d ht (fun hc => ?_) (fun hc => ?_)
  · exact kt (by rw [if_pos hc] at h; exact h) H locs ls hB hl
  · exact kf (by rw [if_neg hc] at h; exact h) H locs ls hB hl
theorem cf_if_lep (E : EV p s m args c cc nL own) {x : Int32} {off : Int} {tgt : Nat} {At Bf : Prop} (d : decode cc pc = .ok (.ifCond .le off, 3)) (h : (if x ≤ 0 then At else Bf)) (ht : (pc : Int) + off = (tgt : Int)) (hn : pc + 3 = n) (kt : At → CF p l e R s m args below meth c nL cells slots B Q tgt lv st) (kf : Bf → CF p l e R s m args below meth c nL cells slots B Q n lv st) : CF p l e R s m args below meth c nL cells slots B Q pc lv (.int x :: st) := by
  subst hn
  intro H locs ls hB hl
  refine lv_if_le E.1 E.2.1 d ht (fun hc => ?_) (fun hc => ?_)
  · exact kt (by rw [if_pos hc] at h; exact h) H locs ls hB hl
  · exact kf (by rw [if_neg hc] at h; exact h) H locs ls hB hl
theorem cf_icmp_eqp (E : EV p s m args c cc nL own) {x y : Int32} {off : Int} {tgt : Nat} {At Bf : Prop} (d : decode cc pc = .ok (.if_icmp .eq off, 3)) (h : (if x = y then At else Bf)) (ht : (pc : Int) + off = (tgt : Int)) (hn : pc + 3 = n) (kt : At → CF p l e R s m args below meth c nL cells slots B Q tgt lv st) (kf : Bf → CF p l e R s m args below meth c nL cells slots B Q n lv st) : CF p l e R s m args below meth c nL cells slots B Q pc lv (.int y :: .int x :: st) := by
  subst hn
  intro H locs ls hB hl
  refine lv_icmp_eq E.1 E.2.1 d ht (fun hc => ?_) (fun hc => ?_)
  · exact kt (by rw [if_pos hc] at h; exact h) H locs ls hB hl
  · exact kf (by rw [if_neg hc] at h; exact h) H locs ls hB hl
theorem cf_icmp_nep (E : EV p s m args c cc nL own) {x y : Int32} {off : Int} {tgt : Nat} {At Bf : Prop} (d : decode cc pc = .ok (.if_icmp .ne off, 3)) (h : (if x = y then Bf else At)) (ht : (pc : Int) + off = (tgt : Int)) (hn : pc + 3 = n) (kt : At → CF p l e R s m args below meth c nL cells slots B Q tgt lv st) (kf : Bf → CF p l e R s m args below meth c nL cells slots B Q n lv st) : CF p l e R s m args below meth c nL cells slots B Q pc lv (.int y :: .int x :: st) := by
  subst hn
  intro H locs ls hB hl
  refine lv_icmp_ne E.1 E.2.1 d ht (fun hc => ?_) (fun hc => ?_)
  · exact kt (by rw [if_neg hc] at h; exact h) H locs ls hB hl
  · exact kf (by rw [if_pos hc] at h; exact h) H locs ls hB hl
theorem cf_icmp_ltp (E : EV p s m args c cc nL own) {x y : Int32} {off : Int} {tgt : Nat} {At Bf : Prop} (d : decode cc pc = .ok (.if_icmp .lt off, 3)) (h : (if x < y then At else Bf)) (ht : (pc : Int) + off = (tgt : Int)) (hn : pc + 3 = n) (kt : At → CF p l e R s m args below meth c nL cells slots B Q tgt lv st) (kf : Bf → CF p l e R s m args below meth c nL cells slots B Q n lv st) : CF p l e R s m args below meth c nL cells slots B Q pc lv (.int y :: .int x :: st) := by
  subst hn
  intro H locs ls hB hl
  refine lv_icmp_lt E.1 E.2.1 d ht (fun hc => ?_) (fun hc => ?_)
  · exact kt (by rw [if_pos hc] at h; exact h) H locs ls hB hl
  · exact kf (by rw [if_neg hc] at h; exact h) H locs ls hB hl
theorem cf_icmp_gep (E : EV p s m args c cc nL own) {x y : Int32} {off : Int} {tgt : Nat} {At Bf : Prop} (d : decode cc pc = .ok (.if_icmp .ge off, 3)) (h : (if y ≤ x then At else Bf)) (ht : (pc : Int) + off = (tgt : Int)) (hn : pc + 3 = n) (kt : At → CF p l e R s m args below meth c nL cells slots B Q tgt lv st) (kf : Bf → CF p l e R s m args below meth c nL cells slots B Q n lv st) : CF p l e R s m args below meth c nL cells slots B Q pc lv (.int y :: .int x :: st) := by
  subst hn
  intro H locs ls hB hl
  refine lv_icmp_ge E.1 E.2.1 d ht (fun hc => ?_) (fun hc => ?_)
  · exact kt (by rw [if_pos hc] at h; exact h) H locs ls hB hl
  · exact kf (by rw [if_neg hc] at h; exact h) H locs ls hB hl
theorem cf_icmp_gtp (E : EV p s m args c cc nL own) {x y : Int32} {off : Int} {tgt : Nat} {At Bf : Prop} (d : decode cc pc = .ok (.if_icmp .gt off, 3)) (h : (if y < x then At else Bf)) (ht : (pc : Int) + off = (tgt : Int)) (hn : pc + 3 = n) (kt : At → CF p l e R s m args below meth c nL cells slots B Q tgt lv st) (kf : Bf → CF p l e R s m args below meth c nL cells slots B Q n lv st) : CF p l e R s m args below meth c nL cells slots B Q pc lv (.int y :: .int x :: st) := by
  subst hn
  intro H locs ls hB hl
  refine lv_icmp_gt E.1 E.2.1 d ht (fun hc => ?_) (fun hc => ?_)
  · exact kt (by rw [if_pos hc] at h; exact h) H locs ls hB hl
  · exact kf (by rw [if_neg hc] at h; exact h) H locs ls hB hl
theorem cf_icmp_lep (E : EV p s m args c cc nL own) {x y : Int32} {off : Int} {tgt : Nat} {At Bf : Prop} (d : decode cc pc = .ok (.if_icmp .le off, 3)) (h : (if x ≤ y then At else Bf)) (ht : (pc : Int) + off = (tgt : Int)) (hn : pc + 3 = n) (kt : At → CF p l e R s m args below meth c nL cells slots B Q tgt lv st) (kf : Bf → CF p l e R s m args below meth c nL cells slots B Q n lv st) : CF p l e R s m args below meth c nL cells slots B Q pc lv (.int y :: .int x :: st) := by
  subst hn
  intro H locs ls hB hl
  refine lv_icmp_le E.1 E.2.1 d ht (fun hc => ?_) (fun hc => ?_)
  · exact kt (by rw [if_pos hc] at h; exact h) H locs ls hB hl
  · exact kf (by rw [if_neg hc] at h; exact h) H locs ls hB hl
end CFR
section XC
variable {p : Program} {l : Launch} {e : Env} {R : Room} {s : State} {m : MethodId} {args : Array Value} {below : List Frame} {meth : Method} {c : Code} {nL cells slots : Nat} {A : Nat → Prop} {g : XG} {ξ : XS} {Q : State → Prop} {pc n : Nat} {lv : List (Nat × Value)} {st : List Value} {cc : ByteArray} {ρ : Type} {res : ρ}
theorem xcallV_ip {own : String} (E : EV p s m args c cc nL own) {y : MethodName} {bytes : ByteArray} {maxL idx na : Nat} {ret : Option FieldType} {rm : Room} {stk : List Value} {mc ms : Nat} {C : String} {b : Nat} {o : Option (Int32 × XS)} {kk : Int32 → XS → Prop} (As : List Value) (hM : ∀ v ξ1, o = some (v, ξ1) → MetXi l g y (ws_ y bytes maxL ret) rm (.ref b :: As) ξ v ξ1 mc ms)
    (hG : GoodIn lw_all (wsV own idx C y (ws_ y bytes maxL ret))) (hd : y.cls = C ∧ y.cls ≠ "java/lang/invoke/MethodHandle" ∧ y.cls ≠ "java/lang/invoke/VarHandle" ∧ (parseMethodDescriptor y.desc).map (fun d => d.parameters.length) = some na) (hrv : xrecv g ξ C b) (hrc : rm.cells = mc) (hrs : rm.slots = ms) (hR : rm.frames + 1 ≤ R.frames ∧ 8 + (maxL + 11) + rm.locals ≤ R.locals) (hna : As.length = na) (hstk : stk = As.reverse ++ .ref b :: st) (hcat : (st.map fun v => v.category).sum ≤ 8) (hf : cells + mc ≤ R.cells ∧ slots + ms ≤ R.slots) (d : decode cc pc = .ok (.invokevirtual idx, 3)) (h : bndp o kk) (hn : pc + 3 = n) (k : ∀ (v : Int32) (ξ1 : XS), kk v ξ1 → CF p l e R s m args below meth c nL (cells + mc) (slots + ms) (XB g A s ξ1) Q n lv (.int v :: st)) : CF p l e R s m args below meth c nL cells slots (XB g A s ξ) Q pc lv stk := by
  subst hn
  subst hstk
  obtain ⟨v, ξ1, ho, hk⟩ := h
  intro H locs ls hB hl
  refine va_calli (va_runV (As := As) (rest := st) E (hM v ξ1 ho H.size) (cwV na E.2.2.2.2 hG rfl hrc hrs hd hR) ⟨xblind, xrecv_cell hB hrv, xpre hB⟩ rfl hna (hl.1) rfl (lv_room hcat) d hf) hB.2.2.1 (fun q _ h => xfree hB q h) (xfree hB) (fun r u t H1 locs1 ht hvm hw1 hB1 hz1 hk1 hS => ?_)
  obtain ⟨rfl, rfl⟩ := hw1
  exact k _ _ hk H1 locs1 ls (xbehind hB ht hB1 hS) hl
theorem xcallV0_ip {own : String} (E : EV p s m args c cc nL own) {y : MethodName} {bytes : ByteArray} {maxL idx na : Nat} {ret : Option FieldType} {rm : Room} {stk : List Value} {C : String} {b : Nat} {o : Option (Int32 × XS)} {kk : Int32 → XS → Prop} (As : List Value) (hM : ∀ v ξ1, o = some (v, ξ1) → MetXi l g y (ws_ y bytes maxL ret) rm (.ref b :: As) ξ v ξ1 0 0)
    (hG : GoodIn lw_all (wsV own idx C y (ws_ y bytes maxL ret))) (hd : y.cls = C ∧ y.cls ≠ "java/lang/invoke/MethodHandle" ∧ y.cls ≠ "java/lang/invoke/VarHandle" ∧ (parseMethodDescriptor y.desc).map (fun d => d.parameters.length) = some na) (hrv : xrecv g ξ C b) (hrc : rm.cells = 0) (hrs : rm.slots = 0) (hR : rm.frames + 1 ≤ R.frames ∧ 8 + (maxL + 11) + rm.locals ≤ R.locals) (hna : As.length = na) (hstk : stk = As.reverse ++ .ref b :: st) (hcat : (st.map fun v => v.category).sum ≤ 8) (hf : cells ≤ R.cells ∧ slots ≤ R.slots) (d : decode cc pc = .ok (.invokevirtual idx, 3)) (h : bndp o kk) (hn : pc + 3 = n) (k : ∀ (v : Int32) (ξ1 : XS), kk v ξ1 → CF p l e R s m args below meth c nL cells slots (XB g A s ξ1) Q n lv (.int v :: st)) : CF p l e R s m args below meth c nL cells slots (XB g A s ξ) Q pc lv stk := by
  subst hn
  subst hstk
  obtain ⟨v, ξ1, ho, hk⟩ := h
  intro H locs ls hB hl
  refine va_calli (va_runV (As := As) (rest := st) E (hM v ξ1 ho H.size) (cwV na E.2.2.2.2 hG rfl hrc hrs hd hR) ⟨xblind, xrecv_cell hB hrv, xpre hB⟩ rfl hna (hl.1) rfl (lv_room hcat) d hf) hB.2.2.1 (fun q _ h => xfree hB q h) (xfree hB) (fun r u t H1 locs1 ht hvm hw1 hB1 hz1 hk1 hS => ?_)
  obtain ⟨rfl, rfl⟩ := hw1
  exact k _ _ hk H1 locs1 ls (xbehind hB ht hB1 hS) hl
theorem xcallS_ip {own : String} (E : EV p s m args c cc nL own) {y : MethodName} {bytes : ByteArray} {maxL idx na : Nat} {ret : Option FieldType} {rm : Room} {stk : List Value} {mc ms : Nat}  {o : Option (Int32 × XS)} {kk : Int32 → XS → Prop} (As : List Value) (hM : ∀ v ξ1, o = some (v, ξ1) → MetXi l g y (ws_ y bytes maxL ret) rm As ξ v ξ1 mc ms)
    (hG : GoodIn lw_all (va_wsS own idx y (ws_ y bytes maxL ret))) (hd : y.cls ≠ "java/lang/invoke/MethodHandle" ∧ y.cls ≠ "java/lang/invoke/VarHandle" ∧ (parseMethodDescriptor y.desc).map (fun d => d.parameters.length) = some na) (hrc : rm.cells = mc) (hrs : rm.slots = ms) (hR : rm.frames + 1 ≤ R.frames ∧ 8 + (maxL + 11) + rm.locals ≤ R.locals) (hna : As.length = na) (hstk : stk = As.reverse ++ st) (hcat : (st.map fun v => v.category).sum ≤ 8) (hf : cells + mc ≤ R.cells ∧ slots + ms ≤ R.slots) (d : decode cc pc = .ok (.invokestatic idx, 3)) (h : bndp o kk) (hn : pc + 3 = n) (k : ∀ (v : Int32) (ξ1 : XS), kk v ξ1 → CF p l e R s m args below meth c nL (cells + mc) (slots + ms) (XB g A s ξ1) Q n lv (.int v :: st)) : CF p l e R s m args below meth c nL cells slots (XB g A s ξ) Q pc lv stk := by
  subst hn
  subst hstk
  obtain ⟨v, ξ1, ho, hk⟩ := h
  intro H locs ls hB hl
  refine va_calli (va_runS (As := As) (rest := st) E (hM v ξ1 ho H.size) (va_cwS na E.2.2.2.2 hG rfl hrc hrs hd hR) ⟨xblind, xpre hB⟩ rfl hna (hl.1) rfl (lv_room hcat) d hf) hB.2.2.1 (fun q _ h => xfree hB q h) (xfree hB) (fun r u t H1 locs1 ht hvm hw1 hB1 hz1 hk1 hS => ?_)
  obtain ⟨rfl, rfl⟩ := hw1
  exact k _ _ hk H1 locs1 ls (xbehind hB ht hB1 hS) hl
theorem xcallS0_ip {own : String} (E : EV p s m args c cc nL own) {y : MethodName} {bytes : ByteArray} {maxL idx na : Nat} {ret : Option FieldType} {rm : Room} {stk : List Value}  {o : Option (Int32 × XS)} {kk : Int32 → XS → Prop} (As : List Value) (hM : ∀ v ξ1, o = some (v, ξ1) → MetXi l g y (ws_ y bytes maxL ret) rm As ξ v ξ1 0 0)
    (hG : GoodIn lw_all (va_wsS own idx y (ws_ y bytes maxL ret))) (hd : y.cls ≠ "java/lang/invoke/MethodHandle" ∧ y.cls ≠ "java/lang/invoke/VarHandle" ∧ (parseMethodDescriptor y.desc).map (fun d => d.parameters.length) = some na) (hrc : rm.cells = 0) (hrs : rm.slots = 0) (hR : rm.frames + 1 ≤ R.frames ∧ 8 + (maxL + 11) + rm.locals ≤ R.locals) (hna : As.length = na) (hstk : stk = As.reverse ++ st) (hcat : (st.map fun v => v.category).sum ≤ 8) (hf : cells ≤ R.cells ∧ slots ≤ R.slots) (d : decode cc pc = .ok (.invokestatic idx, 3)) (h : bndp o kk) (hn : pc + 3 = n) (k : ∀ (v : Int32) (ξ1 : XS), kk v ξ1 → CF p l e R s m args below meth c nL cells slots (XB g A s ξ1) Q n lv (.int v :: st)) : CF p l e R s m args below meth c nL cells slots (XB g A s ξ) Q pc lv stk := by
  subst hn
  subst hstk
  obtain ⟨v, ξ1, ho, hk⟩ := h
  intro H locs ls hB hl
  refine va_calli (va_runS (As := As) (rest := st) E (hM v ξ1 ho H.size) (va_cwS na E.2.2.2.2 hG rfl hrc hrs hd hR) ⟨xblind, xpre hB⟩ rfl hna (hl.1) rfl (lv_room hcat) d hf) hB.2.2.1 (fun q _ h => xfree hB q h) (xfree hB) (fun r u t H1 locs1 ht hvm hw1 hB1 hz1 hk1 hS => ?_)
  obtain ⟨rfl, rfl⟩ := hw1
  exact k _ _ hk H1 locs1 ls (xbehind hB ht hB1 hS) hl
theorem xcallN_ip {own : String} (E : EV p s m args c cc nL own) {y : MethodName} {bytes : ByteArray} {maxL idx na : Nat} {ret : Option FieldType} {rm : Room} {stk : List Value} {mc ms : Nat} {host : String} {o : Option (Int32 × XS)} {kk : Int32 → XS → Prop} (As : List Value) (hM : ∀ v ξ1, o = some (v, ξ1) → MetXi l g y (ws_ y bytes maxL ret) rm As ξ v ξ1 mc ms)
    (hG : GoodIn lw_all (ws_ y bytes maxL ret)) (hd : y.cls ≠ "java/lang/invoke/MethodHandle" ∧ y.cls ≠ "java/lang/invoke/VarHandle" ∧ (parseMethodDescriptor y.desc).map (fun d => d.parameters.length) = some na) (hlk : Cond.methodLinkNest own idx y host ∈ lw_tbl) (hin : Cond.initialized y.cls ∈ lw_all) (hst : Cond.static y ∈ lw_all) (hrc : rm.cells = mc) (hrs : rm.slots = ms) (hR : rm.frames + 1 ≤ R.frames ∧ 8 + (maxL + 11) + rm.locals ≤ R.locals) (hna : As.length = na) (hstk : stk = As.reverse ++ st) (hcat : (st.map fun v => v.category).sum ≤ 8) (hf : cells + mc ≤ R.cells ∧ slots + ms ≤ R.slots) (d : decode cc pc = .ok (.invokestatic idx, 3)) (h : bndp o kk) (hn : pc + 3 = n) (k : ∀ (v : Int32) (ξ1 : XS), kk v ξ1 → CF p l e R s m args below meth c nL (cells + mc) (slots + ms) (XB g A s ξ1) Q n lv (.int v :: st)) : CF p l e R s m args below meth c nL cells slots (XB g A s ξ) Q pc lv stk := by
  subst hn
  subst hstk
  obtain ⟨v, ξ1, ho, hk⟩ := h
  intro H locs ls hB hl
  refine va_calli (va_runSN (As := As) (rest := st) E (hM v ξ1 ho H.size) ⟨va_cnB na E.2.2.2.2 hG rfl hrc hrs (hB.2.2.2.2.2.1 _ hlk rfl) (E.2.2.2.2 _ hin) hd hR, E.2.2.2.2 _ hst, trivial⟩ ⟨xblind, xpre hB⟩ rfl hna (hl.1) rfl (lv_room hcat) d hf) hB.2.2.1 (fun q _ h => xfree hB q h) (xfree hB) (fun r u t H1 locs1 ht hvm hw1 hB1 hz1 hk1 hS => ?_)
  obtain ⟨rfl, rfl⟩ := hw1
  exact k _ _ hk H1 locs1 ls (xbehind hB ht hB1 hS) hl
theorem xcallN0_ip {own : String} (E : EV p s m args c cc nL own) {y : MethodName} {bytes : ByteArray} {maxL idx na : Nat} {ret : Option FieldType} {rm : Room} {stk : List Value} {host : String} {o : Option (Int32 × XS)} {kk : Int32 → XS → Prop} (As : List Value) (hM : ∀ v ξ1, o = some (v, ξ1) → MetXi l g y (ws_ y bytes maxL ret) rm As ξ v ξ1 0 0)
    (hG : GoodIn lw_all (ws_ y bytes maxL ret)) (hd : y.cls ≠ "java/lang/invoke/MethodHandle" ∧ y.cls ≠ "java/lang/invoke/VarHandle" ∧ (parseMethodDescriptor y.desc).map (fun d => d.parameters.length) = some na) (hlk : Cond.methodLinkNest own idx y host ∈ lw_tbl) (hin : Cond.initialized y.cls ∈ lw_all) (hst : Cond.static y ∈ lw_all) (hrc : rm.cells = 0) (hrs : rm.slots = 0) (hR : rm.frames + 1 ≤ R.frames ∧ 8 + (maxL + 11) + rm.locals ≤ R.locals) (hna : As.length = na) (hstk : stk = As.reverse ++ st) (hcat : (st.map fun v => v.category).sum ≤ 8) (hf : cells ≤ R.cells ∧ slots ≤ R.slots) (d : decode cc pc = .ok (.invokestatic idx, 3)) (h : bndp o kk) (hn : pc + 3 = n) (k : ∀ (v : Int32) (ξ1 : XS), kk v ξ1 → CF p l e R s m args below meth c nL cells slots (XB g A s ξ1) Q n lv (.int v :: st)) : CF p l e R s m args below meth c nL cells slots (XB g A s ξ) Q pc lv stk := by
  subst hn
  subst hstk
  obtain ⟨v, ξ1, ho, hk⟩ := h
  intro H locs ls hB hl
  refine va_calli (va_runSN (As := As) (rest := st) E (hM v ξ1 ho H.size) ⟨va_cnB na E.2.2.2.2 hG rfl hrc hrs (hB.2.2.2.2.2.1 _ hlk rfl) (E.2.2.2.2 _ hin) hd hR, E.2.2.2.2 _ hst, trivial⟩ ⟨xblind, xpre hB⟩ rfl hna (hl.1) rfl (lv_room hcat) d hf) hB.2.2.1 (fun q _ h => xfree hB q h) (xfree hB) (fun r u t H1 locs1 ht hvm hw1 hB1 hz1 hk1 hS => ?_)
  obtain ⟨rfl, rfl⟩ := hw1
  exact k _ _ hk H1 locs1 ls (xbehind hB ht hB1 hS) hl
theorem xcallM_ip {own : String} (E : EV p s m args c cc nL own) {y : MethodName} {bytes : ByteArray} {maxL idx na : Nat} {ret : Option FieldType} {rm : Room} {stk : List Value} {mc ms : Nat} {C host : String} {b : Nat} {o : Option (Int32 × XS)} {kk : Int32 → XS → Prop} (As : List Value) (hM : ∀ v ξ1, o = some (v, ξ1) → MetXi l g y (ws_ y bytes maxL ret) rm (.ref b :: As) ξ v ξ1 mc ms)
    (hG : GoodIn lw_all (ws_ y bytes maxL ret)) (hd : y.cls ≠ "java/lang/invoke/MethodHandle" ∧ y.cls ≠ "java/lang/invoke/VarHandle" ∧ (parseMethodDescriptor y.desc).map (fun d => d.parameters.length) = some na) (hlk : Cond.methodLinkNest own idx y host ∈ lw_tbl) (hin : Cond.initialized y.cls ∈ lw_all) (him : Cond.instanceMethod y ∈ lw_all) (hsl : Cond.selects C y y ∈ lw_all) (hrv : xrecv g ξ C b) (hrc : rm.cells = mc) (hrs : rm.slots = ms) (hR : rm.frames + 1 ≤ R.frames ∧ 8 + (maxL + 11) + rm.locals ≤ R.locals) (hna : As.length = na) (hstk : stk = As.reverse ++ .ref b :: st) (hcat : (st.map fun v => v.category).sum ≤ 8) (hf : cells + mc ≤ R.cells ∧ slots + ms ≤ R.slots) (d : decode cc pc = .ok (.invokevirtual idx, 3)) (h : bndp o kk) (hn : pc + 3 = n) (k : ∀ (v : Int32) (ξ1 : XS), kk v ξ1 → CF p l e R s m args below meth c nL (cells + mc) (slots + ms) (XB g A s ξ1) Q n lv (.int v :: st)) : CF p l e R s m args below meth c nL cells slots (XB g A s ξ) Q pc lv stk := by
  subst hn
  subst hstk
  obtain ⟨v, ξ1, ho, hk⟩ := h
  intro H locs ls hB hl
  refine va_calli (va_runVN (As := As) (rest := st) E (hM v ξ1 ho H.size) ⟨va_cnB na E.2.2.2.2 hG rfl hrc hrs (hB.2.2.2.2.2.1 _ hlk rfl) (E.2.2.2.2 _ hin) hd hR, E.2.2.2.2 _ him, E.2.2.2.2 _ hsl⟩ ⟨xblind, xrecv_cell hB hrv, xpre hB⟩ rfl hna (hl.1) rfl (lv_room hcat) d hf) hB.2.2.1 (fun q _ h => xfree hB q h) (xfree hB) (fun r u t H1 locs1 ht hvm hw1 hB1 hz1 hk1 hS => ?_)
  obtain ⟨rfl, rfl⟩ := hw1
  exact k _ _ hk H1 locs1 ls (xbehind hB ht hB1 hS) hl
theorem xcallM0_ip {own : String} (E : EV p s m args c cc nL own) {y : MethodName} {bytes : ByteArray} {maxL idx na : Nat} {ret : Option FieldType} {rm : Room} {stk : List Value} {C host : String} {b : Nat} {o : Option (Int32 × XS)} {kk : Int32 → XS → Prop} (As : List Value) (hM : ∀ v ξ1, o = some (v, ξ1) → MetXi l g y (ws_ y bytes maxL ret) rm (.ref b :: As) ξ v ξ1 0 0)
    (hG : GoodIn lw_all (ws_ y bytes maxL ret)) (hd : y.cls ≠ "java/lang/invoke/MethodHandle" ∧ y.cls ≠ "java/lang/invoke/VarHandle" ∧ (parseMethodDescriptor y.desc).map (fun d => d.parameters.length) = some na) (hlk : Cond.methodLinkNest own idx y host ∈ lw_tbl) (hin : Cond.initialized y.cls ∈ lw_all) (him : Cond.instanceMethod y ∈ lw_all) (hsl : Cond.selects C y y ∈ lw_all) (hrv : xrecv g ξ C b) (hrc : rm.cells = 0) (hrs : rm.slots = 0) (hR : rm.frames + 1 ≤ R.frames ∧ 8 + (maxL + 11) + rm.locals ≤ R.locals) (hna : As.length = na) (hstk : stk = As.reverse ++ .ref b :: st) (hcat : (st.map fun v => v.category).sum ≤ 8) (hf : cells ≤ R.cells ∧ slots ≤ R.slots) (d : decode cc pc = .ok (.invokevirtual idx, 3)) (h : bndp o kk) (hn : pc + 3 = n) (k : ∀ (v : Int32) (ξ1 : XS), kk v ξ1 → CF p l e R s m args below meth c nL cells slots (XB g A s ξ1) Q n lv (.int v :: st)) : CF p l e R s m args below meth c nL cells slots (XB g A s ξ) Q pc lv stk := by
  subst hn
  subst hstk
  obtain ⟨v, ξ1, ho, hk⟩ := h
  intro H locs ls hB hl
  refine va_calli (va_runVN (As := As) (rest := st) E (hM v ξ1 ho H.size) ⟨va_cnB na E.2.2.2.2 hG rfl hrc hrs (hB.2.2.2.2.2.1 _ hlk rfl) (E.2.2.2.2 _ hin) hd hR, E.2.2.2.2 _ him, E.2.2.2.2 _ hsl⟩ ⟨xblind, xrecv_cell hB hrv, xpre hB⟩ rfl hna (hl.1) rfl (lv_room hcat) d hf) hB.2.2.1 (fun q _ h => xfree hB q h) (xfree hB) (fun r u t H1 locs1 ht hvm hw1 hB1 hz1 hk1 hS => ?_)
  obtain ⟨rfl, rfl⟩ := hw1
  exact k _ _ hk H1 locs1 ls (xbehind hB ht hB1 hS) hl
theorem xcallV_lp {own : String} (E : EV p s m args c cc nL own) {y : MethodName} {bytes : ByteArray} {maxL idx na : Nat} {ret : Option FieldType} {rm : Room} {stk : List Value} {mc ms : Nat} {C : String} {b : Nat} {o : Option (Int64 × XS)} {kk : Int64 → XS → Prop} (As : List Value) (hM : ∀ v ξ1, o = some (v, ξ1) → MetXl l g y (ws_ y bytes maxL ret) rm (.ref b :: As) ξ v ξ1 mc ms)
    (hG : GoodIn lw_all (wsV own idx C y (ws_ y bytes maxL ret))) (hd : y.cls = C ∧ y.cls ≠ "java/lang/invoke/MethodHandle" ∧ y.cls ≠ "java/lang/invoke/VarHandle" ∧ (parseMethodDescriptor y.desc).map (fun d => d.parameters.length) = some na) (hrv : xrecv g ξ C b) (hrc : rm.cells = mc) (hrs : rm.slots = ms) (hR : rm.frames + 1 ≤ R.frames ∧ 8 + (maxL + 11) + rm.locals ≤ R.locals) (hna : As.length = na) (hstk : stk = As.reverse ++ .ref b :: st) (hcat : (st.map fun v => v.category).sum ≤ 8) (hf : cells + mc ≤ R.cells ∧ slots + ms ≤ R.slots) (d : decode cc pc = .ok (.invokevirtual idx, 3)) (h : bndp o kk) (hn : pc + 3 = n) (k : ∀ (v : Int64) (ξ1 : XS), kk v ξ1 → CF p l e R s m args below meth c nL (cells + mc) (slots + ms) (XB g A s ξ1) Q n lv (.long v :: st)) : CF p l e R s m args below meth c nL cells slots (XB g A s ξ) Q pc lv stk := by
  subst hn
  subst hstk
  obtain ⟨v, ξ1, ho, hk⟩ := h
  intro H locs ls hB hl
  refine va_calll (va_runV (As := As) (rest := st) E (hM v ξ1 ho H.size) (cwV na E.2.2.2.2 hG rfl hrc hrs hd hR) ⟨xblind, xrecv_cell hB hrv, xpre hB⟩ rfl hna (hl.1) rfl (lv_room hcat) d hf) hB.2.2.1 (fun q _ h => xfree hB q h) (xfree hB) (fun r u t H1 locs1 ht hvm hw1 hB1 hz1 hk1 hS => ?_)
  obtain ⟨rfl, rfl⟩ := hw1
  exact k _ _ hk H1 locs1 ls (xbehind hB ht hB1 hS) hl
theorem xcallV0_lp {own : String} (E : EV p s m args c cc nL own) {y : MethodName} {bytes : ByteArray} {maxL idx na : Nat} {ret : Option FieldType} {rm : Room} {stk : List Value} {C : String} {b : Nat} {o : Option (Int64 × XS)} {kk : Int64 → XS → Prop} (As : List Value) (hM : ∀ v ξ1, o = some (v, ξ1) → MetXl l g y (ws_ y bytes maxL ret) rm (.ref b :: As) ξ v ξ1 0 0)
    (hG : GoodIn lw_all (wsV own idx C y (ws_ y bytes maxL ret))) (hd : y.cls = C ∧ y.cls ≠ "java/lang/invoke/MethodHandle" ∧ y.cls ≠ "java/lang/invoke/VarHandle" ∧ (parseMethodDescriptor y.desc).map (fun d => d.parameters.length) = some na) (hrv : xrecv g ξ C b) (hrc : rm.cells = 0) (hrs : rm.slots = 0) (hR : rm.frames + 1 ≤ R.frames ∧ 8 + (maxL + 11) + rm.locals ≤ R.locals) (hna : As.length = na) (hstk : stk = As.reverse ++ .ref b :: st) (hcat : (st.map fun v => v.category).sum ≤ 8) (hf : cells ≤ R.cells ∧ slots ≤ R.slots) (d : decode cc pc = .ok (.invokevirtual idx, 3)) (h : bndp o kk) (hn : pc + 3 = n) (k : ∀ (v : Int64) (ξ1 : XS), kk v ξ1 → CF p l e R s m args below meth c nL cells slots (XB g A s ξ1) Q n lv (.long v :: st)) : CF p l e R s m args below meth c nL cells slots (XB g A s ξ) Q pc lv stk := by
  subst hn
  subst hstk
  obtain ⟨v, ξ1, ho, hk⟩ := h
  intro H locs ls hB hl
  refine va_calll (va_runV (As := As) (rest := st) E (hM v ξ1 ho H.size) (cwV na E.2.2.2.2 hG rfl hrc hrs hd hR) ⟨xblind, xrecv_cell hB hrv, xpre hB⟩ rfl hna (hl.1) rfl (lv_room hcat) d hf) hB.2.2.1 (fun q _ h => xfree hB q h) (xfree hB) (fun r u t H1 locs1 ht hvm hw1 hB1 hz1 hk1 hS => ?_)
  obtain ⟨rfl, rfl⟩ := hw1
  exact k _ _ hk H1 locs1 ls (xbehind hB ht hB1 hS) hl
theorem xcallS_lp {own : String} (E : EV p s m args c cc nL own) {y : MethodName} {bytes : ByteArray} {maxL idx na : Nat} {ret : Option FieldType} {rm : Room} {stk : List Value} {mc ms : Nat}  {o : Option (Int64 × XS)} {kk : Int64 → XS → Prop} (As : List Value) (hM : ∀ v ξ1, o = some (v, ξ1) → MetXl l g y (ws_ y bytes maxL ret) rm As ξ v ξ1 mc ms)
    (hG : GoodIn lw_all (va_wsS own idx y (ws_ y bytes maxL ret))) (hd : y.cls ≠ "java/lang/invoke/MethodHandle" ∧ y.cls ≠ "java/lang/invoke/VarHandle" ∧ (parseMethodDescriptor y.desc).map (fun d => d.parameters.length) = some na) (hrc : rm.cells = mc) (hrs : rm.slots = ms) (hR : rm.frames + 1 ≤ R.frames ∧ 8 + (maxL + 11) + rm.locals ≤ R.locals) (hna : As.length = na) (hstk : stk = As.reverse ++ st) (hcat : (st.map fun v => v.category).sum ≤ 8) (hf : cells + mc ≤ R.cells ∧ slots + ms ≤ R.slots) (d : decode cc pc = .ok (.invokestatic idx, 3)) (h : bndp o kk) (hn : pc + 3 = n) (k : ∀ (v : Int64) (ξ1 : XS), kk v ξ1 → CF p l e R s m args below meth c nL (cells + mc) (slots + ms) (XB g A s ξ1) Q n lv (.long v :: st)) : CF p l e R s m args below meth c nL cells slots (XB g A s ξ) Q pc lv stk := by
  subst hn
  subst hstk
  obtain ⟨v, ξ1, ho, hk⟩ := h
  intro H locs ls hB hl
  refine va_calll (va_runS (As := As) (rest := st) E (hM v ξ1 ho H.size) (va_cwS na E.2.2.2.2 hG rfl hrc hrs hd hR) ⟨xblind, xpre hB⟩ rfl hna (hl.1) rfl (lv_room hcat) d hf) hB.2.2.1 (fun q _ h => xfree hB q h) (xfree hB) (fun r u t H1 locs1 ht hvm hw1 hB1 hz1 hk1 hS => ?_)
  obtain ⟨rfl, rfl⟩ := hw1
  exact k _ _ hk H1 locs1 ls (xbehind hB ht hB1 hS) hl
theorem xcallS0_lp {own : String} (E : EV p s m args c cc nL own) {y : MethodName} {bytes : ByteArray} {maxL idx na : Nat} {ret : Option FieldType} {rm : Room} {stk : List Value}  {o : Option (Int64 × XS)} {kk : Int64 → XS → Prop} (As : List Value) (hM : ∀ v ξ1, o = some (v, ξ1) → MetXl l g y (ws_ y bytes maxL ret) rm As ξ v ξ1 0 0)
    (hG : GoodIn lw_all (va_wsS own idx y (ws_ y bytes maxL ret))) (hd : y.cls ≠ "java/lang/invoke/MethodHandle" ∧ y.cls ≠ "java/lang/invoke/VarHandle" ∧ (parseMethodDescriptor y.desc).map (fun d => d.parameters.length) = some na) (hrc : rm.cells = 0) (hrs : rm.slots = 0) (hR : rm.frames + 1 ≤ R.frames ∧ 8 + (maxL + 11) + rm.locals ≤ R.locals) (hna : As.length = na) (hstk : stk = As.reverse ++ st) (hcat : (st.map fun v => v.category).sum ≤ 8) (hf : cells ≤ R.cells ∧ slots ≤ R.slots) (d : decode cc pc = .ok (.invokestatic idx, 3)) (h : bndp o kk) (hn : pc + 3 = n) (k : ∀ (v : Int64) (ξ1 : XS), kk v ξ1 → CF p l e R s m args below meth c nL cells slots (XB g A s ξ1) Q n lv (.long v :: st)) : CF p l e R s m args below meth c nL cells slots (XB g A s ξ) Q pc lv stk := by
  subst hn
  subst hstk
  obtain ⟨v, ξ1, ho, hk⟩ := h
  intro H locs ls hB hl
  refine va_calll (va_runS (As := As) (rest := st) E (hM v ξ1 ho H.size) (va_cwS na E.2.2.2.2 hG rfl hrc hrs hd hR) ⟨xblind, xpre hB⟩ rfl hna (hl.1) rfl (lv_room hcat) d hf) hB.2.2.1 (fun q _ h => xfree hB q h) (xfree hB) (fun r u t H1 locs1 ht hvm hw1 hB1 hz1 hk1 hS => ?_)
  obtain ⟨rfl, rfl⟩ := hw1
  exact k _ _ hk H1 locs1 ls (xbehind hB ht hB1 hS) hl
theorem xcallN_lp {own : String} (E : EV p s m args c cc nL own) {y : MethodName} {bytes : ByteArray} {maxL idx na : Nat} {ret : Option FieldType} {rm : Room} {stk : List Value} {mc ms : Nat} {host : String} {o : Option (Int64 × XS)} {kk : Int64 → XS → Prop} (As : List Value) (hM : ∀ v ξ1, o = some (v, ξ1) → MetXl l g y (ws_ y bytes maxL ret) rm As ξ v ξ1 mc ms)
    (hG : GoodIn lw_all (ws_ y bytes maxL ret)) (hd : y.cls ≠ "java/lang/invoke/MethodHandle" ∧ y.cls ≠ "java/lang/invoke/VarHandle" ∧ (parseMethodDescriptor y.desc).map (fun d => d.parameters.length) = some na) (hlk : Cond.methodLinkNest own idx y host ∈ lw_tbl) (hin : Cond.initialized y.cls ∈ lw_all) (hst : Cond.static y ∈ lw_all) (hrc : rm.cells = mc) (hrs : rm.slots = ms) (hR : rm.frames + 1 ≤ R.frames ∧ 8 + (maxL + 11) + rm.locals ≤ R.locals) (hna : As.length = na) (hstk : stk = As.reverse ++ st) (hcat : (st.map fun v => v.category).sum ≤ 8) (hf : cells + mc ≤ R.cells ∧ slots + ms ≤ R.slots) (d : decode cc pc = .ok (.invokestatic idx, 3)) (h : bndp o kk) (hn : pc + 3 = n) (k : ∀ (v : Int64) (ξ1 : XS), kk v ξ1 → CF p l e R s m args below meth c nL (cells + mc) (slots + ms) (XB g A s ξ1) Q n lv (.long v :: st)) : CF p l e R s m args below meth c nL cells slots (XB g A s ξ) Q pc lv stk := by
  subst hn
  subst hstk
  obtain ⟨v, ξ1, ho, hk⟩ := h
  intro H locs ls hB hl
  refine va_calll (va_runSN (As := As) (rest := st) E (hM v ξ1 ho H.size) ⟨va_cnB na E.2.2.2.2 hG rfl hrc hrs (hB.2.2.2.2.2.1 _ hlk rfl) (E.2.2.2.2 _ hin) hd hR, E.2.2.2.2 _ hst, trivial⟩ ⟨xblind, xpre hB⟩ rfl hna (hl.1) rfl (lv_room hcat) d hf) hB.2.2.1 (fun q _ h => xfree hB q h) (xfree hB) (fun r u t H1 locs1 ht hvm hw1 hB1 hz1 hk1 hS => ?_)
  obtain ⟨rfl, rfl⟩ := hw1
  exact k _ _ hk H1 locs1 ls (xbehind hB ht hB1 hS) hl
theorem xcallN0_lp {own : String} (E : EV p s m args c cc nL own) {y : MethodName} {bytes : ByteArray} {maxL idx na : Nat} {ret : Option FieldType} {rm : Room} {stk : List Value} {host : String} {o : Option (Int64 × XS)} {kk : Int64 → XS → Prop} (As : List Value) (hM : ∀ v ξ1, o = some (v, ξ1) → MetXl l g y (ws_ y bytes maxL ret) rm As ξ v ξ1 0 0)
    (hG : GoodIn lw_all (ws_ y bytes maxL ret)) (hd : y.cls ≠ "java/lang/invoke/MethodHandle" ∧ y.cls ≠ "java/lang/invoke/VarHandle" ∧ (parseMethodDescriptor y.desc).map (fun d => d.parameters.length) = some na) (hlk : Cond.methodLinkNest own idx y host ∈ lw_tbl) (hin : Cond.initialized y.cls ∈ lw_all) (hst : Cond.static y ∈ lw_all) (hrc : rm.cells = 0) (hrs : rm.slots = 0) (hR : rm.frames + 1 ≤ R.frames ∧ 8 + (maxL + 11) + rm.locals ≤ R.locals) (hna : As.length = na) (hstk : stk = As.reverse ++ st) (hcat : (st.map fun v => v.category).sum ≤ 8) (hf : cells ≤ R.cells ∧ slots ≤ R.slots) (d : decode cc pc = .ok (.invokestatic idx, 3)) (h : bndp o kk) (hn : pc + 3 = n) (k : ∀ (v : Int64) (ξ1 : XS), kk v ξ1 → CF p l e R s m args below meth c nL cells slots (XB g A s ξ1) Q n lv (.long v :: st)) : CF p l e R s m args below meth c nL cells slots (XB g A s ξ) Q pc lv stk := by
  subst hn
  subst hstk
  obtain ⟨v, ξ1, ho, hk⟩ := h
  intro H locs ls hB hl
  refine va_calll (va_runSN (As := As) (rest := st) E (hM v ξ1 ho H.size) ⟨va_cnB na E.2.2.2.2 hG rfl hrc hrs (hB.2.2.2.2.2.1 _ hlk rfl) (E.2.2.2.2 _ hin) hd hR, E.2.2.2.2 _ hst, trivial⟩ ⟨xblind, xpre hB⟩ rfl hna (hl.1) rfl (lv_room hcat) d hf) hB.2.2.1 (fun q _ h => xfree hB q h) (xfree hB) (fun r u t H1 locs1 ht hvm hw1 hB1 hz1 hk1 hS => ?_)
  obtain ⟨rfl, rfl⟩ := hw1
  exact k _ _ hk H1 locs1 ls (xbehind hB ht hB1 hS) hl
theorem xcallM_lp {own : String} (E : EV p s m args c cc nL own) {y : MethodName} {bytes : ByteArray} {maxL idx na : Nat} {ret : Option FieldType} {rm : Room} {stk : List Value} {mc ms : Nat} {C host : String} {b : Nat} {o : Option (Int64 × XS)} {kk : Int64 → XS → Prop} (As : List Value) (hM : ∀ v ξ1, o = some (v, ξ1) → MetXl l g y (ws_ y bytes maxL ret) rm (.ref b :: As) ξ v ξ1 mc ms)
    (hG : GoodIn lw_all (ws_ y bytes maxL ret)) (hd : y.cls ≠ "java/lang/invoke/MethodHandle" ∧ y.cls ≠ "java/lang/invoke/VarHandle" ∧ (parseMethodDescriptor y.desc).map (fun d => d.parameters.length) = some na) (hlk : Cond.methodLinkNest own idx y host ∈ lw_tbl) (hin : Cond.initialized y.cls ∈ lw_all) (him : Cond.instanceMethod y ∈ lw_all) (hsl : Cond.selects C y y ∈ lw_all) (hrv : xrecv g ξ C b) (hrc : rm.cells = mc) (hrs : rm.slots = ms) (hR : rm.frames + 1 ≤ R.frames ∧ 8 + (maxL + 11) + rm.locals ≤ R.locals) (hna : As.length = na) (hstk : stk = As.reverse ++ .ref b :: st) (hcat : (st.map fun v => v.category).sum ≤ 8) (hf : cells + mc ≤ R.cells ∧ slots + ms ≤ R.slots) (d : decode cc pc = .ok (.invokevirtual idx, 3)) (h : bndp o kk) (hn : pc + 3 = n) (k : ∀ (v : Int64) (ξ1 : XS), kk v ξ1 → CF p l e R s m args below meth c nL (cells + mc) (slots + ms) (XB g A s ξ1) Q n lv (.long v :: st)) : CF p l e R s m args below meth c nL cells slots (XB g A s ξ) Q pc lv stk := by
  subst hn
  subst hstk
  obtain ⟨v, ξ1, ho, hk⟩ := h
  intro H locs ls hB hl
  refine va_calll (va_runVN (As := As) (rest := st) E (hM v ξ1 ho H.size) ⟨va_cnB na E.2.2.2.2 hG rfl hrc hrs (hB.2.2.2.2.2.1 _ hlk rfl) (E.2.2.2.2 _ hin) hd hR, E.2.2.2.2 _ him, E.2.2.2.2 _ hsl⟩ ⟨xblind, xrecv_cell hB hrv, xpre hB⟩ rfl hna (hl.1) rfl (lv_room hcat) d hf) hB.2.2.1 (fun q _ h => xfree hB q h) (xfree hB) (fun r u t H1 locs1 ht hvm hw1 hB1 hz1 hk1 hS => ?_)
  obtain ⟨rfl, rfl⟩ := hw1
  exact k _ _ hk H1 locs1 ls (xbehind hB ht hB1 hS) hl
theorem xcallM0_lp {own : String} (E : EV p s m args c cc nL own) {y : MethodName} {bytes : ByteArray} {maxL idx na : Nat} {ret : Option FieldType} {rm : Room} {stk : List Value} {C host : String} {b : Nat} {o : Option (Int64 × XS)} {kk : Int64 → XS → Prop} (As : List Value) (hM : ∀ v ξ1, o = some (v, ξ1) → MetXl l g y (ws_ y bytes maxL ret) rm (.ref b :: As) ξ v ξ1 0 0)
    (hG : GoodIn lw_all (ws_ y bytes maxL ret)) (hd : y.cls ≠ "java/lang/invoke/MethodHandle" ∧ y.cls ≠ "java/lang/invoke/VarHandle" ∧ (parseMethodDescriptor y.desc).map (fun d => d.parameters.length) = some na) (hlk : Cond.methodLinkNest own idx y host ∈ lw_tbl) (hin : Cond.initialized y.cls ∈ lw_all) (him : Cond.instanceMethod y ∈ lw_all) (hsl : Cond.selects C y y ∈ lw_all) (hrv : xrecv g ξ C b) (hrc : rm.cells = 0) (hrs : rm.slots = 0) (hR : rm.frames + 1 ≤ R.frames ∧ 8 + (maxL + 11) + rm.locals ≤ R.locals) (hna : As.length = na) (hstk : stk = As.reverse ++ .ref b :: st) (hcat : (st.map fun v => v.category).sum ≤ 8) (hf : cells ≤ R.cells ∧ slots ≤ R.slots) (d : decode cc pc = .ok (.invokevirtual idx, 3)) (h : bndp o kk) (hn : pc + 3 = n) (k : ∀ (v : Int64) (ξ1 : XS), kk v ξ1 → CF p l e R s m args below meth c nL cells slots (XB g A s ξ1) Q n lv (.long v :: st)) : CF p l e R s m args below meth c nL cells slots (XB g A s ξ) Q pc lv stk := by
  subst hn
  subst hstk
  obtain ⟨v, ξ1, ho, hk⟩ := h
  intro H locs ls hB hl
  refine va_calll (va_runVN (As := As) (rest := st) E (hM v ξ1 ho H.size) ⟨va_cnB na E.2.2.2.2 hG rfl hrc hrs (hB.2.2.2.2.2.1 _ hlk rfl) (E.2.2.2.2 _ hin) hd hR, E.2.2.2.2 _ him, E.2.2.2.2 _ hsl⟩ ⟨xblind, xrecv_cell hB hrv, xpre hB⟩ rfl hna (hl.1) rfl (lv_room hcat) d hf) hB.2.2.1 (fun q _ h => xfree hB q h) (xfree hB) (fun r u t H1 locs1 ht hvm hw1 hB1 hz1 hk1 hS => ?_)
  obtain ⟨rfl, rfl⟩ := hw1
  exact k _ _ hk H1 locs1 ls (xbehind hB ht hB1 hS) hl
theorem xcallV_vp {own : String} (E : EV p s m args c cc nL own) {y : MethodName} {bytes : ByteArray} {maxL idx na : Nat} {ret : Option FieldType} {rm : Room} {stk : List Value} {mc ms : Nat} {C : String} {b : Nat} {o : Option XS} {kk : XS → Prop} (As : List Value) (hM : ∀ ξ1, o = some ξ1 → MetXv l g y (ws_ y bytes maxL ret) rm (.ref b :: As) ξ ξ1 mc ms)
    (hG : GoodIn lw_all (wsV own idx C y (ws_ y bytes maxL ret))) (hd : y.cls = C ∧ y.cls ≠ "java/lang/invoke/MethodHandle" ∧ y.cls ≠ "java/lang/invoke/VarHandle" ∧ (parseMethodDescriptor y.desc).map (fun d => d.parameters.length) = some na) (hrv : xrecv g ξ C b) (hrc : rm.cells = mc) (hrs : rm.slots = ms) (hR : rm.frames + 1 ≤ R.frames ∧ 8 + (maxL + 11) + rm.locals ≤ R.locals) (hna : As.length = na) (hstk : stk = As.reverse ++ .ref b :: st) (hcat : (st.map fun v => v.category).sum ≤ 8) (hf : cells + mc ≤ R.cells ∧ slots + ms ≤ R.slots) (d : decode cc pc = .ok (.invokevirtual idx, 3)) (h : bnvp o kk) (hn : pc + 3 = n) (k : ∀ (ξ1 : XS), kk ξ1 → CF p l e R s m args below meth c nL (cells + mc) (slots + ms) (XB g A s ξ1) Q n lv st) : CF p l e R s m args below meth c nL cells slots (XB g A s ξ) Q pc lv stk := by
  subst hn
  subst hstk
  obtain ⟨ξ1, ho, hk⟩ := h
  intro H locs ls hB hl
  refine va_callv (va_runV (As := As) (rest := st) E (hM ξ1 ho H.size) (cwV na E.2.2.2.2 hG rfl hrc hrs hd hR) ⟨xblind, xrecv_cell hB hrv, xpre hB⟩ rfl hna (hl.1) rfl (lv_room hcat) d hf) hB.2.2.1 (fun q _ h => xfree hB q h) (xfree hB) (fun u t H1 locs1 ht hvm hw1 hB1 hz1 hk1 hS => ?_)
  have hw1 : u = ξ1 := hw1
  subst hw1
  exact k _ hk H1 locs1 ls (xbehind hB ht hB1 hS) hl
theorem xcallV0_vp {own : String} (E : EV p s m args c cc nL own) {y : MethodName} {bytes : ByteArray} {maxL idx na : Nat} {ret : Option FieldType} {rm : Room} {stk : List Value} {C : String} {b : Nat} {o : Option XS} {kk : XS → Prop} (As : List Value) (hM : ∀ ξ1, o = some ξ1 → MetXv l g y (ws_ y bytes maxL ret) rm (.ref b :: As) ξ ξ1 0 0)
    (hG : GoodIn lw_all (wsV own idx C y (ws_ y bytes maxL ret))) (hd : y.cls = C ∧ y.cls ≠ "java/lang/invoke/MethodHandle" ∧ y.cls ≠ "java/lang/invoke/VarHandle" ∧ (parseMethodDescriptor y.desc).map (fun d => d.parameters.length) = some na) (hrv : xrecv g ξ C b) (hrc : rm.cells = 0) (hrs : rm.slots = 0) (hR : rm.frames + 1 ≤ R.frames ∧ 8 + (maxL + 11) + rm.locals ≤ R.locals) (hna : As.length = na) (hstk : stk = As.reverse ++ .ref b :: st) (hcat : (st.map fun v => v.category).sum ≤ 8) (hf : cells ≤ R.cells ∧ slots ≤ R.slots) (d : decode cc pc = .ok (.invokevirtual idx, 3)) (h : bnvp o kk) (hn : pc + 3 = n) (k : ∀ (ξ1 : XS), kk ξ1 → CF p l e R s m args below meth c nL cells slots (XB g A s ξ1) Q n lv st) : CF p l e R s m args below meth c nL cells slots (XB g A s ξ) Q pc lv stk := by
  subst hn
  subst hstk
  obtain ⟨ξ1, ho, hk⟩ := h
  intro H locs ls hB hl
  refine va_callv (va_runV (As := As) (rest := st) E (hM ξ1 ho H.size) (cwV na E.2.2.2.2 hG rfl hrc hrs hd hR) ⟨xblind, xrecv_cell hB hrv, xpre hB⟩ rfl hna (hl.1) rfl (lv_room hcat) d hf) hB.2.2.1 (fun q _ h => xfree hB q h) (xfree hB) (fun u t H1 locs1 ht hvm hw1 hB1 hz1 hk1 hS => ?_)
  have hw1 : u = ξ1 := hw1
  subst hw1
  exact k _ hk H1 locs1 ls (xbehind hB ht hB1 hS) hl
theorem xcallS_vp {own : String} (E : EV p s m args c cc nL own) {y : MethodName} {bytes : ByteArray} {maxL idx na : Nat} {ret : Option FieldType} {rm : Room} {stk : List Value} {mc ms : Nat}  {o : Option XS} {kk : XS → Prop} (As : List Value) (hM : ∀ ξ1, o = some ξ1 → MetXv l g y (ws_ y bytes maxL ret) rm As ξ ξ1 mc ms)
    (hG : GoodIn lw_all (va_wsS own idx y (ws_ y bytes maxL ret))) (hd : y.cls ≠ "java/lang/invoke/MethodHandle" ∧ y.cls ≠ "java/lang/invoke/VarHandle" ∧ (parseMethodDescriptor y.desc).map (fun d => d.parameters.length) = some na) (hrc : rm.cells = mc) (hrs : rm.slots = ms) (hR : rm.frames + 1 ≤ R.frames ∧ 8 + (maxL + 11) + rm.locals ≤ R.locals) (hna : As.length = na) (hstk : stk = As.reverse ++ st) (hcat : (st.map fun v => v.category).sum ≤ 8) (hf : cells + mc ≤ R.cells ∧ slots + ms ≤ R.slots) (d : decode cc pc = .ok (.invokestatic idx, 3)) (h : bnvp o kk) (hn : pc + 3 = n) (k : ∀ (ξ1 : XS), kk ξ1 → CF p l e R s m args below meth c nL (cells + mc) (slots + ms) (XB g A s ξ1) Q n lv st) : CF p l e R s m args below meth c nL cells slots (XB g A s ξ) Q pc lv stk := by
  subst hn
  subst hstk
  obtain ⟨ξ1, ho, hk⟩ := h
  intro H locs ls hB hl
  refine va_callv (va_runS (As := As) (rest := st) E (hM ξ1 ho H.size) (va_cwS na E.2.2.2.2 hG rfl hrc hrs hd hR) ⟨xblind, xpre hB⟩ rfl hna (hl.1) rfl (lv_room hcat) d hf) hB.2.2.1 (fun q _ h => xfree hB q h) (xfree hB) (fun u t H1 locs1 ht hvm hw1 hB1 hz1 hk1 hS => ?_)
  have hw1 : u = ξ1 := hw1
  subst hw1
  exact k _ hk H1 locs1 ls (xbehind hB ht hB1 hS) hl
theorem xcallS0_vp {own : String} (E : EV p s m args c cc nL own) {y : MethodName} {bytes : ByteArray} {maxL idx na : Nat} {ret : Option FieldType} {rm : Room} {stk : List Value}  {o : Option XS} {kk : XS → Prop} (As : List Value) (hM : ∀ ξ1, o = some ξ1 → MetXv l g y (ws_ y bytes maxL ret) rm As ξ ξ1 0 0)
    (hG : GoodIn lw_all (va_wsS own idx y (ws_ y bytes maxL ret))) (hd : y.cls ≠ "java/lang/invoke/MethodHandle" ∧ y.cls ≠ "java/lang/invoke/VarHandle" ∧ (parseMethodDescriptor y.desc).map (fun d => d.parameters.length) = some na) (hrc : rm.cells = 0) (hrs : rm.slots = 0) (hR : rm.frames + 1 ≤ R.frames ∧ 8 + (maxL + 11) + rm.locals ≤ R.locals) (hna : As.length = na) (hstk : stk = As.reverse ++ st) (hcat : (st.map fun v => v.category).sum ≤ 8) (hf : cells ≤ R.cells ∧ slots ≤ R.slots) (d : decode cc pc = .ok (.invokestatic idx, 3)) (h : bnvp o kk) (hn : pc + 3 = n) (k : ∀ (ξ1 : XS), kk ξ1 → CF p l e R s m args below meth c nL cells slots (XB g A s ξ1) Q n lv st) : CF p l e R s m args below meth c nL cells slots (XB g A s ξ) Q pc lv stk := by
  subst hn
  subst hstk
  obtain ⟨ξ1, ho, hk⟩ := h
  intro H locs ls hB hl
  refine va_callv (va_runS (As := As) (rest := st) E (hM ξ1 ho H.size) (va_cwS na E.2.2.2.2 hG rfl hrc hrs hd hR) ⟨xblind, xpre hB⟩ rfl hna (hl.1) rfl (lv_room hcat) d hf) hB.2.2.1 (fun q _ h => xfree hB q h) (xfree hB) (fun u t H1 locs1 ht hvm hw1 hB1 hz1 hk1 hS => ?_)
  have hw1 : u = ξ1 := hw1
  subst hw1
  exact k _ hk H1 locs1 ls (xbehind hB ht hB1 hS) hl
theorem xcallN_vp {own : String} (E : EV p s m args c cc nL own) {y : MethodName} {bytes : ByteArray} {maxL idx na : Nat} {ret : Option FieldType} {rm : Room} {stk : List Value} {mc ms : Nat} {host : String} {o : Option XS} {kk : XS → Prop} (As : List Value) (hM : ∀ ξ1, o = some ξ1 → MetXv l g y (ws_ y bytes maxL ret) rm As ξ ξ1 mc ms)
    (hG : GoodIn lw_all (ws_ y bytes maxL ret)) (hd : y.cls ≠ "java/lang/invoke/MethodHandle" ∧ y.cls ≠ "java/lang/invoke/VarHandle" ∧ (parseMethodDescriptor y.desc).map (fun d => d.parameters.length) = some na) (hlk : Cond.methodLinkNest own idx y host ∈ lw_tbl) (hin : Cond.initialized y.cls ∈ lw_all) (hst : Cond.static y ∈ lw_all) (hrc : rm.cells = mc) (hrs : rm.slots = ms) (hR : rm.frames + 1 ≤ R.frames ∧ 8 + (maxL + 11) + rm.locals ≤ R.locals) (hna : As.length = na) (hstk : stk = As.reverse ++ st) (hcat : (st.map fun v => v.category).sum ≤ 8) (hf : cells + mc ≤ R.cells ∧ slots + ms ≤ R.slots) (d : decode cc pc = .ok (.invokestatic idx, 3)) (h : bnvp o kk) (hn : pc + 3 = n) (k : ∀ (ξ1 : XS), kk ξ1 → CF p l e R s m args below meth c nL (cells + mc) (slots + ms) (XB g A s ξ1) Q n lv st) : CF p l e R s m args below meth c nL cells slots (XB g A s ξ) Q pc lv stk := by
  subst hn
  subst hstk
  obtain ⟨ξ1, ho, hk⟩ := h
  intro H locs ls hB hl
  refine va_callv (va_runSN (As := As) (rest := st) E (hM ξ1 ho H.size) ⟨va_cnB na E.2.2.2.2 hG rfl hrc hrs (hB.2.2.2.2.2.1 _ hlk rfl) (E.2.2.2.2 _ hin) hd hR, E.2.2.2.2 _ hst, trivial⟩ ⟨xblind, xpre hB⟩ rfl hna (hl.1) rfl (lv_room hcat) d hf) hB.2.2.1 (fun q _ h => xfree hB q h) (xfree hB) (fun u t H1 locs1 ht hvm hw1 hB1 hz1 hk1 hS => ?_)
  have hw1 : u = ξ1 := hw1
  subst hw1
  exact k _ hk H1 locs1 ls (xbehind hB ht hB1 hS) hl
theorem xcallN0_vp {own : String} (E : EV p s m args c cc nL own) {y : MethodName} {bytes : ByteArray} {maxL idx na : Nat} {ret : Option FieldType} {rm : Room} {stk : List Value} {host : String} {o : Option XS} {kk : XS → Prop} (As : List Value) (hM : ∀ ξ1, o = some ξ1 → MetXv l g y (ws_ y bytes maxL ret) rm As ξ ξ1 0 0)
    (hG : GoodIn lw_all (ws_ y bytes maxL ret)) (hd : y.cls ≠ "java/lang/invoke/MethodHandle" ∧ y.cls ≠ "java/lang/invoke/VarHandle" ∧ (parseMethodDescriptor y.desc).map (fun d => d.parameters.length) = some na) (hlk : Cond.methodLinkNest own idx y host ∈ lw_tbl) (hin : Cond.initialized y.cls ∈ lw_all) (hst : Cond.static y ∈ lw_all) (hrc : rm.cells = 0) (hrs : rm.slots = 0) (hR : rm.frames + 1 ≤ R.frames ∧ 8 + (maxL + 11) + rm.locals ≤ R.locals) (hna : As.length = na) (hstk : stk = As.reverse ++ st) (hcat : (st.map fun v => v.category).sum ≤ 8) (hf : cells ≤ R.cells ∧ slots ≤ R.slots) (d : decode cc pc = .ok (.invokestatic idx, 3)) (h : bnvp o kk) (hn : pc + 3 = n) (k : ∀ (ξ1 : XS), kk ξ1 → CF p l e R s m args below meth c nL cells slots (XB g A s ξ1) Q n lv st) : CF p l e R s m args below meth c nL cells slots (XB g A s ξ) Q pc lv stk := by
  subst hn
  subst hstk
  obtain ⟨ξ1, ho, hk⟩ := h
  intro H locs ls hB hl
  refine va_callv (va_runSN (As := As) (rest := st) E (hM ξ1 ho H.size) ⟨va_cnB na E.2.2.2.2 hG rfl hrc hrs (hB.2.2.2.2.2.1 _ hlk rfl) (E.2.2.2.2 _ hin) hd hR, E.2.2.2.2 _ hst, trivial⟩ ⟨xblind, xpre hB⟩ rfl hna (hl.1) rfl (lv_room hcat) d hf) hB.2.2.1 (fun q _ h => xfree hB q h) (xfree hB) (fun u t H1 locs1 ht hvm hw1 hB1 hz1 hk1 hS => ?_)
  have hw1 : u = ξ1 := hw1
  subst hw1
  exact k _ hk H1 locs1 ls (xbehind hB ht hB1 hS) hl
theorem xcallM_vp {own : String} (E : EV p s m args c cc nL own) {y : MethodName} {bytes : ByteArray} {maxL idx na : Nat} {ret : Option FieldType} {rm : Room} {stk : List Value} {mc ms : Nat} {C host : String} {b : Nat} {o : Option XS} {kk : XS → Prop} (As : List Value) (hM : ∀ ξ1, o = some ξ1 → MetXv l g y (ws_ y bytes maxL ret) rm (.ref b :: As) ξ ξ1 mc ms)
    (hG : GoodIn lw_all (ws_ y bytes maxL ret)) (hd : y.cls ≠ "java/lang/invoke/MethodHandle" ∧ y.cls ≠ "java/lang/invoke/VarHandle" ∧ (parseMethodDescriptor y.desc).map (fun d => d.parameters.length) = some na) (hlk : Cond.methodLinkNest own idx y host ∈ lw_tbl) (hin : Cond.initialized y.cls ∈ lw_all) (him : Cond.instanceMethod y ∈ lw_all) (hsl : Cond.selects C y y ∈ lw_all) (hrv : xrecv g ξ C b) (hrc : rm.cells = mc) (hrs : rm.slots = ms) (hR : rm.frames + 1 ≤ R.frames ∧ 8 + (maxL + 11) + rm.locals ≤ R.locals) (hna : As.length = na) (hstk : stk = As.reverse ++ .ref b :: st) (hcat : (st.map fun v => v.category).sum ≤ 8) (hf : cells + mc ≤ R.cells ∧ slots + ms ≤ R.slots) (d : decode cc pc = .ok (.invokevirtual idx, 3)) (h : bnvp o kk) (hn : pc + 3 = n) (k : ∀ (ξ1 : XS), kk ξ1 → CF p l e R s m args below meth c nL (cells + mc) (slots + ms) (XB g A s ξ1) Q n lv st) : CF p l e R s m args below meth c nL cells slots (XB g A s ξ) Q pc lv stk := by
  subst hn
  subst hstk
  obtain ⟨ξ1, ho, hk⟩ := h
  intro H locs ls hB hl
  refine va_callv (va_runVN (As := As) (rest := st) E (hM ξ1 ho H.size) ⟨va_cnB na E.2.2.2.2 hG rfl hrc hrs (hB.2.2.2.2.2.1 _ hlk rfl) (E.2.2.2.2 _ hin) hd hR, E.2.2.2.2 _ him, E.2.2.2.2 _ hsl⟩ ⟨xblind, xrecv_cell hB hrv, xpre hB⟩ rfl hna (hl.1) rfl (lv_room hcat) d hf) hB.2.2.1 (fun q _ h => xfree hB q h) (xfree hB) (fun u t H1 locs1 ht hvm hw1 hB1 hz1 hk1 hS => ?_)
  have hw1 : u = ξ1 := hw1
  subst hw1
  exact k _ hk H1 locs1 ls (xbehind hB ht hB1 hS) hl
theorem xcallM0_vp {own : String} (E : EV p s m args c cc nL own) {y : MethodName} {bytes : ByteArray} {maxL idx na : Nat} {ret : Option FieldType} {rm : Room} {stk : List Value} {C host : String} {b : Nat} {o : Option XS} {kk : XS → Prop} (As : List Value) (hM : ∀ ξ1, o = some ξ1 → MetXv l g y (ws_ y bytes maxL ret) rm (.ref b :: As) ξ ξ1 0 0)
    (hG : GoodIn lw_all (ws_ y bytes maxL ret)) (hd : y.cls ≠ "java/lang/invoke/MethodHandle" ∧ y.cls ≠ "java/lang/invoke/VarHandle" ∧ (parseMethodDescriptor y.desc).map (fun d => d.parameters.length) = some na) (hlk : Cond.methodLinkNest own idx y host ∈ lw_tbl) (hin : Cond.initialized y.cls ∈ lw_all) (him : Cond.instanceMethod y ∈ lw_all) (hsl : Cond.selects C y y ∈ lw_all) (hrv : xrecv g ξ C b) (hrc : rm.cells = 0) (hrs : rm.slots = 0) (hR : rm.frames + 1 ≤ R.frames ∧ 8 + (maxL + 11) + rm.locals ≤ R.locals) (hna : As.length = na) (hstk : stk = As.reverse ++ .ref b :: st) (hcat : (st.map fun v => v.category).sum ≤ 8) (hf : cells ≤ R.cells ∧ slots ≤ R.slots) (d : decode cc pc = .ok (.invokevirtual idx, 3)) (h : bnvp o kk) (hn : pc + 3 = n) (k : ∀ (ξ1 : XS), kk ξ1 → CF p l e R s m args below meth c nL cells slots (XB g A s ξ1) Q n lv st) : CF p l e R s m args below meth c nL cells slots (XB g A s ξ) Q pc lv stk := by
  subst hn
  subst hstk
  obtain ⟨ξ1, ho, hk⟩ := h
  intro H locs ls hB hl
  refine va_callv (va_runVN (As := As) (rest := st) E (hM ξ1 ho H.size) ⟨va_cnB na E.2.2.2.2 hG rfl hrc hrs (hB.2.2.2.2.2.1 _ hlk rfl) (E.2.2.2.2 _ hin) hd hR, E.2.2.2.2 _ him, E.2.2.2.2 _ hsl⟩ ⟨xblind, xrecv_cell hB hrv, xpre hB⟩ rfl hna (hl.1) rfl (lv_room hcat) d hf) hB.2.2.1 (fun q _ h => xfree hB q h) (xfree hB) (fun u t H1 locs1 ht hvm hw1 hB1 hz1 hk1 hS => ?_)
  have hw1 : u = ξ1 := hw1
  subst hw1
  exact k _ hk H1 locs1 ls (xbehind hB ht hB1 hS) hl
theorem xforcep {o : Option Nat} {kk : Nat → Prop} (h : bnop o kk) (k : ∀ a, kk a → CF p l e R s m args below meth c nL cells slots (XB g A s ξ) Q pc lv (.ref a :: st)) : CF p l e R s m args below meth c nL cells slots (XB g A s ξ) Q pc lv (va_rf o :: st) := by
  obtain ⟨a, rfl, h2⟩ := h
  exact k a h2
theorem xdaldqp {own : String} (E : EV p s m args c cc nL own) {i : Int32} {a : Nat} {kk : Nat → (Nat → Option Nat) → Nat → Prop} (d : decode cc pc = .ok (.aaload, 1)) (h : bndp (dAq ξ a (xc g 7)) (fun n f => if inb i n = true then bnop (f i.toNatClampNeg) (kk n f) else False)) (hn : pc + 1 = n) (k : ∀ n9 f b, kk n9 f b → CF p l e R s m args below meth c nL cells slots (XB g A s ξ) Q n lv (.ref b :: st)) : CF p l e R s m args below meth c nL cells slots (XB g A s ξ) Q pc lv (.int i :: .ref a :: st) := by
  subst hn
  obtain ⟨n9, f, hd, h⟩ := h
  by_cases hi : inb i n9 = true
  · have h : (if inb i n9 = true then bnop (f i.toNatClampNeg) (kk n9 f) else False) := h
    rw [if_pos hi] at h
    obtain ⟨b, hb, h⟩ := h
    obtain ⟨q0, hq⟩ := dE_at (g := g) (dAq_at hd)
    intro H locs ls hB hl
    refine va_aldq E.1 E.2.1 hB.2.2.2.1 hB.1 q0 7 hq rfl (inb_in hi) d ?_
    rw [hb]
    exact k n9 f b h H locs ls hB hl
  · have h : (if inb i n9 = true then bnop (f i.toNatClampNeg) (kk n9 f) else False) := h
    rw [if_neg hi] at h; cases h
theorem xdald_ip {own : String} (E : EV p s m args c cc nL own) {i : Int32} {a : Nat} {kk : Nat → (Nat → Int32) → Prop} (d : decode cc pc = .ok (.iaload, 1)) (h : bndp (dA ξ a (xc g 0)) (fun n f => if inb i n = true then kk n f else False)) (hn : pc + 1 = n) (k : ∀ n9 f, kk n9 f → CF p l e R s m args below meth c nL cells slots (XB g A s ξ) Q n lv (.int (f i.toNatClampNeg) :: st)) : CF p l e R s m args below meth c nL cells slots (XB g A s ξ) Q pc lv (.int i :: .ref a :: st) := by
  subst hn
  obtain ⟨n9, f, hd, h⟩ := h
  by_cases hi : inb i n9 = true
  · have h : (if inb i n9 = true then kk n9 f else False) := h
    rw [if_pos hi] at h
    obtain ⟨q0, hq⟩ := dE_at (g := g) (dA_at hd)
    exact fun H locs ls hB hl => va_iald E.1 E.2.1 hB.2.2.2.1 hB.1 q0 0 hq rfl (inb_in hi) d (k n9 f h H locs ls hB hl)
  · have h : (if inb i n9 = true then kk n9 f else False) := h
    rw [if_neg hi] at h; cases h
theorem xdald_bp {own : String} (E : EV p s m args c cc nL own) {i : Int32} {a : Nat} {kk : Nat → (Nat → Int32) → Prop} (d : decode cc pc = .ok (.baload, 1)) (h : bndp (dA ξ a (xc g 1)) (fun n f => if inb i n = true then kk n f else False)) (hn : pc + 1 = n) (k : ∀ n9 f, kk n9 f → CF p l e R s m args below meth c nL cells slots (XB g A s ξ) Q n lv (.int (f i.toNatClampNeg) :: st)) : CF p l e R s m args below meth c nL cells slots (XB g A s ξ) Q pc lv (.int i :: .ref a :: st) := by
  subst hn
  obtain ⟨n9, f, hd, h⟩ := h
  by_cases hi : inb i n9 = true
  · have h : (if inb i n9 = true then kk n9 f else False) := h
    rw [if_pos hi] at h
    obtain ⟨q0, hq⟩ := dE_at (g := g) (dA_at hd)
    exact fun H locs ls hB hl => va_bald E.1 E.2.1 hB.2.2.2.1 hB.1 q0 1 hq rfl (inb_in hi) d (k n9 f h H locs ls hB hl)
  · have h : (if inb i n9 = true then kk n9 f else False) := h
    rw [if_neg hi] at h; cases h
theorem xcallV0_rp {own : String} (E : EV p s m args c cc nL own) {y : MethodName} {bytes : ByteArray} {maxL idx na : Nat} {ret : Option FieldType} {rm : Room} {stk : List Value} {C : String} {b : Nat} {o : Option (Nat × XS)} {kk : Nat → XS → Prop} (As : List Value) (hM : ∀ v ξ1, o = some (v, ξ1) → MetXr l g y (ws_ y bytes maxL ret) rm (.ref b :: As) ξ v ξ1 0 0)
    (hG : GoodIn lw_all (wsV own idx C y (ws_ y bytes maxL ret))) (hd : y.cls = C ∧ y.cls ≠ "java/lang/invoke/MethodHandle" ∧ y.cls ≠ "java/lang/invoke/VarHandle" ∧ (parseMethodDescriptor y.desc).map (fun d => d.parameters.length) = some na) (hrv : xrecv g ξ C b) (hrc : rm.cells = 0) (hrs : rm.slots = 0) (hR : rm.frames + 1 ≤ R.frames ∧ 8 + (maxL + 11) + rm.locals ≤ R.locals) (hna : As.length = na) (hstk : stk = As.reverse ++ .ref b :: st) (hcat : (st.map fun v => v.category).sum ≤ 8) (hf : cells ≤ R.cells ∧ slots ≤ R.slots) (d : decode cc pc = .ok (.invokevirtual idx, 3)) (h : bndp o kk) (hn : pc + 3 = n) (k : ∀ (v : Nat) (ξ1 : XS), kk v ξ1 → CF p l e R s m args below meth c nL cells slots (XB g A s ξ1) Q n lv (.ref v :: st)) : CF p l e R s m args below meth c nL cells slots (XB g A s ξ) Q pc lv stk := by
  subst hn
  subst hstk
  obtain ⟨v, ξ1, ho, hk⟩ := h
  intro H locs ls hB hl
  refine va_callq (va_runV (As := As) (rest := st) E (hM v ξ1 ho H.size) (cwV na E.2.2.2.2 hG rfl hrc hrs hd hR) ⟨xblind, xrecv_cell hB hrv, xpre hB⟩ rfl hna (hl.1) rfl (lv_room hcat) d hf) hB.2.2.1 (fun q _ h => xfree hB q h) (xfree hB) (fun r u t H1 locs1 ht hvm hw1 hB1 hz1 hk1 hS => ?_)
  obtain ⟨rfl, rfl⟩ := hw1
  exact k _ _ hk H1 locs1 ls (xbehind hB ht hB1 hS) hl
theorem xcallS0_rp {own : String} (E : EV p s m args c cc nL own) {y : MethodName} {bytes : ByteArray} {maxL idx na : Nat} {ret : Option FieldType} {rm : Room} {stk : List Value}  {o : Option (Nat × XS)} {kk : Nat → XS → Prop} (As : List Value) (hM : ∀ v ξ1, o = some (v, ξ1) → MetXr l g y (ws_ y bytes maxL ret) rm As ξ v ξ1 0 0)
    (hG : GoodIn lw_all (va_wsS own idx y (ws_ y bytes maxL ret))) (hd : y.cls ≠ "java/lang/invoke/MethodHandle" ∧ y.cls ≠ "java/lang/invoke/VarHandle" ∧ (parseMethodDescriptor y.desc).map (fun d => d.parameters.length) = some na) (hrc : rm.cells = 0) (hrs : rm.slots = 0) (hR : rm.frames + 1 ≤ R.frames ∧ 8 + (maxL + 11) + rm.locals ≤ R.locals) (hna : As.length = na) (hstk : stk = As.reverse ++ st) (hcat : (st.map fun v => v.category).sum ≤ 8) (hf : cells ≤ R.cells ∧ slots ≤ R.slots) (d : decode cc pc = .ok (.invokestatic idx, 3)) (h : bndp o kk) (hn : pc + 3 = n) (k : ∀ (v : Nat) (ξ1 : XS), kk v ξ1 → CF p l e R s m args below meth c nL cells slots (XB g A s ξ1) Q n lv (.ref v :: st)) : CF p l e R s m args below meth c nL cells slots (XB g A s ξ) Q pc lv stk := by
  subst hn
  subst hstk
  obtain ⟨v, ξ1, ho, hk⟩ := h
  intro H locs ls hB hl
  refine va_callq (va_runS (As := As) (rest := st) E (hM v ξ1 ho H.size) (va_cwS na E.2.2.2.2 hG rfl hrc hrs hd hR) ⟨xblind, xpre hB⟩ rfl hna (hl.1) rfl (lv_room hcat) d hf) hB.2.2.1 (fun q _ h => xfree hB q h) (xfree hB) (fun r u t H1 locs1 ht hvm hw1 hB1 hz1 hk1 hS => ?_)
  obtain ⟨rfl, rfl⟩ := hw1
  exact k _ _ hk H1 locs1 ls (xbehind hB ht hB1 hS) hl
theorem xcallU0_ip {own : String} (E : EV p s m args c cc nL own) {y : MethodName} {bytes : ByteArray} {maxL idx na : Nat} {ret : Option FieldType} {rm : Room} {stk : List Value} {C owner : String} {x : MethodName} {b : Nat} {o : Option (Int32 × XS)} {kk : Int32 → XS → Prop} (As : List Value) (hM : ∀ v ξ1, o = some (v, ξ1) → MetXi l g y (ws_ y bytes maxL ret) rm (.ref b :: As) ξ v ξ1 0 0)
    (hG : GoodIn lw_all (va_wsU own idx C owner x y (ws_ y bytes maxL ret))) (hyx : y = ⟨owner, x.name, x.desc⟩) (hd : owner ≠ "java/lang/invoke/MethodHandle" ∧ owner ≠ "java/lang/invoke/VarHandle" ∧ (parseMethodDescriptor x.desc).map (fun d => d.parameters.length) = some na) (hrv : xrecv g ξ C b) (hrc : rm.cells = 0) (hrs : rm.slots = 0) (hR : rm.frames + 1 ≤ R.frames ∧ 8 + (maxL + 11) + rm.locals ≤ R.locals) (hna : As.length = na) (hstk : stk = As.reverse ++ .ref b :: st) (hcat : (st.map fun v => v.category).sum ≤ 8) (hf : cells ≤ R.cells ∧ slots ≤ R.slots) (d : decode cc pc = .ok (.invokevirtual idx, 3)) (h : bndp o kk) (hn : pc + 3 = n) (k : ∀ (v : Int32) (ξ1 : XS), kk v ξ1 → CF p l e R s m args below meth c nL cells slots (XB g A s ξ1) Q n lv (.int v :: st)) : CF p l e R s m args below meth c nL cells slots (XB g A s ξ) Q pc lv stk := by
  subst hn
  subst hstk
  obtain ⟨v, ξ1, ho, hk⟩ := h
  intro H locs ls hB hl
  refine va_calli (va_runU (As := As) (rest := st) E (hM v ξ1 ho H.size) (va_cwU na E.2.2.2.2 hG rfl hrc hrs hyx hd hR) ⟨xblind, xrecv_cell hB hrv, xpre hB⟩ rfl hna (hl.1) rfl (lv_room hcat) d hf) hB.2.2.1 (fun q _ h => xfree hB q h) (xfree hB) (fun r u t H1 locs1 ht hvm hw1 hB1 hz1 hk1 hS => ?_)
  obtain ⟨rfl, rfl⟩ := hw1
  exact k _ _ hk H1 locs1 ls (xbehind hB ht hB1 hS) hl
theorem xcallO0_ip {own : String} (E : EV p s m args c cc nL own) {y : MethodName} {bytes : ByteArray} {maxL idx na : Nat} {ret : Option FieldType} {rm : Room} {stk : List Value} {C owner : String} {x : MethodName} {b : Nat} {o : Option (Int32 × XS)} {kk : Int32 → XS → Prop} (As : List Value) (hM : ∀ v ξ1, o = some (v, ξ1) → MetXi l g y (ws_ y bytes maxL ret) rm (.ref b :: As) ξ v ξ1 0 0)
    (hG : GoodIn lw_all (va_wsO own idx C owner x y (ws_ y bytes maxL ret))) {b0 : ByteArray} {m0 : Nat} {r0 : Option FieldType} (h0 : Cond.code ⟨owner, x.name, x.desc⟩ b0 m0 r0 ∈ lw_all) (hd : owner ≠ "java/lang/invoke/MethodHandle" ∧ owner ≠ "java/lang/invoke/VarHandle" ∧ (parseMethodDescriptor x.desc).map (fun d => d.parameters.length) = some na) (hrv : xrecv g ξ C b) (hrc : rm.cells = 0) (hrs : rm.slots = 0) (hR : rm.frames + 1 ≤ R.frames ∧ 8 + (maxL + 11) + rm.locals ≤ R.locals) (hna : As.length = na) (hstk : stk = As.reverse ++ .ref b :: st) (hcat : (st.map fun v => v.category).sum ≤ 8) (hf : cells ≤ R.cells ∧ slots ≤ R.slots) (d : decode cc pc = .ok (.invokevirtual idx, 3)) (h : bndp o kk) (hn : pc + 3 = n) (k : ∀ (v : Int32) (ξ1 : XS), kk v ξ1 → CF p l e R s m args below meth c nL cells slots (XB g A s ξ1) Q n lv (.int v :: st)) : CF p l e R s m args below meth c nL cells slots (XB g A s ξ) Q pc lv stk := by
  subst hn
  subst hstk
  obtain ⟨v, ξ1, ho, hk⟩ := h
  intro H locs ls hB hl
  refine va_calli (va_runU (As := As) (rest := st) E (hM v ξ1 ho H.size) (va_cwO na E.2.2.2.2 hG rfl hrc hrs h0 hd hR) ⟨xblind, xrecv_cell hB hrv, xpre hB⟩ rfl hna (hl.1) rfl (lv_room hcat) d hf) hB.2.2.1 (fun q _ h => xfree hB q h) (xfree hB) (fun r u t H1 locs1 ht hvm hw1 hB1 hz1 hk1 hS => ?_)
  obtain ⟨rfl, rfl⟩ := hw1
  exact k _ _ hk H1 locs1 ls (xbehind hB ht hB1 hS) hl
theorem xcallA0_ip {own : String} (E : EV p s m args c cc nL own) {y : MethodName} {bytes : ByteArray} {maxL idx na : Nat} {ret : Option FieldType} {rm : Room} {stk : List Value} {C owner : String} {x : MethodName} {b : Nat} {o : Option (Int32 × XS)} {kk : Int32 → XS → Prop} (As : List Value) (hM : ∀ v ξ1, o = some (v, ξ1) → MetXi l g y (ws_ y bytes maxL ret) rm (.ref b :: As) ξ v ξ1 0 0)
    (hG : GoodIn lw_all (va_wsU own idx C owner x y (ws_ y bytes maxL ret))) (hdc : Cond.declares ⟨owner, x.name, x.desc⟩ ∈ lw_tbl) (hd : owner ≠ "java/lang/invoke/MethodHandle" ∧ owner ≠ "java/lang/invoke/VarHandle" ∧ (parseMethodDescriptor x.desc).map (fun d => d.parameters.length) = some na) (hrv : xrecv g ξ C b) (hrc : rm.cells = 0) (hrs : rm.slots = 0) (hR : rm.frames + 1 ≤ R.frames ∧ 8 + (maxL + 11) + rm.locals ≤ R.locals) (hna : As.length = na) (hstk : stk = As.reverse ++ .ref b :: st) (hcat : (st.map fun v => v.category).sum ≤ 8) (hf : cells ≤ R.cells ∧ slots ≤ R.slots) (d : decode cc pc = .ok (.invokevirtual idx, 3)) (h : bndp o kk) (hn : pc + 3 = n) (k : ∀ (v : Int32) (ξ1 : XS), kk v ξ1 → CF p l e R s m args below meth c nL cells slots (XB g A s ξ1) Q n lv (.int v :: st)) : CF p l e R s m args below meth c nL cells slots (XB g A s ξ) Q pc lv stk := by
  subst hn
  subst hstk
  obtain ⟨v, ξ1, ho, hk⟩ := h
  intro H locs ls hB hl
  refine va_calli (va_runU (As := As) (rest := st) E (hM v ξ1 ho H.size) (va_cwA na E.2.2.2.2 hG rfl hrc hrs (hB.2.2.2.2.2.1 _ hdc rfl) hd hR) ⟨xblind, xrecv_cell hB hrv, xpre hB⟩ rfl hna (hl.1) rfl (lv_room hcat) d hf) hB.2.2.1 (fun q _ h => xfree hB q h) (xfree hB) (fun r u t H1 locs1 ht hvm hw1 hB1 hz1 hk1 hS => ?_)
  obtain ⟨rfl, rfl⟩ := hw1
  exact k _ _ hk H1 locs1 ls (xbehind hB ht hB1 hS) hl
theorem xcallP0_ip {own : String} (E : EV p s m args c cc nL own) {y : MethodName} {bytes : ByteArray} {maxL idx na : Nat} {ret : Option FieldType} {rm : Room} {stk : List Value} {b : Nat} {o : Option (Int32 × XS)} {kk : Int32 → XS → Prop} (As : List Value) (hM : ∀ v ξ1, o = some (v, ξ1) → MetXi l g y (ws_ y bytes maxL ret) rm (.ref b :: As) ξ v ξ1 0 0)
    (hG : GoodIn lw_all (va_wsSU own idx y (ws_ y bytes maxL ret))) (hd : y.name ≠ "<init>" ∧ (parseMethodDescriptor y.desc).map (fun d => d.parameters.length) = some na) {ci : Nat} {q9 : vw_C} (hci : dCi ξ b = some ci) (hq9 : vwCl[ci]? = some q9) (hrc : rm.cells = 0) (hrs : rm.slots = 0) (hR : rm.frames + 1 ≤ R.frames ∧ 8 + (maxL + 11) + rm.locals ≤ R.locals) (hna : As.length = na) (hstk : stk = As.reverse ++ .ref b :: st) (hcat : (st.map fun v => v.category).sum ≤ 8) (hf : cells ≤ R.cells ∧ slots ≤ R.slots) (d : decode cc pc = .ok (.invokespecial idx, 3)) (h : bndp o kk) (hn : pc + 3 = n) (k : ∀ (v : Int32) (ξ1 : XS), kk v ξ1 → CF p l e R s m args below meth c nL cells slots (XB g A s ξ1) Q n lv (.int v :: st)) : CF p l e R s m args below meth c nL cells slots (XB g A s ξ) Q pc lv stk := by
  subst hn
  subst hstk
  obtain ⟨v, ξ1, ho, hk⟩ := h
  intro H locs ls hB hl
  refine va_calli (va_runSU (As := As) (rest := st) (hB.2.2.2.1.1 ci q9 hq9).2 E (hM v ξ1 ho H.size) (va_cwSU na E.2.2.2.2 hG rfl hrc hrs hd hR) ⟨xblind, xrecv_cell hB (xrecv_d hci hq9), xpre hB⟩ rfl hna (hl.1) rfl (lv_room hcat) d hf) hB.2.2.1 (fun q _ h => xfree hB q h) (xfree hB) (fun r u t H1 locs1 ht hvm hw1 hB1 hz1 hk1 hS => ?_)
  obtain ⟨rfl, rfl⟩ := hw1
  exact k _ _ hk H1 locs1 ls (xbehind hB ht hB1 hS) hl
theorem xcallI0_ip {own : String} (E : EV p s m args c cc nL own) {y : MethodName} {bytes : ByteArray} {maxL idx na : Nat} {ret : Option FieldType} {rm : Room} {stk : List Value} {x : MethodName} {b : Nat} {o : Option (Int32 × XS)} {kk : Int32 → XS → Prop} (As : List Value) (hM : ∀ v ξ1, o = some (v, ξ1) → MetXi l g y (ws_ y bytes maxL ret) rm (.ref b :: As) ξ v ξ1 0 0)
    (hG : GoodIn lw_all (ws_ y bytes maxL ret)) (hl1 : Cond.methodLink own idx x ∈ lw_all) (hl2 : Cond.sameMethod x.cls y.cls x.name x.desc ∈ lw_all) (hl3 : Cond.superclass own x.cls ∈ lw_all) (hl4 : Cond.superclass x.cls y.cls ∈ lw_all) (hin : Cond.instanceMethod y ∈ lw_all) (hini : Cond.initialized y.cls ∈ lw_all) (hcd : Cond.code y bytes maxL ret ∈ lw_all) (hxy : y.name = x.name ∧ y.desc = x.desc) (hd : y.name ≠ "<init>" ∧ (parseMethodDescriptor y.desc).map (fun d => d.parameters.length) = some na) {ci : Nat} {q9 : vw_C} (hci : dCi ξ b = some ci) (hq9 : vwCl[ci]? = some q9) (hrc : rm.cells = 0) (hrs : rm.slots = 0) (hR : rm.frames + 1 ≤ R.frames ∧ 8 + (maxL + 11) + rm.locals ≤ R.locals) (hna : As.length = na) (hstk : stk = As.reverse ++ .ref b :: st) (hcat : (st.map fun v => v.category).sum ≤ 8) (hf : cells ≤ R.cells ∧ slots ≤ R.slots) (d : decode cc pc = .ok (.invokespecial idx, 3)) (h : bndp o kk) (hn : pc + 3 = n) (k : ∀ (v : Int32) (ξ1 : XS), kk v ξ1 → CF p l e R s m args below meth c nL cells slots (XB g A s ξ1) Q n lv (.int v :: st)) : CF p l e R s m args below meth c nL cells slots (XB g A s ξ) Q pc lv stk := by
  subst hn
  subst hstk
  obtain ⟨v, ξ1, ho, hk⟩ := h
  intro H locs ls hB hl
  refine va_calli (xrunSI (bytes := bytes) (maxL := maxL) (ret := ret) (As := As) (rest := st) (na := na) (hB.2.2.2.1.1 ci q9 hq9).2 E (hM v ξ1 ho H.size) hrc hrs hR.1 hR.2 (pay_in E.2.2.2.2 hG) List.mem_cons_self (E.2.2.2.2 _ hl1) (E.2.2.2.2 _ hl2) (E.2.2.2.2 _ hl3) (E.2.2.2.2 _ hl4) (E.2.2.2.2 _ hin) (E.2.2.2.2 _ hini) (E.2.2.2.2 _ hcd) hd.1 hxy (fun sig h9 => by have h2 := hd.2; rw [h9] at h2; exact (Option.some.inj h2).symm) ⟨xblind, xrecv_cell hB (xrecv_d hci hq9), xpre hB⟩ rfl hna (hl.1) rfl (lv_room hcat) d hf) hB.2.2.1 (fun q _ h => xfree hB q h) (xfree hB) (fun r u t H1 locs1 ht hvm hw1 hB1 hz1 hk1 hS => ?_)
  obtain ⟨rfl, rfl⟩ := hw1
  exact k _ _ hk H1 locs1 ls (xbehind hB ht hB1 hS) hl
end XC
abbrev YTi (p : Program) (l : Launch) (e : Env) (R : Room) (s : State) (m : MethodId) (args : Array Value) (below : List Frame) (meth : Method) (c : Code) (cc : ByteArray) (nL : Nat) (A : Nat → Prop) (g : XG) (ty : FieldType) (Q : State → Prop) (K : Int32 → XS → Prop) : Prop := ∀ (pc : Nat) (lv : List (Nat × Value)) (v : Int32) (ξ1 : XS) (cells slots : Nat), cells ≤ R.cells → slots ≤ R.slots → decode cc pc = .ok (.ireturn, 1) → narrow ty (.int v) = .int v → K v ξ1 → CF p l e R s m args below meth c nL cells slots (XB g A s ξ1) Q pc lv [.int v]
def MetYi (l : Launch) (g : XG) (y : MethodName) (ws : List Cond) (fr lo : Nat) (As : List Value) (ξ : XS) (mc ms : Nat) (K : Int32 → XS → Prop) : Prop := ∀ sz, Met l y ws { frames := fr, cells := mc, slots := ms, locals := lo } (XPc g ξ As sz) (va_Qi K (XBt g (va_A (xcs g ξ) sz)) (va_A (xcs g ξ) sz)) mc ms (va_A (xcs g ξ) sz)
theorem met_yi {l : Launch} {g : XG} {ξ : XS} {cc : ByteArray} {own : String} {y : MethodName} {maxL mc ms fr lo : Nat} {As : List Value} {K : Int32 → XS → Prop} {ty : FieldType} {lv0 : List (Nat × Value)} (hy : plainName y.cls = true) (hyc : y.cls = own) (hlen : (lg_sl As).length ≤ maxL) (hlv : lv_args 0 As = lv0)
    (body : ∀ (p : Program) (e : Env) (s : State) (m : MethodId) (below : List Frame) (meth : Method) (c : Code) (A : Nat → Prop) (Q : State → Prop), EV p s m As.toArray c cc maxL own → meth.name = y.name → YTi p l e { frames := fr, cells := mc, slots := ms, locals := lo } s m As.toArray below meth c cc maxL A g ty Q K → CF p l e { frames := fr, cells := mc, slots := ms, locals := lo } s m As.toArray below meth c maxL 0 0 (XB g A s ξ) Q 0 lv0 []) : MetYi l g y (ws_ y cc maxL (some ty)) fr lo As ξ mc ms K := by
  intro sz
  refine Met.ofW (cc := cc) (maxL := maxL) (ret := (some ty)) hy rfl ?_
  intro p e s m args below meth c s₁ B hml hv
  obtain ⟨rfl, hsz, hP, hK, hD0, hN⟩ := hv
  have hts := atoms_spec (ws := ws_ y cc maxL (some ty)) B.pre
  have hts : ∀ w ∈ lw_all, w.before _ s = true := fun w h => hts w (List.mem_cons_of_mem _ h)
  have hown : s.vm.findClass own = some m.cls := by rw [← hyc]; exact findClass_of_methodNamed B.named
  have hin : meth.name = y.name := (name_of_methodNamed B.named B.method).1
  have hlocks := B.notSynchronized
  subst hsz
  have hD := hD0.self (sz := s.heap.size)
  have hA : ∀ q : Nat, s.heap.size ≤ q → va_A (xcs g ξ) s.heap.size q := fun q h => Or.inr h
  have hS : va_S (va_A (xcs g ξ) s.heap.size) s.heap s.heap [] := va_S.rf
  have hl := lv_entry As (n := maxL) hlen
  rw [lg_entry_eq]
  rw [hlv] at hl
  have hb := body p e s m below meth c (va_A (xcs g ξ) s.heap.size) (MQ below (va_Qi K (XBt g (va_A (xcs g ξ) s.heap.size)) (va_A (xcs g ξ) s.heap.size)) As.toArray s mc ms (va_A (xcs g ξ) s.heap.size)) ⟨B.exec, B.bytes, hml, hown, hts⟩ hin ?_
  · exact hb s.heap [] _ ⟨hP, hD, hS, hK, hA, hN⟩ hl
  · intro pc lv v ξ1 k n h1 h2 d hz hk H locs ls hB hl
    obtain ⟨hP9, hD9, hS9, hK9, -⟩ := hB
    refine W.widen (k := mc) (n := ms) h1 h2 ?_
    exact W.zret B.exec B.bytes B.returns hz (fun t ht hW => ⟨⟨v, ξ1, rfl, hk, by rw [ht]; exact hP9, va_K.moved hW.alike hK9, hD9⟩, hS9.F ht⟩) hS9.2.2 d hlocks
abbrev YTl (p : Program) (l : Launch) (e : Env) (R : Room) (s : State) (m : MethodId) (args : Array Value) (below : List Frame) (meth : Method) (c : Code) (cc : ByteArray) (nL : Nat) (A : Nat → Prop) (g : XG) (Q : State → Prop) (K : Int64 → XS → Prop) : Prop := ∀ (pc : Nat) (lv : List (Nat × Value)) (v : Int64) (ξ1 : XS) (cells slots : Nat), cells ≤ R.cells → slots ≤ R.slots → decode cc pc = .ok (.lreturn, 1) → K v ξ1 → CF p l e R s m args below meth c nL cells slots (XB g A s ξ1) Q pc lv [.long v]
def MetYl (l : Launch) (g : XG) (y : MethodName) (ws : List Cond) (fr lo : Nat) (As : List Value) (ξ : XS) (mc ms : Nat) (K : Int64 → XS → Prop) : Prop := ∀ sz, Met l y ws { frames := fr, cells := mc, slots := ms, locals := lo } (XPc g ξ As sz) (va_Ql K (XBt g (va_A (xcs g ξ) sz)) (va_A (xcs g ξ) sz)) mc ms (va_A (xcs g ξ) sz)
theorem met_yl {l : Launch} {g : XG} {ξ : XS} {cc : ByteArray} {own : String} {y : MethodName} {maxL mc ms fr lo : Nat} {As : List Value} {K : Int64 → XS → Prop}  {lv0 : List (Nat × Value)} (hy : plainName y.cls = true) (hyc : y.cls = own) (hlen : (lg_sl As).length ≤ maxL) (hlv : lv_args 0 As = lv0)
    (body : ∀ (p : Program) (e : Env) (s : State) (m : MethodId) (below : List Frame) (meth : Method) (c : Code) (A : Nat → Prop) (Q : State → Prop), EV p s m As.toArray c cc maxL own → meth.name = y.name → YTl p l e { frames := fr, cells := mc, slots := ms, locals := lo } s m As.toArray below meth c cc maxL A g Q K → CF p l e { frames := fr, cells := mc, slots := ms, locals := lo } s m As.toArray below meth c maxL 0 0 (XB g A s ξ) Q 0 lv0 []) : MetYl l g y (ws_ y cc maxL (some .long)) fr lo As ξ mc ms K := by
  intro sz
  refine Met.ofW (cc := cc) (maxL := maxL) (ret := (some .long)) hy rfl ?_
  intro p e s m args below meth c s₁ B hml hv
  obtain ⟨rfl, hsz, hP, hK, hD0, hN⟩ := hv
  have hts := atoms_spec (ws := ws_ y cc maxL (some .long)) B.pre
  have hts : ∀ w ∈ lw_all, w.before _ s = true := fun w h => hts w (List.mem_cons_of_mem _ h)
  have hown : s.vm.findClass own = some m.cls := by rw [← hyc]; exact findClass_of_methodNamed B.named
  have hin : meth.name = y.name := (name_of_methodNamed B.named B.method).1
  have hlocks := B.notSynchronized
  subst hsz
  have hD := hD0.self (sz := s.heap.size)
  have hA : ∀ q : Nat, s.heap.size ≤ q → va_A (xcs g ξ) s.heap.size q := fun q h => Or.inr h
  have hS : va_S (va_A (xcs g ξ) s.heap.size) s.heap s.heap [] := va_S.rf
  have hl := lv_entry As (n := maxL) hlen
  rw [lg_entry_eq]
  rw [hlv] at hl
  have hb := body p e s m below meth c (va_A (xcs g ξ) s.heap.size) (MQ below (va_Ql K (XBt g (va_A (xcs g ξ) s.heap.size)) (va_A (xcs g ξ) s.heap.size)) As.toArray s mc ms (va_A (xcs g ξ) s.heap.size)) ⟨B.exec, B.bytes, hml, hown, hts⟩ hin ?_
  · exact hb s.heap [] _ ⟨hP, hD, hS, hK, hA, hN⟩ hl
  · intro pc lv v ξ1 k n h1 h2 d hk H locs ls hB hl
    obtain ⟨hP9, hD9, hS9, hK9, -⟩ := hB
    refine W.widen (k := mc) (n := ms) h1 h2 ?_
    exact W.lret B.exec B.bytes B.returns (fun t ht hW => ⟨⟨v, ξ1, rfl, hk, by rw [ht]; exact hP9, va_K.moved hW.alike hK9, hD9⟩, hS9.F ht⟩) hS9.2.2 d hlocks
abbrev YTr (p : Program) (l : Launch) (e : Env) (R : Room) (s : State) (m : MethodId) (args : Array Value) (below : List Frame) (meth : Method) (c : Code) (cc : ByteArray) (nL : Nat) (A : Nat → Prop) (g : XG) (Q : State → Prop) (K : Nat → XS → Prop) : Prop := ∀ (pc : Nat) (lv : List (Nat × Value)) (v : Nat) (ξ1 : XS) (cells slots : Nat), cells ≤ R.cells → slots ≤ R.slots → decode cc pc = .ok (.areturn, 1) → K v ξ1 → CF p l e R s m args below meth c nL cells slots (XB g A s ξ1) Q pc lv [.ref v]
def MetYr (l : Launch) (g : XG) (y : MethodName) (ws : List Cond) (fr lo : Nat) (As : List Value) (ξ : XS) (mc ms : Nat) (K : Nat → XS → Prop) : Prop := ∀ sz, Met l y ws { frames := fr, cells := mc, slots := ms, locals := lo } (XPc g ξ As sz) (va_Qq (fun (r : Option Nat) (u : XS) => ∃ v, r = some v ∧ K v u) (XBt g (va_A (xcs g ξ) sz)) (va_A (xcs g ξ) sz)) mc ms (va_A (xcs g ξ) sz)
theorem met_yr {l : Launch} {g : XG} {ξ : XS} {cc : ByteArray} {own : String} {y : MethodName} {maxL mc ms fr lo : Nat} {As : List Value} {K : Nat → XS → Prop} {rt : FieldType} (hrt : (∃ n, rt = .object n) ∨ ∃ t, rt = .array t) {lv0 : List (Nat × Value)} (hy : plainName y.cls = true) (hyc : y.cls = own) (hlen : (lg_sl As).length ≤ maxL) (hlv : lv_args 0 As = lv0)
    (body : ∀ (p : Program) (e : Env) (s : State) (m : MethodId) (below : List Frame) (meth : Method) (c : Code) (A : Nat → Prop) (Q : State → Prop), EV p s m As.toArray c cc maxL own → meth.name = y.name → YTr p l e { frames := fr, cells := mc, slots := ms, locals := lo } s m As.toArray below meth c cc maxL A g Q K → CF p l e { frames := fr, cells := mc, slots := ms, locals := lo } s m As.toArray below meth c maxL 0 0 (XB g A s ξ) Q 0 lv0 []) : MetYr l g y (ws_ y cc maxL (some rt)) fr lo As ξ mc ms K := by
  intro sz
  refine Met.ofW (cc := cc) (maxL := maxL) (ret := (some rt)) hy rfl ?_
  intro p e s m args below meth c s₁ B hml hv
  obtain ⟨rfl, hsz, hP, hK, hD0, hN⟩ := hv
  have hts := atoms_spec (ws := ws_ y cc maxL (some rt)) B.pre
  have hts : ∀ w ∈ lw_all, w.before _ s = true := fun w h => hts w (List.mem_cons_of_mem _ h)
  have hown : s.vm.findClass own = some m.cls := by rw [← hyc]; exact findClass_of_methodNamed B.named
  have hin : meth.name = y.name := (name_of_methodNamed B.named B.method).1
  have hlocks := B.notSynchronized
  subst hsz
  have hD := hD0.self (sz := s.heap.size)
  have hA : ∀ q : Nat, s.heap.size ≤ q → va_A (xcs g ξ) s.heap.size q := fun q h => Or.inr h
  have hS : va_S (va_A (xcs g ξ) s.heap.size) s.heap s.heap [] := va_S.rf
  have hl := lv_entry As (n := maxL) hlen
  rw [lg_entry_eq]
  rw [hlv] at hl
  have hb := body p e s m below meth c (va_A (xcs g ξ) s.heap.size) (MQ below (va_Qq (fun (r : Option Nat) (u : XS) => ∃ v, r = some v ∧ K v u) (XBt g (va_A (xcs g ξ) s.heap.size)) (va_A (xcs g ξ) s.heap.size)) As.toArray s mc ms (va_A (xcs g ξ) s.heap.size)) ⟨B.exec, B.bytes, hml, hown, hts⟩ hin ?_
  · exact hb s.heap [] _ ⟨hP, hD, hS, hK, hA, hN⟩ hl
  · intro pc lv v ξ1 k n h1 h2 d hk H locs ls hB hl
    obtain ⟨hP9, hD9, hS9, hK9, -⟩ := hB
    refine W.widen (k := mc) (n := ms) h1 h2 ?_
    exact W.aret B.exec B.bytes B.returns hrt (Or.inr ⟨_, rfl⟩) (fun t ht hW => ⟨⟨some v, ξ1, rfl, ⟨v, rfl, hk⟩, by rw [ht]; exact hP9, va_K.moved hW.alike hK9, hD9⟩, hS9.F ht⟩) hS9.2.2 d hlocks
abbrev YTv (p : Program) (l : Launch) (e : Env) (R : Room) (s : State) (m : MethodId) (args : Array Value) (below : List Frame) (meth : Method) (c : Code) (cc : ByteArray) (nL : Nat) (A : Nat → Prop) (g : XG) (Q : State → Prop) (K : XS → Prop) : Prop := ∀ (pc : Nat) (lv : List (Nat × Value)) (ξ1 : XS) (cells slots : Nat), cells ≤ R.cells → slots ≤ R.slots → decode cc pc = .ok (.return_, 1) → K ξ1 → CF p l e R s m args below meth c nL cells slots (XB g A s ξ1) Q pc lv []
def MetYv (l : Launch) (g : XG) (y : MethodName) (ws : List Cond) (fr lo : Nat) (As : List Value) (ξ : XS) (mc ms : Nat) (K : XS → Prop) : Prop := ∀ sz, Met l y ws { frames := fr, cells := mc, slots := ms, locals := lo } (XPc g ξ As sz) (va_Qv K (XBt g (va_A (xcs g ξ) sz)) (va_A (xcs g ξ) sz)) mc ms (va_A (xcs g ξ) sz)
theorem met_yv {l : Launch} {g : XG} {ξ : XS} {cc : ByteArray} {own : String} {y : MethodName} {maxL mc ms fr lo : Nat} {As : List Value} {K : XS → Prop}  {lv0 : List (Nat × Value)} (hy : plainName y.cls = true) (hyc : y.cls = own) (hlen : (lg_sl As).length ≤ maxL) (hlv : lv_args 0 As = lv0)
    (body : ∀ (p : Program) (e : Env) (s : State) (m : MethodId) (below : List Frame) (meth : Method) (c : Code) (A : Nat → Prop) (Q : State → Prop), EV p s m As.toArray c cc maxL own → meth.name = y.name → YTv p l e { frames := fr, cells := mc, slots := ms, locals := lo } s m As.toArray below meth c cc maxL A g Q K → CF p l e { frames := fr, cells := mc, slots := ms, locals := lo } s m As.toArray below meth c maxL 0 0 (XB g A s ξ) Q 0 lv0 []) : MetYv l g y (ws_ y cc maxL none) fr lo As ξ mc ms K := by
  intro sz
  refine Met.ofW (cc := cc) (maxL := maxL) (ret := none) hy rfl ?_
  intro p e s m args below meth c s₁ B hml hv
  obtain ⟨rfl, hsz, hP, hK, hD0, hN⟩ := hv
  have hts := atoms_spec (ws := ws_ y cc maxL none) B.pre
  have hts : ∀ w ∈ lw_all, w.before _ s = true := fun w h => hts w (List.mem_cons_of_mem _ h)
  have hown : s.vm.findClass own = some m.cls := by rw [← hyc]; exact findClass_of_methodNamed B.named
  have hin : meth.name = y.name := (name_of_methodNamed B.named B.method).1
  have hlocks := B.notSynchronized
  subst hsz
  have hD := hD0.self (sz := s.heap.size)
  have hA : ∀ q : Nat, s.heap.size ≤ q → va_A (xcs g ξ) s.heap.size q := fun q h => Or.inr h
  have hS : va_S (va_A (xcs g ξ) s.heap.size) s.heap s.heap [] := va_S.rf
  have hl := lv_entry As (n := maxL) hlen
  rw [lg_entry_eq]
  rw [hlv] at hl
  have hb := body p e s m below meth c (va_A (xcs g ξ) s.heap.size) (MQ below (va_Qv K (XBt g (va_A (xcs g ξ) s.heap.size)) (va_A (xcs g ξ) s.heap.size)) As.toArray s mc ms (va_A (xcs g ξ) s.heap.size)) ⟨B.exec, B.bytes, hml, hown, hts⟩ hin ?_
  · exact hb s.heap [] _ ⟨hP, hD, hS, hK, hA, hN⟩ hl
  · intro pc lv ξ1 k n h1 h2 d hk H locs ls hB hl
    obtain ⟨hP9, hD9, hS9, hK9, -⟩ := hB
    refine W.widen (k := mc) (n := ms) h1 h2 ?_
    exact W.vret B.exec B.bytes B.returns (fun t ht hW => ⟨⟨ξ1, rfl, hk, by rw [ht]; exact hP9, va_K.moved hW.alike hK9, hD9⟩, hS9.F ht⟩) hS9.2.2 d hlocks
section XC
variable {p : Program} {l : Launch} {e : Env} {R : Room} {s : State} {m : MethodId} {args : Array Value} {below : List Frame} {meth : Method} {c : Code} {nL cells slots : Nat} {A : Nat → Prop} {g : XG} {ξ : XS} {Q : State → Prop} {pc n : Nat} {lv : List (Nat × Value)} {st : List Value} {cc : ByteArray} {ρ : Type} {res : ρ}
theorem ycallV_i {own : String} (E : EV p s m args c cc nL own) {y : MethodName} {bytes : ByteArray} {maxL idx na mc ms fr lo : Nat} {ret : Option FieldType} {stk : List Value} {C9 : String} {b : Nat} {K : Int32 → XS → Prop} (As : List Value) (hM : MetYi l g y (ws_ y bytes maxL ret) fr lo (.ref b :: As) ξ mc ms K)
    (hG : GoodIn lw_all (wsV own idx C9 y (ws_ y bytes maxL ret))) (hd : y.cls = C9 ∧ y.cls ≠ "java/lang/invoke/MethodHandle" ∧ y.cls ≠ "java/lang/invoke/VarHandle" ∧ (parseMethodDescriptor y.desc).map (fun d => d.parameters.length) = some na) (hrv : xrecv g ξ C9 b) (hR : fr + 1 ≤ R.frames ∧ 8 + (maxL + 11) + lo ≤ R.locals) (hna : As.length = na) (hstk : stk = As.reverse ++ .ref b :: st) (hcat : (st.map fun v => v.category).sum ≤ 8) (hf : cells + mc ≤ R.cells ∧ slots + ms ≤ R.slots) (d : decode cc pc = .ok (.invokevirtual idx, 3)) (hn : pc + 3 = n) (k : ∀ (v : Int32) (ξ1 : XS), K v ξ1 → CF p l e R s m args below meth c nL (cells + mc) (slots + ms) (XB g A s ξ1) Q n lv (.int v :: st)) : CF p l e R s m args below meth c nL cells slots (XB g A s ξ) Q pc lv stk := by
  subst hn
  subst hstk
  intro H locs ls hB hl
  refine va_calli (va_runV (As := As) (rest := st) E (hM H.size) (cwV na E.2.2.2.2 hG rfl rfl rfl hd hR) ⟨xblind, xrecv_cell hB hrv, xpre hB⟩ rfl hna (hl.1) rfl (lv_room hcat) d hf) hB.2.2.1 (fun q _ h => xfree hB q h) (xfree hB) (fun r u t H1 locs1 ht hvm hw1 hB1 hz1 hk1 hS => ?_)
  exact k _ _ hw1 H1 locs1 ls (xbehind hB ht hB1 hS) hl
theorem ycallS_i {own : String} (E : EV p s m args c cc nL own) {y : MethodName} {bytes : ByteArray} {maxL idx na mc ms fr lo : Nat} {ret : Option FieldType} {stk : List Value}  {K : Int32 → XS → Prop} (As : List Value) (hM : MetYi l g y (ws_ y bytes maxL ret) fr lo As ξ mc ms K)
    (hG : GoodIn lw_all (va_wsS own idx y (ws_ y bytes maxL ret))) (hd : y.cls ≠ "java/lang/invoke/MethodHandle" ∧ y.cls ≠ "java/lang/invoke/VarHandle" ∧ (parseMethodDescriptor y.desc).map (fun d => d.parameters.length) = some na) (hR : fr + 1 ≤ R.frames ∧ 8 + (maxL + 11) + lo ≤ R.locals) (hna : As.length = na) (hstk : stk = As.reverse ++ st) (hcat : (st.map fun v => v.category).sum ≤ 8) (hf : cells + mc ≤ R.cells ∧ slots + ms ≤ R.slots) (d : decode cc pc = .ok (.invokestatic idx, 3)) (hn : pc + 3 = n) (k : ∀ (v : Int32) (ξ1 : XS), K v ξ1 → CF p l e R s m args below meth c nL (cells + mc) (slots + ms) (XB g A s ξ1) Q n lv (.int v :: st)) : CF p l e R s m args below meth c nL cells slots (XB g A s ξ) Q pc lv stk := by
  subst hn
  subst hstk
  intro H locs ls hB hl
  refine va_calli (va_runS (As := As) (rest := st) E (hM H.size) (va_cwS na E.2.2.2.2 hG rfl rfl rfl hd hR) ⟨xblind, xpre hB⟩ rfl hna (hl.1) rfl (lv_room hcat) d hf) hB.2.2.1 (fun q _ h => xfree hB q h) (xfree hB) (fun r u t H1 locs1 ht hvm hw1 hB1 hz1 hk1 hS => ?_)
  exact k _ _ hw1 H1 locs1 ls (xbehind hB ht hB1 hS) hl
theorem ycallV_l {own : String} (E : EV p s m args c cc nL own) {y : MethodName} {bytes : ByteArray} {maxL idx na mc ms fr lo : Nat} {ret : Option FieldType} {stk : List Value} {C9 : String} {b : Nat} {K : Int64 → XS → Prop} (As : List Value) (hM : MetYl l g y (ws_ y bytes maxL ret) fr lo (.ref b :: As) ξ mc ms K)
    (hG : GoodIn lw_all (wsV own idx C9 y (ws_ y bytes maxL ret))) (hd : y.cls = C9 ∧ y.cls ≠ "java/lang/invoke/MethodHandle" ∧ y.cls ≠ "java/lang/invoke/VarHandle" ∧ (parseMethodDescriptor y.desc).map (fun d => d.parameters.length) = some na) (hrv : xrecv g ξ C9 b) (hR : fr + 1 ≤ R.frames ∧ 8 + (maxL + 11) + lo ≤ R.locals) (hna : As.length = na) (hstk : stk = As.reverse ++ .ref b :: st) (hcat : (st.map fun v => v.category).sum ≤ 8) (hf : cells + mc ≤ R.cells ∧ slots + ms ≤ R.slots) (d : decode cc pc = .ok (.invokevirtual idx, 3)) (hn : pc + 3 = n) (k : ∀ (v : Int64) (ξ1 : XS), K v ξ1 → CF p l e R s m args below meth c nL (cells + mc) (slots + ms) (XB g A s ξ1) Q n lv (.long v :: st)) : CF p l e R s m args below meth c nL cells slots (XB g A s ξ) Q pc lv stk := by
  subst hn
  subst hstk
  intro H locs ls hB hl
  refine va_calll (va_runV (As := As) (rest := st) E (hM H.size) (cwV na E.2.2.2.2 hG rfl rfl rfl hd hR) ⟨xblind, xrecv_cell hB hrv, xpre hB⟩ rfl hna (hl.1) rfl (lv_room hcat) d hf) hB.2.2.1 (fun q _ h => xfree hB q h) (xfree hB) (fun r u t H1 locs1 ht hvm hw1 hB1 hz1 hk1 hS => ?_)
  exact k _ _ hw1 H1 locs1 ls (xbehind hB ht hB1 hS) hl
theorem ycallS_l {own : String} (E : EV p s m args c cc nL own) {y : MethodName} {bytes : ByteArray} {maxL idx na mc ms fr lo : Nat} {ret : Option FieldType} {stk : List Value}  {K : Int64 → XS → Prop} (As : List Value) (hM : MetYl l g y (ws_ y bytes maxL ret) fr lo As ξ mc ms K)
    (hG : GoodIn lw_all (va_wsS own idx y (ws_ y bytes maxL ret))) (hd : y.cls ≠ "java/lang/invoke/MethodHandle" ∧ y.cls ≠ "java/lang/invoke/VarHandle" ∧ (parseMethodDescriptor y.desc).map (fun d => d.parameters.length) = some na) (hR : fr + 1 ≤ R.frames ∧ 8 + (maxL + 11) + lo ≤ R.locals) (hna : As.length = na) (hstk : stk = As.reverse ++ st) (hcat : (st.map fun v => v.category).sum ≤ 8) (hf : cells + mc ≤ R.cells ∧ slots + ms ≤ R.slots) (d : decode cc pc = .ok (.invokestatic idx, 3)) (hn : pc + 3 = n) (k : ∀ (v : Int64) (ξ1 : XS), K v ξ1 → CF p l e R s m args below meth c nL (cells + mc) (slots + ms) (XB g A s ξ1) Q n lv (.long v :: st)) : CF p l e R s m args below meth c nL cells slots (XB g A s ξ) Q pc lv stk := by
  subst hn
  subst hstk
  intro H locs ls hB hl
  refine va_calll (va_runS (As := As) (rest := st) E (hM H.size) (va_cwS na E.2.2.2.2 hG rfl rfl rfl hd hR) ⟨xblind, xpre hB⟩ rfl hna (hl.1) rfl (lv_room hcat) d hf) hB.2.2.1 (fun q _ h => xfree hB q h) (xfree hB) (fun r u t H1 locs1 ht hvm hw1 hB1 hz1 hk1 hS => ?_)
  exact k _ _ hw1 H1 locs1 ls (xbehind hB ht hB1 hS) hl
theorem ycallV_r {own : String} (E : EV p s m args c cc nL own) {y : MethodName} {bytes : ByteArray} {maxL idx na mc ms fr lo : Nat} {ret : Option FieldType} {stk : List Value} {C9 : String} {b : Nat} {K : Nat → XS → Prop} (As : List Value) (hM : MetYr l g y (ws_ y bytes maxL ret) fr lo (.ref b :: As) ξ mc ms K)
    (hG : GoodIn lw_all (wsV own idx C9 y (ws_ y bytes maxL ret))) (hd : y.cls = C9 ∧ y.cls ≠ "java/lang/invoke/MethodHandle" ∧ y.cls ≠ "java/lang/invoke/VarHandle" ∧ (parseMethodDescriptor y.desc).map (fun d => d.parameters.length) = some na) (hrv : xrecv g ξ C9 b) (hR : fr + 1 ≤ R.frames ∧ 8 + (maxL + 11) + lo ≤ R.locals) (hna : As.length = na) (hstk : stk = As.reverse ++ .ref b :: st) (hcat : (st.map fun v => v.category).sum ≤ 8) (hf : cells + mc ≤ R.cells ∧ slots + ms ≤ R.slots) (d : decode cc pc = .ok (.invokevirtual idx, 3)) (hn : pc + 3 = n) (k : ∀ (v : Nat) (ξ1 : XS), K v ξ1 → CF p l e R s m args below meth c nL (cells + mc) (slots + ms) (XB g A s ξ1) Q n lv (.ref v :: st)) : CF p l e R s m args below meth c nL cells slots (XB g A s ξ) Q pc lv stk := by
  subst hn
  subst hstk
  intro H locs ls hB hl
  refine va_callq (va_runV (As := As) (rest := st) E (hM H.size) (cwV na E.2.2.2.2 hG rfl rfl rfl hd hR) ⟨xblind, xrecv_cell hB hrv, xpre hB⟩ rfl hna (hl.1) rfl (lv_room hcat) d hf) hB.2.2.1 (fun q _ h => xfree hB q h) (xfree hB) (fun r u t H1 locs1 ht hvm hw1 hB1 hz1 hk1 hS => ?_)
  obtain ⟨v, rfl, hw2⟩ := hw1
  exact k _ _ hw2 H1 locs1 ls (xbehind hB ht hB1 hS) hl
theorem ycallS_r {own : String} (E : EV p s m args c cc nL own) {y : MethodName} {bytes : ByteArray} {maxL idx na mc ms fr lo : Nat} {ret : Option FieldType} {stk : List Value}  {K : Nat → XS → Prop} (As : List Value) (hM : MetYr l g y (ws_ y bytes maxL ret) fr lo As ξ mc ms K)
    (hG : GoodIn lw_all (va_wsS own idx y (ws_ y bytes maxL ret))) (hd : y.cls ≠ "java/lang/invoke/MethodHandle" ∧ y.cls ≠ "java/lang/invoke/VarHandle" ∧ (parseMethodDescriptor y.desc).map (fun d => d.parameters.length) = some na) (hR : fr + 1 ≤ R.frames ∧ 8 + (maxL + 11) + lo ≤ R.locals) (hna : As.length = na) (hstk : stk = As.reverse ++ st) (hcat : (st.map fun v => v.category).sum ≤ 8) (hf : cells + mc ≤ R.cells ∧ slots + ms ≤ R.slots) (d : decode cc pc = .ok (.invokestatic idx, 3)) (hn : pc + 3 = n) (k : ∀ (v : Nat) (ξ1 : XS), K v ξ1 → CF p l e R s m args below meth c nL (cells + mc) (slots + ms) (XB g A s ξ1) Q n lv (.ref v :: st)) : CF p l e R s m args below meth c nL cells slots (XB g A s ξ) Q pc lv stk := by
  subst hn
  subst hstk
  intro H locs ls hB hl
  refine va_callq (va_runS (As := As) (rest := st) E (hM H.size) (va_cwS na E.2.2.2.2 hG rfl rfl rfl hd hR) ⟨xblind, xpre hB⟩ rfl hna (hl.1) rfl (lv_room hcat) d hf) hB.2.2.1 (fun q _ h => xfree hB q h) (xfree hB) (fun r u t H1 locs1 ht hvm hw1 hB1 hz1 hk1 hS => ?_)
  obtain ⟨v, rfl, hw2⟩ := hw1
  exact k _ _ hw2 H1 locs1 ls (xbehind hB ht hB1 hS) hl
theorem ycallV_v {own : String} (E : EV p s m args c cc nL own) {y : MethodName} {bytes : ByteArray} {maxL idx na mc ms fr lo : Nat} {ret : Option FieldType} {stk : List Value} {C9 : String} {b : Nat} {K : XS → Prop} (As : List Value) (hM : MetYv l g y (ws_ y bytes maxL ret) fr lo (.ref b :: As) ξ mc ms K)
    (hG : GoodIn lw_all (wsV own idx C9 y (ws_ y bytes maxL ret))) (hd : y.cls = C9 ∧ y.cls ≠ "java/lang/invoke/MethodHandle" ∧ y.cls ≠ "java/lang/invoke/VarHandle" ∧ (parseMethodDescriptor y.desc).map (fun d => d.parameters.length) = some na) (hrv : xrecv g ξ C9 b) (hR : fr + 1 ≤ R.frames ∧ 8 + (maxL + 11) + lo ≤ R.locals) (hna : As.length = na) (hstk : stk = As.reverse ++ .ref b :: st) (hcat : (st.map fun v => v.category).sum ≤ 8) (hf : cells + mc ≤ R.cells ∧ slots + ms ≤ R.slots) (d : decode cc pc = .ok (.invokevirtual idx, 3)) (hn : pc + 3 = n) (k : ∀ (ξ1 : XS), K ξ1 → CF p l e R s m args below meth c nL (cells + mc) (slots + ms) (XB g A s ξ1) Q n lv st) : CF p l e R s m args below meth c nL cells slots (XB g A s ξ) Q pc lv stk := by
  subst hn
  subst hstk
  intro H locs ls hB hl
  refine va_callv (va_runV (As := As) (rest := st) E (hM H.size) (cwV na E.2.2.2.2 hG rfl rfl rfl hd hR) ⟨xblind, xrecv_cell hB hrv, xpre hB⟩ rfl hna (hl.1) rfl (lv_room hcat) d hf) hB.2.2.1 (fun q _ h => xfree hB q h) (xfree hB) (fun u t H1 locs1 ht hvm hw1 hB1 hz1 hk1 hS => ?_)
  exact k _ hw1 H1 locs1 ls (xbehind hB ht hB1 hS) hl
theorem ycallS_v {own : String} (E : EV p s m args c cc nL own) {y : MethodName} {bytes : ByteArray} {maxL idx na mc ms fr lo : Nat} {ret : Option FieldType} {stk : List Value}  {K : XS → Prop} (As : List Value) (hM : MetYv l g y (ws_ y bytes maxL ret) fr lo As ξ mc ms K)
    (hG : GoodIn lw_all (va_wsS own idx y (ws_ y bytes maxL ret))) (hd : y.cls ≠ "java/lang/invoke/MethodHandle" ∧ y.cls ≠ "java/lang/invoke/VarHandle" ∧ (parseMethodDescriptor y.desc).map (fun d => d.parameters.length) = some na) (hR : fr + 1 ≤ R.frames ∧ 8 + (maxL + 11) + lo ≤ R.locals) (hna : As.length = na) (hstk : stk = As.reverse ++ st) (hcat : (st.map fun v => v.category).sum ≤ 8) (hf : cells + mc ≤ R.cells ∧ slots + ms ≤ R.slots) (d : decode cc pc = .ok (.invokestatic idx, 3)) (hn : pc + 3 = n) (k : ∀ (ξ1 : XS), K ξ1 → CF p l e R s m args below meth c nL (cells + mc) (slots + ms) (XB g A s ξ1) Q n lv st) : CF p l e R s m args below meth c nL cells slots (XB g A s ξ) Q pc lv stk := by
  subst hn
  subst hstk
  intro H locs ls hB hl
  refine va_callv (va_runS (As := As) (rest := st) E (hM H.size) (va_cwS na E.2.2.2.2 hG rfl rfl rfl hd hR) ⟨xblind, xpre hB⟩ rfl hna (hl.1) rfl (lv_room hcat) d hf) hB.2.2.1 (fun q _ h => xfree hB q h) (xfree hB) (fun u t H1 locs1 ht hvm hw1 hB1 hz1 hk1 hS => ?_)
  exact k _ hw1 H1 locs1 ls (xbehind hB ht hB1 hS) hl
theorem ycallI_v {own : String} (E : EV p s m args c cc nL own) {y : MethodName} {bytes : ByteArray} {maxL idx na mc ms fr lo : Nat}  {stk : List Value} {b : Nat} {K : XS → Prop} (As : List Value) (hM : MetYv l g y (ws_ y bytes maxL none) fr lo (.ref b :: As) ξ mc ms K)
    (hG : GoodIn lw_all (ws_ y bytes maxL none)) (hini : Cond.initialized y.cls ∈ lw_all) (hlk : Cond.methodLink own idx y ∈ lw_all) (hin : Cond.instanceMethod y ∈ lw_all) (hd : y.name = "<init>" ∧ y.cls ≠ "java/lang/invoke/MethodHandle" ∧ y.cls ≠ "java/lang/invoke/VarHandle" ∧ (parseMethodDescriptor y.desc).map (fun d => d.parameters.length) = some na) (hR : fr + 1 ≤ R.frames ∧ 8 + (maxL + 11) + lo ≤ R.locals) (hna : As.length = na) (hstk : stk = As.reverse ++ .ref b :: st) (hcat : (st.map fun v => v.category).sum ≤ 8) (hf : cells + mc ≤ R.cells ∧ slots + ms ≤ R.slots) (d : decode cc pc = .ok (.invokespecial idx, 3)) (hn : pc + 3 = n) (k : ∀ (ξ1 : XS), K ξ1 → CF p l e R s m args below meth c nL (cells + mc) (slots + ms) (XB g A s ξ1) Q n lv st) : CF p l e R s m args below meth c nL cells slots (XB g A s ξ) Q pc lv stk := by
  subst hn
  subst hstk
  intro H locs ls hB hl
  refine va_callv (va_runI (As := As) (rest := st) E (hM H.size) (cwI na E.2.2.2.2 hG rfl rfl rfl (E.2.2.2.2 _ hini) (E.2.2.2.2 _ hlk) (E.2.2.2.2 _ hin) hd.1 hd.2 hR) ⟨xblind, xpre hB⟩ rfl hna (hl.1) rfl (lv_room hcat) d hf) hB.2.2.1 (fun q _ h => xfree hB q h) (xfree hB) (fun u t H1 locs1 ht hvm hw1 hB1 hz1 hk1 hS => ?_)
  exact k _ hw1 H1 locs1 ls (xbehind hB ht hB1 hS) hl
theorem ycallP_v {own : String} (E : EV p s m args c cc nL own) {y : MethodName} {bytes : ByteArray} {maxL idx na mc ms fr lo : Nat}  {stk : List Value} {host : String} {b : Nat} {K : XS → Prop} (As : List Value) (hM : MetYv l g y (ws_ y bytes maxL none) fr lo (.ref b :: As) ξ mc ms K)
    (hG : GoodIn lw_all (ws_ y bytes maxL none)) (hini : Cond.initialized y.cls ∈ lw_all) (hlk : Cond.methodLinkNest own idx y host ∈ lw_tbl) (hin : Cond.instanceMethod y ∈ lw_all) (hd : y.name = "<init>" ∧ y.cls ≠ "java/lang/invoke/MethodHandle" ∧ y.cls ≠ "java/lang/invoke/VarHandle" ∧ (parseMethodDescriptor y.desc).map (fun d => d.parameters.length) = some na) (hR : fr + 1 ≤ R.frames ∧ 8 + (maxL + 11) + lo ≤ R.locals) (hna : As.length = na) (hstk : stk = As.reverse ++ .ref b :: st) (hcat : (st.map fun v => v.category).sum ≤ 8) (hf : cells + mc ≤ R.cells ∧ slots + ms ≤ R.slots) (d : decode cc pc = .ok (.invokespecial idx, 3)) (hn : pc + 3 = n) (k : ∀ (ξ1 : XS), K ξ1 → CF p l e R s m args below meth c nL (cells + mc) (slots + ms) (XB g A s ξ1) Q n lv st) : CF p l e R s m args below meth c nL cells slots (XB g A s ξ) Q pc lv stk := by
  subst hn
  subst hstk
  intro H locs ls hB hl
  refine va_callv (va_runIN (As := As) (rest := st) E (hM H.size) ⟨va_cnB na E.2.2.2.2 hG rfl rfl rfl (hB.2.2.2.2.2.1 _ hlk rfl) (E.2.2.2.2 _ hini) hd.2 hR, hd.1, E.2.2.2.2 _ hin⟩ ⟨xblind, xpre hB⟩ rfl hna (hl.1) rfl (lv_room hcat) d hf) hB.2.2.1 (fun q _ h => xfree hB q h) (xfree hB) (fun u t H1 locs1 ht hvm hw1 hB1 hz1 hk1 hS => ?_)
  exact k _ hw1 H1 locs1 ls (xbehind hB ht hB1 hS) hl
theorem xpush {A : Nat → Prop} {g : XG} {ξ : XS} {q : Nat} {e9 : va_E} (hD : va_D A (xcs g ξ ++ [(q, e9)])) : q ∉ xL ξ := by
  intro hq
  obtain ⟨k, hk⟩ := va_pl_get (X := xst g ξ) (f := xd ξ) hq
  have hk' : (xcs g ξ)[k]? = some (q, xd ξ q) := hk
  have hl := (List.getElem?_eq_some_iff.mp hk').1
  have h1 : (xcs g ξ ++ [(q, e9)])[k]? = some (q, xd ξ q) := by rw [List.getElem?_append_left hl]; exact hk'
  have h2 : (xcs g ξ ++ [(q, e9)])[(xcs g ξ).length]? = some (q, e9) := by rw [List.getElem?_append_right (Nat.le_refl _), Nat.sub_self]; rfl
  have := hD.1 k _ _ _ h1 h2 rfl
  omega
theorem xcs_push {g : XG} {ξ : XS} {q : Nat} {e9 : va_E} (h : q ∉ xL ξ) : xcs g ξ ++ [(q, e9)] = xcs g (pXd ξ q e9) := by
  show (xst g ξ ++ va_pl (xL ξ) (xd ξ)) ++ [(q, e9)] = xst g (pXd ξ q e9) ++ va_pl (xL ξ ++ [q]) (va_up (xd ξ) q e9)
  rw [List.append_assoc, va_pl_push h]
  rfl
theorem xcs_set {A : Nat → Prop} {g : XG} {ξ : XS} {a k : Nat} {e0 e9 : va_E} (hD : va_D A (xcs g ξ)) (h : dE ξ a = some e0) (hk : (xcs g ξ)[k]? = some (a, e0)) : (xcs g ξ).set k (a, e9) = xcs g (sXd ξ a e9) := by
  unfold dE at h
  by_cases ha : a ∈ xL ξ
  · rw [if_pos ha] at h
    cases h
    exact va_pl_set (X := xst g ξ) hD ha hk
  · rw [if_neg ha] at h; cases h
end XC
