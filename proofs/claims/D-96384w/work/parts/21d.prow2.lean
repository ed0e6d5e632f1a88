/-! MORE ROWS IN p: printed by gen/prow2.py -/
set_option maxRecDepth 100000
theorem hb0 {R : Room} {cells slots mc ms : Nat} (h : cells + mc ≤ R.cells ∧ slots + ms ≤ R.slots) : cells ≤ R.cells ∧ slots ≤ R.slots := ⟨Nat.le_trans (Nat.le_add_right _ _) h.1, Nat.le_trans (Nat.le_add_right _ _) h.2⟩
def bny {α : Type} (F : Nat → Nat → (α → XS → Prop) → Prop) (mc ms : Nat) (kk : Nat → Nat → α → XS → Prop) : Prop := ∃ m1 n1, m1 ≤ mc ∧ n1 ≤ ms ∧ F m1 n1 (kk m1 n1)
def bnyv (F : Nat → Nat → (XS → Prop) → Prop) (mc ms : Nat) (kk : Nat → Nat → XS → Prop) : Prop := ∃ m1 n1, m1 ≤ mc ∧ n1 ≤ ms ∧ F m1 n1 (kk m1 n1)
/-- a cell is made: n slots of it; q its address -/
def mkc (ξ : XS) (n mc ms : Nat) (kk : Nat → Prop) : Prop := 1 ≤ mc ∧ n ≤ ms ∧ ∀ q, q ∉ xL ξ → kk q
def dO (ξ : XS) (a : Nat) : Option (Nat × List Value) := match dE ξ a with
  | some (.inr q) => some q
  | _ => none
theorem dO_at {ξ : XS} {a ci : Nat} {fs : List Value} (h : dO ξ a = some (ci, fs)) : dE ξ a = some (.inr (ci, fs)) := by
  unfold dO at h
  split at h
  · rename_i q he
    cases h
    exact he
  · cases h
theorem va_apart2 {s : State} {args : Array Value} {D : va_G} {cl : List vw_C} {tys : List (ClassId × FieldType)} {C : String} {T : u_T} {N ci : Nat} {Ts : List Cond} (hts : ∀ w ∈ Ts, w.before args s = true) (hin : ∀ w ∈ u_ws C T N, w ∈ Ts) (ty : Nat → FieldType) (hty : ∀ k, k < N → parseFieldDescriptor (T k).2.2.1 = some (ty k)) (hfin : ∀ k, k < N → (T k).2.2.2 = true) (hnm : ∀ a, a < N → ∀ b, b < N → a ≠ b → (T a).2.1 ≠ (T b).2.1 ∨ (T a).1 ≠ (T b).1) (hK : va_K D cl tys s) (hc : cl[ci]? = some (C, T, N)) : ∀ x y, x < N → y < N → x ≠ y → (D.2 ci) x ≠ (D.2 ci) y := by
  intro x y hx hy hne
  obtain ⟨hS, -⟩ := hK.1 ci _ hc
  obtain ⟨_, _, _, fa, hia, ea⟩ := hS x hx
  obtain ⟨_, _, _, fb, hib, eb⟩ := hS y hy
  rw [← ea, ← eb]
  rcases hnm x hx y hy hne with hn | hn
  · refine u_apart (u_lays hts hin hx) (u_lays hts hin hy) hia hib ?_
    rw [(State.fieldFound?_type hia (hty x hx)).1, (State.fieldFound?_type hib (hty y hy)).1]
    exact hn
  · have h1 := hts _ (hin _ (u_in_lay hx))
    have h2 := hts _ (hin _ (u_in_lay hy))
    unfold u_lay at h1 h2
    rw [if_pos (hfin x hx)] at h1
    rw [if_pos (hfin y hy)] at h2
    obtain ⟨c1, k1, c1', k1', i1, f1, e1, e2, e3, -, -, -, e4, -, d1, ed1, en1, -⟩ := Cond.laysFinal_spec h1
    obtain ⟨c2, k2, c2', k2', i2, f2, g1, g2, g3, -, -, -, g4, -, d2, ed2, en2, -⟩ := Cond.laysFinal_spec h2
    intro hs
    cases hia.symm.trans e3
    cases hib.symm.trans g3
    cases e1.symm.trans g1
    rw [hs] at ed1
    cases ed1.symm.trans ed2
    obtain ⟨z1, hz1, hz2⟩ := Vm.findClass_spec e4
    obtain ⟨z2, hz3, hz4⟩ := Vm.findClass_spec g4
    have w1 := State.fieldFound?_class e3
    have w2 := State.fieldFound?_class g3
    cases w1.symm.trans hz1
    cases w2.symm.trans hz3
    exact hn (hz2.symm.trans (en1.symm.trans (en2.trans hz4)))
section XC
variable {p : Program} {l : Launch} {e : Env} {R : Room} {s : State} {m : MethodId} {args : Array Value} {below : List Frame} {meth : Method} {c : Code} {nL cells slots : Nat} {A : Nat → Prop} {g : XG} {ξ : XS} {Q : State → Prop} {pc n : Nat} {lv : List (Nat × Value)} {st : List Value} {cc : ByteArray} {ρ : Type} {res : ρ}
theorem va_putF2 {B0 : Heap} {D : va_G} {cl : List vw_C} {tys : List (ClassId × FieldType)} {ws : va_W} {H : Heap} {locs : List Loc} {ls : Array Slot} {rest : List Value} {a : Nat} (hexec : p.tables.exec = Jvm.exec) (hb : c.code = cc) {own ref C : String} {T : u_T} {N ci index : Nat} {Ts : List Cond} (hts : ∀ w ∈ Ts, w.before args s = true) (hin : ∀ w ∈ u_ws C T N, w ∈ Ts) (hap : ∀ x y, x < N → y < N → x ≠ y → (D.2 ci) x ≠ (D.2 ci) y) (hown : s.vm.findClass own = some m.cls) (hK : va_K D cl tys s) (hP : va_P D cl ws H) (hD : va_D A ws) (hS0 : va_S A B0 H locs) (q0 : Nat) {fs : List Value} (he : ws[q0]? = some (a, .inr (ci, fs))) (hc : cl[ci]? = some (C, T, N)) (k : Nat) (hk : k < N) (hlink : (Cond.fieldLink own index ref (T k).2.1 (T k).2.2.1).before args s = true) (hsame : ∀ x, s.fieldFound? (T k).1 (T k).2.1 (T k).2.2.1 = some x → s.fieldFound? ref (T k).2.1 (T k).2.2.1 = some x) (hfin : (T k).2.2.2 = true) (hin2 : meth.name = "<init>") (hdecl : (T k).1 = own) {ty : FieldType} {v : Value} (hd : parseFieldDescriptor (T k).2.2.1 = some ty) (hn : narrow ty v = v) (hfit : fits ty v = true) (hl : k < fs.length)
    (hdg : decode cc pc = .ok (.putfield index, 3)) (kk : ∀ (H1 : Heap) (locs1 : List Loc), va_P D cl (ws.set q0 (a, .inr (ci, fs.set k v))) H1 → va_D A (ws.set q0 (a, .inr (ci, fs.set k v))) → va_S A B0 H1 locs1 → W p l e R s m args below meth c H1 locs1 cells slots Q (F0 m (pc + 3) ls rest)) : W p l e R s m args below meth c H locs cells slots Q (F0 m pc ls (v :: .ref a :: rest)) := by
  obtain ⟨r, h1, cell, q1, q2, q3, q4⟩ := hP q0 _ he
  have hr : r = (C, T, N) := Option.some.inj (h1.symm.trans hc)
  subst hr
  obtain ⟨hS, hfc, kC, hkC, hkind⟩ := hK.1 ci _ hc
  obtain ⟨cf, kf, fi, f, hi, hsl⟩ := hS k hk
  have hlay := hts _ (hin _ (u_in_lay hk))
  unfold u_lay at hlay
  rw [if_pos hfin] at hlay
  have hst := (u_facts hfc hkC (u_lays hts hin hk) hi).1
  have hcf : m.cls = cf := by
    obtain ⟨_, _, c', _, _, _, -, -, hf', -, -, -, hown2, -⟩ := Cond.laysFinal_spec hlay
    have e1 : c' = cf := by have := hi.symm.trans hf'; simp at this; exact this.1.symm
    rw [hdecl] at hown2
    rw [← e1]; exact Option.some.inj (hown.symm.trans hown2)
  have h6 := u_fits hfc hkC hkind (Or.inr hlay) hi hd hn hfit
  refine W.putFinK hexec hb hown hlink (hsame _ hi) hst hcf hin2 (by rw [q2]; exact h6) q1 q3 (by rw [hsl]; exact k2_hasslot (q4 k hk)) rfl rfl hdg fun H' e1 e2 e3 => ?_
  rw [hsl] at e1 ⊢
  exact kk H' _ (hP.set hD he ⟨_, hc, t_OB.to (V := updV (vp_V fs) k v) ⟨_, e1, q2, q3, t_set q4 hap hk v⟩ (fun j _ => vp_updV_set hl v j)⟩ e3) (hD.set he) (hS0.put e2 e3 (hD.2 q0 _ he))
theorem xoi {own : String} (E : EV p s m args c cc nL own) {a idx : Nat} (hlk : Cond.methodLink own idx Lib.objectInit ∈ lw_all) (hin : Cond.instanceMethod Lib.objectInit ∈ lw_all) (hcd : Cond.code Lib.objectInit ⟨#[0xb1]⟩ 1 none ∈ lw_all) (hR : 1 ≤ R.frames ∧ 40 ≤ R.locals) (hcat : (st.map fun v => v.category).sum ≤ 8) (d : decode cc pc = .ok (.invokespecial idx, 3)) (hn : pc + 3 = n) (k : CF p l e R s m args below meth c nL cells slots (XB g A s ξ) Q n lv st) : CF p l e R s m args below meth c nL cells slots (XB g A s ξ) Q pc lv (.ref a :: st) := by
  subst hn
  intro H locs ls hB hl
  exact W.objInit E.1 E.2.1 E.2.2.2.1 (E.2.2.2.2 _ hlk) (E.2.2.2.2 _ hin) (E.2.2.2.2 _ hcd) rfl (hl.1.trans E.2.2.1.symm) rfl d hR.1 (by have := hR.2; show 2 * 0 + _ + 12 ≤ _; omega) (k H locs ls hB hl)
theorem xnew {own C9 : String} {T : u_T} {N ci idx mc ms : Nat} {fs : List Value} (E : EV p s m args c cc nL own) (hin : ∀ w ∈ u_ws C9 T N, w ∈ lw_all) (ty : Nat → FieldType) (hty : ∀ k, k < N → parseFieldDescriptor (T k).2.2.1 = some (ty k)) (hcl : Cond.classLink own idx C9 ∈ lw_all) (hinst : Cond.instantiable C9 N ∈ lw_all) (hini : Cond.initialized C9 ∈ lw_all) (hc : vwCl[ci]? = some (C9, T, N)) (hfs : ∀ j, j < N → defaultValue (ty j) = vp_V fs j) (hb : cells + mc ≤ R.cells ∧ slots + ms ≤ R.slots) {kk : Nat → Prop} (d : decode cc pc = .ok (.new idx, 3)) (h : mkc ξ N mc ms kk) (hn : pc + 3 = n) (k : ∀ q, (cells + 1 + (mc - 1) ≤ R.cells ∧ slots + N + (ms - N) ≤ R.slots) → kk q → CF p l e R s m args below meth c nL (cells + 1) (slots + N) (XB g A s (pXd ξ q (.inr (ci, fs)))) Q n lv (.ref q :: st)) : CF p l e R s m args below meth c nL cells slots (XB g A s ξ) Q pc lv st := by
  subst hn
  obtain ⟨h1, h2, h3⟩ := h
  intro H locs ls hB hl
  refine va_new E.1 E.2.1 E.2.2.2.2 hin ty hty E.2.2.2.1 (E.2.2.2.2 _ hcl) (E.2.2.2.2 _ hinst) (E.2.2.2.2 _ hini) hB.2.2.2.1 hB.1 hB.2.1 hB.2.2.1 hB.2.2.2.2.1 hc hfs (by omega) (by omega) d (fun q H1 hP hD hS => ?_)
  have hq := xpush hD
  rw [xcs_push hq] at hP hD
  exact k q ⟨by omega, by omega⟩ (h3 q hq) H1 locs ls ⟨hP, hD, hS, hB.2.2.2⟩ hl
/-- a made object's final field, in a constructor -/
theorem xdpF {own ref C9 : String} {T : u_T} {N ci idx a j : Nat} {fs : List Value} {v : Value} {ty : FieldType} (E : EV p s m args c cc nL own) (hin : ∀ w ∈ u_ws C9 T N, w ∈ lw_all) (hap : ∀ D : va_G, va_K D vwCl (xty g) s → ∀ x y, x < N → y < N → x ≠ y → (D.2 ci) x ≠ (D.2 ci) y) (hc : vwCl[ci]? = some (C9, T, N)) (he : dE ξ a = some (.inr (ci, fs))) (hj : j < N) (hlk : Cond.fieldLink own idx ref (T j).2.1 (T j).2.2.1 ∈ lw_all) (hsame : ∀ x, s.fieldFound? (T j).1 (T j).2.1 (T j).2.2.1 = some x → s.fieldFound? ref (T j).2.1 (T j).2.2.1 = some x) (hfin : (T j).2.2.2 = true) (hmn : meth.name = "<init>") (hdecl : (T j).1 = own) (hd : parseFieldDescriptor (T j).2.2.1 = some ty) (hnr : narrow ty v = v) (hfit : fits ty v = true) (hl9 : j < fs.length) (d : decode cc pc = .ok (.putfield idx, 3)) (hn : pc + 3 = n) (k : CF p l e R s m args below meth c nL cells slots (XB g A s (sXd ξ a (.inr (ci, fs.set j v)))) Q n lv st) : CF p l e R s m args below meth c nL cells slots (XB g A s ξ) Q pc lv (v :: .ref a :: st) := by
  subst hn
  intro H locs ls hB hl
  obtain ⟨q0, hq⟩ := dE_at (g := g) he
  refine va_putF2 E.1 E.2.1 E.2.2.2.2 hin (hap g.1 hB.2.2.2.1) E.2.2.2.1 hB.2.2.2.1 hB.1 hB.2.1 hB.2.2.1 q0 hq hc j hj (E.2.2.2.2 _ hlk) hsame hfin hmn hdecl hd hnr hfit hl9 d (fun H1 locs1 hP hD hS => ?_)
  rw [xcs_set hB.2.1 he hq] at hP hD
  exact k H1 locs1 ls ⟨hP, hD, hS, hB.2.2.2⟩ hl
/-- a made object's field that is not final -/
theorem xdp {own ref C9 : String} {T : u_T} {N ci idx a j : Nat} {fs : List Value} {v : Value} {ty : FieldType} (E : EV p s m args c cc nL own) (hin : ∀ w ∈ u_ws C9 T N, w ∈ lw_all) (ty0 : Nat → FieldType) (hty : ∀ k, k < N → parseFieldDescriptor (T k).2.2.1 = some (ty0 k)) (hnm : ∀ a, a < N → ∀ b, b < N → a ≠ b → (T a).2.1 ≠ (T b).2.1) (hc : vwCl[ci]? = some (C9, T, N)) (he : dE ξ a = some (.inr (ci, fs))) (hj : j < N) (hlk : Cond.fieldLink own idx ref (T j).2.1 (T j).2.2.1 ∈ lw_all) (hsame : ∀ x, s.fieldFound? (T j).1 (T j).2.1 (T j).2.2.1 = some x → s.fieldFound? ref (T j).2.1 (T j).2.2.1 = some x) (hfin : (T j).2.2.2 = false) (hd : parseFieldDescriptor (T j).2.2.1 = some ty) (hnr : narrow ty v = v) (hfit : fits ty v = true) (hl9 : j < fs.length) (d : decode cc pc = .ok (.putfield idx, 3)) (hn : pc + 3 = n) (k : CF p l e R s m args below meth c nL cells slots (XB g A s (sXd ξ a (.inr (ci, fs.set j v)))) Q n lv st) : CF p l e R s m args below meth c nL cells slots (XB g A s ξ) Q pc lv (v :: .ref a :: st) := by
  subst hn
  intro H locs ls hB hl
  obtain ⟨q0, hq⟩ := dE_at (g := g) he
  refine va_put E.1 E.2.1 E.2.2.2.2 hin ty0 hty hnm E.2.2.2.1 hB.2.2.2.1 hB.1 hB.2.1 hB.2.2.1 q0 hq hc j hj (E.2.2.2.2 _ hlk) hsame hfin hd hnr hfit hl9 d (fun H1 locs1 hP hD hS => ?_)
  rw [xcs_set hB.2.1 he hq] at hP hD
  exact k H1 locs1 ls ⟨hP, hD, hS, hB.2.2.2⟩ hl
/-- the same, a nest mate's -/
theorem xdpN {own ref C9 host : String} {T : u_T} {N ci idx a j : Nat} {fs : List Value} {v : Value} {ty : FieldType} (E : EV p s m args c cc nL own) (hin : ∀ w ∈ u_ws C9 T N, w ∈ lw_all) (ty0 : Nat → FieldType) (hty : ∀ k, k < N → parseFieldDescriptor (T k).2.2.1 = some (ty0 k)) (hnm : ∀ a, a < N → ∀ b, b < N → a ≠ b → (T a).2.1 ≠ (T b).2.1) (hc : vwCl[ci]? = some (C9, T, N)) (he : dE ξ a = some (.inr (ci, fs))) (hj : j < N) (hlk : Cond.fieldLinkNest own idx ref (T j).2.1 (T j).2.2.1 host ∈ lw_tbl) (hsame : ∀ x, s.fieldFound? (T j).1 (T j).2.1 (T j).2.2.1 = some x → s.fieldFound? ref (T j).2.1 (T j).2.2.1 = some x) (hfin : (T j).2.2.2 = false) (hd : parseFieldDescriptor (T j).2.2.1 = some ty) (hnr : narrow ty v = v) (hfit : fits ty v = true) (hl9 : j < fs.length) (d : decode cc pc = .ok (.putfield idx, 3)) (hn : pc + 3 = n) (k : CF p l e R s m args below meth c nL cells slots (XB g A s (sXd ξ a (.inr (ci, fs.set j v)))) Q n lv st) : CF p l e R s m args below meth c nL cells slots (XB g A s ξ) Q pc lv (v :: .ref a :: st) := by
  subst hn
  intro H locs ls hB hl
  obtain ⟨q0, hq⟩ := dE_at (g := g) he
  refine va_putN E.1 E.2.1 E.2.2.2.2 hin ty0 hty hnm E.2.2.2.1 hB.2.2.2.1 hB.1 hB.2.1 hB.2.2.1 q0 hq hc j hj (va_Nw.use rfl (hB.2.2.2.2.2.1 _ hlk rfl)) hsame hfin hd hnr hfit hl9 d (fun H1 locs1 hP hD hS => ?_)
  rw [xcs_set hB.2.1 he hq] at hP hD
  exact k H1 locs1 ls ⟨hP, hD, hS, hB.2.2.2⟩ hl
theorem arrCls {D : va_G} {cl : List vw_C} {tys : List (ClassId × FieldType)} {U : State} {cA : ClassId} {ty : FieldType} (h : va_K D cl tys U) (t0 : Nat) (ht : tys[t0]? = some (cA, ty)) (hne : ∀ C9, ty ≠ .object C9) : U.vm.findClass ("[" ++ ty.toString) = some cA := by
  have h2 := (h.2 t0 _ ht).2
  cases ty with
  | object C9 => exact absurd rfl (hne C9)
  | _ => exact h2
theorem xnewa_0 {own : String} {i : Int32} {mc ms : Nat} (E : EV p s m args c cc nL own) (hb : cells + mc ≤ R.cells ∧ slots + ms ≤ R.slots) {kk : Nat → Prop} (d : decode cc pc = .ok (.newarray .int, 2)) (h : if (¬ i < 0 ∧ i.toNatClampNeg ≤ 10000) then mkc ξ i.toNatClampNeg mc ms kk else False) (hn : pc + 2 = n) (k : ∀ q, (cells + 1 + (mc - 1) ≤ R.cells ∧ slots + i.toNatClampNeg + (ms - i.toNatClampNeg) ≤ R.slots) → kk q → CF p l e R s m args below meth c nL (cells + 1) (slots + i.toNatClampNeg) (XB g A s (pXd ξ q (.inl (xc g 0, i.toNatClampNeg, .inl (fun _ => 0))))) Q n lv (.ref q :: st)) : CF p l e R s m args below meth c nL cells slots (XB g A s ξ) Q pc lv (.int i :: st) := by
  subst hn
  by_cases hi : ¬ i < 0 ∧ i.toNatClampNeg ≤ 10000
  · rw [if_pos hi] at h
    obtain ⟨h1, h2, h3⟩ := h
    intro H locs ls hB hl
    refine va_newa (atype := .int) (ty := .int) E.1 E.2.1 (E.2.2.2.2 _ q171) rfl hB.2.2.2.1 hB.1 hB.2.1 hB.2.2.1 hB.2.2.2.2.1 (a0 := (i.toNatClampNeg, .inl (fun _ => 0))) (fun cA => rfl) hi.1 rfl (Nat.le_trans (Nat.mul_le_mul hi.2 (show componentBytes .int ≤ 8 by decide)) (Nat.le_of_ble_eq_true rfl)) (by omega) (by omega) d (fun q cA H1 hK1 hP hD hS => ?_)
    have e1 : s.vm.findClass ("[" ++ (.int : FieldType).toString) = some cA := arrCls hK1 8 rfl (fun _ h9 => by cases h9)
    have e2 : s.vm.findClass ("[" ++ (.int : FieldType).toString) = some (xc g 0) := arrCls hB.2.2.2.1 0 rfl (fun _ h9 => by cases h9)
    have e3 : cA = xc g 0 := Option.some.inj (e1.symm.trans e2)
    subst e3
    have hq := xpush hD
    rw [xcs_push hq] at hP hD
    exact k q ⟨by omega, by omega⟩ (h3 q hq) H1 locs ls ⟨hP, hD, hS, hB.2.2.2⟩ hl
  · rw [if_neg hi] at h; cases h
theorem xnewa_1 {own : String} {i : Int32} {mc ms : Nat} (E : EV p s m args c cc nL own) (hb : cells + mc ≤ R.cells ∧ slots + ms ≤ R.slots) {kk : Nat → Prop} (d : decode cc pc = .ok (.newarray .byte, 2)) (h : if (¬ i < 0 ∧ i.toNatClampNeg ≤ 10000) then mkc ξ i.toNatClampNeg mc ms kk else False) (hn : pc + 2 = n) (k : ∀ q, (cells + 1 + (mc - 1) ≤ R.cells ∧ slots + i.toNatClampNeg + (ms - i.toNatClampNeg) ≤ R.slots) → kk q → CF p l e R s m args below meth c nL (cells + 1) (slots + i.toNatClampNeg) (XB g A s (pXd ξ q (.inl (xc g 1, i.toNatClampNeg, .inl (fun _ => 0))))) Q n lv (.ref q :: st)) : CF p l e R s m args below meth c nL cells slots (XB g A s ξ) Q pc lv (.int i :: st) := by
  subst hn
  by_cases hi : ¬ i < 0 ∧ i.toNatClampNeg ≤ 10000
  · rw [if_pos hi] at h
    obtain ⟨h1, h2, h3⟩ := h
    intro H locs ls hB hl
    refine va_newa (atype := .byte) (ty := .byte) E.1 E.2.1 (E.2.2.2.2 _ q172) rfl hB.2.2.2.1 hB.1 hB.2.1 hB.2.2.1 hB.2.2.2.2.1 (a0 := (i.toNatClampNeg, .inl (fun _ => 0))) (fun cA => rfl) hi.1 rfl (Nat.le_trans (Nat.mul_le_mul hi.2 (show componentBytes .byte ≤ 8 by decide)) (Nat.le_of_ble_eq_true rfl)) (by omega) (by omega) d (fun q cA H1 hK1 hP hD hS => ?_)
    have e1 : s.vm.findClass ("[" ++ (.byte : FieldType).toString) = some cA := arrCls hK1 8 rfl (fun _ h9 => by cases h9)
    have e2 : s.vm.findClass ("[" ++ (.byte : FieldType).toString) = some (xc g 1) := arrCls hB.2.2.2.1 1 rfl (fun _ h9 => by cases h9)
    have e3 : cA = xc g 1 := Option.some.inj (e1.symm.trans e2)
    subst e3
    have hq := xpush hD
    rw [xcs_push hq] at hP hD
    exact k q ⟨by omega, by omega⟩ (h3 q hq) H1 locs ls ⟨hP, hD, hS, hB.2.2.2⟩ hl
  · rw [if_neg hi] at h; cases h
theorem xnewa_2 {own : String} {i : Int32} {mc ms : Nat} (E : EV p s m args c cc nL own) (hb : cells + mc ≤ R.cells ∧ slots + ms ≤ R.slots) {kk : Nat → Prop} (d : decode cc pc = .ok (.newarray .boolean, 2)) (h : if (¬ i < 0 ∧ i.toNatClampNeg ≤ 10000) then mkc ξ i.toNatClampNeg mc ms kk else False) (hn : pc + 2 = n) (k : ∀ q, (cells + 1 + (mc - 1) ≤ R.cells ∧ slots + i.toNatClampNeg + (ms - i.toNatClampNeg) ≤ R.slots) → kk q → CF p l e R s m args below meth c nL (cells + 1) (slots + i.toNatClampNeg) (XB g A s (pXd ξ q (.inl (xc g 2, i.toNatClampNeg, .inl (fun _ => 0))))) Q n lv (.ref q :: st)) : CF p l e R s m args below meth c nL cells slots (XB g A s ξ) Q pc lv (.int i :: st) := by
  subst hn
  by_cases hi : ¬ i < 0 ∧ i.toNatClampNeg ≤ 10000
  · rw [if_pos hi] at h
    obtain ⟨h1, h2, h3⟩ := h
    intro H locs ls hB hl
    refine va_newa (atype := .boolean) (ty := .boolean) E.1 E.2.1 (E.2.2.2.2 _ q1428) rfl hB.2.2.2.1 hB.1 hB.2.1 hB.2.2.1 hB.2.2.2.2.1 (a0 := (i.toNatClampNeg, .inl (fun _ => 0))) (fun cA => rfl) hi.1 rfl (Nat.le_trans (Nat.mul_le_mul hi.2 (show componentBytes .boolean ≤ 8 by decide)) (Nat.le_of_ble_eq_true rfl)) (by omega) (by omega) d (fun q cA H1 hK1 hP hD hS => ?_)
    have e1 : s.vm.findClass ("[" ++ (.boolean : FieldType).toString) = some cA := arrCls hK1 8 rfl (fun _ h9 => by cases h9)
    have e2 : s.vm.findClass ("[" ++ (.boolean : FieldType).toString) = some (xc g 2) := arrCls hB.2.2.2.1 2 rfl (fun _ h9 => by cases h9)
    have e3 : cA = xc g 2 := Option.some.inj (e1.symm.trans e2)
    subst e3
    have hq := xpush hD
    rw [xcs_push hq] at hP hD
    exact k q ⟨by omega, by omega⟩ (h3 q hq) H1 locs ls ⟨hP, hD, hS, hB.2.2.2⟩ hl
  · rw [if_neg hi] at h; cases h
theorem xnewa_3 {own : String} {i : Int32} {mc ms : Nat} (E : EV p s m args c cc nL own) (hb : cells + mc ≤ R.cells ∧ slots + ms ≤ R.slots) {kk : Nat → Prop} (d : decode cc pc = .ok (.newarray .long, 2)) (h : if (¬ i < 0 ∧ i.toNatClampNeg ≤ 10000) then mkc ξ i.toNatClampNeg mc ms kk else False) (hn : pc + 2 = n) (k : ∀ q, (cells + 1 + (mc - 1) ≤ R.cells ∧ slots + i.toNatClampNeg + (ms - i.toNatClampNeg) ≤ R.slots) → kk q → CF p l e R s m args below meth c nL (cells + 1) (slots + i.toNatClampNeg) (XB g A s (pXd ξ q (.inl (xc g 3, i.toNatClampNeg, .inr (.inl (fun _ => 0)))))) Q n lv (.ref q :: st)) : CF p l e R s m args below meth c nL cells slots (XB g A s ξ) Q pc lv (.int i :: st) := by
  subst hn
  by_cases hi : ¬ i < 0 ∧ i.toNatClampNeg ≤ 10000
  · rw [if_pos hi] at h
    obtain ⟨h1, h2, h3⟩ := h
    intro H locs ls hB hl
    refine va_newa (atype := .long) (ty := .long) E.1 E.2.1 (E.2.2.2.2 _ q1427) rfl hB.2.2.2.1 hB.1 hB.2.1 hB.2.2.1 hB.2.2.2.2.1 (a0 := (i.toNatClampNeg, .inr (.inl (fun _ => 0)))) (fun cA => rfl) hi.1 rfl (Nat.le_trans (Nat.mul_le_mul hi.2 (show componentBytes .long ≤ 8 by decide)) (Nat.le_of_ble_eq_true rfl)) (by omega) (by omega) d (fun q cA H1 hK1 hP hD hS => ?_)
    have e1 : s.vm.findClass ("[" ++ (.long : FieldType).toString) = some cA := arrCls hK1 8 rfl (fun _ h9 => by cases h9)
    have e2 : s.vm.findClass ("[" ++ (.long : FieldType).toString) = some (xc g 3) := arrCls hB.2.2.2.1 3 rfl (fun _ h9 => by cases h9)
    have e3 : cA = xc g 3 := Option.some.inj (e1.symm.trans e2)
    subst e3
    have hq := xpush hD
    rw [xcs_push hq] at hP hD
    exact k q ⟨by omega, by omega⟩ (h3 q hq) H1 locs ls ⟨hP, hD, hS, hB.2.2.2⟩ hl
  · rw [if_neg hi] at h; cases h
theorem xnewa_4 {own : String} {i : Int32} {mc ms : Nat} (E : EV p s m args c cc nL own) (hb : cells + mc ≤ R.cells ∧ slots + ms ≤ R.slots) {kk : Nat → Prop} (d : decode cc pc = .ok (.newarray .short, 2)) (h : if (¬ i < 0 ∧ i.toNatClampNeg ≤ 10000) then mkc ξ i.toNatClampNeg mc ms kk else False) (hn : pc + 2 = n) (k : ∀ q, (cells + 1 + (mc - 1) ≤ R.cells ∧ slots + i.toNatClampNeg + (ms - i.toNatClampNeg) ≤ R.slots) → kk q → CF p l e R s m args below meth c nL (cells + 1) (slots + i.toNatClampNeg) (XB g A s (pXd ξ q (.inl (xc g 4, i.toNatClampNeg, .inl (fun _ => 0))))) Q n lv (.ref q :: st)) : CF p l e R s m args below meth c nL cells slots (XB g A s ξ) Q pc lv (.int i :: st) := by
  subst hn
  by_cases hi : ¬ i < 0 ∧ i.toNatClampNeg ≤ 10000
  · rw [if_pos hi] at h
    obtain ⟨h1, h2, h3⟩ := h
    intro H locs ls hB hl
    refine va_newa (atype := .short) (ty := .short) E.1 E.2.1 (E.2.2.2.2 _ q1426) rfl hB.2.2.2.1 hB.1 hB.2.1 hB.2.2.1 hB.2.2.2.2.1 (a0 := (i.toNatClampNeg, .inl (fun _ => 0))) (fun cA => rfl) hi.1 rfl (Nat.le_trans (Nat.mul_le_mul hi.2 (show componentBytes .short ≤ 8 by decide)) (Nat.le_of_ble_eq_true rfl)) (by omega) (by omega) d (fun q cA H1 hK1 hP hD hS => ?_)
    have e1 : s.vm.findClass ("[" ++ (.short : FieldType).toString) = some cA := arrCls hK1 8 rfl (fun _ h9 => by cases h9)
    have e2 : s.vm.findClass ("[" ++ (.short : FieldType).toString) = some (xc g 4) := arrCls hB.2.2.2.1 4 rfl (fun _ h9 => by cases h9)
    have e3 : cA = xc g 4 := Option.some.inj (e1.symm.trans e2)
    subst e3
    have hq := xpush hD
    rw [xcs_push hq] at hP hD
    exact k q ⟨by omega, by omega⟩ (h3 q hq) H1 locs ls ⟨hP, hD, hS, hB.2.2.2⟩ hl
  · rw [if_neg hi] at h; cases h
theorem yret_z {v : Int32} {K : Int32 → XS → Prop} (d : decode cc pc = .ok (.ireturn, 1)) (h : if v = 0 ∨ v = 1 then K v ξ else False) (hc : cells ≤ R.cells ∧ slots ≤ R.slots) (hq : YTi p l e R s m args below meth c cc nL A g .boolean Q K) : CF p l e R s m args below meth c nL cells slots (XB g A s ξ) Q pc lv [.int v] := by
  by_cases hv : v = 0 ∨ v = 1
  · rw [if_pos hv] at h
    refine hq pc lv v ξ cells slots hc.1 hc.2 d ?_ h
    rcases hv with rfl | rfl
    · exact nzb0
    · exact nzb1
  · rw [if_neg hv] at h; cases h
end XC
theorem xfitA {cA : ClassId} {f : Nat → Int32} (h : fitB f 0 6 = true) : ∀ (i : Nat) (v : Value), (vp_cell cA (6, .inl f)).slots[i]? = some v → fits .byte v = true := by
  intro i v hv
  rw [vp_cell_i] at hv
  have hlt : i < 6 := by
    have := (Array.getElem?_eq_some_iff.mp hv).1
    rwa [arrV_size] at this
  have h2 := fitB_at h i hlt
  rw [Nat.zero_add] at h2
  have h3 : (arrV cA 6 (fun j => .int (f j))).slots[i]? = some (.int (f i)) := by simp [arrV, hlt]
  rw [h3] at hv
  cases hv
  exact h2
theorem xanyH {g : XG} {A : Nat → Prop} {s : State} {ξ : XS} {H : Heap} {locs : List Loc} {a : Nat} (hB : XB g A s ξ H locs) (h : isC ξ a 8 14 = true) : va_Any "HatsDecide$Hat" s H a := by
  obtain ⟨ci, hci, h1, h2⟩ := isC_at h
  obtain ⟨fs, he⟩ := dCi_at hci
  obtain ⟨q0, hq⟩ := dE_at (g := g) he
  have hcc : ci = 8 ∨ ci = 9 ∨ ci = 10 ∨ ci = 11 ∨ ci = 12 ∨ ci = 13 ∨ ci = 14 := by omega
  rcases hcc with rfl | rfl | rfl | rfl | rfl | rfl | rfl
  · refine va_rAny hB.2.2.2.1 hB.1 hq rfl (fun comp c0 e1 e2 => ?_)
    have hat := (hB.2.2.2.1.1 8 _ rfl).2
    have e3 : comp = c0 := Option.some.inj (e1.symm.trans e2)
    have e4 : c0 = g.1.1 8 := Option.some.inj (e2.symm.trans hat.1)
    rw [e3, e4]
    exact va_assign hat
  · refine va_rAny hB.2.2.2.1 hB.1 hq rfl (fun comp c0 e1 e2 => ?_)
    obtain ⟨c9, t9, g1, g2, g3⟩ := Cond.castable_spec (hB.2.2.2.2.2.1 _ q2168 rfl)
    cases e1.symm.trans g2
    cases e2.symm.trans g1
    exact g3
  · refine va_rAny hB.2.2.2.1 hB.1 hq rfl (fun comp c0 e1 e2 => ?_)
    obtain ⟨c9, t9, g1, g2, g3⟩ := Cond.castable_spec (hB.2.2.2.2.2.1 _ q2170 rfl)
    cases e1.symm.trans g2
    cases e2.symm.trans g1
    exact g3
  · refine va_rAny hB.2.2.2.1 hB.1 hq rfl (fun comp c0 e1 e2 => ?_)
    obtain ⟨c9, t9, g1, g2, g3⟩ := Cond.castable_spec (hB.2.2.2.2.2.1 _ q2165 rfl)
    cases e1.symm.trans g2
    cases e2.symm.trans g1
    exact g3
  · refine va_rAny hB.2.2.2.1 hB.1 hq rfl (fun comp c0 e1 e2 => ?_)
    obtain ⟨c9, t9, g1, g2, g3⟩ := Cond.castable_spec (hB.2.2.2.2.2.1 _ q2167 rfl)
    cases e1.symm.trans g2
    cases e2.symm.trans g1
    exact g3
  · refine va_rAny hB.2.2.2.1 hB.1 hq rfl (fun comp c0 e1 e2 => ?_)
    obtain ⟨c9, t9, g1, g2, g3⟩ := Cond.castable_spec (hB.2.2.2.2.2.1 _ q2166 rfl)
    cases e1.symm.trans g2
    cases e2.symm.trans g1
    exact g3
  · refine va_rAny hB.2.2.2.1 hB.1 hq rfl (fun comp c0 e1 e2 => ?_)
    obtain ⟨c9, t9, g1, g2, g3⟩ := Cond.castable_spec (hB.2.2.2.2.2.1 _ q2169 rfl)
    cases e1.symm.trans g2
    cases e2.symm.trans g1
    exact g3
