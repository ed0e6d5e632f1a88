/-! HatsDecide, group r2: rows, functions, walks -/
set_option maxRecDepth 100000
section XC
variable {p : Program} {l : Launch} {e : Env} {R : Room} {s : State} {m : MethodId} {args : Array Value} {below : List Frame} {meth : Method} {c : Code} {nL cells slots : Nat} {A : Nat → Prop} {g : XG} {ξ : XS} {Q : State → Prop} {pc n : Nat} {lv : List (Nat × Value)} {st : List Value} {cc : ByteArray} {ρ : Type} {res : ρ}
theorem xdgX14_89 (E : EV p s m args c cc nL RX14) {a : Nat} {kk : Nat → Option ρ} (d : decode cc pc = .ok (.getfield 89, 3)) (h : bno (dR ξ a 18 18 1) kk = some res) (hn : pc + 3 = n) (k : ∀ v : Nat, kk v = some res → CF p l e R s m args below meth c nL cells slots (XB g A s ξ) Q n lv (.ref v :: st)) : CF p l e R s m args below meth c nL cells slots (XB g A s ξ) Q pc lv (.ref a :: st) := by
  subst hn
  obtain ⟨v, hi, h⟩ := bno_some h
  obtain ⟨ci, fs, he, h1, h2, hv⟩ := dR_at hi
  obtain ⟨q0, hq⟩ := dE_at (g := g) he
  intro H locs ls hB hl
  have hci : ci = 18 := by omega
  subst hci
  exact va_getN (D := g.1) (ci := 18) (C := RX18) (T := TX18) (N := 2) E.1 E.2.1 E.2.2.2.2 in_X18 E.2.2.2.1 hB.2.2.2.1 hB.1 q0 hq rfl 1 (Nat.le_of_ble_eq_true rfl) (va_Nw.use rfl (hB.2.2.2.2.2.1 _ q926 rfl)) (fun _ h9 => h9) hv d (k v h H locs ls hB hl)
theorem xdgX14_89p (E : EV p s m args c cc nL RX14) {a : Nat} {kk : Nat → Prop} (d : decode cc pc = .ok (.getfield 89, 3)) (h : bnop (dR ξ a 18 18 1) kk) (hn : pc + 3 = n) (k : ∀ v : Nat, kk v → CF p l e R s m args below meth c nL cells slots (XB g A s ξ) Q n lv (.ref v :: st)) : CF p l e R s m args below meth c nL cells slots (XB g A s ξ) Q pc lv (.ref a :: st) := by
  subst hn
  obtain ⟨v, hi, h⟩ := h
  obtain ⟨ci, fs, he, h1, h2, hv⟩ := dR_at hi
  obtain ⟨q0, hq⟩ := dE_at (g := g) he
  intro H locs ls hB hl
  have hci : ci = 18 := by omega
  subst hci
  exact va_getN (D := g.1) (ci := 18) (C := RX18) (T := TX18) (N := 2) E.1 E.2.1 E.2.2.2.2 in_X18 E.2.2.2.1 hB.2.2.2.1 hB.1 q0 hq rfl 1 (Nat.le_of_ble_eq_true rfl) (va_Nw.use rfl (hB.2.2.2.2.2.1 _ q926 rfl)) (fun _ h9 => h9) hv d (k v h H locs ls hB hl)
theorem xnwX14_84 (E : EV p s m args c cc nL RX14) {mc ms : Nat} (hb : cells + mc ≤ R.cells ∧ slots + ms ≤ R.slots) {kk : Nat → Prop} (d : decode cc pc = .ok (.new 84, 3)) (h : mkc ξ 2 mc ms kk) (hn : pc + 3 = n) (k : ∀ q, (cells + 1 + (mc - 1) ≤ R.cells ∧ slots + 2 + (ms - 2) ≤ R.slots) → kk q → CF p l e R s m args below meth c nL (cells + 1) (slots + 2) (XB g A s (pXd ξ q (.inr (18, [.int 0, .null])))) Q n lv (.ref q :: st)) : CF p l e R s m args below meth c nL cells slots (XB g A s ξ) Q pc lv st :=
  xnew (C9 := RX18) (T := TX18) E in_X18 tyX18 tyX18_ok q913 q914 q126 rfl (fun j hj => by rcases (show j = 0 ∨ j = 1 by omega) with rfl | rfl <;> rfl) hb d h hn k
theorem xnwX14_76 (E : EV p s m args c cc nL RX14) {mc ms : Nat} (hb : cells + mc ≤ R.cells ∧ slots + ms ≤ R.slots) {kk : Nat → Prop} (d : decode cc pc = .ok (.new 76, 3)) (h : mkc ξ 3 mc ms kk) (hn : pc + 3 = n) (k : ∀ q, (cells + 1 + (mc - 1) ≤ R.cells ∧ slots + 3 + (ms - 3) ≤ R.slots) → kk q → CF p l e R s m args below meth c nL (cells + 1) (slots + 3) (XB g A s (pXd ξ q (.inr (20, [.int 0, .int 0, .int 0])))) Q n lv (.ref q :: st)) : CF p l e R s m args below meth c nL cells slots (XB g A s ξ) Q pc lv st :=
  xnew (C9 := RX20) (T := TX20) E in_X20 tyX20 tyX20_ok q954 q955 q128 rfl (fun j hj => by rcases (show j = 0 ∨ j = 1 ∨ j = 2 by omega) with rfl | rfl | rfl <;> rfl) hb d h hn k
theorem xnwX14_64 (E : EV p s m args c cc nL RX14) {mc ms : Nat} (hb : cells + mc ≤ R.cells ∧ slots + ms ≤ R.slots) {kk : Nat → Prop} (d : decode cc pc = .ok (.new 64, 3)) (h : mkc ξ 1 mc ms kk) (hn : pc + 3 = n) (k : ∀ q, (cells + 1 + (mc - 1) ≤ R.cells ∧ slots + 1 + (ms - 1) ≤ R.slots) → kk q → CF p l e R s m args below meth c nL (cells + 1) (slots + 1) (XB g A s (pXd ξ q (.inr (19, [.null])))) Q n lv (.ref q :: st)) : CF p l e R s m args below meth c nL cells slots (XB g A s ξ) Q pc lv st :=
  xnew (C9 := RX19) (T := TX19) E in_X19 tyX19 tyX19_ok q944 q945 q127 rfl (fun j hj => by rcases (show j = 0 by omega) with rfl <;> rfl) hb d h hn k
end XC
def HF (l : Launch) (g : XG) (dp : Nat) (self : Nat → XS → Nat → Nat → (Nat → XS → Prop) → (String → Nat → XS → Prop) → Prop) : Prop := ∀ (a0 : Nat) (ξ : XS) (mc ms : Nat) (K : Nat → XS → Prop) (KX : String → Nat → XS → Prop), self a0 ξ mc ms K KX → MetZr l g yX14_factor (ws_ yX14_factor cX14_factor 3 (some (.object "HatsDecide$Test"))) (12 + 3 * dp) (500 + 64 * dp) [.ref a0] ξ mc ms K KX
def y14_all_21b (N : Nat) (g : XG) (self : Nat → XS → Nat → Nat → (Nat → XS → Prop) → (String → Nat → XS → Prop) → Prop) (a0 : Nat) (K : Nat → XS → Prop) (KX : String → Nat → XS → Prop)  (rec21 : Nat → XS → Nat → Nat → Prop) (a1 : Nat) (ξ : XS) (mc ms : Nat) : Prop :=
  if isC ξ a0 15 15 = true then (
  bndp (x14_here N g a0 ξ) fun v_2 s_1 =>
  if v_2 = (38 : Int32) then (
    bnop (dI s_1 a0 15 15 2) fun v_3 =>
    bndp (dO s_1 a0) fun ci_5 fs_6 => if (ci_5 = 15 ∧ 2 < fs_6.length) then nx (sXd s_1 a0 (.inr (ci_5, fs_6.set 2 (.int (v_3 + (1 : Int32)))))) (fun s_4 =>
    bnop (dR s_4 a1 18 18 1) fun b_7 =>
    if isC s_4 a0 15 15 = true then (
    bnyx (self a0 s_4) mc ms (fun m_8 n_9 e_12 q_13 s_14 =>
      KX e_12 q_13 s_14) fun m_8 n_9 v_11 s_10 =>
    if isC s_10 b_7 4 4 = true then (
    bny (yj2_add N g b_7 v_11 s_10) (mc - m_8) (ms - n_9) fun m_15 n_16 v_18 s_17 =>
    rec21 a1 s_17 ((mc - m_8) - m_15) ((ms - n_9) - n_16)) else False) else False) else False)
  else (
    K (a1) s_1)) else False
def y14_all_21 (N : Nat) (g : XG) (self : Nat → XS → Nat → Nat → (Nat → XS → Prop) → (String → Nat → XS → Prop) → Prop) (a0 : Nat) (K : Nat → XS → Prop) (KX : String → Nat → XS → Prop)  : Nat → Nat → XS → Nat → Nat → Prop
  | 0 => fun _ _ _ _ => False
  | k + 1 => fun a1 ξ mc ms => y14_all_21b N g self a0 K KX  (y14_all_21 N g self a0 K KX  k) a1 ξ mc ms
def y14_all (N : Nat) (g : XG) (self : Nat → XS → Nat → Nat → (Nat → XS → Prop) → (String → Nat → XS → Prop) → Prop) (a0 : Nat)  (ξ : XS) (mc ms : Nat) (K : Nat → XS → Prop) (KX : String → Nat → XS → Prop) : Prop :=
  mkc ξ 2 mc ms fun q_1 =>
  bnyv (y18_init N g q_1 (1 : Int32) (pXd ξ q_1 (.inr (18, [.int 0, .null])))) (mc - 1) (ms - 2) fun m_2 n_3 s_4 =>
  bnop (dR s_4 q_1 18 18 1) fun b_6 =>
  if isC s_4 a0 15 15 = true then (
  bnyx (self a0 s_4) ((mc - 1) - m_2) ((ms - 2) - n_3) (fun m_7 n_8 e_11 q_12 s_13 =>
    KX e_11 q_12 s_13) fun m_7 n_8 v_10 s_9 =>
  if isC s_9 b_6 4 4 = true then (
  bny (yj2_add N g b_6 v_10 s_9) (((mc - 1) - m_2) - m_7) (((ms - 2) - n_3) - n_8) fun m_14 n_15 v_17 s_16 =>
  y14_all_21 N g self a0 K KX N q_1 s_16 ((((mc - 1) - m_2) - m_7) - m_14) ((((ms - 2) - n_3) - n_8) - n_15)) else False) else False
section XC
variable {p : Program} {l : Launch} {e : Env} {R : Room} {s : State} {m : MethodId} {args : Array Value} {below : List Frame} {meth : Method} {c : Code} {nL cells slots : Nat} {A : Nat → Prop} {g : XG} {ξ : XS} {Q : State → Prop} {pc n : Nat} {lv : List (Nat × Value)} {st : List Value} {cc : ByteArray} {ρ : Type} {res : ρ}
theorem zclX14_66_s (E : EV p s m args c cc nL RX14) (hlt : l.stackTraces = false) {mc ms : Nat} {dp : Nat} {self : Nat → XS → Nat → Nat → (Nat → XS → Prop) → (String → Nat → XS → Prop) → Prop} (hself : HF l g dp self) {a0 : Nat}   {kx : Nat → Nat → String → Nat → XS → Prop} {kk : Nat → Nat → Nat → XS → Prop} (hR : (12 + 3 * dp) + 1 ≤ R.frames ∧ 8 + (3 + 11) + (500 + 64 * dp) ≤ R.locals) (hcat : (st.map fun v => v.category).sum ≤ 8) (hb : cells + mc ≤ R.cells ∧ slots + ms ≤ R.slots) (d : decode cc pc = .ok (.invokevirtual 66, 3)) (h : if isC ξ a0 15 15 = true then bnyx (self a0 ξ) mc ms kx kk else False) (hn : pc + 3 = n) (kX : ∀ (m1 n1 : Nat) (E9 : String) (q : Nat) (ξ1 : XS), (cells + m1 + (mc - m1) ≤ R.cells ∧ slots + n1 + (ms - n1) ≤ R.slots) → kx m1 n1 E9 q ξ1 → CX p l e R s m args below meth c nL (cells + m1) (slots + n1) (XB g A s ξ1) Q pc lv E9 q) (k : ∀ (m1 n1 : Nat) (v : Nat) (ξ1 : XS), (cells + m1 + (mc - m1) ≤ R.cells ∧ slots + n1 + (ms - n1) ≤ R.slots) → kk m1 n1 v ξ1 → CF p l e R s m args below meth c nL (cells + m1) (slots + n1) (XB g A s ξ1) Q n lv (.ref v :: st)) : CF p l e R s m args below meth c nL cells slots (XB g A s ξ) Q pc lv (.ref a0 :: st) := by
  by_cases hi : ¬ isC ξ a0 15 15 = true
  · rw [if_neg hi] at h; cases h
  have hi : isC ξ a0 15 15 = true := Decidable.not_not.mp hi
  rw [if_pos hi] at h
  obtain ⟨ci, hci, h8, h9⟩ := isC_at hi
  have e9 : ci = 15 := by omega
  subst e9
  obtain ⟨m1, n1, h1, h2, h⟩ := h
  exact zcallV_r (na := 0) E [] (hself a0 ξ m1 n1 _ _ h) (C9 := RX14) (lw_V q936 q938 qs15 q116 q939) (by decide +kernel) (xrecv_d (q := (RX14, TX14, 5)) hci rfl) hR rfl rfl hcat ⟨by omega, by omega⟩ d hn (fun v ξ1 hk => k m1 n1 v ξ1 ⟨by omega, by omega⟩ hk) (fun E9 q ξ1 hk => kX m1 n1 E9 q ξ1 ⟨by omega, by omega⟩ hk)
theorem yclX14_93 (E : EV p s m args c cc nL RX14) {N mc ms : Nat} {a0 : Nat}  {x1 : Nat} {kk : Nat → Nat → Int32 → XS → Prop} (hR : 7 ≤ R.frames ∧ 171 ≤ R.locals) (hcat : (st.map fun v => v.category).sum ≤ 8) (hb : cells + mc ≤ R.cells ∧ slots + ms ≤ R.slots) (d : decode cc pc = .ok (.invokevirtual 93, 3)) (h : if isC ξ a0 4 4 = true then bny (yj2_add N g a0 x1 ξ) mc ms kk else False) (hn : pc + 3 = n) (k : ∀ (m1 n1 : Nat) (v : Int32) (ξ1 : XS), (cells + m1 + (mc - m1) ≤ R.cells ∧ slots + n1 + (ms - n1) ≤ R.slots) → kk m1 n1 v ξ1 → CF p l e R s m args below meth c nL (cells + m1) (slots + n1) (XB g A s ξ1) Q n lv (.int v :: st)) : CF p l e R s m args below meth c nL cells slots (XB g A s ξ) Q pc lv (.ref x1 :: .ref a0 :: st) := by
  by_cases hi : ¬ isC ξ a0 4 4 = true
  · rw [if_neg hi] at h; cases h
  have hi : isC ξ a0 4 4 = true := Decidable.not_not.mp hi
  rw [if_pos hi] at h
  obtain ⟨ci, hci, h8, h9⟩ := isC_at hi
  have e9 : ci = 4 := by omega
  subst e9
  obtain ⟨m1, n1, h1, h2, h⟩ := h
  exact ycallV_i (na := 1) E [.ref x1] (met_yj2_add l g N a0  x1 ξ m1 n1 _ h) (C9 := RJ2) (lw_V q970 q971 q972 q101 q973) (by decide +kernel) (xrecv_d (q := (RJ2, TJ2, 3)) hci rfl) hR rfl rfl hcat ⟨by omega, by omega⟩ d hn (fun v ξ1 hk => k m1 n1 v ξ1 ⟨by omega, by omega⟩ hk)
theorem yclX14_86 (E : EV p s m args c cc nL RX14) {N mc ms : Nat} {a0 : Nat}  {x1 : Int32} {kk : Nat → Nat → XS → Prop} (hR : 5 ≤ R.frames ∧ 121 ≤ R.locals) (hcat : (st.map fun v => v.category).sum ≤ 8) (hb : cells + mc ≤ R.cells ∧ slots + ms ≤ R.slots) (d : decode cc pc = .ok (.invokespecial 86, 3)) (h : bnyv (y18_init N g a0 x1 ξ) mc ms kk) (hn : pc + 3 = n) (k : ∀ (m1 n1 : Nat) (ξ1 : XS), (cells + m1 + (mc - m1) ≤ R.cells ∧ slots + n1 + (ms - n1) ≤ R.slots) → kk m1 n1 ξ1 → CF p l e R s m args below meth c nL (cells + m1) (slots + n1) (XB g A s ξ1) Q n lv st) : CF p l e R s m args below meth c nL cells slots (XB g A s ξ) Q pc lv (.int x1 :: .ref a0 :: st) := by
  obtain ⟨m1, n1, h1, h2, h⟩ := h
  exact ycallI_v (na := 1) E [.int x1] (met_y18_init l g N a0  x1 ξ m1 n1 _ h) (lw_meth q917) q126 q915 q916 (by decide +kernel) hR rfl rfl hcat ⟨by omega, by omega⟩ d hn (fun ξ1 hk => k m1 n1 ξ1 ⟨by omega, by omega⟩ hk)
end XC
set_option maxHeartbeats 4000000 in
theorem wy14_all_21b {p : Program} {l : Launch} {e : Env} {R : Room} {s : State} {m : MethodId} {args : Array Value} {below : List Frame} {meth : Method} {c : Code} {A : Nat → Prop} {g : XG} {Q : State → Prop} {K : Nat → XS → Prop} {KX : String → Nat → XS → Prop} (E : EV p s m args c cX14_all 2 RX14) (hlt : l.stackTraces = false) (hlk : meth.locks = false) (hx : ZX p l e R s m args below meth c 2 A g Q KX) (dp : Nat) {self : Nat → XS → Nat → Nat → (Nat → XS → Prop) → (String → Nat → XS → Prop) → Prop} (hself : HF l g dp self) (hR : (13 + 3 * dp) ≤ R.frames ∧ (522 + 64 * dp) ≤ R.locals) (hq : YTr p l e R s m args below meth c cX14_all 2 A g Q K) (N : Nat) (a0 : Nat)   {rec21 : Nat → XS → Nat → Nat → Prop} (ih21 : ∀ (a1 : Nat) (ξ : XS) (mc ms cells slots : Nat), (cells + mc ≤ R.cells ∧ slots + ms ≤ R.slots) → rec21 a1 ξ mc ms → CF p l e R s m args below meth c 2 cells slots (XB g A s ξ) Q 21 [(0, .ref a0), (1, .ref a1)] []) (a1 : Nat) (ξ : XS) (mc ms cells slots : Nat) (hb : cells + mc ≤ R.cells ∧ slots + ms ≤ R.slots) (h : y14_all_21b N g self a0 K KX  rec21 a1 ξ mc ms) : CF p l e R s m args below meth c 2 cells slots (XB g A s ξ) Q 21 [(0, .ref a0), (1, .ref a1)] [] := by
  unfold y14_all_21b at h
  refine cf_aload_n E dX14_all_21 0 rfl rfl ?_
  refine xclX14_34p E ⟨by have := hR.1; omega, by have := hR.2; omega⟩ (Nat.le_of_ble_eq_true rfl) (hb0 hb) dX14_all_22 h rfl (fun v_2 s_1 h => ?_)
  refine cf_bipush E dX14_all_25 bp_38 rfl ?_
  refine cf_icmp_nep E dX14_all_27 h rfl rfl (fun h => ?_) (fun h => ?_)
  · refine cf_aload_n E dX14_all_55 1 rfl rfl ?_
    exact hq _ _ _ _ _ _ (hb0 hb).1 (hb0 hb).2 dX14_all_56 h
  · refine cf_aload_n E dX14_all_30 0 rfl rfl ?_
    refine cf_dup E dX14_all_31 rfl rfl ?_
    refine xdgX14_26p E dX14_all_32 h rfl (fun v_3 h => ?_)
    refine cf_iconst E dX14_all_35 ic_1 rfl ?_
    refine cf_iadd E dX14_all_36 rfl ?_
    refine xdqX14_26 E dX14_all_37 h rfl (fun s_4 h => ?_)
    refine cf_aload_n E dX14_all_40 1 rfl rfl ?_
    refine xdgX14_89p E dX14_all_41 h rfl (fun b_7 h => ?_)
    refine cf_aload_n E dX14_all_44 0 rfl rfl ?_
    refine zclX14_66_s E hlt hself ⟨by have := hR.1; omega, by have := hR.2; omega⟩ (Nat.le_of_ble_eq_true rfl) hb dX14_all_45 h rfl (fun m_8 n_9 e_12 q_13 s_14 hb h => ?_) (fun m_8 n_9 v_11 s_10 hb h => ?_)
    · exact hx _ _ _ _ _ _ _ (hb0 hb).1 (hb0 hb).2 h
    refine yclX14_93 E ⟨by have := hR.1; omega, by have := hR.2; omega⟩ (Nat.le_of_ble_eq_true rfl) hb dX14_all_48 h rfl (fun m_15 n_16 v_18 s_17 hb h => ?_)
    refine cf_pop E dX14_all_51 rfl rfl ?_
    refine cf_goto E dX14_all_52 rfl ?_
    exact CF.sub [0, 1] rfl (ih21 a1 s_17 ((mc - m_8) - m_15) ((ms - n_9) - n_16) _ _ hb h)
set_option maxHeartbeats 4000000 in
theorem wy14_all_21 {p : Program} {l : Launch} {e : Env} {R : Room} {s : State} {m : MethodId} {args : Array Value} {below : List Frame} {meth : Method} {c : Code} {A : Nat → Prop} {g : XG} {Q : State → Prop} {K : Nat → XS → Prop} {KX : String → Nat → XS → Prop} (E : EV p s m args c cX14_all 2 RX14) (hlt : l.stackTraces = false) (hlk : meth.locks = false) (hx : ZX p l e R s m args below meth c 2 A g Q KX) (dp : Nat) {self : Nat → XS → Nat → Nat → (Nat → XS → Prop) → (String → Nat → XS → Prop) → Prop} (hself : HF l g dp self) (hR : (13 + 3 * dp) ≤ R.frames ∧ (522 + 64 * dp) ≤ R.locals) (hq : YTr p l e R s m args below meth c cX14_all 2 A g Q K) (N : Nat) (a0 : Nat)   : ∀ (k : Nat) (a1 : Nat) (ξ : XS) (mc ms cells slots : Nat), (cells + mc ≤ R.cells ∧ slots + ms ≤ R.slots) → y14_all_21 N g self a0 K KX  k a1 ξ mc ms → CF p l e R s m args below meth c 2 cells slots (XB g A s ξ) Q 21 [(0, .ref a0), (1, .ref a1)] [] := by
  intro k
  induction k with
  | zero => intro a1 ξ mc ms cells slots hb h; have h : False := h; cases h
  | succ k ih => intro a1 ξ mc ms cells slots hb h; exact wy14_all_21b E hlt hlk hx dp hself hR hq N a0   ih a1 ξ mc ms cells slots hb h
set_option maxHeartbeats 4000000 in
theorem met_y14_all (l : Launch) (g : XG) (N : Nat) (dp : Nat) {self : Nat → XS → Nat → Nat → (Nat → XS → Prop) → (String → Nat → XS → Prop) → Prop} (hself : HF l g dp self) (a0 : Nat)   (ξ : XS) (mc ms : Nat) (K : Nat → XS → Prop) (KX : String → Nat → XS → Prop) (hlt : l.stackTraces = false) (h : y14_all N g self a0  ξ mc ms K KX) : MetZr l g yX14_all (ws_ yX14_all cX14_all 2 (some (.object "HatsDecide$Test"))) (13 + 3 * dp) (522 + 64 * dp) [.ref a0] ξ mc ms K KX := by
  refine met_zr (Or.inl ⟨_, rfl⟩) (lv0 := [(0, .ref a0)]) (own := RX14) (by decide) rfl (Nat.le_of_ble_eq_true rfl) rfl ?_
  intro p e s m below meth c A Q E hmn hlk hx hq
  have hR : (13 + 3 * dp) ≤ ({ frames := (13 + 3 * dp), cells := mc, slots := ms, locals := (522 + 64 * dp) } : Room).frames ∧ (522 + 64 * dp) ≤ ({ frames := (13 + 3 * dp), cells := mc, slots := ms, locals := (522 + 64 * dp) } : Room).locals := ⟨Nat.le_refl _, Nat.le_refl _⟩
  have hb : 0 + mc ≤ ({ frames := (13 + 3 * dp), cells := mc, slots := ms, locals := (522 + 64 * dp) } : Room).cells ∧ 0 + ms ≤ ({ frames := (13 + 3 * dp), cells := mc, slots := ms, locals := (522 + 64 * dp) } : Room).slots := ⟨Nat.le_of_eq (Nat.zero_add _), Nat.le_of_eq (Nat.zero_add _)⟩
  unfold y14_all at h
  refine xnwX14_84 E hb dX14_all_0 h rfl (fun q_1 hb h => ?_)
  refine cf_dup E dX14_all_3 rfl rfl ?_
  refine cf_iconst E dX14_all_4 ic_1 rfl ?_
  refine yclX14_86 E ⟨by have := hR.1; omega, by have := hR.2; omega⟩ (Nat.le_of_ble_eq_true rfl) hb dX14_all_5 h rfl (fun m_2 n_3 s_4 hb h => ?_)
  refine cf_astore_n E dX14_all_8 [(1, .ref q_1), (0, .ref a0)] (Nat.le_of_ble_eq_true rfl) rfl rfl ?_
  refine cf_aload_n E dX14_all_9 0 rfl rfl ?_
  refine xdgX14_89p E dX14_all_10 h rfl (fun b_6 h => ?_)
  refine cf_aload_n E dX14_all_13 1 rfl rfl ?_
  refine zclX14_66_s E hlt hself ⟨by have := hR.1; omega, by have := hR.2; omega⟩ (Nat.le_of_ble_eq_true rfl) hb dX14_all_14 h rfl (fun m_7 n_8 e_11 q_12 s_13 hb h => ?_) (fun m_7 n_8 v_10 s_9 hb h => ?_)
  · exact hx _ _ _ _ _ _ _ (hb0 hb).1 (hb0 hb).2 h
  refine yclX14_93 E ⟨by have := hR.1; omega, by have := hR.2; omega⟩ (Nat.le_of_ble_eq_true rfl) hb dX14_all_17 h rfl (fun m_14 n_15 v_17 s_16 hb h => ?_)
  refine cf_pop E dX14_all_20 rfl rfl ?_
  exact CF.sub [1, 0] rfl (wy14_all_21 E hlt hlk hx dp hself hR hq N a0 N q_1 s_16 ((((mc - 1) - m_2) - m_7) - m_14) ((((ms - 2) - n_3) - n_8) - n_15) _ _ hb h)
def y14_some_21b (N : Nat) (g : XG) (self : Nat → XS → Nat → Nat → (Nat → XS → Prop) → (String → Nat → XS → Prop) → Prop) (a0 : Nat) (K : Nat → XS → Prop) (KX : String → Nat → XS → Prop)  (rec21 : Nat → XS → Nat → Nat → Prop) (a1 : Nat) (ξ : XS) (mc ms : Nat) : Prop :=
  if isC ξ a0 15 15 = true then (
  bndp (x14_here N g a0 ξ) fun v_2 s_1 =>
  if v_2 = (124 : Int32) then (
    bnop (dI s_1 a0 15 15 2) fun v_3 =>
    bndp (dO s_1 a0) fun ci_5 fs_6 => if (ci_5 = 15 ∧ 2 < fs_6.length) then nx (sXd s_1 a0 (.inr (ci_5, fs_6.set 2 (.int (v_3 + (1 : Int32)))))) (fun s_4 =>
    bnop (dR s_4 a1 18 18 1) fun b_7 =>
    if isC s_4 a0 15 15 = true then (
    bnyx (y14_all N g self a0 s_4) mc ms (fun m_8 n_9 e_12 q_13 s_14 =>
      KX e_12 q_13 s_14) fun m_8 n_9 v_11 s_10 =>
    if isC s_10 b_7 4 4 = true then (
    bny (yj2_add N g b_7 v_11 s_10) (mc - m_8) (ms - n_9) fun m_15 n_16 v_18 s_17 =>
    rec21 a1 s_17 ((mc - m_8) - m_15) ((ms - n_9) - n_16)) else False) else False) else False)
  else (
    K (a1) s_1)) else False
def y14_some_21 (N : Nat) (g : XG) (self : Nat → XS → Nat → Nat → (Nat → XS → Prop) → (String → Nat → XS → Prop) → Prop) (a0 : Nat) (K : Nat → XS → Prop) (KX : String → Nat → XS → Prop)  : Nat → Nat → XS → Nat → Nat → Prop
  | 0 => fun _ _ _ _ => False
  | k + 1 => fun a1 ξ mc ms => y14_some_21b N g self a0 K KX  (y14_some_21 N g self a0 K KX  k) a1 ξ mc ms
def y14_some (N : Nat) (g : XG) (self : Nat → XS → Nat → Nat → (Nat → XS → Prop) → (String → Nat → XS → Prop) → Prop) (a0 : Nat)  (ξ : XS) (mc ms : Nat) (K : Nat → XS → Prop) (KX : String → Nat → XS → Prop) : Prop :=
  mkc ξ 2 mc ms fun q_1 =>
  bnyv (y18_init N g q_1 (0 : Int32) (pXd ξ q_1 (.inr (18, [.int 0, .null])))) (mc - 1) (ms - 2) fun m_2 n_3 s_4 =>
  bnop (dR s_4 q_1 18 18 1) fun b_6 =>
  if isC s_4 a0 15 15 = true then (
  bnyx (y14_all N g self a0 s_4) ((mc - 1) - m_2) ((ms - 2) - n_3) (fun m_7 n_8 e_11 q_12 s_13 =>
    KX e_11 q_12 s_13) fun m_7 n_8 v_10 s_9 =>
  if isC s_9 b_6 4 4 = true then (
  bny (yj2_add N g b_6 v_10 s_9) (((mc - 1) - m_2) - m_7) (((ms - 2) - n_3) - n_8) fun m_14 n_15 v_17 s_16 =>
  y14_some_21 N g self a0 K KX N q_1 s_16 ((((mc - 1) - m_2) - m_7) - m_14) ((((ms - 2) - n_3) - n_8) - n_15)) else False) else False
section XC
variable {p : Program} {l : Launch} {e : Env} {R : Room} {s : State} {m : MethodId} {args : Array Value} {below : List Frame} {meth : Method} {c : Code} {nL cells slots : Nat} {A : Nat → Prop} {g : XG} {ξ : XS} {Q : State → Prop} {pc n : Nat} {lv : List (Nat × Value)} {st : List Value} {cc : ByteArray} {ρ : Type} {res : ρ}
theorem zclX14_99_s (E : EV p s m args c cc nL RX14) (hlt : l.stackTraces = false) {N mc ms : Nat} {dp : Nat} {self : Nat → XS → Nat → Nat → (Nat → XS → Prop) → (String → Nat → XS → Prop) → Prop} (hself : HF l g dp self) {a0 : Nat}   {kx : Nat → Nat → String → Nat → XS → Prop} {kk : Nat → Nat → Nat → XS → Prop} (hR : (13 + 3 * dp) + 1 ≤ R.frames ∧ 8 + (2 + 11) + (522 + 64 * dp) ≤ R.locals) (hcat : (st.map fun v => v.category).sum ≤ 8) (hb : cells + mc ≤ R.cells ∧ slots + ms ≤ R.slots) (d : decode cc pc = .ok (.invokevirtual 99, 3)) (h : if isC ξ a0 15 15 = true then bnyx (y14_all N g self a0 ξ) mc ms kx kk else False) (hn : pc + 3 = n) (kX : ∀ (m1 n1 : Nat) (E9 : String) (q : Nat) (ξ1 : XS), (cells + m1 + (mc - m1) ≤ R.cells ∧ slots + n1 + (ms - n1) ≤ R.slots) → kx m1 n1 E9 q ξ1 → CX p l e R s m args below meth c nL (cells + m1) (slots + n1) (XB g A s ξ1) Q pc lv E9 q) (k : ∀ (m1 n1 : Nat) (v : Nat) (ξ1 : XS), (cells + m1 + (mc - m1) ≤ R.cells ∧ slots + n1 + (ms - n1) ≤ R.slots) → kk m1 n1 v ξ1 → CF p l e R s m args below meth c nL (cells + m1) (slots + n1) (XB g A s ξ1) Q n lv (.ref v :: st)) : CF p l e R s m args below meth c nL cells slots (XB g A s ξ) Q pc lv (.ref a0 :: st) := by
  by_cases hi : ¬ isC ξ a0 15 15 = true
  · rw [if_neg hi] at h; cases h
  have hi : isC ξ a0 15 15 = true := Decidable.not_not.mp hi
  rw [if_pos hi] at h
  obtain ⟨ci, hci, h8, h9⟩ := isC_at hi
  have e9 : ci = 15 := by omega
  subst e9
  obtain ⟨m1, n1, h1, h2, h⟩ := h
  exact zcallV_r (na := 0) E [] (met_y14_all l g N dp hself a0 ξ m1 n1 _ _ hlt h) (C9 := RX14) (lw_V q932 q934 qs14 q116 q935) (by decide +kernel) (xrecv_d (q := (RX14, TX14, 5)) hci rfl) hR rfl rfl hcat ⟨by omega, by omega⟩ d hn (fun v ξ1 hk => k m1 n1 v ξ1 ⟨by omega, by omega⟩ hk) (fun E9 q ξ1 hk => kX m1 n1 E9 q ξ1 ⟨by omega, by omega⟩ hk)
end XC
set_option maxHeartbeats 4000000 in
theorem wy14_some_21b {p : Program} {l : Launch} {e : Env} {R : Room} {s : State} {m : MethodId} {args : Array Value} {below : List Frame} {meth : Method} {c : Code} {A : Nat → Prop} {g : XG} {Q : State → Prop} {K : Nat → XS → Prop} {KX : String → Nat → XS → Prop} (E : EV p s m args c cX14_some 2 RX14) (hlt : l.stackTraces = false) (hlk : meth.locks = false) (hx : ZX p l e R s m args below meth c 2 A g Q KX) (dp : Nat) {self : Nat → XS → Nat → Nat → (Nat → XS → Prop) → (String → Nat → XS → Prop) → Prop} (hself : HF l g dp self) (hR : (14 + 3 * dp) ≤ R.frames ∧ (543 + 64 * dp) ≤ R.locals) (hq : YTr p l e R s m args below meth c cX14_some 2 A g Q K) (N : Nat) (a0 : Nat)   {rec21 : Nat → XS → Nat → Nat → Prop} (ih21 : ∀ (a1 : Nat) (ξ : XS) (mc ms cells slots : Nat), (cells + mc ≤ R.cells ∧ slots + ms ≤ R.slots) → rec21 a1 ξ mc ms → CF p l e R s m args below meth c 2 cells slots (XB g A s ξ) Q 21 [(0, .ref a0), (1, .ref a1)] []) (a1 : Nat) (ξ : XS) (mc ms cells slots : Nat) (hb : cells + mc ≤ R.cells ∧ slots + ms ≤ R.slots) (h : y14_some_21b N g self a0 K KX  rec21 a1 ξ mc ms) : CF p l e R s m args below meth c 2 cells slots (XB g A s ξ) Q 21 [(0, .ref a0), (1, .ref a1)] [] := by
  unfold y14_some_21b at h
  refine cf_aload_n E dX14_some_21 0 rfl rfl ?_
  refine xclX14_34p E ⟨by have := hR.1; omega, by have := hR.2; omega⟩ (Nat.le_of_ble_eq_true rfl) (hb0 hb) dX14_some_22 h rfl (fun v_2 s_1 h => ?_)
  refine cf_bipush E dX14_some_25 bp_124 rfl ?_
  refine cf_icmp_nep E dX14_some_27 h rfl rfl (fun h => ?_) (fun h => ?_)
  · refine cf_aload_n E dX14_some_55 1 rfl rfl ?_
    exact hq _ _ _ _ _ _ (hb0 hb).1 (hb0 hb).2 dX14_some_56 h
  · refine cf_aload_n E dX14_some_30 0 rfl rfl ?_
    refine cf_dup E dX14_some_31 rfl rfl ?_
    refine xdgX14_26p E dX14_some_32 h rfl (fun v_3 h => ?_)
    refine cf_iconst E dX14_some_35 ic_1 rfl ?_
    refine cf_iadd E dX14_some_36 rfl ?_
    refine xdqX14_26 E dX14_some_37 h rfl (fun s_4 h => ?_)
    refine cf_aload_n E dX14_some_40 1 rfl rfl ?_
    refine xdgX14_89p E dX14_some_41 h rfl (fun b_7 h => ?_)
    refine cf_aload_n E dX14_some_44 0 rfl rfl ?_
    refine zclX14_99_s E hlt hself ⟨by have := hR.1; omega, by have := hR.2; omega⟩ (Nat.le_of_ble_eq_true rfl) hb dX14_some_45 h rfl (fun m_8 n_9 e_12 q_13 s_14 hb h => ?_) (fun m_8 n_9 v_11 s_10 hb h => ?_)
    · exact hx _ _ _ _ _ _ _ (hb0 hb).1 (hb0 hb).2 h
    refine yclX14_93 E ⟨by have := hR.1; omega, by have := hR.2; omega⟩ (Nat.le_of_ble_eq_true rfl) hb dX14_some_48 h rfl (fun m_15 n_16 v_18 s_17 hb h => ?_)
    refine cf_pop E dX14_some_51 rfl rfl ?_
    refine cf_goto E dX14_some_52 rfl ?_
    exact CF.sub [0, 1] rfl (ih21 a1 s_17 ((mc - m_8) - m_15) ((ms - n_9) - n_16) _ _ hb h)
set_option maxHeartbeats 4000000 in
theorem wy14_some_21 {p : Program} {l : Launch} {e : Env} {R : Room} {s : State} {m : MethodId} {args : Array Value} {below : List Frame} {meth : Method} {c : Code} {A : Nat → Prop} {g : XG} {Q : State → Prop} {K : Nat → XS → Prop} {KX : String → Nat → XS → Prop} (E : EV p s m args c cX14_some 2 RX14) (hlt : l.stackTraces = false) (hlk : meth.locks = false) (hx : ZX p l e R s m args below meth c 2 A g Q KX) (dp : Nat) {self : Nat → XS → Nat → Nat → (Nat → XS → Prop) → (String → Nat → XS → Prop) → Prop} (hself : HF l g dp self) (hR : (14 + 3 * dp) ≤ R.frames ∧ (543 + 64 * dp) ≤ R.locals) (hq : YTr p l e R s m args below meth c cX14_some 2 A g Q K) (N : Nat) (a0 : Nat)   : ∀ (k : Nat) (a1 : Nat) (ξ : XS) (mc ms cells slots : Nat), (cells + mc ≤ R.cells ∧ slots + ms ≤ R.slots) → y14_some_21 N g self a0 K KX  k a1 ξ mc ms → CF p l e R s m args below meth c 2 cells slots (XB g A s ξ) Q 21 [(0, .ref a0), (1, .ref a1)] [] := by
  intro k
  induction k with
  | zero => intro a1 ξ mc ms cells slots hb h; have h : False := h; cases h
  | succ k ih => intro a1 ξ mc ms cells slots hb h; exact wy14_some_21b E hlt hlk hx dp hself hR hq N a0   ih a1 ξ mc ms cells slots hb h
set_option maxHeartbeats 4000000 in
theorem met_y14_some (l : Launch) (g : XG) (N : Nat) (dp : Nat) {self : Nat → XS → Nat → Nat → (Nat → XS → Prop) → (String → Nat → XS → Prop) → Prop} (hself : HF l g dp self) (a0 : Nat)   (ξ : XS) (mc ms : Nat) (K : Nat → XS → Prop) (KX : String → Nat → XS → Prop) (hlt : l.stackTraces = false) (h : y14_some N g self a0  ξ mc ms K KX) : MetZr l g yX14_some (ws_ yX14_some cX14_some 2 (some (.object "HatsDecide$Test"))) (14 + 3 * dp) (543 + 64 * dp) [.ref a0] ξ mc ms K KX := by
  refine met_zr (Or.inl ⟨_, rfl⟩) (lv0 := [(0, .ref a0)]) (own := RX14) (by decide) rfl (Nat.le_of_ble_eq_true rfl) rfl ?_
  intro p e s m below meth c A Q E hmn hlk hx hq
  have hR : (14 + 3 * dp) ≤ ({ frames := (14 + 3 * dp), cells := mc, slots := ms, locals := (543 + 64 * dp) } : Room).frames ∧ (543 + 64 * dp) ≤ ({ frames := (14 + 3 * dp), cells := mc, slots := ms, locals := (543 + 64 * dp) } : Room).locals := ⟨Nat.le_refl _, Nat.le_refl _⟩
  have hb : 0 + mc ≤ ({ frames := (14 + 3 * dp), cells := mc, slots := ms, locals := (543 + 64 * dp) } : Room).cells ∧ 0 + ms ≤ ({ frames := (14 + 3 * dp), cells := mc, slots := ms, locals := (543 + 64 * dp) } : Room).slots := ⟨Nat.le_of_eq (Nat.zero_add _), Nat.le_of_eq (Nat.zero_add _)⟩
  unfold y14_some at h
  refine xnwX14_84 E hb dX14_some_0 h rfl (fun q_1 hb h => ?_)
  refine cf_dup E dX14_some_3 rfl rfl ?_
  refine cf_iconst E dX14_some_4 ic_0 rfl ?_
  refine yclX14_86 E ⟨by have := hR.1; omega, by have := hR.2; omega⟩ (Nat.le_of_ble_eq_true rfl) hb dX14_some_5 h rfl (fun m_2 n_3 s_4 hb h => ?_)
  refine cf_astore_n E dX14_some_8 [(1, .ref q_1), (0, .ref a0)] (Nat.le_of_ble_eq_true rfl) rfl rfl ?_
  refine cf_aload_n E dX14_some_9 0 rfl rfl ?_
  refine xdgX14_89p E dX14_some_10 h rfl (fun b_6 h => ?_)
  refine cf_aload_n E dX14_some_13 1 rfl rfl ?_
  refine zclX14_99_s E hlt hself ⟨by have := hR.1; omega, by have := hR.2; omega⟩ (Nat.le_of_ble_eq_true rfl) hb dX14_some_14 h rfl (fun m_7 n_8 e_11 q_12 s_13 hb h => ?_) (fun m_7 n_8 v_10 s_9 hb h => ?_)
  · exact hx _ _ _ _ _ _ _ (hb0 hb).1 (hb0 hb).2 h
  refine yclX14_93 E ⟨by have := hR.1; omega, by have := hR.2; omega⟩ (Nat.le_of_ble_eq_true rfl) hb dX14_some_17 h rfl (fun m_14 n_15 v_17 s_16 hb h => ?_)
  refine cf_pop E dX14_some_20 rfl rfl ?_
  exact CF.sub [1, 0] rfl (wy14_some_21 E hlt hlk hx dp hself hR hq N a0 N q_1 s_16 ((((mc - 1) - m_2) - m_7) - m_14) ((((ms - 2) - n_3) - n_8) - n_15) _ _ hb h)
def y14_factor_180 (N : Nat) (g : XG) (self : Nat → XS → Nat → Nat → (Nat → XS → Prop) → (String → Nat → XS → Prop) → Prop) (a0 : Nat) (K : Nat → XS → Prop) (KX : String → Nat → XS → Prop)  (x1 : Int32) (x2 : Int32) (ξ : XS) (mc ms : Nat) : Prop :=
  bnop (dI ξ a0 15 15 2) fun v_1 =>
  bndp (dO ξ a0) fun ci_3 fs_4 => if (ci_3 = 15 ∧ 2 < fs_4.length) then nx (sXd ξ a0 (.inr (ci_3, fs_4.set 2 (.int (v_1 + (1 : Int32)))))) (fun s_2 =>
  mkc s_2 3 mc ms fun q_5 =>
  if isC (pXd s_2 q_5 (.inr (20, [.int 0, .int 0, .int 0]))) a0 15 15 = true then (
  bnyx (y14_number N g a0 (pXd s_2 q_5 (.inr (20, [.int 0, .int 0, .int 0])))) (mc - 1) (ms - 3) (fun m_6 n_7 e_10 q_11 s_12 =>
    KX e_10 q_11 s_12) fun m_6 n_7 v_9 s_8 =>
  bnyv (y20_init N g q_5 x1 x2 v_9 s_8) ((mc - 1) - m_6) ((ms - 3) - n_7) fun m_13 n_14 s_15 =>
  K (q_5) s_15) else False) else False
def y14_factor_s (N : Nat) (g : XG) (self : Nat → XS → Nat → Nat → (Nat → XS → Prop) → (String → Nat → XS → Prop) → Prop) (a0 : Nat)  (ξ : XS) (mc ms : Nat) (K : Nat → XS → Prop) (KX : String → Nat → XS → Prop) : Prop :=
  if isC ξ a0 15 15 = true then (
  bndp (x14_here N g a0 ξ) fun v_2 s_1 =>
  if v_2 = (33 : Int32) then (
    if isC s_1 a0 15 15 = true then (
    bnyvx (y14_deeper N g a0 s_1) mc ms (fun m_4 n_5 e_8 q_9 s_10 =>
      KX e_8 q_9 s_10) fun m_4 n_5 s_6 =>
    mkc s_6 1 (mc - m_4) (ms - n_5) fun q_11 =>
    if isC (pXd s_6 q_11 (.inr (19, [.null]))) a0 15 15 = true then (
    bnyx (self a0 (pXd s_6 q_11 (.inr (19, [.null])))) ((mc - m_4) - 1) ((ms - n_5) - 1) (fun m_12 n_13 e_16 q_17 s_18 =>
      KX e_16 q_17 s_18) fun m_12 n_13 v_15 s_14 =>
    bnyv (y19_init N g q_11 v_15 s_14) (((mc - m_4) - 1) - m_12) (((ms - n_5) - 1) - n_13) fun m_19 n_20 s_21 =>
    bnop (dI s_21 a0 15 15 3) fun v_23 =>
    bndp (dO s_21 a0) fun ci_25 fs_26 => if (ci_25 = 15 ∧ 3 < fs_26.length) then nx (sXd s_21 a0 (.inr (ci_25, fs_26.set 3 (.int (v_23 - (1 : Int32)))))) (fun s_24 =>
    K (q_11) s_24) else False) else False) else False)
  else
  if v_2 = (40 : Int32) then (
    if isC s_1 a0 15 15 = true then (
    bnyvx (y14_deeper N g a0 s_1) mc ms (fun m_28 n_29 e_32 q_33 s_34 =>
      KX e_32 q_33 s_34) fun m_28 n_29 s_30 =>
    if isC s_30 a0 15 15 = true then (
    bnyx (y14_some N g self a0 s_30) (mc - m_28) (ms - n_29) (fun m_35 n_36 e_39 q_40 s_41 =>
      KX e_39 q_40 s_41) fun m_35 n_36 v_38 s_37 =>
    if isC s_37 a0 15 15 = true then (
    bnyvx (y14_must N g a0 (41 : Int32) s_37) ((mc - m_28) - m_35) ((ms - n_29) - n_36) (fun m_42 n_43 e_46 q_47 s_48 =>
      KX e_46 q_47 s_48) fun m_42 n_43 s_44 =>
    bnop (dI s_44 a0 15 15 3) fun v_49 =>
    bndp (dO s_44 a0) fun ci_51 fs_52 => if (ci_51 = 15 ∧ 3 < fs_52.length) then nx (sXd s_44 a0 (.inr (ci_51, fs_52.set 3 (.int (v_49 - (1 : Int32)))))) (fun s_50 =>
    K (v_38) s_50) else False) else False) else False) else False)
  else
  if v_2 = (97 : Int32) then (
    if dRs s_1 a0 [15] 0 = some (xa g 108) then (
    bnop (dI s_1 a0 15 15 2) fun v_54 =>
    bndp (dO s_1 a0) fun ci_56 fs_57 => if (ci_56 = 15 ∧ 2 < fs_57.length) then nx (sXd s_1 a0 (.inr (ci_56, fs_57.set 2 (.int (v_54 + (1 : Int32)))))) (fun s_55 =>
    if inb v_54 100 = true then (
    nx ((xR s_55 8 v_54.toNatClampNeg) : Int32) fun x1_58 =>
    if isC s_55 a0 15 15 = true then (
    bndp (x14_here N g a0 s_55) fun v_60 s_59 =>
    nx (v_60 : Int32) fun x2_61 =>
    if x2_61 = (60 : Int32) then (
      y14_factor_180 N g self a0 K KX x1_58 x2_61 s_59 mc ms)
    else (
      if x2_61 = (61 : Int32) then (
        y14_factor_180 N g self a0 K KX x1_58 x2_61 s_59 mc ms)
      else (
        if x2_61 = (62 : Int32) then (
          y14_factor_180 N g self a0 K KX x1_58 x2_61 s_59 mc ms)
        else (
          if isC s_59 a0 15 15 = true then (
          bnyx (y14_off N g a0 s_59) mc ms (fun m_62 n_63 e_66 q_67 s_68 =>
            KX e_66 q_67 s_68) fun m_62 n_63 v_65 s_64 =>
          if isC s_64 v_65 16 16 = true then (
          KX "HatsDecide$Off" v_65 s_64) else False) else False)))) else False) else False) else False) else False)
  else
  if v_2 = (100 : Int32) then (
    if dRs s_1 a0 [15] 0 = some (xa g 108) then (
    bnop (dI s_1 a0 15 15 2) fun v_70 =>
    bndp (dO s_1 a0) fun ci_72 fs_73 => if (ci_72 = 15 ∧ 2 < fs_73.length) then nx (sXd s_1 a0 (.inr (ci_72, fs_73.set 2 (.int (v_70 + (1 : Int32)))))) (fun s_71 =>
    if inb v_70 100 = true then (
    nx ((xR s_71 8 v_70.toNatClampNeg) : Int32) fun x1_74 =>
    if isC s_71 a0 15 15 = true then (
    bndp (x14_here N g a0 s_71) fun v_76 s_75 =>
    nx (v_76 : Int32) fun x2_77 =>
    if x2_77 = (60 : Int32) then (
      y14_factor_180 N g self a0 K KX x1_74 x2_77 s_75 mc ms)
    else (
      if x2_77 = (61 : Int32) then (
        y14_factor_180 N g self a0 K KX x1_74 x2_77 s_75 mc ms)
      else (
        if x2_77 = (62 : Int32) then (
          y14_factor_180 N g self a0 K KX x1_74 x2_77 s_75 mc ms)
        else (
          if isC s_75 a0 15 15 = true then (
          bnyx (y14_off N g a0 s_75) mc ms (fun m_78 n_79 e_82 q_83 s_84 =>
            KX e_82 q_83 s_84) fun m_78 n_79 v_81 s_80 =>
          if isC s_80 v_81 16 16 = true then (
          KX "HatsDecide$Off" v_81 s_80) else False) else False)))) else False) else False) else False) else False)
  else
  if v_2 = (101 : Int32) then (
    if dRs s_1 a0 [15] 0 = some (xa g 108) then (
    bnop (dI s_1 a0 15 15 2) fun v_86 =>
    bndp (dO s_1 a0) fun ci_88 fs_89 => if (ci_88 = 15 ∧ 2 < fs_89.length) then nx (sXd s_1 a0 (.inr (ci_88, fs_89.set 2 (.int (v_86 + (1 : Int32)))))) (fun s_87 =>
    if inb v_86 100 = true then (
    nx ((xR s_87 8 v_86.toNatClampNeg) : Int32) fun x1_90 =>
    if isC s_87 a0 15 15 = true then (
    bndp (x14_here N g a0 s_87) fun v_92 s_91 =>
    nx (v_92 : Int32) fun x2_93 =>
    if x2_93 = (60 : Int32) then (
      y14_factor_180 N g self a0 K KX x1_90 x2_93 s_91 mc ms)
    else (
      if x2_93 = (61 : Int32) then (
        y14_factor_180 N g self a0 K KX x1_90 x2_93 s_91 mc ms)
      else (
        if x2_93 = (62 : Int32) then (
          y14_factor_180 N g self a0 K KX x1_90 x2_93 s_91 mc ms)
        else (
          if isC s_91 a0 15 15 = true then (
          bnyx (y14_off N g a0 s_91) mc ms (fun m_94 n_95 e_98 q_99 s_100 =>
            KX e_98 q_99 s_100) fun m_94 n_95 v_97 s_96 =>
          if isC s_96 v_97 16 16 = true then (
          KX "HatsDecide$Off" v_97 s_96) else False) else False)))) else False) else False) else False) else False)
  else
  if v_2 = (107 : Int32) then (
    if dRs s_1 a0 [15] 0 = some (xa g 108) then (
    bnop (dI s_1 a0 15 15 2) fun v_102 =>
    bndp (dO s_1 a0) fun ci_104 fs_105 => if (ci_104 = 15 ∧ 2 < fs_105.length) then nx (sXd s_1 a0 (.inr (ci_104, fs_105.set 2 (.int (v_102 + (1 : Int32)))))) (fun s_103 =>
    if inb v_102 100 = true then (
    nx ((xR s_103 8 v_102.toNatClampNeg) : Int32) fun x1_106 =>
    if isC s_103 a0 15 15 = true then (
    bndp (x14_here N g a0 s_103) fun v_108 s_107 =>
    nx (v_108 : Int32) fun x2_109 =>
    if x2_109 = (60 : Int32) then (
      y14_factor_180 N g self a0 K KX x1_106 x2_109 s_107 mc ms)
    else (
      if x2_109 = (61 : Int32) then (
        y14_factor_180 N g self a0 K KX x1_106 x2_109 s_107 mc ms)
      else (
        if x2_109 = (62 : Int32) then (
          y14_factor_180 N g self a0 K KX x1_106 x2_109 s_107 mc ms)
        else (
          if isC s_107 a0 15 15 = true then (
          bnyx (y14_off N g a0 s_107) mc ms (fun m_110 n_111 e_114 q_115 s_116 =>
            KX e_114 q_115 s_116) fun m_110 n_111 v_113 s_112 =>
          if isC s_112 v_113 16 16 = true then (
          KX "HatsDecide$Off" v_113 s_112) else False) else False)))) else False) else False) else False) else False)
  else
  if v_2 = (116 : Int32) then (
    if dRs s_1 a0 [15] 0 = some (xa g 108) then (
    bnop (dI s_1 a0 15 15 2) fun v_118 =>
    bndp (dO s_1 a0) fun ci_120 fs_121 => if (ci_120 = 15 ∧ 2 < fs_121.length) then nx (sXd s_1 a0 (.inr (ci_120, fs_121.set 2 (.int (v_118 + (1 : Int32)))))) (fun s_119 =>
    if inb v_118 100 = true then (
    nx ((xR s_119 8 v_118.toNatClampNeg) : Int32) fun x1_122 =>
    if isC s_119 a0 15 15 = true then (
    bndp (x14_here N g a0 s_119) fun v_124 s_123 =>
    nx (v_124 : Int32) fun x2_125 =>
    if x2_125 = (60 : Int32) then (
      y14_factor_180 N g self a0 K KX x1_122 x2_125 s_123 mc ms)
    else (
      if x2_125 = (61 : Int32) then (
        y14_factor_180 N g self a0 K KX x1_122 x2_125 s_123 mc ms)
      else (
        if x2_125 = (62 : Int32) then (
          y14_factor_180 N g self a0 K KX x1_122 x2_125 s_123 mc ms)
        else (
          if isC s_123 a0 15 15 = true then (
          bnyx (y14_off N g a0 s_123) mc ms (fun m_126 n_127 e_130 q_131 s_132 =>
            KX e_130 q_131 s_132) fun m_126 n_127 v_129 s_128 =>
          if isC s_128 v_129 16 16 = true then (
          KX "HatsDecide$Off" v_129 s_128) else False) else False)))) else False) else False) else False) else False)
  else
  if v_2 = (117 : Int32) then (
    if dRs s_1 a0 [15] 0 = some (xa g 108) then (
    bnop (dI s_1 a0 15 15 2) fun v_134 =>
    bndp (dO s_1 a0) fun ci_136 fs_137 => if (ci_136 = 15 ∧ 2 < fs_137.length) then nx (sXd s_1 a0 (.inr (ci_136, fs_137.set 2 (.int (v_134 + (1 : Int32)))))) (fun s_135 =>
    if inb v_134 100 = true then (
    nx ((xR s_135 8 v_134.toNatClampNeg) : Int32) fun x1_138 =>
    if isC s_135 a0 15 15 = true then (
    bndp (x14_here N g a0 s_135) fun v_140 s_139 =>
    nx (v_140 : Int32) fun x2_141 =>
    if x2_141 = (60 : Int32) then (
      y14_factor_180 N g self a0 K KX x1_138 x2_141 s_139 mc ms)
    else (
      if x2_141 = (61 : Int32) then (
        y14_factor_180 N g self a0 K KX x1_138 x2_141 s_139 mc ms)
      else (
        if x2_141 = (62 : Int32) then (
          y14_factor_180 N g self a0 K KX x1_138 x2_141 s_139 mc ms)
        else (
          if isC s_139 a0 15 15 = true then (
          bnyx (y14_off N g a0 s_139) mc ms (fun m_142 n_143 e_146 q_147 s_148 =>
            KX e_146 q_147 s_148) fun m_142 n_143 v_145 s_144 =>
          if isC s_144 v_145 16 16 = true then (
          KX "HatsDecide$Off" v_145 s_144) else False) else False)))) else False) else False) else False) else False)
  else
  if isC s_1 a0 15 15 = true then (
  bnyx (y14_off N g a0 s_1) mc ms (fun m_149 n_150 e_153 q_154 s_155 =>
    KX e_153 q_154 s_155) fun m_149 n_150 v_152 s_151 =>
  if isC s_151 v_152 16 16 = true then (
  KX "HatsDecide$Off" v_152 s_151) else False) else False) else False
section XC
variable {p : Program} {l : Launch} {e : Env} {R : Room} {s : State} {m : MethodId} {args : Array Value} {below : List Frame} {meth : Method} {c : Code} {nL cells slots : Nat} {A : Nat → Prop} {g : XG} {ξ : XS} {Q : State → Prop} {pc n : Nat} {lv : List (Nat × Value)} {st : List Value} {cc : ByteArray} {ρ : Type} {res : ρ}
theorem zclX14_78 (E : EV p s m args c cc nL RX14) (hlt : l.stackTraces = false) {N mc ms : Nat} {a0 : Nat}   {kx : Nat → Nat → String → Nat → XS → Prop} {kk : Nat → Nat → Int32 → XS → Prop} (hR : 8 ≤ R.frames ∧ 163 ≤ R.locals) (hcat : (st.map fun v => v.category).sum ≤ 8) (hb : cells + mc ≤ R.cells ∧ slots + ms ≤ R.slots) (d : decode cc pc = .ok (.invokevirtual 78, 3)) (h : if isC ξ a0 15 15 = true then bnyx (y14_number N g a0  ξ) mc ms kx kk else False) (hn : pc + 3 = n) (kX : ∀ (m1 n1 : Nat) (E9 : String) (q : Nat) (ξ1 : XS), (cells + m1 + (mc - m1) ≤ R.cells ∧ slots + n1 + (ms - n1) ≤ R.slots) → kx m1 n1 E9 q ξ1 → CX p l e R s m args below meth c nL (cells + m1) (slots + n1) (XB g A s ξ1) Q pc lv E9 q) (k : ∀ (m1 n1 : Nat) (v : Int32) (ξ1 : XS), (cells + m1 + (mc - m1) ≤ R.cells ∧ slots + n1 + (ms - n1) ≤ R.slots) → kk m1 n1 v ξ1 → CF p l e R s m args below meth c nL (cells + m1) (slots + n1) (XB g A s ξ1) Q n lv (.int v :: st)) : CF p l e R s m args below meth c nL cells slots (XB g A s ξ) Q pc lv (.ref a0 :: st) := by
  by_cases hi : ¬ isC ξ a0 15 15 = true
  · rw [if_neg hi] at h; cases h
  have hi : isC ξ a0 15 15 = true := Decidable.not_not.mp hi
  rw [if_pos hi] at h
  obtain ⟨ci, hci, h8, h9⟩ := isC_at hi
  have e9 : ci = 15 := by omega
  subst e9
  obtain ⟨m1, n1, h1, h2, h⟩ := h
  exact zcallV_i (na := 0) E [] (met_y14_number l g N a0   ξ m1 n1 _ _ hlt h) (C9 := RX14) (lw_V q902 q904 qs12 q116 q905) (by decide +kernel) (xrecv_d (q := (RX14, TX14, 5)) hci rfl) hR rfl rfl hcat ⟨by omega, by omega⟩ d hn (fun v ξ1 hk => k m1 n1 v ξ1 ⟨by omega, by omega⟩ hk) (fun E9 q ξ1 hk => kX m1 n1 E9 q ξ1 ⟨by omega, by omega⟩ hk)
theorem yclX14_81 (E : EV p s m args c cc nL RX14) {N mc ms : Nat} {a0 : Nat}  {x1 : Int32} {x2 : Int32} {x3 : Int32} {kk : Nat → Nat → XS → Prop} (hR : 3 ≤ R.frames ∧ 83 ≤ R.locals) (hcat : (st.map fun v => v.category).sum ≤ 8) (hb : cells + mc ≤ R.cells ∧ slots + ms ≤ R.slots) (d : decode cc pc = .ok (.invokespecial 81, 3)) (h : bnyv (y20_init N g a0 x1 x2 x3 ξ) mc ms kk) (hn : pc + 3 = n) (k : ∀ (m1 n1 : Nat) (ξ1 : XS), (cells + m1 + (mc - m1) ≤ R.cells ∧ slots + n1 + (ms - n1) ≤ R.slots) → kk m1 n1 ξ1 → CF p l e R s m args below meth c nL (cells + m1) (slots + n1) (XB g A s ξ1) Q n lv st) : CF p l e R s m args below meth c nL cells slots (XB g A s ξ) Q pc lv (.int x3 :: .int x2 :: .int x1 :: .ref a0 :: st) := by
  obtain ⟨m1, n1, h1, h2, h⟩ := h
  exact ycallI_v (na := 3) E [.int x1, .int x2, .int x3] (met_y20_init l g N a0  x1 x2 x3 ξ m1 n1 _ h) (lw_meth q958) q128 q956 q957 (by decide +kernel) hR rfl rfl hcat ⟨by omega, by omega⟩ d hn (fun ξ1 hk => k m1 n1 ξ1 ⟨by omega, by omega⟩ hk)
theorem zclX14_61 (E : EV p s m args c cc nL RX14) (hlt : l.stackTraces = false) {N mc ms : Nat} {a0 : Nat}   {kx : Nat → Nat → String → Nat → XS → Prop} {kk : Nat → Nat → XS → Prop} (hR : 8 ≤ R.frames ∧ 161 ≤ R.locals) (hcat : (st.map fun v => v.category).sum ≤ 8) (hb : cells + mc ≤ R.cells ∧ slots + ms ≤ R.slots) (d : decode cc pc = .ok (.invokevirtual 61, 3)) (h : if isC ξ a0 15 15 = true then bnyvx (y14_deeper N g a0  ξ) mc ms kx kk else False) (hn : pc + 3 = n) (kX : ∀ (m1 n1 : Nat) (E9 : String) (q : Nat) (ξ1 : XS), (cells + m1 + (mc - m1) ≤ R.cells ∧ slots + n1 + (ms - n1) ≤ R.slots) → kx m1 n1 E9 q ξ1 → CX p l e R s m args below meth c nL (cells + m1) (slots + n1) (XB g A s ξ1) Q pc lv E9 q) (k : ∀ (m1 n1 : Nat) (ξ1 : XS), (cells + m1 + (mc - m1) ≤ R.cells ∧ slots + n1 + (ms - n1) ≤ R.slots) → kk m1 n1 ξ1 → CF p l e R s m args below meth c nL (cells + m1) (slots + n1) (XB g A s ξ1) Q n lv st) : CF p l e R s m args below meth c nL cells slots (XB g A s ξ) Q pc lv (.ref a0 :: st) := by
  by_cases hi : ¬ isC ξ a0 15 15 = true
  · rw [if_neg hi] at h; cases h
  have hi : isC ξ a0 15 15 = true := Decidable.not_not.mp hi
  rw [if_pos hi] at h
  obtain ⟨ci, hci, h8, h9⟩ := isC_at hi
  have e9 : ci = 15 := by omega
  subst e9
  obtain ⟨m1, n1, h1, h2, h⟩ := h
  exact zcallV_v (na := 0) E [] (met_y14_deeper l g N a0   ξ m1 n1 _ _ hlt h) (C9 := RX14) (lw_V q940 q942 qs16 q116 q943) (by decide +kernel) (xrecv_d (q := (RX14, TX14, 5)) hci rfl) hR rfl rfl hcat ⟨by omega, by omega⟩ d hn (fun ξ1 hk => k m1 n1 ξ1 ⟨by omega, by omega⟩ hk) (fun E9 q ξ1 hk => kX m1 n1 E9 q ξ1 ⟨by omega, by omega⟩ hk)
theorem yclX14_70 (E : EV p s m args c cc nL RX14) {N mc ms : Nat} {a0 : Nat}  {x1 : Nat} {kk : Nat → Nat → XS → Prop} (hR : 3 ≤ R.frames ∧ 81 ≤ R.locals) (hcat : (st.map fun v => v.category).sum ≤ 8) (hb : cells + mc ≤ R.cells ∧ slots + ms ≤ R.slots) (d : decode cc pc = .ok (.invokespecial 70, 3)) (h : bnyv (y19_init N g a0 x1 ξ) mc ms kk) (hn : pc + 3 = n) (k : ∀ (m1 n1 : Nat) (ξ1 : XS), (cells + m1 + (mc - m1) ≤ R.cells ∧ slots + n1 + (ms - n1) ≤ R.slots) → kk m1 n1 ξ1 → CF p l e R s m args below meth c nL (cells + m1) (slots + n1) (XB g A s ξ1) Q n lv st) : CF p l e R s m args below meth c nL cells slots (XB g A s ξ) Q pc lv (.ref x1 :: .ref a0 :: st) := by
  obtain ⟨m1, n1, h1, h2, h⟩ := h
  exact ycallI_v (na := 1) E [.ref x1] (met_y19_init l g N a0  x1 ξ m1 n1 _ h) (lw_meth q948) q127 q946 q947 (by decide +kernel) hR rfl rfl hcat ⟨by omega, by omega⟩ d hn (fun ξ1 hk => k m1 n1 ξ1 ⟨by omega, by omega⟩ hk)
theorem zclX14_73_s (E : EV p s m args c cc nL RX14) (hlt : l.stackTraces = false) {N mc ms : Nat} {dp : Nat} {self : Nat → XS → Nat → Nat → (Nat → XS → Prop) → (String → Nat → XS → Prop) → Prop} (hself : HF l g dp self) {a0 : Nat}   {kx : Nat → Nat → String → Nat → XS → Prop} {kk : Nat → Nat → Nat → XS → Prop} (hR : (14 + 3 * dp) + 1 ≤ R.frames ∧ 8 + (2 + 11) + (543 + 64 * dp) ≤ R.locals) (hcat : (st.map fun v => v.category).sum ≤ 8) (hb : cells + mc ≤ R.cells ∧ slots + ms ≤ R.slots) (d : decode cc pc = .ok (.invokevirtual 73, 3)) (h : if isC ξ a0 15 15 = true then bnyx (y14_some N g self a0 ξ) mc ms kx kk else False) (hn : pc + 3 = n) (kX : ∀ (m1 n1 : Nat) (E9 : String) (q : Nat) (ξ1 : XS), (cells + m1 + (mc - m1) ≤ R.cells ∧ slots + n1 + (ms - n1) ≤ R.slots) → kx m1 n1 E9 q ξ1 → CX p l e R s m args below meth c nL (cells + m1) (slots + n1) (XB g A s ξ1) Q pc lv E9 q) (k : ∀ (m1 n1 : Nat) (v : Nat) (ξ1 : XS), (cells + m1 + (mc - m1) ≤ R.cells ∧ slots + n1 + (ms - n1) ≤ R.slots) → kk m1 n1 v ξ1 → CF p l e R s m args below meth c nL (cells + m1) (slots + n1) (XB g A s ξ1) Q n lv (.ref v :: st)) : CF p l e R s m args below meth c nL cells slots (XB g A s ξ) Q pc lv (.ref a0 :: st) := by
  by_cases hi : ¬ isC ξ a0 15 15 = true
  · rw [if_neg hi] at h; cases h
  have hi : isC ξ a0 15 15 = true := Decidable.not_not.mp hi
  rw [if_pos hi] at h
  obtain ⟨ci, hci, h8, h9⟩ := isC_at hi
  have e9 : ci = 15 := by omega
  subst e9
  obtain ⟨m1, n1, h1, h2, h⟩ := h
  exact zcallV_r (na := 0) E [] (met_y14_some l g N dp hself a0 ξ m1 n1 _ _ hlt h) (C9 := RX14) (lw_V q909 q911 qs13 q116 q912) (by decide +kernel) (xrecv_d (q := (RX14, TX14, 5)) hci rfl) hR rfl rfl hcat ⟨by omega, by omega⟩ d hn (fun v ξ1 hk => k m1 n1 v ξ1 ⟨by omega, by omega⟩ hk) (fun E9 q ξ1 hk => kX m1 n1 E9 q ξ1 ⟨by omega, by omega⟩ hk)
end XC
set_option maxHeartbeats 4000000 in
theorem wy14_factor_180 {p : Program} {l : Launch} {e : Env} {R : Room} {s : State} {m : MethodId} {args : Array Value} {below : List Frame} {meth : Method} {c : Code} {A : Nat → Prop} {g : XG} {Q : State → Prop} {K : Nat → XS → Prop} {KX : String → Nat → XS → Prop} (E : EV p s m args c cX14_factor 3 RX14) (hlt : l.stackTraces = false) (hlk : meth.locks = false) (hx : ZX p l e R s m args below meth c 3 A g Q KX) (dp : Nat) {self : Nat → XS → Nat → Nat → (Nat → XS → Prop) → (String → Nat → XS → Prop) → Prop} (hself : HF l g dp self) (hR : (15 + 3 * dp) ≤ R.frames ∧ (564 + 64 * dp) ≤ R.locals) (hq : YTr p l e R s m args below meth c cX14_factor 3 A g Q K) (N : Nat) (a0 : Nat)   (x1 : Int32) (x2 : Int32) (ξ : XS) (mc ms cells slots : Nat) (hb : cells + mc ≤ R.cells ∧ slots + ms ≤ R.slots) (h : y14_factor_180 N g self a0 K KX  x1 x2 ξ mc ms) : CF p l e R s m args below meth c 3 cells slots (XB g A s ξ) Q 180 [(0, .ref a0), (1, .int x1), (2, .int x2)] [] := by
  unfold y14_factor_180 at h
  refine cf_aload_n E dX14_factor_180 0 rfl rfl ?_
  refine cf_dup E dX14_factor_181 rfl rfl ?_
  refine xdgX14_26p E dX14_factor_182 h rfl (fun v_1 h => ?_)
  refine cf_iconst E dX14_factor_185 ic_1 rfl ?_
  refine cf_iadd E dX14_factor_186 rfl ?_
  refine xdqX14_26 E dX14_factor_187 h rfl (fun s_2 h => ?_)
  refine xnwX14_76 E hb dX14_factor_190 h rfl (fun q_5 hb h => ?_)
  refine cf_dup E dX14_factor_193 rfl rfl ?_
  refine cf_iload_n E dX14_factor_194 1 rfl rfl ?_
  refine cf_iload_n E dX14_factor_195 2 rfl rfl ?_
  refine cf_aload_n E dX14_factor_196 0 rfl rfl ?_
  refine zclX14_78 E hlt ⟨by have := hR.1; omega, by have := hR.2; omega⟩ (Nat.le_of_ble_eq_true rfl) hb dX14_factor_197 h rfl (fun m_6 n_7 e_10 q_11 s_12 hb h => ?_) (fun m_6 n_7 v_9 s_8 hb h => ?_)
  · exact hx _ _ _ _ _ _ _ (hb0 hb).1 (hb0 hb).2 h
  refine yclX14_81 E ⟨by have := hR.1; omega, by have := hR.2; omega⟩ (Nat.le_of_ble_eq_true rfl) hb dX14_factor_200 h rfl (fun m_13 n_14 s_15 hb h => ?_)
  exact hq _ _ _ _ _ _ (hb0 hb).1 (hb0 hb).2 dX14_factor_203 h
set_option maxHeartbeats 4000000 in
theorem met_y14_factor_s (l : Launch) (g : XG) (N : Nat) (dp : Nat) {self : Nat → XS → Nat → Nat → (Nat → XS → Prop) → (String → Nat → XS → Prop) → Prop} (hself : HF l g dp self) (a0 : Nat)   (ξ : XS) (mc ms : Nat) (K : Nat → XS → Prop) (KX : String → Nat → XS → Prop) (hlt : l.stackTraces = false) (h : y14_factor_s N g self a0  ξ mc ms K KX) : MetZr l g yX14_factor (ws_ yX14_factor cX14_factor 3 (some (.object "HatsDecide$Test"))) (15 + 3 * dp) (564 + 64 * dp) [.ref a0] ξ mc ms K KX := by
  refine met_zr (Or.inl ⟨_, rfl⟩) (lv0 := [(0, .ref a0)]) (own := RX14) (by decide) rfl (Nat.le_of_ble_eq_true rfl) rfl ?_
  intro p e s m below meth c A Q E hmn hlk hx hq
  have hR : (15 + 3 * dp) ≤ ({ frames := (15 + 3 * dp), cells := mc, slots := ms, locals := (564 + 64 * dp) } : Room).frames ∧ (564 + 64 * dp) ≤ ({ frames := (15 + 3 * dp), cells := mc, slots := ms, locals := (564 + 64 * dp) } : Room).locals := ⟨Nat.le_refl _, Nat.le_refl _⟩
  have hb : 0 + mc ≤ ({ frames := (15 + 3 * dp), cells := mc, slots := ms, locals := (564 + 64 * dp) } : Room).cells ∧ 0 + ms ≤ ({ frames := (15 + 3 * dp), cells := mc, slots := ms, locals := (564 + 64 * dp) } : Room).slots := ⟨Nat.le_of_eq (Nat.zero_add _), Nat.le_of_eq (Nat.zero_add _)⟩
  unfold y14_factor_s at h
  refine cf_aload_n E dX14_factor_0 0 rfl rfl ?_
  refine xclX14_34p E ⟨by have := hR.1; omega, by have := hR.2; omega⟩ (Nat.le_of_ble_eq_true rfl) (hb0 hb) dX14_factor_1 h rfl (fun v_2 s_1 h => ?_)
  by_cases hx_3 : v_2 = (33 : Int32)
  · rw [if_pos hx_3] at h
    refine cf_look E dX14_factor_4 (by decide) (by rw [i32_eqZ (z := 33) hx_3 (by decide)]) rfl ?_
    refine cf_aload_n E dX14_factor_80 0 rfl rfl ?_
    refine zclX14_61 E hlt ⟨by have := hR.1; omega, by have := hR.2; omega⟩ (Nat.le_of_ble_eq_true rfl) hb dX14_factor_81 h rfl (fun m_4 n_5 e_8 q_9 s_10 hb h => ?_) (fun m_4 n_5 s_6 hb h => ?_)
    · exact hx _ _ _ _ _ _ _ (hb0 hb).1 (hb0 hb).2 h
    refine xnwX14_64 E hb dX14_factor_84 h rfl (fun q_11 hb h => ?_)
    refine cf_dup E dX14_factor_87 rfl rfl ?_
    refine cf_aload_n E dX14_factor_88 0 rfl rfl ?_
    refine zclX14_66_s E hlt hself ⟨by have := hR.1; omega, by have := hR.2; omega⟩ (Nat.le_of_ble_eq_true rfl) hb dX14_factor_89 h rfl (fun m_12 n_13 e_16 q_17 s_18 hb h => ?_) (fun m_12 n_13 v_15 s_14 hb h => ?_)
    · exact hx _ _ _ _ _ _ _ (hb0 hb).1 (hb0 hb).2 h
    refine yclX14_70 E ⟨by have := hR.1; omega, by have := hR.2; omega⟩ (Nat.le_of_ble_eq_true rfl) hb dX14_factor_92 h rfl (fun m_19 n_20 s_21 hb h => ?_)
    refine cf_astore_n E dX14_factor_95 [(1, .ref q_11), (0, .ref a0)] (Nat.le_of_ble_eq_true rfl) rfl rfl ?_
    refine cf_aload_n E dX14_factor_96 1 rfl rfl ?_
    refine cf_dup E dX14_factor_97 rfl rfl ?_
    refine xdgX14_58p E dX14_factor_98 h rfl (fun v_23 h => ?_)
    refine cf_iconst E dX14_factor_101 ic_1 rfl ?_
    refine cf_isub E dX14_factor_102 rfl ?_
    refine xdqX14_58 E dX14_factor_103 h rfl (fun s_24 h => ?_)
    refine cf_aload_n E dX14_factor_106 0 rfl rfl ?_
    exact hq _ _ _ _ _ _ (hb0 hb).1 (hb0 hb).2 dX14_factor_107 h
  rw [if_neg hx_3] at h
  by_cases hx_27 : v_2 = (40 : Int32)
  · rw [if_pos hx_27] at h
    refine cf_look E dX14_factor_4 (by decide) (by rw [i32_eqZ (z := 40) hx_27 (by decide)]) rfl ?_
    refine cf_aload_n E dX14_factor_108 0 rfl rfl ?_
    refine zclX14_61 E hlt ⟨by have := hR.1; omega, by have := hR.2; omega⟩ (Nat.le_of_ble_eq_true rfl) hb dX14_factor_109 h rfl (fun m_28 n_29 e_32 q_33 s_34 hb h => ?_) (fun m_28 n_29 s_30 hb h => ?_)
    · exact hx _ _ _ _ _ _ _ (hb0 hb).1 (hb0 hb).2 h
    refine cf_aload_n E dX14_factor_112 0 rfl rfl ?_
    refine zclX14_73_s E hlt hself ⟨by have := hR.1; omega, by have := hR.2; omega⟩ (Nat.le_of_ble_eq_true rfl) hb dX14_factor_113 h rfl (fun m_35 n_36 e_39 q_40 s_41 hb h => ?_) (fun m_35 n_36 v_38 s_37 hb h => ?_)
    · exact hx _ _ _ _ _ _ _ (hb0 hb).1 (hb0 hb).2 h
    refine cf_astore_n E dX14_factor_116 [(1, .ref v_38), (0, .ref a0)] (Nat.le_of_ble_eq_true rfl) rfl rfl ?_
    refine cf_aload_n E dX14_factor_117 1 rfl rfl ?_
    refine cf_bipush E dX14_factor_118 bp_41 rfl ?_
    refine zclX14_51 E hlt ⟨by have := hR.1; omega, by have := hR.2; omega⟩ (Nat.le_of_ble_eq_true rfl) hb dX14_factor_120 h rfl (fun m_42 n_43 e_46 q_47 s_48 hb h => ?_) (fun m_42 n_43 s_44 hb h => ?_)
    · exact hx _ _ _ _ _ _ _ (hb0 hb).1 (hb0 hb).2 h
    refine cf_aload_n E dX14_factor_123 1 rfl rfl ?_
    refine cf_dup E dX14_factor_124 rfl rfl ?_
    refine xdgX14_58p E dX14_factor_125 h rfl (fun v_49 h => ?_)
    refine cf_iconst E dX14_factor_128 ic_1 rfl ?_
    refine cf_isub E dX14_factor_129 rfl ?_
    refine xdqX14_58 E dX14_factor_130 h rfl (fun s_50 h => ?_)
    refine cf_aload_n E dX14_factor_133 0 rfl rfl ?_
    exact hq _ _ _ _ _ _ (hb0 hb).1 (hb0 hb).2 dX14_factor_134 h
  rw [if_neg hx_27] at h
  by_cases hx_53 : v_2 = (97 : Int32)
  · rw [if_pos hx_53] at h
    refine cf_look E dX14_factor_4 (by decide) (by rw [i32_eqZ (z := 97) hx_53 (by decide)]) rfl ?_
    refine cf_aload_n E dX14_factor_135 0 rfl rfl ?_
    refine xrtX14_18p E dX14_factor_136 h rfl (fun h => ?_)
    refine cf_aload_n E dX14_factor_139 0 rfl rfl ?_
    refine cf_dup E dX14_factor_140 rfl rfl ?_
    refine xdgX14_26p E dX14_factor_141 h rfl (fun v_54 h => ?_)
    refine cf_dup_x1 E dX14_factor_144 rfl rfl rfl ?_
    refine cf_iconst E dX14_factor_145 ic_1 rfl ?_
    refine cf_iadd E dX14_factor_146 rfl ?_
    refine xdqX14_26 E dX14_factor_147 h rfl (fun s_55 h => ?_)
    refine xald_8p E dX14_factor_150 h rfl (fun h => ?_)
    refine cf_istore_np E dX14_factor_151 h (fun x1_58 => [(1, .int x1_58), (0, .ref a0)]) (Nat.le_of_ble_eq_true rfl) (fun _ => rfl) rfl (fun x1_58 h => ?_)
    refine cf_aload_n E dX14_factor_152 1 rfl rfl ?_
    refine xclX14_34p E ⟨by have := hR.1; omega, by have := hR.2; omega⟩ (Nat.le_of_ble_eq_true rfl) (hb0 hb) dX14_factor_153 h rfl (fun v_60 s_59 h => ?_)
    refine cf_istore_np E dX14_factor_156 h (fun x2_61 => [(2, .int x2_61), (1, .int x1_58), (0, .ref a0)]) (Nat.le_of_ble_eq_true rfl) (fun _ => rfl) rfl (fun x2_61 h => ?_)
    refine cf_iload_n E dX14_factor_157 0 rfl rfl ?_
    refine cf_bipush E dX14_factor_158 bp_60 rfl ?_
    refine cf_icmp_eqp E dX14_factor_160 h rfl rfl (fun h => ?_) (fun h => ?_)
    · exact CF.sub [2, 1, 0] rfl (wy14_factor_180 E hlt hlk hx dp hself hR hq N a0 x1_58 x2_61 s_59 mc ms _ _ hb h)
    · refine cf_iload_n E dX14_factor_163 0 rfl rfl ?_
      refine cf_bipush E dX14_factor_164 bp_61 rfl ?_
      refine cf_icmp_eqp E dX14_factor_166 h rfl rfl (fun h => ?_) (fun h => ?_)
      · exact CF.sub [2, 1, 0] rfl (wy14_factor_180 E hlt hlk hx dp hself hR hq N a0 x1_58 x2_61 s_59 mc ms _ _ hb h)
      · refine cf_iload_n E dX14_factor_169 0 rfl rfl ?_
        refine cf_bipush E dX14_factor_170 bp_62 rfl ?_
        refine cf_icmp_eqp E dX14_factor_172 h rfl rfl (fun h => ?_) (fun h => ?_)
        · exact CF.sub [2, 1, 0] rfl (wy14_factor_180 E hlt hlk hx dp hself hR hq N a0 x1_58 x2_61 s_59 mc ms _ _ hb h)
        · refine cf_aload_n E dX14_factor_175 2 rfl rfl ?_
          refine zclX14_38 E hlt ⟨by have := hR.1; omega, by have := hR.2; omega⟩ (Nat.le_of_ble_eq_true rfl) hb dX14_factor_176 h rfl (fun m_62 n_63 e_66 q_67 s_68 hb h => ?_) (fun m_62 n_63 v_65 s_64 hb h => ?_)
          · exact hx _ _ _ _ _ _ _ (hb0 hb).1 (hb0 hb).2 h
          refine cx_athrowC E dX14_factor_179 h (fun h => ?_)
          exact hx _ _ _ _ _ _ _ (hb0 hb).1 (hb0 hb).2 h
  rw [if_neg hx_53] at h
  by_cases hx_69 : v_2 = (100 : Int32)
  · rw [if_pos hx_69] at h
    refine cf_look E dX14_factor_4 (by decide) (by rw [i32_eqZ (z := 100) hx_69 (by decide)]) rfl ?_
    refine cf_aload_n E dX14_factor_135 0 rfl rfl ?_
    refine xrtX14_18p E dX14_factor_136 h rfl (fun h => ?_)
    refine cf_aload_n E dX14_factor_139 0 rfl rfl ?_
    refine cf_dup E dX14_factor_140 rfl rfl ?_
    refine xdgX14_26p E dX14_factor_141 h rfl (fun v_70 h => ?_)
    refine cf_dup_x1 E dX14_factor_144 rfl rfl rfl ?_
    refine cf_iconst E dX14_factor_145 ic_1 rfl ?_
    refine cf_iadd E dX14_factor_146 rfl ?_
    refine xdqX14_26 E dX14_factor_147 h rfl (fun s_71 h => ?_)
    refine xald_8p E dX14_factor_150 h rfl (fun h => ?_)
    refine cf_istore_np E dX14_factor_151 h (fun x1_74 => [(1, .int x1_74), (0, .ref a0)]) (Nat.le_of_ble_eq_true rfl) (fun _ => rfl) rfl (fun x1_74 h => ?_)
    refine cf_aload_n E dX14_factor_152 1 rfl rfl ?_
    refine xclX14_34p E ⟨by have := hR.1; omega, by have := hR.2; omega⟩ (Nat.le_of_ble_eq_true rfl) (hb0 hb) dX14_factor_153 h rfl (fun v_76 s_75 h => ?_)
    refine cf_istore_np E dX14_factor_156 h (fun x2_77 => [(2, .int x2_77), (1, .int x1_74), (0, .ref a0)]) (Nat.le_of_ble_eq_true rfl) (fun _ => rfl) rfl (fun x2_77 h => ?_)
    refine cf_iload_n E dX14_factor_157 0 rfl rfl ?_
    refine cf_bipush E dX14_factor_158 bp_60 rfl ?_
    refine cf_icmp_eqp E dX14_factor_160 h rfl rfl (fun h => ?_) (fun h => ?_)
    · exact CF.sub [2, 1, 0] rfl (wy14_factor_180 E hlt hlk hx dp hself hR hq N a0 x1_74 x2_77 s_75 mc ms _ _ hb h)
    · refine cf_iload_n E dX14_factor_163 0 rfl rfl ?_
      refine cf_bipush E dX14_factor_164 bp_61 rfl ?_
      refine cf_icmp_eqp E dX14_factor_166 h rfl rfl (fun h => ?_) (fun h => ?_)
      · exact CF.sub [2, 1, 0] rfl (wy14_factor_180 E hlt hlk hx dp hself hR hq N a0 x1_74 x2_77 s_75 mc ms _ _ hb h)
      · refine cf_iload_n E dX14_factor_169 0 rfl rfl ?_
        refine cf_bipush E dX14_factor_170 bp_62 rfl ?_
        refine cf_icmp_eqp E dX14_factor_172 h rfl rfl (fun h => ?_) (fun h => ?_)
        · exact CF.sub [2, 1, 0] rfl (wy14_factor_180 E hlt hlk hx dp hself hR hq N a0 x1_74 x2_77 s_75 mc ms _ _ hb h)
        · refine cf_aload_n E dX14_factor_175 2 rfl rfl ?_
          refine zclX14_38 E hlt ⟨by have := hR.1; omega, by have := hR.2; omega⟩ (Nat.le_of_ble_eq_true rfl) hb dX14_factor_176 h rfl (fun m_78 n_79 e_82 q_83 s_84 hb h => ?_) (fun m_78 n_79 v_81 s_80 hb h => ?_)
          · exact hx _ _ _ _ _ _ _ (hb0 hb).1 (hb0 hb).2 h
          refine cx_athrowC E dX14_factor_179 h (fun h => ?_)
          exact hx _ _ _ _ _ _ _ (hb0 hb).1 (hb0 hb).2 h
  rw [if_neg hx_69] at h
  by_cases hx_85 : v_2 = (101 : Int32)
  · rw [if_pos hx_85] at h
    refine cf_look E dX14_factor_4 (by decide) (by rw [i32_eqZ (z := 101) hx_85 (by decide)]) rfl ?_
    refine cf_aload_n E dX14_factor_135 0 rfl rfl ?_
    refine xrtX14_18p E dX14_factor_136 h rfl (fun h => ?_)
    refine cf_aload_n E dX14_factor_139 0 rfl rfl ?_
    refine cf_dup E dX14_factor_140 rfl rfl ?_
    refine xdgX14_26p E dX14_factor_141 h rfl (fun v_86 h => ?_)
    refine cf_dup_x1 E dX14_factor_144 rfl rfl rfl ?_
    refine cf_iconst E dX14_factor_145 ic_1 rfl ?_
    refine cf_iadd E dX14_factor_146 rfl ?_
    refine xdqX14_26 E dX14_factor_147 h rfl (fun s_87 h => ?_)
    refine xald_8p E dX14_factor_150 h rfl (fun h => ?_)
    refine cf_istore_np E dX14_factor_151 h (fun x1_90 => [(1, .int x1_90), (0, .ref a0)]) (Nat.le_of_ble_eq_true rfl) (fun _ => rfl) rfl (fun x1_90 h => ?_)
    refine cf_aload_n E dX14_factor_152 1 rfl rfl ?_
    refine xclX14_34p E ⟨by have := hR.1; omega, by have := hR.2; omega⟩ (Nat.le_of_ble_eq_true rfl) (hb0 hb) dX14_factor_153 h rfl (fun v_92 s_91 h => ?_)
    refine cf_istore_np E dX14_factor_156 h (fun x2_93 => [(2, .int x2_93), (1, .int x1_90), (0, .ref a0)]) (Nat.le_of_ble_eq_true rfl) (fun _ => rfl) rfl (fun x2_93 h => ?_)
    refine cf_iload_n E dX14_factor_157 0 rfl rfl ?_
    refine cf_bipush E dX14_factor_158 bp_60 rfl ?_
    refine cf_icmp_eqp E dX14_factor_160 h rfl rfl (fun h => ?_) (fun h => ?_)
    · exact CF.sub [2, 1, 0] rfl (wy14_factor_180 E hlt hlk hx dp hself hR hq N a0 x1_90 x2_93 s_91 mc ms _ _ hb h)
    · refine cf_iload_n E dX14_factor_163 0 rfl rfl ?_
      refine cf_bipush E dX14_factor_164 bp_61 rfl ?_
      refine cf_icmp_eqp E dX14_factor_166 h rfl rfl (fun h => ?_) (fun h => ?_)
      · exact CF.sub [2, 1, 0] rfl (wy14_factor_180 E hlt hlk hx dp hself hR hq N a0 x1_90 x2_93 s_91 mc ms _ _ hb h)
      · refine cf_iload_n E dX14_factor_169 0 rfl rfl ?_
        refine cf_bipush E dX14_factor_170 bp_62 rfl ?_
        refine cf_icmp_eqp E dX14_factor_172 h rfl rfl (fun h => ?_) (fun h => ?_)
        · exact CF.sub [2, 1, 0] rfl (wy14_factor_180 E hlt hlk hx dp hself hR hq N a0 x1_90 x2_93 s_91 mc ms _ _ hb h)
        · refine cf_aload_n E dX14_factor_175 2 rfl rfl ?_
          refine zclX14_38 E hlt ⟨by have := hR.1; omega, by have := hR.2; omega⟩ (Nat.le_of_ble_eq_true rfl) hb dX14_factor_176 h rfl (fun m_94 n_95 e_98 q_99 s_100 hb h => ?_) (fun m_94 n_95 v_97 s_96 hb h => ?_)
          · exact hx _ _ _ _ _ _ _ (hb0 hb).1 (hb0 hb).2 h
          refine cx_athrowC E dX14_factor_179 h (fun h => ?_)
          exact hx _ _ _ _ _ _ _ (hb0 hb).1 (hb0 hb).2 h
  rw [if_neg hx_85] at h
  by_cases hx_101 : v_2 = (107 : Int32)
  · rw [if_pos hx_101] at h
    refine cf_look E dX14_factor_4 (by decide) (by rw [i32_eqZ (z := 107) hx_101 (by decide)]) rfl ?_
    refine cf_aload_n E dX14_factor_135 0 rfl rfl ?_
    refine xrtX14_18p E dX14_factor_136 h rfl (fun h => ?_)
    refine cf_aload_n E dX14_factor_139 0 rfl rfl ?_
    refine cf_dup E dX14_factor_140 rfl rfl ?_
    refine xdgX14_26p E dX14_factor_141 h rfl (fun v_102 h => ?_)
    refine cf_dup_x1 E dX14_factor_144 rfl rfl rfl ?_
    refine cf_iconst E dX14_factor_145 ic_1 rfl ?_
    refine cf_iadd E dX14_factor_146 rfl ?_
    refine xdqX14_26 E dX14_factor_147 h rfl (fun s_103 h => ?_)
    refine xald_8p E dX14_factor_150 h rfl (fun h => ?_)
    refine cf_istore_np E dX14_factor_151 h (fun x1_106 => [(1, .int x1_106), (0, .ref a0)]) (Nat.le_of_ble_eq_true rfl) (fun _ => rfl) rfl (fun x1_106 h => ?_)
    refine cf_aload_n E dX14_factor_152 1 rfl rfl ?_
    refine xclX14_34p E ⟨by have := hR.1; omega, by have := hR.2; omega⟩ (Nat.le_of_ble_eq_true rfl) (hb0 hb) dX14_factor_153 h rfl (fun v_108 s_107 h => ?_)
    refine cf_istore_np E dX14_factor_156 h (fun x2_109 => [(2, .int x2_109), (1, .int x1_106), (0, .ref a0)]) (Nat.le_of_ble_eq_true rfl) (fun _ => rfl) rfl (fun x2_109 h => ?_)
    refine cf_iload_n E dX14_factor_157 0 rfl rfl ?_
    refine cf_bipush E dX14_factor_158 bp_60 rfl ?_
    refine cf_icmp_eqp E dX14_factor_160 h rfl rfl (fun h => ?_) (fun h => ?_)
    · exact CF.sub [2, 1, 0] rfl (wy14_factor_180 E hlt hlk hx dp hself hR hq N a0 x1_106 x2_109 s_107 mc ms _ _ hb h)
    · refine cf_iload_n E dX14_factor_163 0 rfl rfl ?_
      refine cf_bipush E dX14_factor_164 bp_61 rfl ?_
      refine cf_icmp_eqp E dX14_factor_166 h rfl rfl (fun h => ?_) (fun h => ?_)
      · exact CF.sub [2, 1, 0] rfl (wy14_factor_180 E hlt hlk hx dp hself hR hq N a0 x1_106 x2_109 s_107 mc ms _ _ hb h)
      · refine cf_iload_n E dX14_factor_169 0 rfl rfl ?_
        refine cf_bipush E dX14_factor_170 bp_62 rfl ?_
        refine cf_icmp_eqp E dX14_factor_172 h rfl rfl (fun h => ?_) (fun h => ?_)
        · exact CF.sub [2, 1, 0] rfl (wy14_factor_180 E hlt hlk hx dp hself hR hq N a0 x1_106 x2_109 s_107 mc ms _ _ hb h)
        · refine cf_aload_n E dX14_factor_175 2 rfl rfl ?_
          refine zclX14_38 E hlt ⟨by have := hR.1; omega, by have := hR.2; omega⟩ (Nat.le_of_ble_eq_true rfl) hb dX14_factor_176 h rfl (fun m_110 n_111 e_114 q_115 s_116 hb h => ?_) (fun m_110 n_111 v_113 s_112 hb h => ?_)
          · exact hx _ _ _ _ _ _ _ (hb0 hb).1 (hb0 hb).2 h
          refine cx_athrowC E dX14_factor_179 h (fun h => ?_)
          exact hx _ _ _ _ _ _ _ (hb0 hb).1 (hb0 hb).2 h
  rw [if_neg hx_101] at h
  by_cases hx_117 : v_2 = (116 : Int32)
  · rw [if_pos hx_117] at h
    refine cf_look E dX14_factor_4 (by decide) (by rw [i32_eqZ (z := 116) hx_117 (by decide)]) rfl ?_
    refine cf_aload_n E dX14_factor_135 0 rfl rfl ?_
    refine xrtX14_18p E dX14_factor_136 h rfl (fun h => ?_)
    refine cf_aload_n E dX14_factor_139 0 rfl rfl ?_
    refine cf_dup E dX14_factor_140 rfl rfl ?_
    refine xdgX14_26p E dX14_factor_141 h rfl (fun v_118 h => ?_)
    refine cf_dup_x1 E dX14_factor_144 rfl rfl rfl ?_
    refine cf_iconst E dX14_factor_145 ic_1 rfl ?_
    refine cf_iadd E dX14_factor_146 rfl ?_
    refine xdqX14_26 E dX14_factor_147 h rfl (fun s_119 h => ?_)
    refine xald_8p E dX14_factor_150 h rfl (fun h => ?_)
    refine cf_istore_np E dX14_factor_151 h (fun x1_122 => [(1, .int x1_122), (0, .ref a0)]) (Nat.le_of_ble_eq_true rfl) (fun _ => rfl) rfl (fun x1_122 h => ?_)
    refine cf_aload_n E dX14_factor_152 1 rfl rfl ?_
    refine xclX14_34p E ⟨by have := hR.1; omega, by have := hR.2; omega⟩ (Nat.le_of_ble_eq_true rfl) (hb0 hb) dX14_factor_153 h rfl (fun v_124 s_123 h => ?_)
    refine cf_istore_np E dX14_factor_156 h (fun x2_125 => [(2, .int x2_125), (1, .int x1_122), (0, .ref a0)]) (Nat.le_of_ble_eq_true rfl) (fun _ => rfl) rfl (fun x2_125 h => ?_)
    refine cf_iload_n E dX14_factor_157 0 rfl rfl ?_
    refine cf_bipush E dX14_factor_158 bp_60 rfl ?_
    refine cf_icmp_eqp E dX14_factor_160 h rfl rfl (fun h => ?_) (fun h => ?_)
    · exact CF.sub [2, 1, 0] rfl (wy14_factor_180 E hlt hlk hx dp hself hR hq N a0 x1_122 x2_125 s_123 mc ms _ _ hb h)
    · refine cf_iload_n E dX14_factor_163 0 rfl rfl ?_
      refine cf_bipush E dX14_factor_164 bp_61 rfl ?_
      refine cf_icmp_eqp E dX14_factor_166 h rfl rfl (fun h => ?_) (fun h => ?_)
      · exact CF.sub [2, 1, 0] rfl (wy14_factor_180 E hlt hlk hx dp hself hR hq N a0 x1_122 x2_125 s_123 mc ms _ _ hb h)
      · refine cf_iload_n E dX14_factor_169 0 rfl rfl ?_
        refine cf_bipush E dX14_factor_170 bp_62 rfl ?_
        refine cf_icmp_eqp E dX14_factor_172 h rfl rfl (fun h => ?_) (fun h => ?_)
        · exact CF.sub [2, 1, 0] rfl (wy14_factor_180 E hlt hlk hx dp hself hR hq N a0 x1_122 x2_125 s_123 mc ms _ _ hb h)
        · refine cf_aload_n E dX14_factor_175 2 rfl rfl ?_
          refine zclX14_38 E hlt ⟨by have := hR.1; omega, by have := hR.2; omega⟩ (Nat.le_of_ble_eq_true rfl) hb dX14_factor_176 h rfl (fun m_126 n_127 e_130 q_131 s_132 hb h => ?_) (fun m_126 n_127 v_129 s_128 hb h => ?_)
          · exact hx _ _ _ _ _ _ _ (hb0 hb).1 (hb0 hb).2 h
          refine cx_athrowC E dX14_factor_179 h (fun h => ?_)
          exact hx _ _ _ _ _ _ _ (hb0 hb).1 (hb0 hb).2 h
  rw [if_neg hx_117] at h
  by_cases hx_133 : v_2 = (117 : Int32)
  · rw [if_pos hx_133] at h
    refine cf_look E dX14_factor_4 (by decide) (by rw [i32_eqZ (z := 117) hx_133 (by decide)]) rfl ?_
    refine cf_aload_n E dX14_factor_135 0 rfl rfl ?_
    refine xrtX14_18p E dX14_factor_136 h rfl (fun h => ?_)
    refine cf_aload_n E dX14_factor_139 0 rfl rfl ?_
    refine cf_dup E dX14_factor_140 rfl rfl ?_
    refine xdgX14_26p E dX14_factor_141 h rfl (fun v_134 h => ?_)
    refine cf_dup_x1 E dX14_factor_144 rfl rfl rfl ?_
    refine cf_iconst E dX14_factor_145 ic_1 rfl ?_
    refine cf_iadd E dX14_factor_146 rfl ?_
    refine xdqX14_26 E dX14_factor_147 h rfl (fun s_135 h => ?_)
    refine xald_8p E dX14_factor_150 h rfl (fun h => ?_)
    refine cf_istore_np E dX14_factor_151 h (fun x1_138 => [(1, .int x1_138), (0, .ref a0)]) (Nat.le_of_ble_eq_true rfl) (fun _ => rfl) rfl (fun x1_138 h => ?_)
    refine cf_aload_n E dX14_factor_152 1 rfl rfl ?_
    refine xclX14_34p E ⟨by have := hR.1; omega, by have := hR.2; omega⟩ (Nat.le_of_ble_eq_true rfl) (hb0 hb) dX14_factor_153 h rfl (fun v_140 s_139 h => ?_)
    refine cf_istore_np E dX14_factor_156 h (fun x2_141 => [(2, .int x2_141), (1, .int x1_138), (0, .ref a0)]) (Nat.le_of_ble_eq_true rfl) (fun _ => rfl) rfl (fun x2_141 h => ?_)
    refine cf_iload_n E dX14_factor_157 0 rfl rfl ?_
    refine cf_bipush E dX14_factor_158 bp_60 rfl ?_
    refine cf_icmp_eqp E dX14_factor_160 h rfl rfl (fun h => ?_) (fun h => ?_)
    · exact CF.sub [2, 1, 0] rfl (wy14_factor_180 E hlt hlk hx dp hself hR hq N a0 x1_138 x2_141 s_139 mc ms _ _ hb h)
    · refine cf_iload_n E dX14_factor_163 0 rfl rfl ?_
      refine cf_bipush E dX14_factor_164 bp_61 rfl ?_
      refine cf_icmp_eqp E dX14_factor_166 h rfl rfl (fun h => ?_) (fun h => ?_)
      · exact CF.sub [2, 1, 0] rfl (wy14_factor_180 E hlt hlk hx dp hself hR hq N a0 x1_138 x2_141 s_139 mc ms _ _ hb h)
      · refine cf_iload_n E dX14_factor_169 0 rfl rfl ?_
        refine cf_bipush E dX14_factor_170 bp_62 rfl ?_
        refine cf_icmp_eqp E dX14_factor_172 h rfl rfl (fun h => ?_) (fun h => ?_)
        · exact CF.sub [2, 1, 0] rfl (wy14_factor_180 E hlt hlk hx dp hself hR hq N a0 x1_138 x2_141 s_139 mc ms _ _ hb h)
        · refine cf_aload_n E dX14_factor_175 2 rfl rfl ?_
          refine zclX14_38 E hlt ⟨by have := hR.1; omega, by have := hR.2; omega⟩ (Nat.le_of_ble_eq_true rfl) hb dX14_factor_176 h rfl (fun m_142 n_143 e_146 q_147 s_148 hb h => ?_) (fun m_142 n_143 v_145 s_144 hb h => ?_)
          · exact hx _ _ _ _ _ _ _ (hb0 hb).1 (hb0 hb).2 h
          refine cx_athrowC E dX14_factor_179 h (fun h => ?_)
          exact hx _ _ _ _ _ _ _ (hb0 hb).1 (hb0 hb).2 h
  rw [if_neg hx_133] at h
  refine cf_look E dX14_factor_4 (by decide) (look_no (i32_neZ (z := 33) hx_3 (by decide)) (look_no (i32_neZ (z := 40) hx_27 (by decide)) (look_no (i32_neZ (z := 97) hx_53 (by decide)) (look_no (i32_neZ (z := 100) hx_69 (by decide)) (look_no (i32_neZ (z := 101) hx_85 (by decide)) (look_no (i32_neZ (z := 107) hx_101 (by decide)) (look_no (i32_neZ (z := 116) hx_117 (by decide)) (look_no (i32_neZ (z := 117) hx_133 (by decide)) rfl)))))))) rfl ?_
  refine cf_aload_n E dX14_factor_204 0 rfl rfl ?_
  refine zclX14_38 E hlt ⟨by have := hR.1; omega, by have := hR.2; omega⟩ (Nat.le_of_ble_eq_true rfl) hb dX14_factor_205 h rfl (fun m_149 n_150 e_153 q_154 s_155 hb h => ?_) (fun m_149 n_150 v_152 s_151 hb h => ?_)
  · exact hx _ _ _ _ _ _ _ (hb0 hb).1 (hb0 hb).2 h
  refine cx_athrowC E dX14_factor_208 h (fun h => ?_)
  exact hx _ _ _ _ _ _ _ (hb0 hb).1 (hb0 hb).2 h
def y14_factor (N : Nat) (g : XG) : Nat → Nat → XS → Nat → Nat → (Nat → XS → Prop) → (String → Nat → XS → Prop) → Prop
  | 0 => fun _ _ _ _ _ _ => False
  | dp + 1 => fun a0 ξ mc ms K KX => y14_factor_s N g (y14_factor N g dp) a0 ξ mc ms K KX
theorem hs_factor (l : Launch) (g : XG) (N : Nat) (hlt : l.stackTraces = false) : ∀ dp : Nat, HF l g dp (y14_factor N g dp) := by
  intro dp
  induction dp with
  | zero => intro a0 ξ mc ms K KX h; exact absurd h id
  | succ dp ih =>
    intro a0 ξ mc ms K KX h
    have e1 : 12 + 3 * (dp + 1) = 15 + 3 * dp := by omega
    have e2 : 500 + 64 * (dp + 1) = 564 + 64 * dp := by omega
    rw [e1, e2]
    exact met_y14_factor_s l g N dp ih a0 ξ mc ms K KX hlt h
