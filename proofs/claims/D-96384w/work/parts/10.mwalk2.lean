/-! walks 35-70 -/
set_option maxRecDepth 100000
set_option maxHeartbeats 4000000 in
theorem wm_moth_35 {p : Program} {l : Launch} {e : Env} {R : Room} {s : State} {m : MethodId} {args : Array Value} {below : List Frame} {meth : Method} {c : Code} {A : Nat → Prop} {g : MG} {Q : State → Prop} (E : EV p s m args c cX6_moth 3 RX6) (hR : 1 ≤ R.frames ∧ 20 ≤ R.locals) {res : Int32 × MS} (hq : RTi p l e R s m args below meth c cX6_moth 3 A g .int Q res) (N : Nat) {rec7 : Int32 → Int32 → MS → Option (Int32 × MS)} (ih7 : ∀ (x1 : Int32) (x2 : Int32) (σ : MS), rec7 x1 x2 σ = some res → CF p l e R s m args below meth c 3 0 0 (MB g A s σ) Q 7 [(0, .ref (mh g)), (1, .int x1), (2, .int x2)] []) (x2 : Int32) (z0 : Int32) (σ : MS) (h : m_moth_35 N rec7 x2 z0 σ = some res) : CF p l e R s m args below meth c 3 0 0 (MB g A s σ) Q 35 [(0, .ref (mh g)), (2, .int x2)] [.int z0] := by
  unfold m_moth_35 at h
  refine cf_istore_n E dX6_moth_35 h (fun x1_1 => [(1, .int x1_1), (0, .ref (mh g)), (2, .int x2)]) (Nat.le_of_ble_eq_true rfl) (fun _ => rfl) rfl (fun x1_1 h => ?_)
  refine cf_iinc E dX6_moth_36 ic_1 h 2 rfl (fun x2_2 => [(2, .int x2_2), (1, .int x1_1), (0, .ref (mh g))]) (Nat.le_of_ble_eq_true rfl) (fun _ => rfl) rfl (fun x2_2 h => ?_)
  refine cf_goto E dX6_moth_39 rfl ?_
  exact CF.sub [2, 1, 0] rfl (ih7 x1_1 x2_2 σ h)
set_option maxHeartbeats 4000000 in
theorem wm_moth_7b {p : Program} {l : Launch} {e : Env} {R : Room} {s : State} {m : MethodId} {args : Array Value} {below : List Frame} {meth : Method} {c : Code} {A : Nat → Prop} {g : MG} {Q : State → Prop} (E : EV p s m args c cX6_moth 3 RX6) (hR : 1 ≤ R.frames ∧ 20 ≤ R.locals) {res : Int32 × MS} (hq : RTi p l e R s m args below meth c cX6_moth 3 A g .int Q res) (N : Nat)  {rec7 : Int32 → Int32 → MS → Option (Int32 × MS)} (ih7 : ∀ (x1 : Int32) (x2 : Int32) (σ : MS), rec7 x1 x2 σ = some res → CF p l e R s m args below meth c 3 0 0 (MB g A s σ) Q 7 [(0, .ref (mh g)), (1, .int x1), (2, .int x2)] []) (x1 : Int32) (x2 : Int32) (σ : MS) (h : m_moth_7b N  rec7 x1 x2 σ = some res) : CF p l e R s m args below meth c 3 0 0 (MB g A s σ) Q 7 [(0, .ref (mh g)), (1, .int x1), (2, .int x2)] [] := by
  unfold m_moth_7b at h
  refine cf_iload_n E dX6_moth_7 2 rfl rfl ?_
  refine cf_aload_n E dX6_moth_8 0 rfl rfl ?_
  refine mcl_behind E (rmle hR rfl rfl) (Nat.le_of_ble_eq_true rfl) dX6_moth_9 h rfl (fun v_2 s_1 h => ?_)
  refine cf_icmp_ge E dX6_moth_12 h rfl rfl (fun h => ?_) (fun h => ?_)
  · refine cf_iload_n E dX6_moth_42 1 rfl rfl ?_
    exact mret_i dX6_moth_43 h rfl hq
  · refine cf_aload_n E dX6_moth_15 0 rfl rfl ?_
    refine mget_21 E dX6_moth_16 rfl ?_
    refine cf_iload_n E dX6_moth_19 2 rfl rfl ?_
    refine mald_21 E dX6_moth_20 h rfl (fun h => ?_)
    refine cf_iconst E dX6_moth_21 ic_2 rfl ?_
    refine cf_icmp_ne E dX6_moth_22 h rfl rfl (fun h => ?_) (fun h => ?_)
    · refine cf_iload_n E dX6_moth_34 1 rfl rfl ?_
      exact CF.sub [0, 2] rfl (wm_moth_35 E hR hq N ih7 x2 x1 s_1 h)
    · refine cf_aload_n E dX6_moth_25 0 rfl rfl ?_
      refine mget_22 E dX6_moth_26 rfl ?_
      refine cf_iload_n E dX6_moth_29 2 rfl rfl ?_
      refine mald_22 E dX6_moth_30 h rfl (fun h => ?_)
      refine cf_goto E dX6_moth_31 rfl ?_
      exact CF.sub [0, 2] rfl (wm_moth_35 E hR hq N ih7 x2 (gR s_1 22 x2.toNatClampNeg) s_1 h)
set_option maxHeartbeats 4000000 in
theorem wm_moth_7 {p : Program} {l : Launch} {e : Env} {R : Room} {s : State} {m : MethodId} {args : Array Value} {below : List Frame} {meth : Method} {c : Code} {A : Nat → Prop} {g : MG} {Q : State → Prop} (E : EV p s m args c cX6_moth 3 RX6) (hR : 1 ≤ R.frames ∧ 20 ≤ R.locals) {res : Int32 × MS} (hq : RTi p l e R s m args below meth c cX6_moth 3 A g .int Q res) (N : Nat)  : ∀ (k : Nat) (x1 : Int32) (x2 : Int32) (σ : MS), m_moth_7 N  k x1 x2 σ = some res → CF p l e R s m args below meth c 3 0 0 (MB g A s σ) Q 7 [(0, .ref (mh g)), (1, .int x1), (2, .int x2)] [] := by
  intro k
  induction k with
  | zero => intro x1 x2 σ h; have h : (none : Option (Int32 × MS)) = some res := h; cases h
  | succ k ih => intro x1 x2 σ h; exact wm_moth_7b E hR hq N  ih x1 x2 σ h
set_option maxHeartbeats 4000000 in
theorem met_moth (l : Launch) (g : MG) (N : Nat)  (σ : MS) {v : Int32} {σ1 : MS} (h : m_moth N  σ = some (v, σ1)) : MetMi l g yX6_moth (ws_ yX6_moth cX6_moth 3 (some .int)) { frames := 1, cells := 0, slots := 0, locals := 20 } [] σ v σ1 := by
  refine met_mi (lv0 := [(0, .ref (mh g))]) (by decide) rfl ⟨rfl, rfl⟩ (Nat.le_of_ble_eq_true rfl) rfl ?_
  intro p e s m below meth c A Q E hq
  have hR : 1 ≤ ({ frames := 1, cells := 0, slots := 0, locals := 20 } : Room).frames ∧ 20 ≤ ({ frames := 1, cells := 0, slots := 0, locals := 20 } : Room).locals := ⟨Nat.le_refl _, Nat.le_refl _⟩
  unfold m_moth at h
  refine cf_iconst E dX6_moth_0 ic_0 rfl ?_
  refine cf_istore_n E dX6_moth_1 h (fun x1_1 => [(1, .int x1_1), (0, .ref (mh g))]) (Nat.le_of_ble_eq_true rfl) (fun _ => rfl) rfl (fun x1_1 h => ?_)
  refine cf_aload_n E dX6_moth_2 1 rfl rfl ?_
  refine mcl_begin E (rmle hR rfl rfl) (Nat.le_of_ble_eq_true rfl) dX6_moth_3 h rfl (fun v_3 s_2 h => ?_)
  refine cf_istore_n E dX6_moth_6 h (fun x2_4 => [(2, .int x2_4), (1, .int x1_1), (0, .ref (mh g))]) (Nat.le_of_ble_eq_true rfl) (fun _ => rfl) rfl (fun x2_4 h => ?_)
  exact CF.sub [2, 1, 0] rfl (wm_moth_7 E hR hq N N x1_1 x2_4 s_2 h)
theorem gw_moth : GoodIn lw_all (wsV RX6 338 RX6 yX6_moth (ws_ yX6_moth cX6_moth 3 (some .int))) := lw_V q1884 q1886 qs64 q105 q1887
theorem hd_moth : yX6_moth.cls = RX6 ∧ yX6_moth.cls ≠ "java/lang/invoke/MethodHandle" ∧ yX6_moth.cls ≠ "java/lang/invoke/VarHandle" ∧ (parseMethodDescriptor yX6_moth.desc).map (fun d => d.parameters.length) = some 0 := by decide +kernel
theorem mcl_moth {p : Program} {l : Launch} {e : Env} {R : Room} {s : State} {m : MethodId} {args : Array Value} {below : List Frame} {meth : Method} {c : Code} {nL : Nat} {A : Nat → Prop} {g : MG} {σ : MS} {Q : State → Prop} {pc n : Nat} {lv : List (Nat × Value)} {st : List Value} {cc : ByteArray} {ρ : Type} {res : ρ} (E : EV p s m args c cc nL RX6) {N : Nat}  {kk : Int32 → MS → Option ρ} (hR : 2 ≤ R.frames ∧ 42 ≤ R.locals) (hcat : (st.map fun v => v.category).sum ≤ 8) (d : decode cc pc = .ok (.invokevirtual 338, 3)) (h : bnd (m_moth N  σ) kk = some res) (hn : pc + 3 = n) (k : ∀ (v : Int32) (σ1 : MS), kk v σ1 = some res → CF p l e R s m args below meth c nL 0 0 (MB g A s σ1) Q n lv (.int v :: st)) : CF p l e R s m args below meth c nL 0 0 (MB g A s σ) Q pc lv (.ref (mh g) :: st) :=
  mcall_i E [] (fun v σ1 ho => met_moth l g N  σ ho) gw_moth hd_moth rfl rfl hR rfl rfl hcat d h hn k
set_option maxHeartbeats 4000000 in
theorem met_deed (l : Launch) (g : MG) (N : Nat) (x1 : Int32) (x2 : Int32) (σ : MS) {v : Int32} {σ1 : MS} (h : m_deed N x1 x2 σ = some (v, σ1)) : MetMi l g yX6_deed (ws_ yX6_deed cX6_deed 4 (some .int)) { frames := 3, cells := 0, slots := 0, locals := 75 } [.int x1, .int x2] σ v σ1 := by
  refine met_mi (lv0 := [(0, .ref (mh g)), (1, .int x1), (2, .int x2)]) (by decide) rfl ⟨rfl, rfl⟩ (Nat.le_of_ble_eq_true rfl) rfl ?_
  intro p e s m below meth c A Q E hq
  have hR : 3 ≤ ({ frames := 3, cells := 0, slots := 0, locals := 75 } : Room).frames ∧ 75 ≤ ({ frames := 3, cells := 0, slots := 0, locals := 75 } : Room).locals := ⟨Nat.le_refl _, Nat.le_refl _⟩
  unfold m_deed at h
  refine cf_aload_n E dX6_deed_0 0 rfl rfl ?_
  refine cf_iconst E dX6_deed_1 ic_0 rfl ?_
  refine cf_aload_n E dX6_deed_2 0 rfl rfl ?_
  refine mget_9 E dX6_deed_3 rfl ?_
  refine cf_iload_n E dX6_deed_6 1 rfl rfl ?_
  refine mald_9 E dX6_deed_7 h rfl (fun h => ?_)
  refine cf_aload_n E dX6_deed_8 0 rfl rfl ?_
  refine cf_iload_n E dX6_deed_9 1 rfl rfl ?_
  refine cf_iload_n E dX6_deed_10 2 rfl rfl ?_
  refine mcl_fits E (rmle hR rfl rfl) (Nat.le_of_ble_eq_true rfl) dX6_deed_11 h rfl (fun v_2 s_1 h => ?_)
  refine cf_iadd E dX6_deed_14 rfl ?_
  refine mcl_most E (rmle hR rfl rfl) (Nat.le_of_ble_eq_true rfl) dX6_deed_15 h rfl (fun v_4 s_3 h => ?_)
  refine cf_istore_n E dX6_deed_18 h (fun x3_5 => [(3, .int x3_5), (0, .ref (mh g)), (1, .int x1), (2, .int x2)]) (Nat.le_of_ble_eq_true rfl) (fun _ => rfl) rfl (fun x3_5 h => ?_)
  refine cf_aload_n E dX6_deed_19 1 rfl rfl ?_
  refine mget_6 E dX6_deed_20 rfl ?_
  refine cf_iload_n E dX6_deed_23 2 rfl rfl ?_
  refine mald_6 E dX6_deed_24 h rfl (fun h => ?_)
  by_cases hx_6 : (gR s_3 6 x1.toNatClampNeg) = (1 : Int32)
  · rw [if_pos hx_6] at h
    refine cf_tabIn E 1 dX6_deed_25 (i32_eqZ hx_6 (by decide)) (by decide) (by decide) rfl rfl ?_
    refine cf_aload_n E dX6_deed_64 1 rfl rfl ?_
    refine cf_iconst E dX6_deed_65 ic_0 rfl ?_
    refine cf_iload_n E dX6_deed_66 0 rfl rfl ?_
    refine cf_iconst E dX6_deed_67 ic_2 rfl ?_
    refine cf_aload_n E dX6_deed_68 1 rfl rfl ?_
    refine cf_iload_n E dX6_deed_69 2 rfl rfl ?_
    refine cf_iload_n E dX6_deed_70 3 rfl rfl ?_
    refine mcl_apart E (rmle hR rfl rfl) (Nat.le_of_ble_eq_true rfl) dX6_deed_71 h rfl (fun v_8 s_7 h => ?_)
    refine cf_imul E dX6_deed_74 rfl ?_
    refine cf_isub E dX6_deed_75 rfl ?_
    refine mcl_most E (rmle hR rfl rfl) (Nat.le_of_ble_eq_true rfl) dX6_deed_76 h rfl (fun v_10 s_9 h => ?_)
    exact mret_i dX6_deed_79 h rfl hq
  rw [if_neg hx_6] at h
  by_cases hx_11 : (gR s_3 6 x1.toNatClampNeg) = (2 : Int32)
  · rw [if_pos hx_11] at h
    refine cf_tabIn E 2 dX6_deed_25 (i32_eqZ hx_11 (by decide)) (by decide) (by decide) rfl rfl ?_
    refine cf_aload_n E dX6_deed_95 1 rfl rfl ?_
    refine cf_iconst E dX6_deed_96 ic_0 rfl ?_
    refine cf_iload_n E dX6_deed_97 0 rfl rfl ?_
    refine cf_aload_n E dX6_deed_98 1 rfl rfl ?_
    refine mcl_moth E (rmle hR rfl rfl) (Nat.le_of_ble_eq_true rfl) dX6_deed_99 h rfl (fun v_13 s_12 h => ?_)
    refine cf_aload_n E dX6_deed_102 1 rfl rfl ?_
    refine mget_11 E dX6_deed_103 rfl ?_
    refine cf_iload_n E dX6_deed_106 2 rfl rfl ?_
    refine mald_11 E dX6_deed_107 h rfl (fun h => ?_)
    refine cf_imul E dX6_deed_108 rfl ?_
    refine cf_iconst E dX6_deed_109 ic_4 rfl ?_
    refine cf_idivL E dX6_deed_110 (by decide) rfl ?_
    refine cf_isub E dX6_deed_111 rfl ?_
    refine mcl_most E (rmle hR rfl rfl) (Nat.le_of_ble_eq_true rfl) dX6_deed_112 h rfl (fun v_15 s_14 h => ?_)
    exact mret_i dX6_deed_115 h rfl hq
  rw [if_neg hx_11] at h
  by_cases hx_16 : (gR s_3 6 x1.toNatClampNeg) = (3 : Int32)
  · rw [if_pos hx_16] at h
    refine cf_tabIn E 3 dX6_deed_25 (i32_eqZ hx_16 (by decide)) (by decide) (by decide) rfl rfl ?_
    refine cf_iload_n E dX6_deed_149 0 rfl rfl ?_
    refine cf_aload_n E dX6_deed_150 1 rfl rfl ?_
    refine mget_7 E dX6_deed_151 rfl ?_
    refine cf_iload_n E dX6_deed_154 2 rfl rfl ?_
    refine mald_7 E dX6_deed_155 h rfl (fun h => ?_)
    refine cf_iadd E dX6_deed_156 rfl ?_
    exact mret_i dX6_deed_157 h rfl hq
  rw [if_neg hx_16] at h
  by_cases hx_17 : (gR s_3 6 x1.toNatClampNeg) = (4 : Int32)
  · rw [if_pos hx_17] at h
    refine cf_tabIn E 4 dX6_deed_25 (i32_eqZ hx_17 (by decide)) (by decide) (by decide) rfl rfl ?_
    refine cf_aload_n E dX6_deed_80 1 rfl rfl ?_
    refine cf_iload_n E dX6_deed_81 2 rfl rfl ?_
    refine cf_iload_n E dX6_deed_82 3 rfl rfl ?_
    refine mcl_apart E (rmle hR rfl rfl) (Nat.le_of_ble_eq_true rfl) dX6_deed_83 h rfl (fun v_19 s_18 h => ?_)
    refine cf_if_le E dX6_deed_86 h rfl rfl (fun h => ?_) (fun h => ?_)
    · refine cf_iload_n E dX6_deed_93 0 rfl rfl ?_
      exact mret_i dX6_deed_94 h rfl hq
    · refine cf_iconst E dX6_deed_89 ic_0 rfl ?_
      refine cf_goto E dX6_deed_90 rfl ?_
      exact mret_i dX6_deed_94 h rfl hq
  rw [if_neg hx_17] at h
  by_cases hx_20 : (gR s_3 6 x1.toNatClampNeg) = (5 : Int32)
  · rw [if_pos hx_20] at h
    refine cf_tabIn E 5 dX6_deed_25 (i32_eqZ hx_20 (by decide)) (by decide) (by decide) rfl rfl ?_
    refine cf_aload_n E dX6_deed_116 1 rfl rfl ?_
    refine cf_iconst E dX6_deed_117 ic_0 rfl ?_
    refine cf_aload_n E dX6_deed_118 1 rfl rfl ?_
    refine cf_iconst E dX6_deed_119 ic_0 rfl ?_
    refine cf_iload_n E dX6_deed_120 0 rfl rfl ?_
    refine cf_aload_n E dX6_deed_121 1 rfl rfl ?_
    refine mcl_moth E (rmle hR rfl rfl) (Nat.le_of_ble_eq_true rfl) dX6_deed_122 h rfl (fun v_22 s_21 h => ?_)
    refine cf_aload_n E dX6_deed_125 1 rfl rfl ?_
    refine mget_11 E dX6_deed_126 rfl ?_
    refine cf_iload_n E dX6_deed_129 2 rfl rfl ?_
    refine mald_11 E dX6_deed_130 h rfl (fun h => ?_)
    refine cf_imul E dX6_deed_131 rfl ?_
    refine cf_iconst E dX6_deed_132 ic_4 rfl ?_
    refine cf_idivL E dX6_deed_133 (by decide) rfl ?_
    refine cf_isub E dX6_deed_134 rfl ?_
    refine mcl_most E (rmle hR rfl rfl) (Nat.le_of_ble_eq_true rfl) dX6_deed_135 h rfl (fun v_24 s_23 h => ?_)
    refine cf_aload_n E dX6_deed_138 1 rfl rfl ?_
    refine mget_7 E dX6_deed_139 rfl ?_
    refine cf_iload_n E dX6_deed_142 2 rfl rfl ?_
    refine mald_7 E dX6_deed_143 h rfl (fun h => ?_)
    refine cf_isub E dX6_deed_144 rfl ?_
    refine mcl_most E (rmle hR rfl rfl) (Nat.le_of_ble_eq_true rfl) dX6_deed_145 h rfl (fun v_26 s_25 h => ?_)
    exact mret_i dX6_deed_148 h rfl hq
  rw [if_neg hx_20] at h
  by_cases hx_27 : (gR s_3 6 x1.toNatClampNeg) = (6 : Int32)
  · rw [if_pos hx_27] at h
    refine cf_tabIn E 6 dX6_deed_25 (i32_eqZ hx_27 (by decide)) (by decide) (by decide) rfl rfl ?_
    refine cf_iload_n E dX6_deed_158 0 rfl rfl ?_
    refine cf_aload_n E dX6_deed_159 1 rfl rfl ?_
    refine mget_7 E dX6_deed_160 rfl ?_
    refine cf_iload_n E dX6_deed_163 2 rfl rfl ?_
    refine mald_7 E dX6_deed_164 h rfl (fun h => ?_)
    refine cf_iadd E dX6_deed_165 rfl ?_
    refine cf_aload_n E dX6_deed_166 1 rfl rfl ?_
    refine mget_12 E dX6_deed_167 rfl ?_
    refine cf_iconst E dX6_deed_170 ic_4 rfl ?_
    refine cf_iload_n E dX6_deed_171 2 rfl rfl ?_
    refine cf_imul E dX6_deed_172 rfl ?_
    refine cf_aload_n E dX6_deed_173 1 rfl rfl ?_
    refine mget_2 E dX6_deed_174 rfl ?_
    refine cf_iconst E dX6_deed_177 ic_4 rfl ?_
    refine cf_iremL E dX6_deed_178 (by decide) rfl ?_
    refine cf_iadd E dX6_deed_179 rfl ?_
    refine mald_12 E dX6_deed_180 h rfl (fun h => ?_)
    refine cf_iadd E dX6_deed_181 rfl ?_
    exact mret_i dX6_deed_182 h rfl hq
  rw [if_neg hx_27] at h
  have hx_6 := i32_neZ (z := 1) hx_6 (by decide)
  have hx_11 := i32_neZ (z := 2) hx_11 (by decide)
  have hx_16 := i32_neZ (z := 3) hx_16 (by decide)
  have hx_17 := i32_neZ (z := 4) hx_17 (by decide)
  have hx_20 := i32_neZ (z := 5) hx_20 (by decide)
  have hx_27 := i32_neZ (z := 6) hx_27 (by decide)
  refine cf_tabOut E dX6_deed_25 (by omega) rfl ?_
  refine cf_iload_n E dX6_deed_183 0 rfl rfl ?_
  exact mret_i dX6_deed_184 h rfl hq
theorem gw_deed : GoodIn lw_all (wsV RX6 341 RX6 yX6_deed (ws_ yX6_deed cX6_deed 4 (some .int))) := lw_V q1852 q1854 qs56 q105 q1855
theorem hd_deed : yX6_deed.cls = RX6 ∧ yX6_deed.cls ≠ "java/lang/invoke/MethodHandle" ∧ yX6_deed.cls ≠ "java/lang/invoke/VarHandle" ∧ (parseMethodDescriptor yX6_deed.desc).map (fun d => d.parameters.length) = some 2 := by decide +kernel
theorem mcl_deed {p : Program} {l : Launch} {e : Env} {R : Room} {s : State} {m : MethodId} {args : Array Value} {below : List Frame} {meth : Method} {c : Code} {nL : Nat} {A : Nat → Prop} {g : MG} {σ : MS} {Q : State → Prop} {pc n : Nat} {lv : List (Nat × Value)} {st : List Value} {cc : ByteArray} {ρ : Type} {res : ρ} (E : EV p s m args c cc nL RX6) {N : Nat} {x1 : Int32} {x2 : Int32} {kk : Int32 → MS → Option ρ} (hR : 4 ≤ R.frames ∧ 98 ≤ R.locals) (hcat : (st.map fun v => v.category).sum ≤ 8) (d : decode cc pc = .ok (.invokevirtual 341, 3)) (h : bnd (m_deed N x1 x2 σ) kk = some res) (hn : pc + 3 = n) (k : ∀ (v : Int32) (σ1 : MS), kk v σ1 = some res → CF p l e R s m args below meth c nL 0 0 (MB g A s σ1) Q n lv (.int v :: st)) : CF p l e R s m args below meth c nL 0 0 (MB g A s σ) Q pc lv (.int x2 :: .int x1 :: .ref (mh g) :: st) :=
  mcall_i E [.int x1, .int x2] (fun v σ1 ho => met_deed l g N x1 x2 σ ho) gw_deed hd_deed rfl rfl hR rfl rfl hcat d h hn k
set_option maxHeartbeats 4000000 in
theorem met_of (l : Launch) (g : MG) (N : Nat) (x1 : Int32) (x2 : Int32) (σ : MS) {v : Int32} {σ1 : MS} (h : m_of N x1 x2 σ = some (v, σ1)) : MetMi l g yX6_of (ws_ yX6_of cX6_of 3 (some .int)) { frames := 4, cells := 0, slots := 0, locals := 98 } [.int x1, .int x2] σ v σ1 := by
  refine met_mi (lv0 := [(0, .ref (mh g)), (1, .int x1), (2, .int x2)]) (by decide) rfl ⟨rfl, rfl⟩ (Nat.le_of_ble_eq_true rfl) rfl ?_
  intro p e s m below meth c A Q E hq
  have hR : 4 ≤ ({ frames := 4, cells := 0, slots := 0, locals := 98 } : Room).frames ∧ 98 ≤ ({ frames := 4, cells := 0, slots := 0, locals := 98 } : Room).locals := ⟨Nat.le_refl _, Nat.le_refl _⟩
  unfold m_of at h
  refine cf_aload_n E dX6_of_0 0 rfl rfl ?_
  refine cf_iload_n E dX6_of_1 1 rfl rfl ?_
  refine mcl_isHat E (rmle hR rfl rfl) (Nat.le_of_ble_eq_true rfl) dX6_of_2 h rfl (fun v_2 s_1 h => ?_)
  refine cf_if_ne E dX6_of_5 h rfl rfl (fun h => ?_) (fun h => ?_)
  · refine cf_aload_n E dX6_of_12 0 rfl rfl ?_
    refine cf_iload_n E dX6_of_13 2 rfl rfl ?_
    refine cf_bipush E dX6_of_14 bp_10 rfl ?_
    refine cf_bipush E dX6_of_16 bp_9 rfl ?_
    refine cf_aload_n E dX6_of_18 0 rfl rfl ?_
    refine mget_0 E dX6_of_19 rfl ?_
    refine cf_iadd E dX6_of_22 rfl ?_
    refine mcl_in E (rmle hR rfl rfl) (Nat.le_of_ble_eq_true rfl) dX6_of_23 h rfl (fun v_4 s_3 h => ?_)
    refine cf_if_eq E dX6_of_26 h rfl rfl (fun h => ?_) (fun h => ?_)
    · refine cf_iload_n E dX6_of_39 2 rfl rfl ?_
      by_cases hx_5 : x2 = (0 : Int32)
      · rw [if_pos hx_5] at h
        refine cf_tabIn E 0 dX6_of_40 (i32_eqZ hx_5 (by decide)) (by decide) (by decide) rfl rfl ?_
        refine cf_aload_n E dX6_of_84 0 rfl rfl ?_
        refine mget_6 E dX6_of_85 rfl ?_
        refine cf_iload_n E dX6_of_88 1 rfl rfl ?_
        refine mald_6 E dX6_of_89 h rfl (fun h => ?_)
        exact mret_i dX6_of_90 h rfl hq
      rw [if_neg hx_5] at h
      by_cases hx_6 : x2 = (1 : Int32)
      · rw [if_pos hx_6] at h
        refine cf_tabIn E 1 dX6_of_40 (i32_eqZ hx_6 (by decide)) (by decide) (by decide) rfl rfl ?_
        refine cf_aload_n E dX6_of_91 0 rfl rfl ?_
        refine mget_7 E dX6_of_92 rfl ?_
        refine cf_iload_n E dX6_of_95 1 rfl rfl ?_
        refine mald_7 E dX6_of_96 h rfl (fun h => ?_)
        exact mret_i dX6_of_97 h rfl hq
      rw [if_neg hx_6] at h
      by_cases hx_7 : x2 = (2 : Int32)
      · rw [if_pos hx_7] at h
        refine cf_tabIn E 2 dX6_of_40 (i32_eqZ hx_7 (by decide)) (by decide) (by decide) rfl rfl ?_
        refine cf_aload_n E dX6_of_98 0 rfl rfl ?_
        refine mget_8 E dX6_of_99 rfl ?_
        refine cf_iload_n E dX6_of_102 1 rfl rfl ?_
        refine mald_8 E dX6_of_103 h rfl (fun h => ?_)
        exact mret_i dX6_of_104 h rfl hq
      rw [if_neg hx_7] at h
      by_cases hx_8 : x2 = (3 : Int32)
      · rw [if_pos hx_8] at h
        refine cf_tabIn E 3 dX6_of_40 (i32_eqZ hx_8 (by decide)) (by decide) (by decide) rfl rfl ?_
        refine cf_aload_n E dX6_of_105 0 rfl rfl ?_
        refine mget_9 E dX6_of_106 rfl ?_
        refine cf_iload_n E dX6_of_109 1 rfl rfl ?_
        refine mald_9 E dX6_of_110 h rfl (fun h => ?_)
        exact mret_i dX6_of_111 h rfl hq
      rw [if_neg hx_8] at h
      by_cases hx_9 : x2 = (4 : Int32)
      · rw [if_pos hx_9] at h
        refine cf_tabIn E 4 dX6_of_40 (i32_eqZ hx_9 (by decide)) (by decide) (by decide) rfl rfl ?_
        refine cf_aload_n E dX6_of_112 0 rfl rfl ?_
        refine mget_10 E dX6_of_113 rfl ?_
        refine cf_iload_n E dX6_of_116 1 rfl rfl ?_
        refine mald_10 E dX6_of_117 h rfl (fun h => ?_)
        exact mret_i dX6_of_118 h rfl hq
      rw [if_neg hx_9] at h
      by_cases hx_10 : x2 = (5 : Int32)
      · rw [if_pos hx_10] at h
        refine cf_tabIn E 5 dX6_of_40 (i32_eqZ hx_10 (by decide)) (by decide) (by decide) rfl rfl ?_
        refine cf_aload_n E dX6_of_119 0 rfl rfl ?_
        refine mget_11 E dX6_of_120 rfl ?_
        refine cf_iload_n E dX6_of_123 1 rfl rfl ?_
        refine mald_11 E dX6_of_124 h rfl (fun h => ?_)
        exact mret_i dX6_of_125 h rfl hq
      rw [if_neg hx_10] at h
      by_cases hx_11 : x2 = (6 : Int32)
      · rw [if_pos hx_11] at h
        refine cf_tabIn E 6 dX6_of_40 (i32_eqZ hx_11 (by decide)) (by decide) (by decide) rfl rfl ?_
        refine cf_aload_n E dX6_of_126 0 rfl rfl ?_
        refine cf_iload_n E dX6_of_127 1 rfl rfl ?_
        refine mcl_headOf E (rmle hR rfl rfl) (Nat.le_of_ble_eq_true rfl) dX6_of_128 h rfl (fun v_13 s_12 h => ?_)
        exact mret_i dX6_of_131 h rfl hq
      rw [if_neg hx_11] at h
      have hx_5 := i32_neZ (z := 0) hx_5 (by decide)
      have hx_6 := i32_neZ (z := 1) hx_6 (by decide)
      have hx_7 := i32_neZ (z := 2) hx_7 (by decide)
      have hx_8 := i32_neZ (z := 3) hx_8 (by decide)
      have hx_9 := i32_neZ (z := 4) hx_9 (by decide)
      have hx_10 := i32_neZ (z := 5) hx_10 (by decide)
      have hx_11 := i32_neZ (z := 6) hx_11 (by decide)
      refine cf_tabOut E dX6_of_40 (by omega) rfl ?_
      refine cf_sipush E dX6_of_132 sp_m10001 rfl ?_
      exact mret_i dX6_of_135 h rfl hq
    · refine cf_aload_n E dX6_of_29 0 rfl rfl ?_
      refine cf_iload_n E dX6_of_30 1 rfl rfl ?_
      refine cf_iload_n E dX6_of_31 2 rfl rfl ?_
      refine cf_bipush E dX6_of_32 bp_10 rfl ?_
      refine cf_isub E dX6_of_34 rfl ?_
      refine mcl_deed E (rmle hR rfl rfl) (Nat.le_of_ble_eq_true rfl) dX6_of_35 h rfl (fun v_15 s_14 h => ?_)
      exact mret_i dX6_of_38 h rfl hq
  · refine cf_sipush E dX6_of_8 sp_m10001 rfl ?_
    exact mret_i dX6_of_11 h rfl hq

set_option maxHeartbeats 4000000 in
theorem met_at (l : Launch) (g : MG) (N : Nat) (x1 : Int32) (x2 : Int32) (σ : MS) {v : Int32} {σ1 : MS} (h : m_at N x1 x2 σ = some (v, σ1)) : MetMi l g yX6_at (ws_ yX6_at cX6_at 3 (some .int)) { frames := 2, cells := 0, slots := 0, locals := 44 } [.int x1, .int x2] σ v σ1 := by
  refine met_mi (lv0 := [(0, .ref (mh g)), (1, .int x1), (2, .int x2)]) (by decide) rfl ⟨rfl, rfl⟩ (Nat.le_of_ble_eq_true rfl) rfl ?_
  intro p e s m below meth c A Q E hq
  have hR : 2 ≤ ({ frames := 2, cells := 0, slots := 0, locals := 44 } : Room).frames ∧ 44 ≤ ({ frames := 2, cells := 0, slots := 0, locals := 44 } : Room).locals := ⟨Nat.le_refl _, Nat.le_refl _⟩
  unfold m_at at h
  refine cf_aload_n E dX6_at_0 0 rfl rfl ?_
  refine cf_iload_n E dX6_at_1 1 rfl rfl ?_
  refine mcl_isHead E (rmle hR rfl rfl) (Nat.le_of_ble_eq_true rfl) dX6_at_2 h rfl (fun v_2 s_1 h => ?_)
  refine cf_if_ne E dX6_at_5 h rfl rfl (fun h => ?_) (fun h => ?_)
  · refine cf_iload_n E dX6_at_10 2 rfl rfl ?_
    refine cf_if_ne E dX6_at_11 h rfl rfl (fun h => ?_) (fun h => ?_)
    · refine cf_iload_n E dX6_at_23 2 rfl rfl ?_
      refine cf_iconst E dX6_at_24 ic_1 rfl ?_
      refine cf_icmp_ne E dX6_at_25 h rfl rfl (fun h => ?_) (fun h => ?_)
      · refine cf_iload_n E dX6_at_41 2 rfl rfl ?_
        refine cf_iconst E dX6_at_42 ic_2 rfl ?_
        refine cf_icmp_ne E dX6_at_43 h rfl rfl (fun h => ?_) (fun h => ?_)
        · refine cf_iconst E dX6_at_59 ic_m1 rfl ?_
          exact mret_i dX6_at_60 h rfl hq
        · refine cf_aload_n E dX6_at_46 0 rfl rfl ?_
          refine cf_aload_n E dX6_at_47 0 rfl rfl ?_
          refine mget_4 E dX6_at_48 rfl ?_
          refine cf_iload_n E dX6_at_51 1 rfl rfl ?_
          refine mald_4 E dX6_at_52 h rfl (fun h => ?_)
          refine mcl_orNone E (rmle hR rfl rfl) (Nat.le_of_ble_eq_true rfl) dX6_at_53 h rfl (fun v_4 s_3 h => ?_)
          refine cf_goto E dX6_at_56 rfl ?_
          exact mret_i dX6_at_60 h rfl hq
      · refine cf_aload_n E dX6_at_28 0 rfl rfl ?_
        refine cf_aload_n E dX6_at_29 0 rfl rfl ?_
        refine mget_5 E dX6_at_30 rfl ?_
        refine cf_iload_n E dX6_at_33 1 rfl rfl ?_
        refine mald_5 E dX6_at_34 h rfl (fun h => ?_)
        refine mcl_orNone E (rmle hR rfl rfl) (Nat.le_of_ble_eq_true rfl) dX6_at_35 h rfl (fun v_6 s_5 h => ?_)
        refine cf_goto E dX6_at_38 rfl ?_
        exact mret_i dX6_at_60 h rfl hq
    · refine cf_aload_n E dX6_at_14 0 rfl rfl ?_
      refine mget_3 E dX6_at_15 rfl ?_
      refine cf_iload_n E dX6_at_18 1 rfl rfl ?_
      refine mald_3 E dX6_at_19 h rfl (fun h => ?_)
      refine cf_goto E dX6_at_20 rfl ?_
      exact mret_i dX6_at_60 h rfl hq
  · refine cf_iconst E dX6_at_8 ic_m1 rfl ?_
    exact mret_i dX6_at_9 h rfl hq

set_option maxHeartbeats 4000000 in
theorem wm_work_46 {p : Program} {l : Launch} {e : Env} {R : Room} {s : State} {m : MethodId} {args : Array Value} {below : List Frame} {meth : Method} {c : Code} {A : Nat → Prop} {g : MG} {Q : State → Prop} (E : EV p s m args c cX6_work 4 RX6) (hR : 1 ≤ R.frames ∧ 20 ≤ R.locals) {res : Int32 × MS} (hq : RTi p l e R s m args below meth c cX6_work 4 A g .int Q res) (N : Nat) {rec8 : Int32 → Int32 → Int32 → MS → Option (Int32 × MS)} (ih8 : ∀ (x1 : Int32) (x2 : Int32) (x3 : Int32) (σ : MS), rec8 x1 x2 x3 σ = some res → CF p l e R s m args below meth c 4 0 0 (MB g A s σ) Q 8 [(0, .ref (mh g)), (1, .int x1), (2, .int x2), (3, .int x3)] []) (x1 : Int32) (x3 : Int32) (z0 : Int32) (σ : MS) (h : m_work_46 N rec8 x1 x3 z0 σ = some res) : CF p l e R s m args below meth c 4 0 0 (MB g A s σ) Q 46 [(0, .ref (mh g)), (1, .int x1), (3, .int x3)] [.int z0] := by
  unfold m_work_46 at h
  refine cf_istore_n E dX6_work_46 h (fun x2_1 => [(2, .int x2_1), (0, .ref (mh g)), (1, .int x1), (3, .int x3)]) (Nat.le_of_ble_eq_true rfl) (fun _ => rfl) rfl (fun x2_1 h => ?_)
  refine cf_iinc E dX6_work_47 ic_1 h 3 rfl (fun x3_2 => [(3, .int x3_2), (2, .int x2_1), (0, .ref (mh g)), (1, .int x1)]) (Nat.le_of_ble_eq_true rfl) (fun _ => rfl) rfl (fun x3_2 h => ?_)
  refine cf_goto E dX6_work_50 rfl ?_
  exact CF.sub [2, 3, 1, 0] rfl (ih8 x1 x2_1 x3_2 σ h)
set_option maxHeartbeats 4000000 in
theorem wm_work_45 {p : Program} {l : Launch} {e : Env} {R : Room} {s : State} {m : MethodId} {args : Array Value} {below : List Frame} {meth : Method} {c : Code} {A : Nat → Prop} {g : MG} {Q : State → Prop} (E : EV p s m args c cX6_work 4 RX6) (hR : 1 ≤ R.frames ∧ 20 ≤ R.locals) {res : Int32 × MS} (hq : RTi p l e R s m args below meth c cX6_work 4 A g .int Q res) (N : Nat) {rec8 : Int32 → Int32 → Int32 → MS → Option (Int32 × MS)} (ih8 : ∀ (x1 : Int32) (x2 : Int32) (x3 : Int32) (σ : MS), rec8 x1 x2 x3 σ = some res → CF p l e R s m args below meth c 4 0 0 (MB g A s σ) Q 8 [(0, .ref (mh g)), (1, .int x1), (2, .int x2), (3, .int x3)] []) (x1 : Int32) (x2 : Int32) (x3 : Int32) (σ : MS) (h : m_work_45 N rec8 x1 x2 x3 σ = some res) : CF p l e R s m args below meth c 4 0 0 (MB g A s σ) Q 45 [(0, .ref (mh g)), (1, .int x1), (2, .int x2), (3, .int x3)] [] := by
  unfold m_work_45 at h
  refine cf_iload_n E dX6_work_45 2 rfl rfl ?_
  exact CF.sub [0, 1, 3] rfl (wm_work_46 E hR hq N ih8 x1 x3 x2 σ h)
set_option maxHeartbeats 4000000 in
theorem wm_work_8b {p : Program} {l : Launch} {e : Env} {R : Room} {s : State} {m : MethodId} {args : Array Value} {below : List Frame} {meth : Method} {c : Code} {A : Nat → Prop} {g : MG} {Q : State → Prop} (E : EV p s m args c cX6_work 4 RX6) (hR : 1 ≤ R.frames ∧ 20 ≤ R.locals) {res : Int32 × MS} (hq : RTi p l e R s m args below meth c cX6_work 4 A g .int Q res) (N : Nat)  {rec8 : Int32 → Int32 → Int32 → MS → Option (Int32 × MS)} (ih8 : ∀ (x1 : Int32) (x2 : Int32) (x3 : Int32) (σ : MS), rec8 x1 x2 x3 σ = some res → CF p l e R s m args below meth c 4 0 0 (MB g A s σ) Q 8 [(0, .ref (mh g)), (1, .int x1), (2, .int x2), (3, .int x3)] []) (x1 : Int32) (x2 : Int32) (x3 : Int32) (σ : MS) (h : m_work_8b N  rec8 x1 x2 x3 σ = some res) : CF p l e R s m args below meth c 4 0 0 (MB g A s σ) Q 8 [(0, .ref (mh g)), (1, .int x1), (2, .int x2), (3, .int x3)] [] := by
  unfold m_work_8b at h
  refine cf_iload_n E dX6_work_8 3 rfl rfl ?_
  refine cf_aload_n E dX6_work_9 0 rfl rfl ?_
  refine mcl_behind E (rmle hR rfl rfl) (Nat.le_of_ble_eq_true rfl) dX6_work_10 h rfl (fun v_2 s_1 h => ?_)
  refine cf_icmp_ge E dX6_work_13 h rfl rfl (fun h => ?_) (fun h => ?_)
  · refine cf_iload_n E dX6_work_53 2 rfl rfl ?_
    exact mret_i dX6_work_54 h rfl hq
  · refine cf_aload_n E dX6_work_16 0 rfl rfl ?_
    refine mget_21 E dX6_work_17 rfl ?_
    refine cf_iload_n E dX6_work_20 3 rfl rfl ?_
    refine mald_21 E dX6_work_21 h rfl (fun h => ?_)
    refine cf_iconst E dX6_work_22 ic_3 rfl ?_
    refine cf_icmp_ne E dX6_work_23 h rfl rfl (fun h => ?_) (fun h => ?_)
    · exact CF.sub [0, 1, 2, 3] rfl (wm_work_45 E hR hq N ih8 x1 x2 x3 s_1 h)
    · refine cf_aload_n E dX6_work_26 0 rfl rfl ?_
      refine mget_22 E dX6_work_27 rfl ?_
      refine cf_iload_n E dX6_work_30 3 rfl rfl ?_
      refine mald_22 E dX6_work_31 h rfl (fun h => ?_)
      refine cf_iload_n E dX6_work_32 1 rfl rfl ?_
      refine cf_icmp_ne E dX6_work_33 h rfl rfl (fun h => ?_) (fun h => ?_)
      · exact CF.sub [0, 1, 2, 3] rfl (wm_work_45 E hR hq N ih8 x1 x2 x3 s_1 h)
      · refine cf_aload_n E dX6_work_36 0 rfl rfl ?_
        refine mget_23 E dX6_work_37 rfl ?_
        refine cf_iload_n E dX6_work_40 3 rfl rfl ?_
        refine mald_23 E dX6_work_41 h rfl (fun h => ?_)
        refine cf_goto E dX6_work_42 rfl ?_
        exact CF.sub [0, 1, 3] rfl (wm_work_46 E hR hq N ih8 x1 x3 (gR s_1 23 x3.toNatClampNeg) s_1 h)
set_option maxHeartbeats 4000000 in
theorem wm_work_8 {p : Program} {l : Launch} {e : Env} {R : Room} {s : State} {m : MethodId} {args : Array Value} {below : List Frame} {meth : Method} {c : Code} {A : Nat → Prop} {g : MG} {Q : State → Prop} (E : EV p s m args c cX6_work 4 RX6) (hR : 1 ≤ R.frames ∧ 20 ≤ R.locals) {res : Int32 × MS} (hq : RTi p l e R s m args below meth c cX6_work 4 A g .int Q res) (N : Nat)  : ∀ (k : Nat) (x1 : Int32) (x2 : Int32) (x3 : Int32) (σ : MS), m_work_8 N  k x1 x2 x3 σ = some res → CF p l e R s m args below meth c 4 0 0 (MB g A s σ) Q 8 [(0, .ref (mh g)), (1, .int x1), (2, .int x2), (3, .int x3)] [] := by
  intro k
  induction k with
  | zero => intro x1 x2 x3 σ h; have h : (none : Option (Int32 × MS)) = some res := h; cases h
  | succ k ih => intro x1 x2 x3 σ h; exact wm_work_8b E hR hq N  ih x1 x2 x3 σ h
set_option maxHeartbeats 4000000 in
theorem met_work (l : Launch) (g : MG) (N : Nat) (x1 : Int32) (σ : MS) {v : Int32} {σ1 : MS} (h : m_work N x1 σ = some (v, σ1)) : MetMi l g yX6_work (ws_ yX6_work cX6_work 4 (some .int)) { frames := 1, cells := 0, slots := 0, locals := 20 } [.int x1] σ v σ1 := by
  refine met_mi (lv0 := [(0, .ref (mh g)), (1, .int x1)]) (by decide) rfl ⟨rfl, rfl⟩ (Nat.le_of_ble_eq_true rfl) rfl ?_
  intro p e s m below meth c A Q E hq
  have hR : 1 ≤ ({ frames := 1, cells := 0, slots := 0, locals := 20 } : Room).frames ∧ 20 ≤ ({ frames := 1, cells := 0, slots := 0, locals := 20 } : Room).locals := ⟨Nat.le_refl _, Nat.le_refl _⟩
  unfold m_work at h
  refine cf_bipush E dX6_work_0 bp_10 rfl ?_
  refine cf_istore_n E dX6_work_2 h (fun x2_1 => [(2, .int x2_1), (0, .ref (mh g)), (1, .int x1)]) (Nat.le_of_ble_eq_true rfl) (fun _ => rfl) rfl (fun x2_1 h => ?_)
  refine cf_aload_n E dX6_work_3 1 rfl rfl ?_
  refine mcl_begin E (rmle hR rfl rfl) (Nat.le_of_ble_eq_true rfl) dX6_work_4 h rfl (fun v_3 s_2 h => ?_)
  refine cf_istore_n E dX6_work_7 h (fun x3_4 => [(3, .int x3_4), (2, .int x2_1), (0, .ref (mh g)), (1, .int x1)]) (Nat.le_of_ble_eq_true rfl) (fun _ => rfl) rfl (fun x3_4 h => ?_)
  exact CF.sub [2, 3, 1, 0] rfl (wm_work_8 E hR hq N N x1 x2_1 x3_4 s_2 h)
theorem gw_work : GoodIn lw_all (wsV RX6 344 RX6 yX6_work (ws_ yX6_work cX6_work 4 (some .int))) := lw_V q1896 q1898 qs65 q105 q1899
theorem hd_work : yX6_work.cls = RX6 ∧ yX6_work.cls ≠ "java/lang/invoke/MethodHandle" ∧ yX6_work.cls ≠ "java/lang/invoke/VarHandle" ∧ (parseMethodDescriptor yX6_work.desc).map (fun d => d.parameters.length) = some 1 := by decide +kernel
theorem mcl_work {p : Program} {l : Launch} {e : Env} {R : Room} {s : State} {m : MethodId} {args : Array Value} {below : List Frame} {meth : Method} {c : Code} {nL : Nat} {A : Nat → Prop} {g : MG} {σ : MS} {Q : State → Prop} {pc n : Nat} {lv : List (Nat × Value)} {st : List Value} {cc : ByteArray} {ρ : Type} {res : ρ} (E : EV p s m args c cc nL RX6) {N : Nat} {x1 : Int32} {kk : Int32 → MS → Option ρ} (hR : 2 ≤ R.frames ∧ 43 ≤ R.locals) (hcat : (st.map fun v => v.category).sum ≤ 8) (d : decode cc pc = .ok (.invokevirtual 344, 3)) (h : bnd (m_work N x1 σ) kk = some res) (hn : pc + 3 = n) (k : ∀ (v : Int32) (σ1 : MS), kk v σ1 = some res → CF p l e R s m args below meth c nL 0 0 (MB g A s σ1) Q n lv (.int v :: st)) : CF p l e R s m args below meth c nL 0 0 (MB g A s σ) Q pc lv (.int x1 :: .ref (mh g) :: st) :=
  mcall_i E [.int x1] (fun v σ1 ho => met_work l g N x1 σ ho) gw_work hd_work rfl rfl hR rfl rfl hcat d h hn k
set_option maxHeartbeats 4000000 in
theorem met_told (l : Launch) (g : MG) (N : Nat) (x1 : Int32) (σ : MS) {v : Int32} {σ1 : MS} (h : m_told N x1 σ = some (v, σ1)) : MetMi l g yX6_told (ws_ yX6_told cX6_told 2 (some .int)) { frames := 2, cells := 0, slots := 0, locals := 43 } [.int x1] σ v σ1 := by
  refine met_mi (lv0 := [(0, .ref (mh g)), (1, .int x1)]) (by decide) rfl ⟨rfl, rfl⟩ (Nat.le_of_ble_eq_true rfl) rfl ?_
  intro p e s m below meth c A Q E hq
  have hR : 2 ≤ ({ frames := 2, cells := 0, slots := 0, locals := 43 } : Room).frames ∧ 43 ≤ ({ frames := 2, cells := 0, slots := 0, locals := 43 } : Room).locals := ⟨Nat.le_refl _, Nat.le_refl _⟩
  unfold m_told at h
  refine cf_aload_n E dX6_told_0 0 rfl rfl ?_
  refine cf_iload_n E dX6_told_1 1 rfl rfl ?_
  refine cf_bipush E dX6_told_2 bp_10 rfl ?_
  refine cf_bipush E dX6_told_4 bp_14 rfl ?_
  refine mcl_in E (rmle hR rfl rfl) (Nat.le_of_ble_eq_true rfl) dX6_told_6 h rfl (fun v_2 s_1 h => ?_)
  refine cf_if_eq E dX6_told_9 h rfl rfl (fun h => ?_) (fun h => ?_)
  · refine cf_aload_n E dX6_told_22 0 rfl rfl ?_
    refine cf_iload_n E dX6_told_23 1 rfl rfl ?_
    refine cf_bipush E dX6_told_24 bp_20 rfl ?_
    refine cf_bipush E dX6_told_26 bp_24 rfl ?_
    refine mcl_in E (rmle hR rfl rfl) (Nat.le_of_ble_eq_true rfl) dX6_told_28 h rfl (fun v_4 s_3 h => ?_)
    refine cf_if_eq E dX6_told_31 h rfl rfl (fun h => ?_) (fun h => ?_)
    · refine cf_iload_n E dX6_told_43 1 rfl rfl ?_
      refine cf_if_ne E dX6_told_44 h rfl rfl (fun h => ?_) (fun h => ?_)
      · refine cf_iload_n E dX6_told_54 1 rfl rfl ?_
        refine cf_iconst E dX6_told_55 ic_1 rfl ?_
        refine cf_icmp_ne E dX6_told_56 h rfl rfl (fun h => ?_) (fun h => ?_)
        · refine cf_iconst E dX6_told_66 ic_m1 rfl ?_
          exact mret_i dX6_told_67 h rfl hq
        · refine cf_aload_n E dX6_told_59 0 rfl rfl ?_
          refine mcl_moth E (rmle hR rfl rfl) (Nat.le_of_ble_eq_true rfl) dX6_told_60 h rfl (fun v_6 s_5 h => ?_)
          refine cf_goto E dX6_told_63 rfl ?_
          exact mret_i dX6_told_67 h rfl hq
      · refine cf_aload_n E dX6_told_47 0 rfl rfl ?_
        refine mget_2 E dX6_told_48 rfl ?_
        refine cf_goto E dX6_told_51 rfl ?_
        exact mret_i dX6_told_67 h rfl hq
    · refine cf_aload_n E dX6_told_34 0 rfl rfl ?_
      refine cf_iload_n E dX6_told_35 1 rfl rfl ?_
      refine cf_bipush E dX6_told_36 bp_20 rfl ?_
      refine cf_isub E dX6_told_38 rfl ?_
      refine mcl_work E (rmle hR rfl rfl) (Nat.le_of_ble_eq_true rfl) dX6_told_39 h rfl (fun v_8 s_7 h => ?_)
      exact mret_i dX6_told_42 h rfl hq
  · refine cf_aload_n E dX6_told_12 0 rfl rfl ?_
    refine mget_13 E dX6_told_13 rfl ?_
    refine cf_iload_n E dX6_told_16 1 rfl rfl ?_
    refine cf_bipush E dX6_told_17 bp_10 rfl ?_
    refine cf_isub E dX6_told_19 rfl ?_
    refine mald_13 E dX6_told_20 h rfl (fun h => ?_)
    exact mret_i dX6_told_21 h rfl hq

set_option maxHeartbeats 4000000 in
theorem wm_todayOf_56 {p : Program} {l : Launch} {e : Env} {R : Room} {s : State} {m : MethodId} {args : Array Value} {below : List Frame} {meth : Method} {c : Code} {A : Nat → Prop} {g : MG} {Q : State → Prop} (E : EV p s m args c cX6_todayOf 4 RX6) (hR : 4 ≤ R.frames ∧ 98 ≤ R.locals) {res : Int32 × MS} (hq : RTi p l e R s m args below meth c cX6_todayOf 4 A g .int Q res) (N : Nat) {rec4 : Int32 → Int32 → Int32 → MS → Option (Int32 × MS)} (ih4 : ∀ (x1 : Int32) (x2 : Int32) (x3 : Int32) (σ : MS), rec4 x1 x2 x3 σ = some res → CF p l e R s m args below meth c 4 0 0 (MB g A s σ) Q 4 [(0, .ref (mh g)), (1, .int x1), (2, .int x2), (3, .int x3)] []) (x1 : Int32) (x3 : Int32) (z0 : Int32) (z1 : Int32) (σ : MS) (h : m_todayOf_56 N rec4 x1 x3 z0 z1 σ = some res) : CF p l e R s m args below meth c 4 0 0 (MB g A s σ) Q 56 [(0, .ref (mh g)), (1, .int x1), (3, .int x3)] [.int z0, .int z1] := by
  unfold m_todayOf_56 at h
  refine cf_iadd E dX6_todayOf_56 rfl ?_
  refine cf_istore_n E dX6_todayOf_57 h (fun x2_1 => [(2, .int x2_1), (0, .ref (mh g)), (1, .int x1), (3, .int x3)]) (Nat.le_of_ble_eq_true rfl) (fun _ => rfl) rfl (fun x2_1 h => ?_)
  refine cf_iinc E dX6_todayOf_58 ic_1 h 3 rfl (fun x3_2 => [(3, .int x3_2), (2, .int x2_1), (0, .ref (mh g)), (1, .int x1)]) (Nat.le_of_ble_eq_true rfl) (fun _ => rfl) rfl (fun x3_2 h => ?_)
  refine cf_goto E dX6_todayOf_61 rfl ?_
  exact CF.sub [2, 3, 1, 0] rfl (ih4 x1 x2_1 x3_2 σ h)
set_option maxHeartbeats 4000000 in
theorem wm_todayOf_55 {p : Program} {l : Launch} {e : Env} {R : Room} {s : State} {m : MethodId} {args : Array Value} {below : List Frame} {meth : Method} {c : Code} {A : Nat → Prop} {g : MG} {Q : State → Prop} (E : EV p s m args c cX6_todayOf 4 RX6) (hR : 4 ≤ R.frames ∧ 98 ≤ R.locals) {res : Int32 × MS} (hq : RTi p l e R s m args below meth c cX6_todayOf 4 A g .int Q res) (N : Nat) {rec4 : Int32 → Int32 → Int32 → MS → Option (Int32 × MS)} (ih4 : ∀ (x1 : Int32) (x2 : Int32) (x3 : Int32) (σ : MS), rec4 x1 x2 x3 σ = some res → CF p l e R s m args below meth c 4 0 0 (MB g A s σ) Q 4 [(0, .ref (mh g)), (1, .int x1), (2, .int x2), (3, .int x3)] []) (x1 : Int32) (x3 : Int32) (z0 : Int32) (σ : MS) (h : m_todayOf_55 N rec4 x1 x3 z0 σ = some res) : CF p l e R s m args below meth c 4 0 0 (MB g A s σ) Q 55 [(0, .ref (mh g)), (1, .int x1), (3, .int x3)] [.int z0] := by
  unfold m_todayOf_55 at h
  refine cf_iconst E dX6_todayOf_55 ic_0 rfl ?_
  exact CF.sub [0, 1, 2] rfl (wm_todayOf_56 E hR hq N ih4 x1 x3 (0 : Int32) z0 σ h)
set_option maxHeartbeats 4000000 in
theorem wm_todayOf_41 {p : Program} {l : Launch} {e : Env} {R : Room} {s : State} {m : MethodId} {args : Array Value} {below : List Frame} {meth : Method} {c : Code} {A : Nat → Prop} {g : MG} {Q : State → Prop} (E : EV p s m args c cX6_todayOf 4 RX6) (hR : 4 ≤ R.frames ∧ 98 ≤ R.locals) {res : Int32 × MS} (hq : RTi p l e R s m args below meth c cX6_todayOf 4 A g .int Q res) (N : Nat) {rec4 : Int32 → Int32 → Int32 → MS → Option (Int32 × MS)} (ih4 : ∀ (x1 : Int32) (x2 : Int32) (x3 : Int32) (σ : MS), rec4 x1 x2 x3 σ = some res → CF p l e R s m args below meth c 4 0 0 (MB g A s σ) Q 4 [(0, .ref (mh g)), (1, .int x1), (2, .int x2), (3, .int x3)] []) (x1 : Int32) (x3 : Int32) (z0 : Int32) (σ : MS) (h : m_todayOf_41 N rec4 x1 x3 z0 σ = some res) : CF p l e R s m args below meth c 4 0 0 (MB g A s σ) Q 41 [(0, .ref (mh g)), (1, .int x1), (3, .int x3)] [.int z0] := by
  unfold m_todayOf_41 at h
  refine cf_aload_n E dX6_todayOf_41 0 rfl rfl ?_
  refine cf_aload_n E dX6_todayOf_42 0 rfl rfl ?_
  refine mget_5 E dX6_todayOf_43 rfl ?_
  refine cf_iload_n E dX6_todayOf_46 2 rfl rfl ?_
  refine mald_5 E dX6_todayOf_47 h rfl (fun h => ?_)
  refine cf_iload_n E dX6_todayOf_48 2 rfl rfl ?_
  refine mcl_deed E (rmle hR rfl rfl) (Nat.le_of_ble_eq_true rfl) dX6_todayOf_49 h rfl (fun v_2 s_1 h => ?_)
  refine cf_goto E dX6_todayOf_52 rfl ?_
  exact CF.sub [0, 1, 2] rfl (wm_todayOf_56 E hR hq N ih4 x1 x3 v_2 z0 s_1 h)
set_option maxHeartbeats 4000000 in
theorem wm_todayOf_4b {p : Program} {l : Launch} {e : Env} {R : Room} {s : State} {m : MethodId} {args : Array Value} {below : List Frame} {meth : Method} {c : Code} {A : Nat → Prop} {g : MG} {Q : State → Prop} (E : EV p s m args c cX6_todayOf 4 RX6) (hR : 4 ≤ R.frames ∧ 98 ≤ R.locals) {res : Int32 × MS} (hq : RTi p l e R s m args below meth c cX6_todayOf 4 A g .int Q res) (N : Nat)  {rec4 : Int32 → Int32 → Int32 → MS → Option (Int32 × MS)} (ih4 : ∀ (x1 : Int32) (x2 : Int32) (x3 : Int32) (σ : MS), rec4 x1 x2 x3 σ = some res → CF p l e R s m args below meth c 4 0 0 (MB g A s σ) Q 4 [(0, .ref (mh g)), (1, .int x1), (2, .int x2), (3, .int x3)] []) (x1 : Int32) (x2 : Int32) (x3 : Int32) (σ : MS) (h : m_todayOf_4b N  rec4 x1 x2 x3 σ = some res) : CF p l e R s m args below meth c 4 0 0 (MB g A s σ) Q 4 [(0, .ref (mh g)), (1, .int x1), (2, .int x2), (3, .int x3)] [] := by
  unfold m_todayOf_4b at h
  refine cf_iload_n E dX6_todayOf_4 3 rfl rfl ?_
  refine cf_aload_n E dX6_todayOf_5 0 rfl rfl ?_
  refine mget_0 E dX6_todayOf_6 rfl ?_
  refine cf_icmp_ge E dX6_todayOf_9 h rfl rfl (fun h => ?_) (fun h => ?_)
  · refine cf_iload_n E dX6_todayOf_64 2 rfl rfl ?_
    exact mret_i dX6_todayOf_65 h rfl hq
  · refine cf_iload_n E dX6_todayOf_12 2 rfl rfl ?_
    refine cf_aload_n E dX6_todayOf_13 0 rfl rfl ?_
    refine mget_5 E dX6_todayOf_14 rfl ?_
    refine cf_iload_n E dX6_todayOf_17 3 rfl rfl ?_
    refine mald_5 E dX6_todayOf_18 h rfl (fun h => ?_)
    refine cf_if_lt E dX6_todayOf_19 h rfl rfl (fun h => ?_) (fun h => ?_)
    · exact CF.sub [0, 1, 3] rfl (wm_todayOf_55 E hR hq N ih4 x1 x3 x2 σ h)
    · refine cf_iload_n E dX6_todayOf_22 1 rfl rfl ?_
      refine cf_if_lt E dX6_todayOf_23 h rfl rfl (fun h => ?_) (fun h => ?_)
      · exact CF.sub [0, 1, 3] rfl (wm_todayOf_41 E hR hq N ih4 x1 x3 x2 σ h)
      · refine cf_aload_n E dX6_todayOf_26 0 rfl rfl ?_
        refine mget_10 E dX6_todayOf_27 rfl ?_
        refine cf_aload_n E dX6_todayOf_30 0 rfl rfl ?_
        refine mget_5 E dX6_todayOf_31 rfl ?_
        refine cf_iload_n E dX6_todayOf_34 3 rfl rfl ?_
        refine mald_5 E dX6_todayOf_35 h rfl (fun h => ?_)
        refine mald_10 E dX6_todayOf_36 h rfl (fun h => ?_)
        refine cf_iload_n E dX6_todayOf_37 1 rfl rfl ?_
        refine cf_icmp_ne E dX6_todayOf_38 h rfl rfl (fun h => ?_) (fun h => ?_)
        · exact CF.sub [0, 1, 3] rfl (wm_todayOf_55 E hR hq N ih4 x1 x3 x2 σ h)
        · exact CF.sub [0, 1, 3] rfl (wm_todayOf_41 E hR hq N ih4 x1 x3 x2 σ h)
set_option maxHeartbeats 4000000 in
theorem wm_todayOf_4 {p : Program} {l : Launch} {e : Env} {R : Room} {s : State} {m : MethodId} {args : Array Value} {below : List Frame} {meth : Method} {c : Code} {A : Nat → Prop} {g : MG} {Q : State → Prop} (E : EV p s m args c cX6_todayOf 4 RX6) (hR : 4 ≤ R.frames ∧ 98 ≤ R.locals) {res : Int32 × MS} (hq : RTi p l e R s m args below meth c cX6_todayOf 4 A g .int Q res) (N : Nat)  : ∀ (k : Nat) (x1 : Int32) (x2 : Int32) (x3 : Int32) (σ : MS), m_todayOf_4 N  k x1 x2 x3 σ = some res → CF p l e R s m args below meth c 4 0 0 (MB g A s σ) Q 4 [(0, .ref (mh g)), (1, .int x1), (2, .int x2), (3, .int x3)] [] := by
  intro k
  induction k with
  | zero => intro x1 x2 x3 σ h; have h : (none : Option (Int32 × MS)) = some res := h; cases h
  | succ k ih => intro x1 x2 x3 σ h; exact wm_todayOf_4b E hR hq N  ih x1 x2 x3 σ h
set_option maxHeartbeats 4000000 in
theorem met_todayOf (l : Launch) (g : MG) (N : Nat) (x1 : Int32) (σ : MS) {v : Int32} {σ1 : MS} (h : m_todayOf N x1 σ = some (v, σ1)) : MetMi l g yX6_todayOf (ws_ yX6_todayOf cX6_todayOf 4 (some .int)) { frames := 4, cells := 0, slots := 0, locals := 98 } [.int x1] σ v σ1 := by
  refine met_mi (lv0 := [(0, .ref (mh g)), (1, .int x1)]) (by decide) rfl ⟨rfl, rfl⟩ (Nat.le_of_ble_eq_true rfl) rfl ?_
  intro p e s m below meth c A Q E hq
  have hR : 4 ≤ ({ frames := 4, cells := 0, slots := 0, locals := 98 } : Room).frames ∧ 98 ≤ ({ frames := 4, cells := 0, slots := 0, locals := 98 } : Room).locals := ⟨Nat.le_refl _, Nat.le_refl _⟩
  unfold m_todayOf at h
  refine cf_iconst E dX6_todayOf_0 ic_0 rfl ?_
  refine cf_istore_n E dX6_todayOf_1 h (fun x2_1 => [(2, .int x2_1), (0, .ref (mh g)), (1, .int x1)]) (Nat.le_of_ble_eq_true rfl) (fun _ => rfl) rfl (fun x2_1 h => ?_)
  refine cf_iconst E dX6_todayOf_2 ic_0 rfl ?_
  refine cf_istore_n E dX6_todayOf_3 h (fun x3_2 => [(3, .int x3_2), (2, .int x2_1), (0, .ref (mh g)), (1, .int x1)]) (Nat.le_of_ble_eq_true rfl) (fun _ => rfl) rfl (fun x3_2 h => ?_)
  exact CF.sub [2, 3, 1, 0] rfl (wm_todayOf_4 E hR hq N N x1 x2_1 x3_2 σ h)
theorem gw_todayOf : GoodIn lw_all (wsV RX6 347 RX6 yX6_todayOf (ws_ yX6_todayOf cX6_todayOf 4 (some .int))) := lw_V q1904 q1906 qs66 q105 q1907
theorem hd_todayOf : yX6_todayOf.cls = RX6 ∧ yX6_todayOf.cls ≠ "java/lang/invoke/MethodHandle" ∧ yX6_todayOf.cls ≠ "java/lang/invoke/VarHandle" ∧ (parseMethodDescriptor yX6_todayOf.desc).map (fun d => d.parameters.length) = some 1 := by decide +kernel
theorem mcl_todayOf {p : Program} {l : Launch} {e : Env} {R : Room} {s : State} {m : MethodId} {args : Array Value} {below : List Frame} {meth : Method} {c : Code} {nL : Nat} {A : Nat → Prop} {g : MG} {σ : MS} {Q : State → Prop} {pc n : Nat} {lv : List (Nat × Value)} {st : List Value} {cc : ByteArray} {ρ : Type} {res : ρ} (E : EV p s m args c cc nL RX6) {N : Nat} {x1 : Int32} {kk : Int32 → MS → Option ρ} (hR : 5 ≤ R.frames ∧ 121 ≤ R.locals) (hcat : (st.map fun v => v.category).sum ≤ 8) (d : decode cc pc = .ok (.invokevirtual 347, 3)) (h : bnd (m_todayOf N x1 σ) kk = some res) (hn : pc + 3 = n) (k : ∀ (v : Int32) (σ1 : MS), kk v σ1 = some res → CF p l e R s m args below meth c nL 0 0 (MB g A s σ1) Q n lv (.int v :: st)) : CF p l e R s m args below meth c nL 0 0 (MB g A s σ) Q pc lv (.int x1 :: .ref (mh g) :: st) :=
  mcall_i E [.int x1] (fun v σ1 ho => met_todayOf l g N x1 σ ho) gw_todayOf hd_todayOf rfl rfl hR rfl rfl hcat d h hn k
set_option maxHeartbeats 4000000 in
theorem wm_goDay_68 {p : Program} {l : Launch} {e : Env} {R : Room} {s : State} {m : MethodId} {args : Array Value} {below : List Frame} {meth : Method} {c : Code} {A : Nat → Prop} {g : MG} {Q : State → Prop} (E : EV p s m args c cX6_goDay 2 RX6) (hR : 0 ≤ R.frames ∧ 0 ≤ R.locals) {res : MS} (hq : RTv p l e R s m args below meth c cX6_goDay 2 A g Q res) (N : Nat) {rec2 : Int32 → MS → Option (MS)} (ih2 : ∀ (x1 : Int32) (σ : MS), rec2 x1 σ = some res → CF p l e R s m args below meth c 2 0 0 (MB g A s σ) Q 2 [(0, .ref (mh g)), (1, .int x1)] []) (x1 : Int32) (σ : MS) (h : m_goDay_68 N rec2 x1 σ = some res) : CF p l e R s m args below meth c 2 0 0 (MB g A s σ) Q 68 [(0, .ref (mh g)), (1, .int x1)] [] := by
  unfold m_goDay_68 at h
  refine cf_iinc E dX6_goDay_68 ic_1 h 1 rfl (fun x1_1 => [(1, .int x1_1), (0, .ref (mh g))]) (Nat.le_of_ble_eq_true rfl) (fun _ => rfl) rfl (fun x1_1 h => ?_)
  refine cf_goto E dX6_goDay_71 rfl ?_
  exact CF.sub [1, 0] rfl (ih2 x1_1 σ h)
set_option maxHeartbeats 4000000 in
theorem wm_goDay_67 {p : Program} {l : Launch} {e : Env} {R : Room} {s : State} {m : MethodId} {args : Array Value} {below : List Frame} {meth : Method} {c : Code} {A : Nat → Prop} {g : MG} {Q : State → Prop} (E : EV p s m args c cX6_goDay 2 RX6) (hR : 0 ≤ R.frames ∧ 0 ≤ R.locals) {res : MS} (hq : RTv p l e R s m args below meth c cX6_goDay 2 A g Q res) (N : Nat) {rec2 : Int32 → MS → Option (MS)} (ih2 : ∀ (x1 : Int32) (σ : MS), rec2 x1 σ = some res → CF p l e R s m args below meth c 2 0 0 (MB g A s σ) Q 2 [(0, .ref (mh g)), (1, .int x1)] []) (x1 : Int32) (z0 : Int32) (z1 : Int32) (σ : MS) (h : m_goDay_67 N rec2 x1 z0 z1 σ = some res) : CF p l e R s m args below meth c 2 0 0 (MB g A s σ) Q 67 [(0, .ref (mh g)), (1, .int x1)] [.int z0, .int z1, .ref (ma g 11)] := by
  unfold m_goDay_67 at h
  refine mast_11 E dX6_goDay_67 h rfl (fun s_1 h => ?_)
  exact CF.sub [0, 1] rfl (wm_goDay_68 E hR hq N ih2 x1 s_1 h)
set_option maxHeartbeats 4000000 in
theorem wm_goDay_2b {p : Program} {l : Launch} {e : Env} {R : Room} {s : State} {m : MethodId} {args : Array Value} {below : List Frame} {meth : Method} {c : Code} {A : Nat → Prop} {g : MG} {Q : State → Prop} (E : EV p s m args c cX6_goDay 2 RX6) (hR : 0 ≤ R.frames ∧ 0 ≤ R.locals) {res : MS} (hq : RTv p l e R s m args below meth c cX6_goDay 2 A g Q res) (N : Nat)  {rec2 : Int32 → MS → Option (MS)} (ih2 : ∀ (x1 : Int32) (σ : MS), rec2 x1 σ = some res → CF p l e R s m args below meth c 2 0 0 (MB g A s σ) Q 2 [(0, .ref (mh g)), (1, .int x1)] []) (x1 : Int32) (σ : MS) (h : m_goDay_2b N  rec2 x1 σ = some res) : CF p l e R s m args below meth c 2 0 0 (MB g A s σ) Q 2 [(0, .ref (mh g)), (1, .int x1)] [] := by
  unfold m_goDay_2b at h
  refine cf_iload_n E dX6_goDay_2 1 rfl rfl ?_
  refine cf_aload_n E dX6_goDay_3 0 rfl rfl ?_
  refine mget_0 E dX6_goDay_4 rfl ?_
  refine cf_icmp_ge E dX6_goDay_7 h rfl rfl (fun h => ?_) (fun h => ?_)
  · refine cf_aload_n E dX6_goDay_74 0 rfl rfl ?_
    refine cf_dup E dX6_goDay_75 rfl rfl ?_
    refine mget_2 E dX6_goDay_76 rfl ?_
    refine cf_iconst E dX6_goDay_79 ic_1 rfl ?_
    refine cf_iadd E dX6_goDay_80 rfl ?_
    refine mput_2 E dX6_goDay_81 h rfl (fun s_1 h => ?_)
    exact mret_v dX6_goDay_84 h hq
  · refine cf_aload_n E dX6_goDay_10 0 rfl rfl ?_
    refine mget_5 E dX6_goDay_11 rfl ?_
    refine cf_iload_n E dX6_goDay_14 1 rfl rfl ?_
    refine mald_5 E dX6_goDay_15 h rfl (fun h => ?_)
    refine cf_if_lt E dX6_goDay_16 h rfl rfl (fun h => ?_) (fun h => ?_)
    · exact CF.sub [0, 1] rfl (wm_goDay_68 E hR hq N ih2 x1 σ h)
    · refine cf_aload_n E dX6_goDay_19 0 rfl rfl ?_
      refine mget_11 E dX6_goDay_20 rfl ?_
      refine cf_aload_n E dX6_goDay_23 0 rfl rfl ?_
      refine mget_5 E dX6_goDay_24 rfl ?_
      refine cf_iload_n E dX6_goDay_27 1 rfl rfl ?_
      refine mald_5 E dX6_goDay_28 h rfl (fun h => ?_)
      refine cf_aload_n E dX6_goDay_29 0 rfl rfl ?_
      refine mget_11 E dX6_goDay_30 rfl ?_
      refine cf_aload_n E dX6_goDay_33 0 rfl rfl ?_
      refine mget_5 E dX6_goDay_34 rfl ?_
      refine cf_iload_n E dX6_goDay_37 1 rfl rfl ?_
      refine mald_5 E dX6_goDay_38 h rfl (fun h => ?_)
      refine mald_11 E dX6_goDay_39 h rfl (fun h => ?_)
      refine cf_aload_n E dX6_goDay_40 0 rfl rfl ?_
      refine mget_33 E dX6_goDay_41 rfl ?_
      refine cf_icmp_ge E dX6_goDay_44 h rfl rfl (fun h => ?_) (fun h => ?_)
      · refine cf_aload_n E dX6_goDay_63 0 rfl rfl ?_
        refine mget_33 E dX6_goDay_64 rfl ?_
        exact CF.sub [0, 1] rfl (wm_goDay_67 E hR hq N ih2 x1 (gF σ 33) (gR σ 5 x1.toNatClampNeg) σ h)
      · refine cf_aload_n E dX6_goDay_47 0 rfl rfl ?_
        refine mget_11 E dX6_goDay_48 rfl ?_
        refine cf_aload_n E dX6_goDay_51 0 rfl rfl ?_
        refine mget_5 E dX6_goDay_52 rfl ?_
        refine cf_iload_n E dX6_goDay_55 1 rfl rfl ?_
        refine mald_5 E dX6_goDay_56 h rfl (fun h => ?_)
        refine mald_11 E dX6_goDay_57 h rfl (fun h => ?_)
        refine cf_iconst E dX6_goDay_58 ic_1 rfl ?_
        refine cf_iadd E dX6_goDay_59 rfl ?_
        refine cf_goto E dX6_goDay_60 rfl ?_
        exact CF.sub [0, 1] rfl (wm_goDay_67 E hR hq N ih2 x1 ((gR σ 11 (gR σ 5 x1.toNatClampNeg).toNatClampNeg) + (1 : Int32)) (gR σ 5 x1.toNatClampNeg) σ h)
set_option maxHeartbeats 4000000 in
theorem wm_goDay_2 {p : Program} {l : Launch} {e : Env} {R : Room} {s : State} {m : MethodId} {args : Array Value} {below : List Frame} {meth : Method} {c : Code} {A : Nat → Prop} {g : MG} {Q : State → Prop} (E : EV p s m args c cX6_goDay 2 RX6) (hR : 0 ≤ R.frames ∧ 0 ≤ R.locals) {res : MS} (hq : RTv p l e R s m args below meth c cX6_goDay 2 A g Q res) (N : Nat)  : ∀ (k : Nat) (x1 : Int32) (σ : MS), m_goDay_2 N  k x1 σ = some res → CF p l e R s m args below meth c 2 0 0 (MB g A s σ) Q 2 [(0, .ref (mh g)), (1, .int x1)] [] := by
  intro k
  induction k with
  | zero => intro x1 σ h; have h : (none : Option (MS)) = some res := h; cases h
  | succ k ih => intro x1 σ h; exact wm_goDay_2b E hR hq N  ih x1 σ h
set_option maxHeartbeats 4000000 in
theorem met_goDay (l : Launch) (g : MG) (N : Nat)  (σ : MS) {σ1 : MS} (h : m_goDay N  σ = some σ1) : MetMv l g yX6_goDay (ws_ yX6_goDay cX6_goDay 2 (none)) { frames := 0, cells := 0, slots := 0, locals := 0 } [] σ σ1 := by
  refine met_mv (lv0 := [(0, .ref (mh g))]) (by decide) rfl ⟨rfl, rfl⟩ (Nat.le_of_ble_eq_true rfl) rfl ?_
  intro p e s m below meth c A Q E hq
  have hR : 0 ≤ ({ frames := 0, cells := 0, slots := 0, locals := 0 } : Room).frames ∧ 0 ≤ ({ frames := 0, cells := 0, slots := 0, locals := 0 } : Room).locals := ⟨Nat.le_refl _, Nat.le_refl _⟩
  unfold m_goDay at h
  refine cf_iconst E dX6_goDay_0 ic_0 rfl ?_
  refine cf_istore_n E dX6_goDay_1 h (fun x1_1 => [(1, .int x1_1), (0, .ref (mh g))]) (Nat.le_of_ble_eq_true rfl) (fun _ => rfl) rfl (fun x1_1 h => ?_)
  exact CF.sub [1, 0] rfl (wm_goDay_2 E hR hq N N x1_1 σ h)
theorem gw_goDay : GoodIn lw_all (wsV RX6 351 RX6 yX6_goDay (ws_ yX6_goDay cX6_goDay 2 none)) := lw_V q1909 q1911 qs67 q105 q1912
theorem hd_goDay : yX6_goDay.cls = RX6 ∧ yX6_goDay.cls ≠ "java/lang/invoke/MethodHandle" ∧ yX6_goDay.cls ≠ "java/lang/invoke/VarHandle" ∧ (parseMethodDescriptor yX6_goDay.desc).map (fun d => d.parameters.length) = some 0 := by decide +kernel
theorem mcl_goDay {p : Program} {l : Launch} {e : Env} {R : Room} {s : State} {m : MethodId} {args : Array Value} {below : List Frame} {meth : Method} {c : Code} {nL : Nat} {A : Nat → Prop} {g : MG} {σ : MS} {Q : State → Prop} {pc n : Nat} {lv : List (Nat × Value)} {st : List Value} {cc : ByteArray} {ρ : Type} {res : ρ} (E : EV p s m args c cc nL RX6) {N : Nat}  {kk : MS → Option ρ} (hR : 1 ≤ R.frames ∧ 21 ≤ R.locals) (hcat : (st.map fun v => v.category).sum ≤ 8) (d : decode cc pc = .ok (.invokevirtual 351, 3)) (h : bnv (m_goDay N  σ) kk = some res) (hn : pc + 3 = n) (k : ∀ (σ1 : MS), kk σ1 = some res → CF p l e R s m args below meth c nL 0 0 (MB g A s σ1) Q n lv st) : CF p l e R s m args below meth c nL 0 0 (MB g A s σ) Q pc lv (.ref (mh g) :: st) :=
  mcall_v E [] (fun σ1 ho => met_goDay l g N  σ ho) gw_goDay hd_goDay rfl rfl hR rfl rfl hcat d h hn k
set_option maxHeartbeats 4000000 in
theorem wm_day_58 {p : Program} {l : Launch} {e : Env} {R : Room} {s : State} {m : MethodId} {args : Array Value} {below : List Frame} {meth : Method} {c : Code} {A : Nat → Prop} {g : MG} {Q : State → Prop} (E : EV p s m args c cX6_day 4 RX6) (hR : 5 ≤ R.frames ∧ 121 ≤ R.locals) {res : Int32 × MS} (hq : RTi p l e R s m args below meth c cX6_day 4 A g .int Q res) (N : Nat) {rec21 : Int32 → Int32 → MS → Option (Int32 × MS)} (ih21 : ∀ (x1 : Int32) (x2 : Int32) (σ : MS), rec21 x1 x2 σ = some res → CF p l e R s m args below meth c 4 0 0 (MB g A s σ) Q 21 [(0, .ref (mh g)), (1, .int x1), (2, .int x2)] []) (x1 : Int32) (x2 : Int32) (z0 : Int32) (z1 : Int32) (σ : MS) (h : m_day_58 N rec21 x1 x2 z0 z1 σ = some res) : CF p l e R s m args below meth c 4 0 0 (MB g A s σ) Q 58 [(0, .ref (mh g)), (1, .int x1), (2, .int x2)] [.int z0, .int z1, .ref (ma g 13)] := by
  unfold m_day_58 at h
  refine mast_13 E dX6_day_58 h rfl (fun s_1 h => ?_)
  refine cf_iinc E dX6_day_59 ic_1 h 2 rfl (fun x2_2 => [(2, .int x2_2), (0, .ref (mh g)), (1, .int x1)]) (Nat.le_of_ble_eq_true rfl) (fun _ => rfl) rfl (fun x2_2 h => ?_)
  refine cf_goto E dX6_day_62 rfl ?_
  exact CF.sub [1, 2, 0] rfl (ih21 x1 x2_2 s_1 h)
set_option maxHeartbeats 4000000 in
theorem wm_day_21b {p : Program} {l : Launch} {e : Env} {R : Room} {s : State} {m : MethodId} {args : Array Value} {below : List Frame} {meth : Method} {c : Code} {A : Nat → Prop} {g : MG} {Q : State → Prop} (E : EV p s m args c cX6_day 4 RX6) (hR : 5 ≤ R.frames ∧ 121 ≤ R.locals) {res : Int32 × MS} (hq : RTi p l e R s m args below meth c cX6_day 4 A g .int Q res) (N : Nat)  {rec21 : Int32 → Int32 → MS → Option (Int32 × MS)} (ih21 : ∀ (x1 : Int32) (x2 : Int32) (σ : MS), rec21 x1 x2 σ = some res → CF p l e R s m args below meth c 4 0 0 (MB g A s σ) Q 21 [(0, .ref (mh g)), (1, .int x1), (2, .int x2)] []) (x1 : Int32) (x2 : Int32) (σ : MS) (h : m_day_21b N  rec21 x1 x2 σ = some res) : CF p l e R s m args below meth c 4 0 0 (MB g A s σ) Q 21 [(0, .ref (mh g)), (1, .int x1), (2, .int x2)] [] := by
  unfold m_day_21b at h
  refine cf_iload_n E dX6_day_21 2 rfl rfl ?_
  refine cf_iconst E dX6_day_22 ic_5 rfl ?_
  refine cf_icmp_ge E dX6_day_23 h rfl rfl (fun h => ?_) (fun h => ?_)
  · refine cf_aload_n E dX6_day_65 0 rfl rfl ?_
    refine mcl_goDay E (rmle hR rfl rfl) (Nat.le_of_ble_eq_true rfl) dX6_day_66 h rfl (fun s_1 h => ?_)
    refine cf_iload_n E dX6_day_69 1 rfl rfl ?_
    exact mret_i dX6_day_70 h rfl hq
  · refine cf_aload_n E dX6_day_26 0 rfl rfl ?_
    refine mget_13 E dX6_day_27 rfl ?_
    refine cf_iload_n E dX6_day_30 2 rfl rfl ?_
    refine mald_13 E dX6_day_31 h rfl (fun h => ?_)
    refine cf_aload_n E dX6_day_32 0 rfl rfl ?_
    refine cf_iload_n E dX6_day_33 2 rfl rfl ?_
    refine mcl_todayOf E (rmle hR rfl rfl) (Nat.le_of_ble_eq_true rfl) dX6_day_34 h rfl (fun v_3 s_2 h => ?_)
    refine cf_iadd E dX6_day_37 rfl ?_
    refine cf_istore_n E dX6_day_38 h (fun x3_4 => [(3, .int x3_4), (0, .ref (mh g)), (1, .int x1), (2, .int x2)]) (Nat.le_of_ble_eq_true rfl) (fun _ => rfl) rfl (fun x3_4 h => ?_)
    refine cf_aload_n E dX6_day_39 1 rfl rfl ?_
    refine mget_13 E dX6_day_40 rfl ?_
    refine cf_iload_n E dX6_day_43 3 rfl rfl ?_
    refine cf_iload_n E dX6_day_44 0 rfl rfl ?_
    refine cf_ldcw E dX6_day_45 q1908 rfl ?_
    refine cf_icmp_le E dX6_day_48 h rfl rfl (fun h => ?_) (fun h => ?_)
    · refine cf_iload_n E dX6_day_57 0 rfl rfl ?_
      exact CF.sub [1, 2, 3] rfl (wm_day_58 E hR hq N ih21 x1 x2 x3_4 x2 s_2 h)
    · refine cf_ldcw E dX6_day_51 q1908 rfl ?_
      refine cf_goto E dX6_day_54 rfl ?_
      exact CF.sub [1, 2, 3] rfl (wm_day_58 E hR hq N ih21 x1 x2 (999999 : Int32) x2 s_2 h)
set_option maxHeartbeats 4000000 in
theorem wm_day_21 {p : Program} {l : Launch} {e : Env} {R : Room} {s : State} {m : MethodId} {args : Array Value} {below : List Frame} {meth : Method} {c : Code} {A : Nat → Prop} {g : MG} {Q : State → Prop} (E : EV p s m args c cX6_day 4 RX6) (hR : 5 ≤ R.frames ∧ 121 ≤ R.locals) {res : Int32 × MS} (hq : RTi p l e R s m args below meth c cX6_day 4 A g .int Q res) (N : Nat)  : ∀ (k : Nat) (x1 : Int32) (x2 : Int32) (σ : MS), m_day_21 N  k x1 x2 σ = some res → CF p l e R s m args below meth c 4 0 0 (MB g A s σ) Q 21 [(0, .ref (mh g)), (1, .int x1), (2, .int x2)] [] := by
  intro k
  induction k with
  | zero => intro x1 x2 σ h; have h : (none : Option (Int32 × MS)) = some res := h; cases h
  | succ k ih => intro x1 x2 σ h; exact wm_day_21b E hR hq N  ih x1 x2 σ h
set_option maxHeartbeats 4000000 in
theorem met_day (l : Launch) (g : MG) (N : Nat)  (σ : MS) {v : Int32} {σ1 : MS} (h : m_day N  σ = some (v, σ1)) : MetMi l g yX6_day (ws_ yX6_day cX6_day 4 (some .int)) { frames := 5, cells := 0, slots := 0, locals := 121 } [] σ v σ1 := by
  refine met_mi (lv0 := [(0, .ref (mh g))]) (by decide) rfl ⟨rfl, rfl⟩ (Nat.le_of_ble_eq_true rfl) rfl ?_
  intro p e s m below meth c A Q E hq
  have hR : 5 ≤ ({ frames := 5, cells := 0, slots := 0, locals := 121 } : Room).frames ∧ 121 ≤ ({ frames := 5, cells := 0, slots := 0, locals := 121 } : Room).locals := ⟨Nat.le_refl _, Nat.le_refl _⟩
  unfold m_day at h
  refine cf_aload_n E dX6_day_0 0 rfl rfl ?_
  refine mget_2 E dX6_day_1 rfl ?_
  refine cf_sipush E dX6_day_4 sp_9999 rfl ?_
  refine cf_icmp_ne E dX6_day_7 h rfl rfl (fun h => ?_) (fun h => ?_)
  · refine cf_aload_n E dX6_day_13 0 rfl rfl ?_
    refine cf_iconst E dX6_day_14 ic_m1 rfl ?_
    refine mcl_todayOf E (rmle hR rfl rfl) (Nat.le_of_ble_eq_true rfl) dX6_day_15 h rfl (fun v_2 s_1 h => ?_)
    refine cf_istore_n E dX6_day_18 h (fun x1_3 => [(1, .int x1_3), (0, .ref (mh g))]) (Nat.le_of_ble_eq_true rfl) (fun _ => rfl) rfl (fun x1_3 h => ?_)
    refine cf_iconst E dX6_day_19 ic_0 rfl ?_
    refine cf_istore_n E dX6_day_20 h (fun x2_4 => [(2, .int x2_4), (1, .int x1_3), (0, .ref (mh g))]) (Nat.le_of_ble_eq_true rfl) (fun _ => rfl) rfl (fun x2_4 h => ?_)
    exact CF.sub [2, 1, 0] rfl (wm_day_21 E hR hq N N x1_3 x2_4 s_1 h)
  · refine cf_bipush E dX6_day_10 bp_m3 rfl ?_
    exact mret_i dX6_day_12 h rfl hq

set_option maxHeartbeats 4000000 in
theorem wm_goGust_56b {p : Program} {l : Launch} {e : Env} {R : Room} {s : State} {m : MethodId} {args : Array Value} {below : List Frame} {meth : Method} {c : Code} {A : Nat → Prop} {g : MG} {Q : State → Prop} (E : EV p s m args c cX6_goGust 4 RX6) (hR : 0 ≤ R.frames ∧ 0 ≤ R.locals) {res : Int32 × MS} (hq : RTi p l e R s m args below meth c cX6_goGust 4 A g .int Q res) (N : Nat)  {rec56 : Int32 → Int32 → MS → Option (Int32 × MS)} (ih56 : ∀ (x2 : Int32) (x3 : Int32) (σ : MS), rec56 x2 x3 σ = some res → CF p l e R s m args below meth c 4 0 0 (MB g A s σ) Q 56 [(0, .ref (mh g)), (2, .int x2), (3, .int x3)] []) (x2 : Int32) (x3 : Int32) (σ : MS) (h : m_goGust_56b N  rec56 x2 x3 σ = some res) : CF p l e R s m args below meth c 4 0 0 (MB g A s σ) Q 56 [(0, .ref (mh g)), (2, .int x2), (3, .int x3)] [] := by
  unfold m_goGust_56b at h
  refine cf_iload_n E dX6_goGust_56 2 rfl rfl ?_
  refine cf_aload_n E dX6_goGust_57 0 rfl rfl ?_
  refine mget_0 E dX6_goGust_58 rfl ?_
  refine cf_icmp_ge E dX6_goGust_61 h rfl rfl (fun h => ?_) (fun h => ?_)
  · refine cf_iload_n E dX6_goGust_82 1 rfl rfl ?_
    exact mret_i dX6_goGust_83 h rfl hq
  · refine cf_aload_n E dX6_goGust_64 0 rfl rfl ?_
    refine mget_5 E dX6_goGust_65 rfl ?_
    refine cf_iload_n E dX6_goGust_68 2 rfl rfl ?_
    refine cf_aload_n E dX6_goGust_69 0 rfl rfl ?_
    refine mget_34 E dX6_goGust_70 rfl ?_
    refine cf_iload_n E dX6_goGust_73 2 rfl rfl ?_
    refine mald_34 E dX6_goGust_74 h rfl (fun h => ?_)
    refine mast_5 E dX6_goGust_75 h rfl (fun s_1 h => ?_)
    refine cf_iinc E dX6_goGust_76 ic_1 h 2 rfl (fun x3_2 => [(3, .int x3_2), (0, .ref (mh g)), (2, .int x2)]) (Nat.le_of_ble_eq_true rfl) (fun _ => rfl) rfl (fun x3_2 h => ?_)
    refine cf_goto E dX6_goGust_79 rfl ?_
    exact CF.sub [1, 2, 0] rfl (ih56 x2 x3_2 s_1 h)
set_option maxHeartbeats 4000000 in
theorem wm_goGust_56 {p : Program} {l : Launch} {e : Env} {R : Room} {s : State} {m : MethodId} {args : Array Value} {below : List Frame} {meth : Method} {c : Code} {A : Nat → Prop} {g : MG} {Q : State → Prop} (E : EV p s m args c cX6_goGust 4 RX6) (hR : 0 ≤ R.frames ∧ 0 ≤ R.locals) {res : Int32 × MS} (hq : RTi p l e R s m args below meth c cX6_goGust 4 A g .int Q res) (N : Nat)  : ∀ (k : Nat) (x2 : Int32) (x3 : Int32) (σ : MS), m_goGust_56 N  k x2 x3 σ = some res → CF p l e R s m args below meth c 4 0 0 (MB g A s σ) Q 56 [(0, .ref (mh g)), (2, .int x2), (3, .int x3)] [] := by
  intro k
  induction k with
  | zero => intro x2 x3 σ h; have h : (none : Option (Int32 × MS)) = some res := h; cases h
  | succ k ih => intro x2 x3 σ h; exact wm_goGust_56b E hR hq N  ih x2 x3 σ h
set_option maxHeartbeats 4000000 in
theorem wm_goGust_46 {p : Program} {l : Launch} {e : Env} {R : Room} {s : State} {m : MethodId} {args : Array Value} {below : List Frame} {meth : Method} {c : Code} {A : Nat → Prop} {g : MG} {Q : State → Prop} (E : EV p s m args c cX6_goGust 4 RX6) (hR : 0 ≤ R.frames ∧ 0 ≤ R.locals) {res : Int32 × MS} (hq : RTi p l e R s m args below meth c cX6_goGust 4 A g .int Q res) (N : Nat) {rec4 : Int32 → Int32 → Int32 → MS → Option (Int32 × MS)} (ih4 : ∀ (x1 : Int32) (x2 : Int32) (x3 : Int32) (σ : MS), rec4 x1 x2 x3 σ = some res → CF p l e R s m args below meth c 4 0 0 (MB g A s σ) Q 4 [(0, .ref (mh g)), (1, .int x1), (2, .int x2), (3, .int x3)] []) (x1 : Int32) (x3 : Int32) (z0 : Int32) (z1 : Int32) (σ : MS) (h : m_goGust_46 N rec4 x1 x3 z0 z1 σ = some res) : CF p l e R s m args below meth c 4 0 0 (MB g A s σ) Q 46 [(0, .ref (mh g)), (1, .int x1), (3, .int x3)] [.int z0, .int z1] := by
  unfold m_goGust_46 at h
  refine cf_iadd E dX6_goGust_46 rfl ?_
  refine cf_istore_n E dX6_goGust_47 h (fun x2_1 => [(2, .int x2_1), (0, .ref (mh g)), (1, .int x1), (3, .int x3)]) (Nat.le_of_ble_eq_true rfl) (fun _ => rfl) rfl (fun x2_1 h => ?_)
  refine cf_iinc E dX6_goGust_48 ic_1 h 3 rfl (fun x3_2 => [(3, .int x3_2), (2, .int x2_1), (0, .ref (mh g)), (1, .int x1)]) (Nat.le_of_ble_eq_true rfl) (fun _ => rfl) rfl (fun x3_2 h => ?_)
  refine cf_goto E dX6_goGust_51 rfl ?_
  exact CF.sub [2, 3, 1, 0] rfl (ih4 x1 x2_1 x3_2 σ h)
set_option maxHeartbeats 4000000 in
theorem wm_goGust_4b {p : Program} {l : Launch} {e : Env} {R : Room} {s : State} {m : MethodId} {args : Array Value} {below : List Frame} {meth : Method} {c : Code} {A : Nat → Prop} {g : MG} {Q : State → Prop} (E : EV p s m args c cX6_goGust 4 RX6) (hR : 0 ≤ R.frames ∧ 0 ≤ R.locals) {res : Int32 × MS} (hq : RTi p l e R s m args below meth c cX6_goGust 4 A g .int Q res) (N : Nat)  {rec4 : Int32 → Int32 → Int32 → MS → Option (Int32 × MS)} (ih4 : ∀ (x1 : Int32) (x2 : Int32) (x3 : Int32) (σ : MS), rec4 x1 x2 x3 σ = some res → CF p l e R s m args below meth c 4 0 0 (MB g A s σ) Q 4 [(0, .ref (mh g)), (1, .int x1), (2, .int x2), (3, .int x3)] []) (x1 : Int32) (x2 : Int32) (x3 : Int32) (σ : MS) (h : m_goGust_4b N  rec4 x1 x2 x3 σ = some res) : CF p l e R s m args below meth c 4 0 0 (MB g A s σ) Q 4 [(0, .ref (mh g)), (1, .int x1), (2, .int x2), (3, .int x3)] [] := by
  unfold m_goGust_4b at h
  refine cf_iload_n E dX6_goGust_4 3 rfl rfl ?_
  refine cf_aload_n E dX6_goGust_5 0 rfl rfl ?_
  refine mget_0 E dX6_goGust_6 rfl ?_
  refine cf_icmp_ge E dX6_goGust_9 h rfl rfl (fun h => ?_) (fun h => ?_)
  · refine cf_iconst E dX6_goGust_54 ic_0 rfl ?_
    refine cf_istore_n E dX6_goGust_55 h (fun x3_1 => [(3, .int x3_1), (0, .ref (mh g)), (1, .int x1), (2, .int x2)]) (Nat.le_of_ble_eq_true rfl) (fun _ => rfl) rfl (fun x3_1 h => ?_)
    exact CF.sub [1, 3, 0] rfl (wm_goGust_56 E hR hq N N x2 x3_1 σ h)
  · refine cf_aload_n E dX6_goGust_12 0 rfl rfl ?_
    refine mget_34 E dX6_goGust_13 rfl ?_
    refine cf_iload_n E dX6_goGust_16 3 rfl rfl ?_
    refine cf_iload_n E dX6_goGust_17 1 rfl rfl ?_
    refine cf_iadd E dX6_goGust_18 rfl ?_
    refine cf_aload_n E dX6_goGust_19 0 rfl rfl ?_
    refine mget_0 E dX6_goGust_20 rfl ?_
    refine cf_irem E dX6_goGust_23 h rfl (fun h => ?_)
    refine cf_aload_n E dX6_goGust_24 0 rfl rfl ?_
    refine mget_5 E dX6_goGust_25 rfl ?_
    refine cf_iload_n E dX6_goGust_28 3 rfl rfl ?_
    refine mald_5 E dX6_goGust_29 h rfl (fun h => ?_)
    refine mast_34 E dX6_goGust_30 h rfl (fun s_2 h => ?_)
    refine cf_iload_n E dX6_goGust_31 2 rfl rfl ?_
    refine cf_aload_n E dX6_goGust_32 0 rfl rfl ?_
    refine mget_5 E dX6_goGust_33 rfl ?_
    refine cf_iload_n E dX6_goGust_36 3 rfl rfl ?_
    refine mald_5 E dX6_goGust_37 h rfl (fun h => ?_)
    refine cf_if_lt E dX6_goGust_38 h rfl rfl (fun h => ?_) (fun h => ?_)
    · refine cf_iconst E dX6_goGust_45 ic_0 rfl ?_
      exact CF.sub [0, 1, 3] rfl (wm_goGust_46 E hR hq N ih4 x1 x3 (0 : Int32) x2 s_2 h)
    · refine cf_iconst E dX6_goGust_41 ic_1 rfl ?_
      refine cf_goto E dX6_goGust_42 rfl ?_
      exact CF.sub [0, 1, 3] rfl (wm_goGust_46 E hR hq N ih4 x1 x3 (1 : Int32) x2 s_2 h)
set_option maxHeartbeats 4000000 in
theorem wm_goGust_4 {p : Program} {l : Launch} {e : Env} {R : Room} {s : State} {m : MethodId} {args : Array Value} {below : List Frame} {meth : Method} {c : Code} {A : Nat → Prop} {g : MG} {Q : State → Prop} (E : EV p s m args c cX6_goGust 4 RX6) (hR : 0 ≤ R.frames ∧ 0 ≤ R.locals) {res : Int32 × MS} (hq : RTi p l e R s m args below meth c cX6_goGust 4 A g .int Q res) (N : Nat)  : ∀ (k : Nat) (x1 : Int32) (x2 : Int32) (x3 : Int32) (σ : MS), m_goGust_4 N  k x1 x2 x3 σ = some res → CF p l e R s m args below meth c 4 0 0 (MB g A s σ) Q 4 [(0, .ref (mh g)), (1, .int x1), (2, .int x2), (3, .int x3)] [] := by
  intro k
  induction k with
  | zero => intro x1 x2 x3 σ h; have h : (none : Option (Int32 × MS)) = some res := h; cases h
  | succ k ih => intro x1 x2 x3 σ h; exact wm_goGust_4b E hR hq N  ih x1 x2 x3 σ h
set_option maxHeartbeats 4000000 in
theorem met_goGust (l : Launch) (g : MG) (N : Nat) (x1 : Int32) (σ : MS) {v : Int32} {σ1 : MS} (h : m_goGust N x1 σ = some (v, σ1)) : MetMi l g yX6_goGust (ws_ yX6_goGust cX6_goGust 4 (some .int)) { frames := 0, cells := 0, slots := 0, locals := 0 } [.int x1] σ v σ1 := by
  refine met_mi (lv0 := [(0, .ref (mh g)), (1, .int x1)]) (by decide) rfl ⟨rfl, rfl⟩ (Nat.le_of_ble_eq_true rfl) rfl ?_
  intro p e s m below meth c A Q E hq
  have hR : 0 ≤ ({ frames := 0, cells := 0, slots := 0, locals := 0 } : Room).frames ∧ 0 ≤ ({ frames := 0, cells := 0, slots := 0, locals := 0 } : Room).locals := ⟨Nat.le_refl _, Nat.le_refl _⟩
  unfold m_goGust at h
  refine cf_iconst E dX6_goGust_0 ic_0 rfl ?_
  refine cf_istore_n E dX6_goGust_1 h (fun x2_1 => [(2, .int x2_1), (0, .ref (mh g)), (1, .int x1)]) (Nat.le_of_ble_eq_true rfl) (fun _ => rfl) rfl (fun x2_1 h => ?_)
  refine cf_iconst E dX6_goGust_2 ic_0 rfl ?_
  refine cf_istore_n E dX6_goGust_3 h (fun x3_2 => [(3, .int x3_2), (2, .int x2_1), (0, .ref (mh g)), (1, .int x1)]) (Nat.le_of_ble_eq_true rfl) (fun _ => rfl) rfl (fun x3_2 h => ?_)
  exact CF.sub [2, 3, 1, 0] rfl (wm_goGust_4 E hR hq N N x1 x2_1 x3_2 σ h)
theorem gw_goGust : GoodIn lw_all (wsV RX6 354 RX6 yX6_goGust (ws_ yX6_goGust cX6_goGust 4 (some .int))) := lw_V q1917 q1919 qs68 q105 q1920
theorem hd_goGust : yX6_goGust.cls = RX6 ∧ yX6_goGust.cls ≠ "java/lang/invoke/MethodHandle" ∧ yX6_goGust.cls ≠ "java/lang/invoke/VarHandle" ∧ (parseMethodDescriptor yX6_goGust.desc).map (fun d => d.parameters.length) = some 1 := by decide +kernel
theorem mcl_goGust {p : Program} {l : Launch} {e : Env} {R : Room} {s : State} {m : MethodId} {args : Array Value} {below : List Frame} {meth : Method} {c : Code} {nL : Nat} {A : Nat → Prop} {g : MG} {σ : MS} {Q : State → Prop} {pc n : Nat} {lv : List (Nat × Value)} {st : List Value} {cc : ByteArray} {ρ : Type} {res : ρ} (E : EV p s m args c cc nL RX6) {N : Nat} {x1 : Int32} {kk : Int32 → MS → Option ρ} (hR : 1 ≤ R.frames ∧ 23 ≤ R.locals) (hcat : (st.map fun v => v.category).sum ≤ 8) (d : decode cc pc = .ok (.invokevirtual 354, 3)) (h : bnd (m_goGust N x1 σ) kk = some res) (hn : pc + 3 = n) (k : ∀ (v : Int32) (σ1 : MS), kk v σ1 = some res → CF p l e R s m args below meth c nL 0 0 (MB g A s σ1) Q n lv (.int v :: st)) : CF p l e R s m args below meth c nL 0 0 (MB g A s σ) Q pc lv (.int x1 :: .ref (mh g) :: st) :=
  mcall_i E [.int x1] (fun v σ1 ho => met_goGust l g N x1 σ ho) gw_goGust hd_goGust rfl rfl hR rfl rfl hcat d h hn k
set_option maxHeartbeats 4000000 in
theorem met_gust (l : Launch) (g : MG) (N : Nat) (x1 : Int32) (σ : MS) {v : Int32} {σ1 : MS} (h : m_gust N x1 σ = some (v, σ1)) : MetMi l g yX6_gust (ws_ yX6_gust cX6_gust 2 (some .int)) { frames := 1, cells := 0, slots := 0, locals := 23 } [.int x1] σ v σ1 := by
  refine met_mi (lv0 := [(0, .ref (mh g)), (1, .int x1)]) (by decide) rfl ⟨rfl, rfl⟩ (Nat.le_of_ble_eq_true rfl) rfl ?_
  intro p e s m below meth c A Q E hq
  have hR : 1 ≤ ({ frames := 1, cells := 0, slots := 0, locals := 23 } : Room).frames ∧ 23 ≤ ({ frames := 1, cells := 0, slots := 0, locals := 23 } : Room).locals := ⟨Nat.le_refl _, Nat.le_refl _⟩
  unfold m_gust at h
  refine cf_aload_n E dX6_gust_0 0 rfl rfl ?_
  refine cf_iload_n E dX6_gust_1 1 rfl rfl ?_
  refine cf_iconst E dX6_gust_2 ic_0 rfl ?_
  refine cf_iconst E dX6_gust_3 ic_5 rfl ?_
  refine mcl_in E (rmle hR rfl rfl) (Nat.le_of_ble_eq_true rfl) dX6_gust_4 h rfl (fun v_2 s_1 h => ?_)
  refine cf_if_eq E dX6_gust_7 h rfl rfl (fun h => ?_) (fun h => ?_)
  · refine cf_bipush E dX6_gust_18 bp_m2 rfl ?_
    exact mret_i dX6_gust_20 h rfl hq
  · refine cf_aload_n E dX6_gust_10 0 rfl rfl ?_
    refine cf_iload_n E dX6_gust_11 1 rfl rfl ?_
    refine mcl_goGust E (rmle hR rfl rfl) (Nat.le_of_ble_eq_true rfl) dX6_gust_12 h rfl (fun v_4 s_3 h => ?_)
    refine cf_goto E dX6_gust_15 rfl ?_
    exact mret_i dX6_gust_20 h rfl hq

set_option maxHeartbeats 4000000 in
theorem met_swaps (l : Launch) (g : MG) (N : Nat) (x1 : Int32) (x2 : Int32) (σ : MS) {σ1 : MS} (h : m_swaps N x1 x2 σ = some σ1) : MetMv l g yX6_swaps (ws_ yX6_swaps cX6_swaps 4 (none)) { frames := 0, cells := 0, slots := 0, locals := 0 } [.int x1, .int x2] σ σ1 := by
  refine met_mv (lv0 := [(0, .ref (mh g)), (1, .int x1), (2, .int x2)]) (by decide) rfl ⟨rfl, rfl⟩ (Nat.le_of_ble_eq_true rfl) rfl ?_
  intro p e s m below meth c A Q E hq
  have hR : 0 ≤ ({ frames := 0, cells := 0, slots := 0, locals := 0 } : Room).frames ∧ 0 ≤ ({ frames := 0, cells := 0, slots := 0, locals := 0 } : Room).locals := ⟨Nat.le_refl _, Nat.le_refl _⟩
  unfold m_swaps at h
  refine cf_aload_n E dX6_swaps_0 0 rfl rfl ?_
  refine mget_5 E dX6_swaps_1 rfl ?_
  refine cf_iload_n E dX6_swaps_4 1 rfl rfl ?_
  refine mald_5 E dX6_swaps_5 h rfl (fun h => ?_)
  refine cf_istore_n E dX6_swaps_6 h (fun x3_1 => [(3, .int x3_1), (0, .ref (mh g)), (1, .int x1), (2, .int x2)]) (Nat.le_of_ble_eq_true rfl) (fun _ => rfl) rfl (fun x3_1 h => ?_)
  refine cf_aload_n E dX6_swaps_7 1 rfl rfl ?_
  refine mget_5 E dX6_swaps_8 rfl ?_
  refine cf_iload_n E dX6_swaps_11 2 rfl rfl ?_
  refine cf_aload_n E dX6_swaps_12 1 rfl rfl ?_
  refine mget_5 E dX6_swaps_13 rfl ?_
  refine cf_iload_n E dX6_swaps_16 3 rfl rfl ?_
  refine mald_5 E dX6_swaps_17 h rfl (fun h => ?_)
  refine mast_5 E dX6_swaps_18 h rfl (fun s_2 h => ?_)
  refine cf_aload_n E dX6_swaps_19 1 rfl rfl ?_
  refine mget_5 E dX6_swaps_20 rfl ?_
  refine cf_iload_n E dX6_swaps_23 3 rfl rfl ?_
  refine cf_iload_n E dX6_swaps_24 0 rfl rfl ?_
  refine mast_5 E dX6_swaps_25 h rfl (fun s_3 h => ?_)
  exact mret_v dX6_swaps_26 h hq
theorem gw_swaps : GoodIn lw_all (wsV RX6 357 RX6 yX6_swaps (ws_ yX6_swaps cX6_swaps 4 none)) := lw_V q1925 q1927 qs69 q105 q1928
theorem hd_swaps : yX6_swaps.cls = RX6 ∧ yX6_swaps.cls ≠ "java/lang/invoke/MethodHandle" ∧ yX6_swaps.cls ≠ "java/lang/invoke/VarHandle" ∧ (parseMethodDescriptor yX6_swaps.desc).map (fun d => d.parameters.length) = some 2 := by decide +kernel
theorem mcl_swaps {p : Program} {l : Launch} {e : Env} {R : Room} {s : State} {m : MethodId} {args : Array Value} {below : List Frame} {meth : Method} {c : Code} {nL : Nat} {A : Nat → Prop} {g : MG} {σ : MS} {Q : State → Prop} {pc n : Nat} {lv : List (Nat × Value)} {st : List Value} {cc : ByteArray} {ρ : Type} {res : ρ} (E : EV p s m args c cc nL RX6) {N : Nat} {x1 : Int32} {x2 : Int32} {kk : MS → Option ρ} (hR : 1 ≤ R.frames ∧ 23 ≤ R.locals) (hcat : (st.map fun v => v.category).sum ≤ 8) (d : decode cc pc = .ok (.invokevirtual 357, 3)) (h : bnv (m_swaps N x1 x2 σ) kk = some res) (hn : pc + 3 = n) (k : ∀ (σ1 : MS), kk σ1 = some res → CF p l e R s m args below meth c nL 0 0 (MB g A s σ1) Q n lv st) : CF p l e R s m args below meth c nL 0 0 (MB g A s σ) Q pc lv (.int x2 :: .int x1 :: .ref (mh g) :: st) :=
  mcall_v E [.int x1, .int x2] (fun σ1 ho => met_swaps l g N x1 x2 σ ho) gw_swaps hd_swaps rfl rfl hR rfl rfl hcat d h hn k
set_option maxHeartbeats 4000000 in
theorem met_change (l : Launch) (g : MG) (N : Nat) (x1 : Int32) (x2 : Int32) (σ : MS) {v : Int32} {σ1 : MS} (h : m_change N x1 x2 σ = some (v, σ1)) : MetMi l g yX6_change (ws_ yX6_change cX6_change 3 (some .int)) { frames := 2, cells := 0, slots := 0, locals := 44 } [.int x1, .int x2] σ v σ1 := by
  refine met_mi (lv0 := [(0, .ref (mh g)), (1, .int x1), (2, .int x2)]) (by decide) rfl ⟨rfl, rfl⟩ (Nat.le_of_ble_eq_true rfl) rfl ?_
  intro p e s m below meth c A Q E hq
  have hR : 2 ≤ ({ frames := 2, cells := 0, slots := 0, locals := 44 } : Room).frames ∧ 44 ≤ ({ frames := 2, cells := 0, slots := 0, locals := 44 } : Room).locals := ⟨Nat.le_refl _, Nat.le_refl _⟩
  unfold m_change at h
  refine cf_aload_n E dX6_change_0 0 rfl rfl ?_
  refine cf_iload_n E dX6_change_1 1 rfl rfl ?_
  refine mcl_isHead E (rmle hR rfl rfl) (Nat.le_of_ble_eq_true rfl) dX6_change_2 h rfl (fun v_2 s_1 h => ?_)
  refine cf_if_eq E dX6_change_5 h rfl rfl (fun h => ?_) (fun h => ?_)
  · refine cf_iconst E dX6_change_16 ic_m1 rfl ?_
    exact mret_i dX6_change_17 h rfl hq
  · refine cf_aload_n E dX6_change_8 0 rfl rfl ?_
    refine cf_iload_n E dX6_change_9 2 rfl rfl ?_
    refine mcl_isHead E (rmle hR rfl rfl) (Nat.le_of_ble_eq_true rfl) dX6_change_10 h rfl (fun v_4 s_3 h => ?_)
    refine cf_if_ne E dX6_change_13 h rfl rfl (fun h => ?_) (fun h => ?_)
    · refine cf_iload_n E dX6_change_18 1 rfl rfl ?_
      refine cf_iload_n E dX6_change_19 2 rfl rfl ?_
      refine cf_icmp_ne E dX6_change_20 h rfl rfl (fun h => ?_) (fun h => ?_)
      · refine cf_aload_n E dX6_change_26 0 rfl rfl ?_
        refine cf_iload_n E dX6_change_27 1 rfl rfl ?_
        refine cf_iload_n E dX6_change_28 2 rfl rfl ?_
        refine mcl_swaps E (rmle hR rfl rfl) (Nat.le_of_ble_eq_true rfl) dX6_change_29 h rfl (fun s_5 h => ?_)
        refine cf_iconst E dX6_change_32 ic_1 rfl ?_
        exact mret_i dX6_change_33 h rfl hq
      · refine cf_bipush E dX6_change_23 bp_m2 rfl ?_
        exact mret_i dX6_change_25 h rfl hq
    · refine cf_iconst E dX6_change_16 ic_m1 rfl ?_
      exact mret_i dX6_change_17 h rfl hq

set_option maxHeartbeats 4000000 in
theorem wm_today_13 {p : Program} {l : Launch} {e : Env} {R : Room} {s : State} {m : MethodId} {args : Array Value} {below : List Frame} {meth : Method} {c : Code} {A : Nat → Prop} {g : MG} {Q : State → Prop} (E : EV p s m args c cX6_today 2 RX6) (hR : 5 ≤ R.frames ∧ 121 ≤ R.locals) {res : Int32 × MS} (hq : RTi p l e R s m args below meth c cX6_today 2 A g .int Q res) (N : Nat)  (x1 : Int32) (σ : MS) (h : m_today_13 N  x1 σ = some res) : CF p l e R s m args below meth c 2 0 0 (MB g A s σ) Q 13 [(0, .ref (mh g)), (1, .int x1)] [] := by
  unfold m_today_13 at h
  refine cf_aload_n E dX6_today_13 0 rfl rfl ?_
  refine cf_iload_n E dX6_today_14 1 rfl rfl ?_
  refine mcl_todayOf E (rmle hR rfl rfl) (Nat.le_of_ble_eq_true rfl) dX6_today_15 h rfl (fun v_2 s_1 h => ?_)
  refine cf_goto E dX6_today_18 rfl ?_
  exact mret_i dX6_today_22 h rfl hq
set_option maxHeartbeats 4000000 in
theorem met_today (l : Launch) (g : MG) (N : Nat) (x1 : Int32) (σ : MS) {v : Int32} {σ1 : MS} (h : m_today N x1 σ = some (v, σ1)) : MetMi l g yX6_today (ws_ yX6_today cX6_today 2 (some .int)) { frames := 5, cells := 0, slots := 0, locals := 121 } [.int x1] σ v σ1 := by
  refine met_mi (lv0 := [(0, .ref (mh g)), (1, .int x1)]) (by decide) rfl ⟨rfl, rfl⟩ (Nat.le_of_ble_eq_true rfl) rfl ?_
  intro p e s m below meth c A Q E hq
  have hR : 5 ≤ ({ frames := 5, cells := 0, slots := 0, locals := 121 } : Room).frames ∧ 121 ≤ ({ frames := 5, cells := 0, slots := 0, locals := 121 } : Room).locals := ⟨Nat.le_refl _, Nat.le_refl _⟩
  unfold m_today at h
  refine cf_iload_n E dX6_today_0 1 rfl rfl ?_
  refine cf_iconst E dX6_today_1 ic_m1 rfl ?_
  refine cf_icmp_eq E dX6_today_2 h rfl rfl (fun h => ?_) (fun h => ?_)
  · exact CF.sub [0, 1] rfl (wm_today_13 E hR hq N x1 σ h)
  · refine cf_aload_n E dX6_today_5 0 rfl rfl ?_
    refine cf_iload_n E dX6_today_6 1 rfl rfl ?_
    refine mcl_isTrade E (rmle hR rfl rfl) (Nat.le_of_ble_eq_true rfl) dX6_today_7 h rfl (fun v_2 s_1 h => ?_)
    refine cf_if_eq E dX6_today_10 h rfl rfl (fun h => ?_) (fun h => ?_)
    · refine cf_iconst E dX6_today_21 ic_m1 rfl ?_
      exact mret_i dX6_today_22 h rfl hq
    · exact CF.sub [0, 1] rfl (wm_today_13 E hR hq N x1 s_1 h)

set_option maxHeartbeats 4000000 in
theorem wm_enough_30 {p : Program} {l : Launch} {e : Env} {R : Room} {s : State} {m : MethodId} {args : Array Value} {below : List Frame} {meth : Method} {c : Code} {A : Nat → Prop} {g : MG} {Q : State → Prop} (E : EV p s m args c cX6_enough 3 RX6) (hR : 5 ≤ R.frames ∧ 121 ≤ R.locals) {res : Int32 × MS} (hq : RTi p l e R s m args below meth c cX6_enough 3 A g .int Q res) (N : Nat) {rec4 : Int32 → Int32 → MS → Option (Int32 × MS)} (ih4 : ∀ (x1 : Int32) (x2 : Int32) (σ : MS), rec4 x1 x2 σ = some res → CF p l e R s m args below meth c 3 0 0 (MB g A s σ) Q 4 [(0, .ref (mh g)), (1, .int x1), (2, .int x2)] []) (x2 : Int32) (z0 : Int32) (z1 : Int32) (σ : MS) (h : m_enough_30 N rec4 x2 z0 z1 σ = some res) : CF p l e R s m args below meth c 3 0 0 (MB g A s σ) Q 30 [(0, .ref (mh g)), (2, .int x2)] [.int z0, .int z1] := by
  unfold m_enough_30 at h
  refine cf_ior E dX6_enough_30 rfl ?_
  refine cf_istore_n E dX6_enough_31 h (fun x1_1 => [(1, .int x1_1), (0, .ref (mh g)), (2, .int x2)]) (Nat.le_of_ble_eq_true rfl) (fun _ => rfl) rfl (fun x1_1 h => ?_)
  refine cf_iinc E dX6_enough_32 ic_1 h 2 rfl (fun x2_2 => [(2, .int x2_2), (1, .int x1_1), (0, .ref (mh g))]) (Nat.le_of_ble_eq_true rfl) (fun _ => rfl) rfl (fun x2_2 h => ?_)
  refine cf_goto E dX6_enough_35 rfl ?_
  exact CF.sub [2, 1, 0] rfl (ih4 x1_1 x2_2 σ h)
set_option maxHeartbeats 4000000 in
theorem wm_enough_4b {p : Program} {l : Launch} {e : Env} {R : Room} {s : State} {m : MethodId} {args : Array Value} {below : List Frame} {meth : Method} {c : Code} {A : Nat → Prop} {g : MG} {Q : State → Prop} (E : EV p s m args c cX6_enough 3 RX6) (hR : 5 ≤ R.frames ∧ 121 ≤ R.locals) {res : Int32 × MS} (hq : RTi p l e R s m args below meth c cX6_enough 3 A g .int Q res) (N : Nat)  {rec4 : Int32 → Int32 → MS → Option (Int32 × MS)} (ih4 : ∀ (x1 : Int32) (x2 : Int32) (σ : MS), rec4 x1 x2 σ = some res → CF p l e R s m args below meth c 3 0 0 (MB g A s σ) Q 4 [(0, .ref (mh g)), (1, .int x1), (2, .int x2)] []) (x1 : Int32) (x2 : Int32) (σ : MS) (h : m_enough_4b N  rec4 x1 x2 σ = some res) : CF p l e R s m args below meth c 3 0 0 (MB g A s σ) Q 4 [(0, .ref (mh g)), (1, .int x1), (2, .int x2)] [] := by
  unfold m_enough_4b at h
  refine cf_iload_n E dX6_enough_4 2 rfl rfl ?_
  refine cf_iconst E dX6_enough_5 ic_5 rfl ?_
  refine cf_icmp_ge E dX6_enough_6 h rfl rfl (fun h => ?_) (fun h => ?_)
  · refine cf_iload_n E dX6_enough_38 1 rfl rfl ?_
    exact mret_i dX6_enough_39 h rfl hq
  · refine cf_iload_n E dX6_enough_9 1 rfl rfl ?_
    refine cf_aload_n E dX6_enough_10 0 rfl rfl ?_
    refine cf_iload_n E dX6_enough_11 2 rfl rfl ?_
    refine mcl_todayOf E (rmle hR rfl rfl) (Nat.le_of_ble_eq_true rfl) dX6_enough_12 h rfl (fun v_2 s_1 h => ?_)
    refine cf_aload_n E dX6_enough_15 0 rfl rfl ?_
    refine cf_iload_n E dX6_enough_16 2 rfl rfl ?_
    refine mcl_work E (rmle hR rfl rfl) (Nat.le_of_ble_eq_true rfl) dX6_enough_17 h rfl (fun v_4 s_3 h => ?_)
    refine cf_icmp_lt E dX6_enough_20 h rfl rfl (fun h => ?_) (fun h => ?_)
    · refine cf_iconst E dX6_enough_29 ic_0 rfl ?_
      exact CF.sub [0, 2] rfl (wm_enough_30 E hR hq N ih4 x2 (0 : Int32) x1 s_3 h)
    · refine cf_iconst E dX6_enough_23 ic_1 rfl ?_
      refine cf_iload_n E dX6_enough_24 2 rfl rfl ?_
      refine cf_ishl E dX6_enough_25 rfl ?_
      refine cf_goto E dX6_enough_26 rfl ?_
      exact CF.sub [0, 2] rfl (wm_enough_30 E hR hq N ih4 x2 ((1 : Int32) <<< (x2 &&& 31)) x1 s_3 h)
set_option maxHeartbeats 4000000 in
theorem wm_enough_4 {p : Program} {l : Launch} {e : Env} {R : Room} {s : State} {m : MethodId} {args : Array Value} {below : List Frame} {meth : Method} {c : Code} {A : Nat → Prop} {g : MG} {Q : State → Prop} (E : EV p s m args c cX6_enough 3 RX6) (hR : 5 ≤ R.frames ∧ 121 ≤ R.locals) {res : Int32 × MS} (hq : RTi p l e R s m args below meth c cX6_enough 3 A g .int Q res) (N : Nat)  : ∀ (k : Nat) (x1 : Int32) (x2 : Int32) (σ : MS), m_enough_4 N  k x1 x2 σ = some res → CF p l e R s m args below meth c 3 0 0 (MB g A s σ) Q 4 [(0, .ref (mh g)), (1, .int x1), (2, .int x2)] [] := by
  intro k
  induction k with
  | zero => intro x1 x2 σ h; have h : (none : Option (Int32 × MS)) = some res := h; cases h
  | succ k ih => intro x1 x2 σ h; exact wm_enough_4b E hR hq N  ih x1 x2 σ h
set_option maxHeartbeats 4000000 in
theorem met_enough (l : Launch) (g : MG) (N : Nat)  (σ : MS) {v : Int32} {σ1 : MS} (h : m_enough N  σ = some (v, σ1)) : MetMi l g yX6_enough (ws_ yX6_enough cX6_enough 3 (some .int)) { frames := 5, cells := 0, slots := 0, locals := 121 } [] σ v σ1 := by
  refine met_mi (lv0 := [(0, .ref (mh g))]) (by decide) rfl ⟨rfl, rfl⟩ (Nat.le_of_ble_eq_true rfl) rfl ?_
  intro p e s m below meth c A Q E hq
  have hR : 5 ≤ ({ frames := 5, cells := 0, slots := 0, locals := 121 } : Room).frames ∧ 121 ≤ ({ frames := 5, cells := 0, slots := 0, locals := 121 } : Room).locals := ⟨Nat.le_refl _, Nat.le_refl _⟩
  unfold m_enough at h
  refine cf_iconst E dX6_enough_0 ic_0 rfl ?_
  refine cf_istore_n E dX6_enough_1 h (fun x1_1 => [(1, .int x1_1), (0, .ref (mh g))]) (Nat.le_of_ble_eq_true rfl) (fun _ => rfl) rfl (fun x1_1 h => ?_)
  refine cf_iconst E dX6_enough_2 ic_0 rfl ?_
  refine cf_istore_n E dX6_enough_3 h (fun x2_2 => [(2, .int x2_2), (1, .int x1_1), (0, .ref (mh g))]) (Nat.le_of_ble_eq_true rfl) (fun _ => rfl) rfl (fun x2_2 h => ?_)
  exact CF.sub [2, 1, 0] rfl (wm_enough_4 E hR hq N N x1_1 x2_2 σ h)

set_option maxHeartbeats 4000000 in
theorem wm_best_51 {p : Program} {l : Launch} {e : Env} {R : Room} {s : State} {m : MethodId} {args : Array Value} {below : List Frame} {meth : Method} {c : Code} {A : Nat → Prop} {g : MG} {Q : State → Prop} (E : EV p s m args c cX6_best 6 RX6) (hR : 4 ≤ R.frames ∧ 98 ≤ R.locals) {res : Int32 × MS} (hq : RTi p l e R s m args below meth c cX6_best 6 A g .int Q res) (N : Nat) {rec18 : Int32 → Int32 → Int32 → Int32 → MS → Option (Int32 × MS)} (ih18 : ∀ (x1 : Int32) (x2 : Int32) (x3 : Int32) (x4 : Int32) (σ : MS), rec18 x1 x2 x3 x4 σ = some res → CF p l e R s m args below meth c 6 0 0 (MB g A s σ) Q 18 [(0, .ref (mh g)), (1, .int x1), (2, .int x2), (3, .int x3), (4, .int x4)] []) (x1 : Int32) (x2 : Int32) (x3 : Int32) (x4 : Int32) (σ : MS) (h : m_best_51 N rec18 x1 x2 x3 x4 σ = some res) : CF p l e R s m args below meth c 6 0 0 (MB g A s σ) Q 51 [(0, .ref (mh g)), (1, .int x1), (2, .int x2), (3, .int x3), (4, .int x4)] [] := by
  unfold m_best_51 at h
  refine cf_iinc E dX6_best_51 ic_1 h 4 rfl (fun x4_1 => [(4, .int x4_1), (0, .ref (mh g)), (1, .int x1), (2, .int x2), (3, .int x3)]) (Nat.le_of_ble_eq_true rfl) (fun _ => rfl) rfl (fun x4_1 h => ?_)
  refine cf_goto E dX6_best_54 rfl ?_
  exact CF.sub [1, 2, 3, 4, 0] rfl (ih18 x1 x2 x3 x4_1 σ h)
set_option maxHeartbeats 4000000 in
theorem wm_best_18b {p : Program} {l : Launch} {e : Env} {R : Room} {s : State} {m : MethodId} {args : Array Value} {below : List Frame} {meth : Method} {c : Code} {A : Nat → Prop} {g : MG} {Q : State → Prop} (E : EV p s m args c cX6_best 6 RX6) (hR : 4 ≤ R.frames ∧ 98 ≤ R.locals) {res : Int32 × MS} (hq : RTi p l e R s m args below meth c cX6_best 6 A g .int Q res) (N : Nat)  {rec18 : Int32 → Int32 → Int32 → Int32 → MS → Option (Int32 × MS)} (ih18 : ∀ (x1 : Int32) (x2 : Int32) (x3 : Int32) (x4 : Int32) (σ : MS), rec18 x1 x2 x3 x4 σ = some res → CF p l e R s m args below meth c 6 0 0 (MB g A s σ) Q 18 [(0, .ref (mh g)), (1, .int x1), (2, .int x2), (3, .int x3), (4, .int x4)] []) (x1 : Int32) (x2 : Int32) (x3 : Int32) (x4 : Int32) (σ : MS) (h : m_best_18b N  rec18 x1 x2 x3 x4 σ = some res) : CF p l e R s m args below meth c 6 0 0 (MB g A s σ) Q 18 [(0, .ref (mh g)), (1, .int x1), (2, .int x2), (3, .int x3), (4, .int x4)] [] := by
  unfold m_best_18b at h
  refine cf_iload E dX6_best_18 4 rfl rfl ?_
  refine cf_aload_n E dX6_best_20 0 rfl rfl ?_
  refine mget_0 E dX6_best_21 rfl ?_
  refine cf_icmp_ge E dX6_best_24 h rfl rfl (fun h => ?_) (fun h => ?_)
  · refine cf_iload_n E dX6_best_57 2 rfl rfl ?_
    exact mret_i dX6_best_58 h rfl hq
  · refine cf_aload_n E dX6_best_27 0 rfl rfl ?_
    refine cf_iload_n E dX6_best_28 1 rfl rfl ?_
    refine cf_iload E dX6_best_29 4 rfl rfl ?_
    refine mcl_deed E (rmle hR rfl rfl) (Nat.le_of_ble_eq_true rfl) dX6_best_31 h rfl (fun v_2 s_1 h => ?_)
    refine cf_istore E dX6_best_34 h (fun x5_3 => [(5, .int x5_3), (0, .ref (mh g)), (1, .int x1), (2, .int x2), (3, .int x3), (4, .int x4)]) (Nat.le_of_ble_eq_true rfl) (fun _ => rfl) rfl (fun x5_3 h => ?_)
    refine cf_iload E dX6_best_36 0 rfl rfl ?_
    refine cf_iload_n E dX6_best_38 4 rfl rfl ?_
    refine cf_icmp_gt E dX6_best_39 h rfl rfl (fun h => ?_) (fun h => ?_)
    · refine cf_iload E dX6_best_45 5 rfl rfl ?_
      refine cf_istore_n E dX6_best_47 h (fun x2_4 => [(2, .int x2_4), (5, .int x5_3), (0, .ref (mh g)), (1, .int x1), (3, .int x3), (4, .int x4)]) (Nat.le_of_ble_eq_true rfl) (fun _ => rfl) rfl (fun x2_4 h => ?_)
      refine cf_iload E dX6_best_48 1 rfl rfl ?_
      refine cf_istore_n E dX6_best_50 h (fun x3_5 => [(3, .int x3_5), (2, .int x2_4), (5, .int x5_3), (0, .ref (mh g)), (1, .int x1), (4, .int x4)]) (Nat.le_of_ble_eq_true rfl) (fun _ => rfl) rfl (fun x3_5 h => ?_)
      exact CF.sub [3, 4, 1, 0, 5] rfl (wm_best_51 E hR hq N ih18 x1 x2_4 x3_5 x4 s_1 h)
    · refine cf_goto E dX6_best_42 rfl ?_
      exact CF.sub [1, 2, 3, 4, 5] rfl (wm_best_51 E hR hq N ih18 x1 x2 x3 x4 s_1 h)
set_option maxHeartbeats 4000000 in
theorem wm_best_18 {p : Program} {l : Launch} {e : Env} {R : Room} {s : State} {m : MethodId} {args : Array Value} {below : List Frame} {meth : Method} {c : Code} {A : Nat → Prop} {g : MG} {Q : State → Prop} (E : EV p s m args c cX6_best 6 RX6) (hR : 4 ≤ R.frames ∧ 98 ≤ R.locals) {res : Int32 × MS} (hq : RTi p l e R s m args below meth c cX6_best 6 A g .int Q res) (N : Nat)  : ∀ (k : Nat) (x1 : Int32) (x2 : Int32) (x3 : Int32) (x4 : Int32) (σ : MS), m_best_18 N  k x1 x2 x3 x4 σ = some res → CF p l e R s m args below meth c 6 0 0 (MB g A s σ) Q 18 [(0, .ref (mh g)), (1, .int x1), (2, .int x2), (3, .int x3), (4, .int x4)] [] := by
  intro k
  induction k with
  | zero => intro x1 x2 x3 x4 σ h; have h : (none : Option (Int32 × MS)) = some res := h; cases h
  | succ k ih => intro x1 x2 x3 x4 σ h; exact wm_best_18b E hR hq N  ih x1 x2 x3 x4 σ h
set_option maxHeartbeats 4000000 in
theorem met_best (l : Launch) (g : MG) (N : Nat) (x1 : Int32) (σ : MS) {v : Int32} {σ1 : MS} (h : m_best N x1 σ = some (v, σ1)) : MetMi l g yX6_best (ws_ yX6_best cX6_best 6 (some .int)) { frames := 4, cells := 0, slots := 0, locals := 98 } [.int x1] σ v σ1 := by
  refine met_mi (lv0 := [(0, .ref (mh g)), (1, .int x1)]) (by decide) rfl ⟨rfl, rfl⟩ (Nat.le_of_ble_eq_true rfl) rfl ?_
  intro p e s m below meth c A Q E hq
  have hR : 4 ≤ ({ frames := 4, cells := 0, slots := 0, locals := 98 } : Room).frames ∧ 98 ≤ ({ frames := 4, cells := 0, slots := 0, locals := 98 } : Room).locals := ⟨Nat.le_refl _, Nat.le_refl _⟩
  unfold m_best at h
  refine cf_aload_n E dX6_best_0 0 rfl rfl ?_
  refine cf_iload_n E dX6_best_1 1 rfl rfl ?_
  refine mcl_isHat E (rmle hR rfl rfl) (Nat.le_of_ble_eq_true rfl) dX6_best_2 h rfl (fun v_2 s_1 h => ?_)
  refine cf_if_ne E dX6_best_5 h rfl rfl (fun h => ?_) (fun h => ?_)
  · refine cf_bipush E dX6_best_10 bp_m5 rfl ?_
    refine cf_istore_n E dX6_best_12 h (fun x2_3 => [(2, .int x2_3), (0, .ref (mh g)), (1, .int x1)]) (Nat.le_of_ble_eq_true rfl) (fun _ => rfl) rfl (fun x2_3 h => ?_)
    refine cf_iconst E dX6_best_13 ic_m1 rfl ?_
    refine cf_istore_n E dX6_best_14 h (fun x3_4 => [(3, .int x3_4), (2, .int x2_3), (0, .ref (mh g)), (1, .int x1)]) (Nat.le_of_ble_eq_true rfl) (fun _ => rfl) rfl (fun x3_4 h => ?_)
    refine cf_iconst E dX6_best_15 ic_0 rfl ?_
    refine cf_istore E dX6_best_16 h (fun x4_5 => [(4, .int x4_5), (3, .int x3_4), (2, .int x2_3), (0, .ref (mh g)), (1, .int x1)]) (Nat.le_of_ble_eq_true rfl) (fun _ => rfl) rfl (fun x4_5 h => ?_)
    exact CF.sub [3, 4, 2, 1, 0] rfl (wm_best_18 E hR hq N N x1 x2_3 x3_4 x4_5 s_1 h)
  · refine cf_iconst E dX6_best_8 ic_m1 rfl ?_
    exact mret_i dX6_best_9 h rfl hq

set_option maxHeartbeats 4000000 in
theorem wm_save_17b {p : Program} {l : Launch} {e : Env} {R : Room} {s : State} {m : MethodId} {args : Array Value} {below : List Frame} {meth : Method} {c : Code} {A : Nat → Prop} {g : MG} {Q : State → Prop} (E : EV p s m args c cX6_save 2 RX6) (hR : 0 ≤ R.frames ∧ 0 ≤ R.locals) {res : MS} (hq : RTv p l e R s m args below meth c cX6_save 2 A g Q res) (N : Nat)  {rec17 : Int32 → MS → Option (MS)} (ih17 : ∀ (x1 : Int32) (σ : MS), rec17 x1 σ = some res → CF p l e R s m args below meth c 2 0 0 (MB g A s σ) Q 17 [(0, .ref (mh g)), (1, .int x1)] []) (x1 : Int32) (σ : MS) (h : m_save_17b N  rec17 x1 σ = some res) : CF p l e R s m args below meth c 2 0 0 (MB g A s σ) Q 17 [(0, .ref (mh g)), (1, .int x1)] [] := by
  unfold m_save_17b at h
  refine cf_iload_n E dX6_save_17 1 rfl rfl ?_
  refine cf_bipush E dX6_save_18 bp_6 rfl ?_
  refine cf_icmp_ge E dX6_save_20 h rfl rfl (fun h => ?_) (fun h => ?_)
  · exact mret_v dX6_save_53 h hq
  · refine cf_aload_n E dX6_save_23 0 rfl rfl ?_
    refine mget_36 E dX6_save_24 rfl ?_
    refine cf_iload_n E dX6_save_27 1 rfl rfl ?_
    refine cf_aload_n E dX6_save_28 0 rfl rfl ?_
    refine mget_11 E dX6_save_29 rfl ?_
    refine cf_iload_n E dX6_save_32 1 rfl rfl ?_
    refine mald_11 E dX6_save_33 h rfl (fun h => ?_)
    refine mast_36 E dX6_save_34 h rfl (fun s_1 h => ?_)
    refine cf_aload_n E dX6_save_35 0 rfl rfl ?_
    refine mget_37 E dX6_save_36 rfl ?_
    refine cf_iload_n E dX6_save_39 1 rfl rfl ?_
    refine cf_aload_n E dX6_save_40 0 rfl rfl ?_
    refine mget_5 E dX6_save_41 rfl ?_
    refine cf_iload_n E dX6_save_44 1 rfl rfl ?_
    refine mald_5 E dX6_save_45 h rfl (fun h => ?_)
    refine mast_37 E dX6_save_46 h rfl (fun s_2 h => ?_)
    refine cf_iinc E dX6_save_47 ic_1 h 1 rfl (fun x1_3 => [(1, .int x1_3), (0, .ref (mh g))]) (Nat.le_of_ble_eq_true rfl) (fun _ => rfl) rfl (fun x1_3 h => ?_)
    refine cf_goto E dX6_save_50 rfl ?_
    exact CF.sub [1, 0] rfl (ih17 x1_3 s_2 h)
set_option maxHeartbeats 4000000 in
theorem wm_save_17 {p : Program} {l : Launch} {e : Env} {R : Room} {s : State} {m : MethodId} {args : Array Value} {below : List Frame} {meth : Method} {c : Code} {A : Nat → Prop} {g : MG} {Q : State → Prop} (E : EV p s m args c cX6_save 2 RX6) (hR : 0 ≤ R.frames ∧ 0 ≤ R.locals) {res : MS} (hq : RTv p l e R s m args below meth c cX6_save 2 A g Q res) (N : Nat)  : ∀ (k : Nat) (x1 : Int32) (σ : MS), m_save_17 N  k x1 σ = some res → CF p l e R s m args below meth c 2 0 0 (MB g A s σ) Q 17 [(0, .ref (mh g)), (1, .int x1)] [] := by
  intro k
  induction k with
  | zero => intro x1 σ h; have h : (none : Option (MS)) = some res := h; cases h
  | succ k ih => intro x1 σ h; exact wm_save_17b E hR hq N  ih x1 σ h
set_option maxHeartbeats 4000000 in
theorem met_save (l : Launch) (g : MG) (N : Nat)  (σ : MS) {σ1 : MS} (h : m_save N  σ = some σ1) : MetMv l g yX6_save (ws_ yX6_save cX6_save 2 (none)) { frames := 0, cells := 0, slots := 0, locals := 0 } [] σ σ1 := by
  refine met_mv (lv0 := [(0, .ref (mh g))]) (by decide) rfl ⟨rfl, rfl⟩ (Nat.le_of_ble_eq_true rfl) rfl ?_
  intro p e s m below meth c A Q E hq
  have hR : 0 ≤ ({ frames := 0, cells := 0, slots := 0, locals := 0 } : Room).frames ∧ 0 ≤ ({ frames := 0, cells := 0, slots := 0, locals := 0 } : Room).locals := ⟨Nat.le_refl _, Nat.le_refl _⟩
  unfold m_save at h
  refine cf_aload_n E dX6_save_0 0 rfl rfl ?_
  refine cf_ldcw E dX6_save_1 q1949 rfl ?_
  refine mput_33 E dX6_save_4 h rfl (fun s_1 h => ?_)
  refine cf_aload_n E dX6_save_7 0 rfl rfl ?_
  refine cf_aload_n E dX6_save_8 0 rfl rfl ?_
  refine mget_2 E dX6_save_9 rfl ?_
  refine mput_35 E dX6_save_12 h rfl (fun s_2 h => ?_)
  refine cf_iconst E dX6_save_15 ic_0 rfl ?_
  refine cf_istore_n E dX6_save_16 h (fun x1_3 => [(1, .int x1_3), (0, .ref (mh g))]) (Nat.le_of_ble_eq_true rfl) (fun _ => rfl) rfl (fun x1_3 h => ?_)
  exact CF.sub [1, 0] rfl (wm_save_17 E hR hq N N x1_3 s_2 h)
theorem gw_save : GoodIn lw_all (wsV RX6 362 RX6 yX6_save (ws_ yX6_save cX6_save 2 none)) := lw_V q1945 q1947 qs70 q105 q1948
theorem hd_save : yX6_save.cls = RX6 ∧ yX6_save.cls ≠ "java/lang/invoke/MethodHandle" ∧ yX6_save.cls ≠ "java/lang/invoke/VarHandle" ∧ (parseMethodDescriptor yX6_save.desc).map (fun d => d.parameters.length) = some 0 := by decide +kernel
theorem mcl_save {p : Program} {l : Launch} {e : Env} {R : Room} {s : State} {m : MethodId} {args : Array Value} {below : List Frame} {meth : Method} {c : Code} {nL : Nat} {A : Nat → Prop} {g : MG} {σ : MS} {Q : State → Prop} {pc n : Nat} {lv : List (Nat × Value)} {st : List Value} {cc : ByteArray} {ρ : Type} {res : ρ} (E : EV p s m args c cc nL RX6) {N : Nat}  {kk : MS → Option ρ} (hR : 1 ≤ R.frames ∧ 21 ≤ R.locals) (hcat : (st.map fun v => v.category).sum ≤ 8) (d : decode cc pc = .ok (.invokevirtual 362, 3)) (h : bnv (m_save N  σ) kk = some res) (hn : pc + 3 = n) (k : ∀ (σ1 : MS), kk σ1 = some res → CF p l e R s m args below meth c nL 0 0 (MB g A s σ1) Q n lv st) : CF p l e R s m args below meth c nL 0 0 (MB g A s σ) Q pc lv (.ref (mh g) :: st) :=
  mcall_v E [] (fun σ1 ho => met_save l g N  σ ho) gw_save hd_save rfl rfl hR rfl rfl hcat d h hn k
set_option maxHeartbeats 4000000 in
theorem wm_putBack_17b {p : Program} {l : Launch} {e : Env} {R : Room} {s : State} {m : MethodId} {args : Array Value} {below : List Frame} {meth : Method} {c : Code} {A : Nat → Prop} {g : MG} {Q : State → Prop} (E : EV p s m args c cX6_putBack 2 RX6) (hR : 0 ≤ R.frames ∧ 0 ≤ R.locals) {res : MS} (hq : RTv p l e R s m args below meth c cX6_putBack 2 A g Q res) (N : Nat)  {rec17 : Int32 → MS → Option (MS)} (ih17 : ∀ (x1 : Int32) (σ : MS), rec17 x1 σ = some res → CF p l e R s m args below meth c 2 0 0 (MB g A s σ) Q 17 [(0, .ref (mh g)), (1, .int x1)] []) (x1 : Int32) (σ : MS) (h : m_putBack_17b N  rec17 x1 σ = some res) : CF p l e R s m args below meth c 2 0 0 (MB g A s σ) Q 17 [(0, .ref (mh g)), (1, .int x1)] [] := by
  unfold m_putBack_17b at h
  refine cf_iload_n E dX6_putBack_17 1 rfl rfl ?_
  refine cf_bipush E dX6_putBack_18 bp_6 rfl ?_
  refine cf_icmp_ge E dX6_putBack_20 h rfl rfl (fun h => ?_) (fun h => ?_)
  · exact mret_v dX6_putBack_53 h hq
  · refine cf_aload_n E dX6_putBack_23 0 rfl rfl ?_
    refine mget_11 E dX6_putBack_24 rfl ?_
    refine cf_iload_n E dX6_putBack_27 1 rfl rfl ?_
    refine cf_aload_n E dX6_putBack_28 0 rfl rfl ?_
    refine mget_36 E dX6_putBack_29 rfl ?_
    refine cf_iload_n E dX6_putBack_32 1 rfl rfl ?_
    refine mald_36 E dX6_putBack_33 h rfl (fun h => ?_)
    refine mast_11 E dX6_putBack_34 h rfl (fun s_1 h => ?_)
    refine cf_aload_n E dX6_putBack_35 0 rfl rfl ?_
    refine mget_5 E dX6_putBack_36 rfl ?_
    refine cf_iload_n E dX6_putBack_39 1 rfl rfl ?_
    refine cf_aload_n E dX6_putBack_40 0 rfl rfl ?_
    refine mget_37 E dX6_putBack_41 rfl ?_
    refine cf_iload_n E dX6_putBack_44 1 rfl rfl ?_
    refine mald_37 E dX6_putBack_45 h rfl (fun h => ?_)
    refine mast_5 E dX6_putBack_46 h rfl (fun s_2 h => ?_)
    refine cf_iinc E dX6_putBack_47 ic_1 h 1 rfl (fun x1_3 => [(1, .int x1_3), (0, .ref (mh g))]) (Nat.le_of_ble_eq_true rfl) (fun _ => rfl) rfl (fun x1_3 h => ?_)
    refine cf_goto E dX6_putBack_50 rfl ?_
    exact CF.sub [1, 0] rfl (ih17 x1_3 s_2 h)
set_option maxHeartbeats 4000000 in
theorem wm_putBack_17 {p : Program} {l : Launch} {e : Env} {R : Room} {s : State} {m : MethodId} {args : Array Value} {below : List Frame} {meth : Method} {c : Code} {A : Nat → Prop} {g : MG} {Q : State → Prop} (E : EV p s m args c cX6_putBack 2 RX6) (hR : 0 ≤ R.frames ∧ 0 ≤ R.locals) {res : MS} (hq : RTv p l e R s m args below meth c cX6_putBack 2 A g Q res) (N : Nat)  : ∀ (k : Nat) (x1 : Int32) (σ : MS), m_putBack_17 N  k x1 σ = some res → CF p l e R s m args below meth c 2 0 0 (MB g A s σ) Q 17 [(0, .ref (mh g)), (1, .int x1)] [] := by
  intro k
  induction k with
  | zero => intro x1 σ h; have h : (none : Option (MS)) = some res := h; cases h
  | succ k ih => intro x1 σ h; exact wm_putBack_17b E hR hq N  ih x1 σ h
set_option maxHeartbeats 4000000 in
theorem met_putBack (l : Launch) (g : MG) (N : Nat)  (σ : MS) {σ1 : MS} (h : m_putBack N  σ = some σ1) : MetMv l g yX6_putBack (ws_ yX6_putBack cX6_putBack 2 (none)) { frames := 0, cells := 0, slots := 0, locals := 0 } [] σ σ1 := by
  refine met_mv (lv0 := [(0, .ref (mh g))]) (by decide) rfl ⟨rfl, rfl⟩ (Nat.le_of_ble_eq_true rfl) rfl ?_
  intro p e s m below meth c A Q E hq
  have hR : 0 ≤ ({ frames := 0, cells := 0, slots := 0, locals := 0 } : Room).frames ∧ 0 ≤ ({ frames := 0, cells := 0, slots := 0, locals := 0 } : Room).locals := ⟨Nat.le_refl _, Nat.le_refl _⟩
  unfold m_putBack at h
  refine cf_aload_n E dX6_putBack_0 0 rfl rfl ?_
  refine cf_sipush E dX6_putBack_1 sp_9999 rfl ?_
  refine mput_33 E dX6_putBack_4 h rfl (fun s_1 h => ?_)
  refine cf_aload_n E dX6_putBack_7 0 rfl rfl ?_
  refine cf_aload_n E dX6_putBack_8 0 rfl rfl ?_
  refine mget_35 E dX6_putBack_9 rfl ?_
  refine mput_2 E dX6_putBack_12 h rfl (fun s_2 h => ?_)
  refine cf_iconst E dX6_putBack_15 ic_0 rfl ?_
  refine cf_istore_n E dX6_putBack_16 h (fun x1_3 => [(1, .int x1_3), (0, .ref (mh g))]) (Nat.le_of_ble_eq_true rfl) (fun _ => rfl) rfl (fun x1_3 h => ?_)
  exact CF.sub [1, 0] rfl (wm_putBack_17 E hR hq N N x1_3 s_2 h)
theorem gw_putBack : GoodIn lw_all (wsV RX6 365 RX6 yX6_putBack (ws_ yX6_putBack cX6_putBack 2 none)) := lw_V q1950 q1952 qs71 q105 q1953
theorem hd_putBack : yX6_putBack.cls = RX6 ∧ yX6_putBack.cls ≠ "java/lang/invoke/MethodHandle" ∧ yX6_putBack.cls ≠ "java/lang/invoke/VarHandle" ∧ (parseMethodDescriptor yX6_putBack.desc).map (fun d => d.parameters.length) = some 0 := by decide +kernel
theorem mcl_putBack {p : Program} {l : Launch} {e : Env} {R : Room} {s : State} {m : MethodId} {args : Array Value} {below : List Frame} {meth : Method} {c : Code} {nL : Nat} {A : Nat → Prop} {g : MG} {σ : MS} {Q : State → Prop} {pc n : Nat} {lv : List (Nat × Value)} {st : List Value} {cc : ByteArray} {ρ : Type} {res : ρ} (E : EV p s m args c cc nL RX6) {N : Nat}  {kk : MS → Option ρ} (hR : 1 ≤ R.frames ∧ 21 ≤ R.locals) (hcat : (st.map fun v => v.category).sum ≤ 8) (d : decode cc pc = .ok (.invokevirtual 365, 3)) (h : bnv (m_putBack N  σ) kk = some res) (hn : pc + 3 = n) (k : ∀ (σ1 : MS), kk σ1 = some res → CF p l e R s m args below meth c nL 0 0 (MB g A s σ1) Q n lv st) : CF p l e R s m args below meth c nL 0 0 (MB g A s σ) Q pc lv (.ref (mh g) :: st) :=
  mcall_v E [] (fun σ1 ho => met_putBack l g N  σ ho) gw_putBack hd_putBack rfl rfl hR rfl rfl hcat d h hn k
set_option maxHeartbeats 4000000 in
theorem wm_on_33b {p : Program} {l : Launch} {e : Env} {R : Room} {s : State} {m : MethodId} {args : Array Value} {below : List Frame} {meth : Method} {c : Code} {A : Nat → Prop} {g : MG} {Q : State → Prop} (E : EV p s m args c cX6_on 5 RX6) (hR : 5 ≤ R.frames ∧ 121 ≤ R.locals) {res : Int32 × MS} (hq : RTi p l e R s m args below meth c cX6_on 5 A g .int Q res) (N : Nat)  {rec33 : Int32 → Int32 → Int32 → Int32 → MS → Option (Int32 × MS)} (ih33 : ∀ (x1 : Int32) (x2 : Int32) (x3 : Int32) (x4 : Int32) (σ : MS), rec33 x1 x2 x3 x4 σ = some res → CF p l e R s m args below meth c 5 0 0 (MB g A s σ) Q 33 [(0, .ref (mh g)), (1, .int x1), (2, .int x2), (3, .int x3), (4, .int x4)] []) (x1 : Int32) (x2 : Int32) (x3 : Int32) (x4 : Int32) (σ : MS) (h : m_on_33b N  rec33 x1 x2 x3 x4 σ = some res) : CF p l e R s m args below meth c 5 0 0 (MB g A s σ) Q 33 [(0, .ref (mh g)), (1, .int x1), (2, .int x2), (3, .int x3), (4, .int x4)] [] := by
  unfold m_on_33b at h
  refine cf_iload E dX6_on_33 4 rfl rfl ?_
  refine cf_iload_n E dX6_on_35 2 rfl rfl ?_
  refine cf_icmp_ge E dX6_on_36 h rfl rfl (fun h => ?_) (fun h => ?_)
  · refine cf_aload_n E dX6_on_57 0 rfl rfl ?_
    refine mcl_putBack E (rmle hR rfl rfl) (Nat.le_of_ble_eq_true rfl) dX6_on_58 h rfl (fun s_1 h => ?_)
    refine cf_iload_n E dX6_on_61 3 rfl rfl ?_
    exact mret_i dX6_on_62 h rfl hq
  · refine cf_iload_n E dX6_on_39 3 rfl rfl ?_
    refine cf_aload_n E dX6_on_40 0 rfl rfl ?_
    refine cf_iload_n E dX6_on_41 1 rfl rfl ?_
    refine mcl_todayOf E (rmle hR rfl rfl) (Nat.le_of_ble_eq_true rfl) dX6_on_42 h rfl (fun v_3 s_2 h => ?_)
    refine cf_iadd E dX6_on_45 rfl ?_
    refine cf_istore_n E dX6_on_46 h (fun x3_4 => [(3, .int x3_4), (0, .ref (mh g)), (1, .int x1), (2, .int x2), (4, .int x4)]) (Nat.le_of_ble_eq_true rfl) (fun _ => rfl) rfl (fun x3_4 h => ?_)
    refine cf_aload_n E dX6_on_47 1 rfl rfl ?_
    refine mcl_goDay E (rmle hR rfl rfl) (Nat.le_of_ble_eq_true rfl) dX6_on_48 h rfl (fun s_5 h => ?_)
    refine cf_iinc E dX6_on_51 ic_1 h 4 rfl (fun x4_6 => [(4, .int x4_6), (3, .int x3_4), (0, .ref (mh g)), (1, .int x1), (2, .int x2)]) (Nat.le_of_ble_eq_true rfl) (fun _ => rfl) rfl (fun x4_6 h => ?_)
    refine cf_goto E dX6_on_54 rfl ?_
    exact CF.sub [2, 3, 4, 1, 0] rfl (ih33 x1 x2 x3_4 x4_6 s_5 h)
set_option maxHeartbeats 4000000 in
theorem wm_on_33 {p : Program} {l : Launch} {e : Env} {R : Room} {s : State} {m : MethodId} {args : Array Value} {below : List Frame} {meth : Method} {c : Code} {A : Nat → Prop} {g : MG} {Q : State → Prop} (E : EV p s m args c cX6_on 5 RX6) (hR : 5 ≤ R.frames ∧ 121 ≤ R.locals) {res : Int32 × MS} (hq : RTi p l e R s m args below meth c cX6_on 5 A g .int Q res) (N : Nat)  : ∀ (k : Nat) (x1 : Int32) (x2 : Int32) (x3 : Int32) (x4 : Int32) (σ : MS), m_on_33 N  k x1 x2 x3 x4 σ = some res → CF p l e R s m args below meth c 5 0 0 (MB g A s σ) Q 33 [(0, .ref (mh g)), (1, .int x1), (2, .int x2), (3, .int x3), (4, .int x4)] [] := by
  intro k
  induction k with
  | zero => intro x1 x2 x3 x4 σ h; have h : (none : Option (Int32 × MS)) = some res := h; cases h
  | succ k ih => intro x1 x2 x3 x4 σ h; exact wm_on_33b E hR hq N  ih x1 x2 x3 x4 σ h
set_option maxHeartbeats 4000000 in
theorem met_on (l : Launch) (g : MG) (N : Nat) (x1 : Int32) (x2 : Int32) (σ : MS) {v : Int32} {σ1 : MS} (h : m_on N x1 x2 σ = some (v, σ1)) : MetMi l g yX6_on (ws_ yX6_on cX6_on 5 (some .int)) { frames := 5, cells := 0, slots := 0, locals := 121 } [.int x1, .int x2] σ v σ1 := by
  refine met_mi (lv0 := [(0, .ref (mh g)), (1, .int x1), (2, .int x2)]) (by decide) rfl ⟨rfl, rfl⟩ (Nat.le_of_ble_eq_true rfl) rfl ?_
  intro p e s m below meth c A Q E hq
  have hR : 5 ≤ ({ frames := 5, cells := 0, slots := 0, locals := 121 } : Room).frames ∧ 121 ≤ ({ frames := 5, cells := 0, slots := 0, locals := 121 } : Room).locals := ⟨Nat.le_refl _, Nat.le_refl _⟩
  unfold m_on at h
  refine cf_aload_n E dX6_on_0 0 rfl rfl ?_
  refine cf_iload_n E dX6_on_1 1 rfl rfl ?_
  refine mcl_isTrade E (rmle hR rfl rfl) (Nat.le_of_ble_eq_true rfl) dX6_on_2 h rfl (fun v_2 s_1 h => ?_)
  refine cf_if_ne E dX6_on_5 h rfl rfl (fun h => ?_) (fun h => ?_)
  · refine cf_aload_n E dX6_on_10 0 rfl rfl ?_
    refine cf_iload_n E dX6_on_11 2 rfl rfl ?_
    refine cf_iconst E dX6_on_12 ic_0 rfl ?_
    refine cf_bipush E dX6_on_13 bp_30 rfl ?_
    refine mcl_in E (rmle hR rfl rfl) (Nat.le_of_ble_eq_true rfl) dX6_on_15 h rfl (fun v_4 s_3 h => ?_)
    refine cf_if_ne E dX6_on_18 h rfl rfl (fun h => ?_) (fun h => ?_)
    · refine cf_aload_n E dX6_on_24 0 rfl rfl ?_
      refine mcl_save E (rmle hR rfl rfl) (Nat.le_of_ble_eq_true rfl) dX6_on_25 h rfl (fun s_5 h => ?_)
      refine cf_iconst E dX6_on_28 ic_0 rfl ?_
      refine cf_istore_n E dX6_on_29 h (fun x3_6 => [(3, .int x3_6), (0, .ref (mh g)), (1, .int x1), (2, .int x2)]) (Nat.le_of_ble_eq_true rfl) (fun _ => rfl) rfl (fun x3_6 h => ?_)
      refine cf_iconst E dX6_on_30 ic_0 rfl ?_
      refine cf_istore E dX6_on_31 h (fun x4_7 => [(4, .int x4_7), (3, .int x3_6), (0, .ref (mh g)), (1, .int x1), (2, .int x2)]) (Nat.le_of_ble_eq_true rfl) (fun _ => rfl) rfl (fun x4_7 h => ?_)
      exact CF.sub [2, 3, 4, 1, 0] rfl (wm_on_33 E hR hq N N x1 x2 x3_6 x4_7 s_5 h)
    · refine cf_bipush E dX6_on_21 bp_m2 rfl ?_
      exact mret_i dX6_on_23 h rfl hq
  · refine cf_iconst E dX6_on_8 ic_m1 rfl ?_
    exact mret_i dX6_on_9 h rfl hq

set_option maxHeartbeats 4000000 in
theorem wm_lasts_45 {p : Program} {l : Launch} {e : Env} {R : Room} {s : State} {m : MethodId} {args : Array Value} {below : List Frame} {meth : Method} {c : Code} {A : Nat → Prop} {g : MG} {Q : State → Prop} (E : EV p s m args c cX6_lasts 3 RX6) (hR : 5 ≤ R.frames ∧ 121 ≤ R.locals) {res : Int32 × MS} (hq : RTi p l e R s m args below meth c cX6_lasts 3 A g .int Q res) (N : Nat)  (x2 : Int32) (σ : MS) (h : m_lasts_45 N  x2 σ = some res) : CF p l e R s m args below meth c 3 0 0 (MB g A s σ) Q 45 [(0, .ref (mh g)), (2, .int x2)] [] := by
  unfold m_lasts_45 at h
  refine cf_aload_n E dX6_lasts_45 0 rfl rfl ?_
  refine mcl_putBack E (rmle hR rfl rfl) (Nat.le_of_ble_eq_true rfl) dX6_lasts_46 h rfl (fun s_1 h => ?_)
  refine cf_iload_n E dX6_lasts_49 1 rfl rfl ?_
  refine cf_bipush E dX6_lasts_50 bp_31 rfl ?_
  refine cf_icmp_ge E dX6_lasts_52 h rfl rfl (fun h => ?_) (fun h => ?_)
  · refine cf_bipush E dX6_lasts_59 bp_m5 rfl ?_
    exact mret_i dX6_lasts_61 h rfl hq
  · refine cf_iload_n E dX6_lasts_55 1 rfl rfl ?_
    refine cf_goto E dX6_lasts_56 rfl ?_
    exact mret_i dX6_lasts_61 h rfl hq
set_option maxHeartbeats 4000000 in
theorem wm_lasts_16b {p : Program} {l : Launch} {e : Env} {R : Room} {s : State} {m : MethodId} {args : Array Value} {below : List Frame} {meth : Method} {c : Code} {A : Nat → Prop} {g : MG} {Q : State → Prop} (E : EV p s m args c cX6_lasts 3 RX6) (hR : 5 ≤ R.frames ∧ 121 ≤ R.locals) {res : Int32 × MS} (hq : RTi p l e R s m args below meth c cX6_lasts 3 A g .int Q res) (N : Nat)  {rec16 : Int32 → Int32 → MS → Option (Int32 × MS)} (ih16 : ∀ (x1 : Int32) (x2 : Int32) (σ : MS), rec16 x1 x2 σ = some res → CF p l e R s m args below meth c 3 0 0 (MB g A s σ) Q 16 [(0, .ref (mh g)), (1, .int x1), (2, .int x2)] []) (x1 : Int32) (x2 : Int32) (σ : MS) (h : m_lasts_16b N  rec16 x1 x2 σ = some res) : CF p l e R s m args below meth c 3 0 0 (MB g A s σ) Q 16 [(0, .ref (mh g)), (1, .int x1), (2, .int x2)] [] := by
  unfold m_lasts_16b at h
  refine cf_iload_n E dX6_lasts_16 2 rfl rfl ?_
  refine cf_bipush E dX6_lasts_17 bp_31 rfl ?_
  refine cf_icmp_ge E dX6_lasts_19 h rfl rfl (fun h => ?_) (fun h => ?_)
  · exact CF.sub [0, 2] rfl (wm_lasts_45 E hR hq N x2 σ h)
  · refine cf_aload_n E dX6_lasts_22 0 rfl rfl ?_
    refine cf_iload_n E dX6_lasts_23 1 rfl rfl ?_
    refine mcl_todayOf E (rmle hR rfl rfl) (Nat.le_of_ble_eq_true rfl) dX6_lasts_24 h rfl (fun v_2 s_1 h => ?_)
    refine cf_aload_n E dX6_lasts_27 0 rfl rfl ?_
    refine cf_iload_n E dX6_lasts_28 1 rfl rfl ?_
    refine mcl_work E (rmle hR rfl rfl) (Nat.le_of_ble_eq_true rfl) dX6_lasts_29 h rfl (fun v_4 s_3 h => ?_)
    refine cf_icmp_lt E dX6_lasts_32 h rfl rfl (fun h => ?_) (fun h => ?_)
    · exact CF.sub [0, 2] rfl (wm_lasts_45 E hR hq N x2 s_3 h)
    · refine cf_aload_n E dX6_lasts_35 0 rfl rfl ?_
      refine mcl_goDay E (rmle hR rfl rfl) (Nat.le_of_ble_eq_true rfl) dX6_lasts_36 h rfl (fun s_5 h => ?_)
      refine cf_iinc E dX6_lasts_39 ic_1 h 2 rfl (fun x2_6 => [(2, .int x2_6), (0, .ref (mh g)), (1, .int x1)]) (Nat.le_of_ble_eq_true rfl) (fun _ => rfl) rfl (fun x2_6 h => ?_)
      refine cf_goto E dX6_lasts_42 rfl ?_
      exact CF.sub [1, 2, 0] rfl (ih16 x1 x2_6 s_5 h)
set_option maxHeartbeats 4000000 in
theorem wm_lasts_16 {p : Program} {l : Launch} {e : Env} {R : Room} {s : State} {m : MethodId} {args : Array Value} {below : List Frame} {meth : Method} {c : Code} {A : Nat → Prop} {g : MG} {Q : State → Prop} (E : EV p s m args c cX6_lasts 3 RX6) (hR : 5 ≤ R.frames ∧ 121 ≤ R.locals) {res : Int32 × MS} (hq : RTi p l e R s m args below meth c cX6_lasts 3 A g .int Q res) (N : Nat)  : ∀ (k : Nat) (x1 : Int32) (x2 : Int32) (σ : MS), m_lasts_16 N  k x1 x2 σ = some res → CF p l e R s m args below meth c 3 0 0 (MB g A s σ) Q 16 [(0, .ref (mh g)), (1, .int x1), (2, .int x2)] [] := by
  intro k
  induction k with
  | zero => intro x1 x2 σ h; have h : (none : Option (Int32 × MS)) = some res := h; cases h
  | succ k ih => intro x1 x2 σ h; exact wm_lasts_16b E hR hq N  ih x1 x2 σ h
set_option maxHeartbeats 4000000 in
theorem met_lasts (l : Launch) (g : MG) (N : Nat) (x1 : Int32) (σ : MS) {v : Int32} {σ1 : MS} (h : m_lasts N x1 σ = some (v, σ1)) : MetMi l g yX6_lasts (ws_ yX6_lasts cX6_lasts 3 (some .int)) { frames := 5, cells := 0, slots := 0, locals := 121 } [.int x1] σ v σ1 := by
  refine met_mi (lv0 := [(0, .ref (mh g)), (1, .int x1)]) (by decide) rfl ⟨rfl, rfl⟩ (Nat.le_of_ble_eq_true rfl) rfl ?_
  intro p e s m below meth c A Q E hq
  have hR : 5 ≤ ({ frames := 5, cells := 0, slots := 0, locals := 121 } : Room).frames ∧ 121 ≤ ({ frames := 5, cells := 0, slots := 0, locals := 121 } : Room).locals := ⟨Nat.le_refl _, Nat.le_refl _⟩
  unfold m_lasts at h
  refine cf_aload_n E dX6_lasts_0 0 rfl rfl ?_
  refine cf_iload_n E dX6_lasts_1 1 rfl rfl ?_
  refine mcl_isTrade E (rmle hR rfl rfl) (Nat.le_of_ble_eq_true rfl) dX6_lasts_2 h rfl (fun v_2 s_1 h => ?_)
  refine cf_if_ne E dX6_lasts_5 h rfl rfl (fun h => ?_) (fun h => ?_)
  · refine cf_aload_n E dX6_lasts_10 0 rfl rfl ?_
    refine mcl_save E (rmle hR rfl rfl) (Nat.le_of_ble_eq_true rfl) dX6_lasts_11 h rfl (fun s_3 h => ?_)
    refine cf_iconst E dX6_lasts_14 ic_0 rfl ?_
    refine cf_istore_n E dX6_lasts_15 h (fun x2_4 => [(2, .int x2_4), (0, .ref (mh g)), (1, .int x1)]) (Nat.le_of_ble_eq_true rfl) (fun _ => rfl) rfl (fun x2_4 h => ?_)
    exact CF.sub [1, 2, 0] rfl (wm_lasts_16 E hR hq N N x1 x2_4 s_3 h)
  · refine cf_iconst E dX6_lasts_8 ic_m1 rfl ?_
    exact mret_i dX6_lasts_9 h rfl hq

set_option maxHeartbeats 4000000 in
theorem wm_layDeeds_12b {p : Program} {l : Launch} {e : Env} {R : Room} {s : State} {m : MethodId} {args : Array Value} {below : List Frame} {meth : Method} {c : Code} {A : Nat → Prop} {g : MG} {Q : State → Prop} (E : EV p s m args c cX6_layDeeds 3 RX6) (hR : 4 ≤ R.frames ∧ 98 ≤ R.locals) {res : MS} (hq : RTv p l e R s m args below meth c cX6_layDeeds 3 A g Q res) (N : Nat) {rec2 : Int32 → MS → Option (MS)} (ih2 : ∀ (x1 : Int32) (σ : MS), rec2 x1 σ = some res → CF p l e R s m args below meth c 3 0 0 (MB g A s σ) Q 2 [(0, .ref (mh g)), (1, .int x1)] []) {rec12 : Int32 → Int32 → MS → Option (MS)} (ih12 : ∀ (x1 : Int32) (x2 : Int32) (σ : MS), rec12 x1 x2 σ = some res → CF p l e R s m args below meth c 3 0 0 (MB g A s σ) Q 12 [(0, .ref (mh g)), (1, .int x1), (2, .int x2)] []) (x1 : Int32) (x2 : Int32) (σ : MS) (h : m_layDeeds_12b N rec2 rec12 x1 x2 σ = some res) : CF p l e R s m args below meth c 3 0 0 (MB g A s σ) Q 12 [(0, .ref (mh g)), (1, .int x1), (2, .int x2)] [] := by
  unfold m_layDeeds_12b at h
  refine cf_iload_n E dX6_layDeeds_12 2 rfl rfl ?_
  refine cf_aload_n E dX6_layDeeds_13 0 rfl rfl ?_
  refine mget_0 E dX6_layDeeds_14 rfl ?_
  refine cf_icmp_ge E dX6_layDeeds_17 h rfl rfl (fun h => ?_) (fun h => ?_)
  · refine cf_iinc E dX6_layDeeds_43 ic_1 h 1 rfl (fun x1_1 => [(1, .int x1_1), (0, .ref (mh g)), (2, .int x2)]) (Nat.le_of_ble_eq_true rfl) (fun _ => rfl) rfl (fun x1_1 h => ?_)
    refine cf_goto E dX6_layDeeds_46 rfl ?_
    exact CF.sub [1, 0] rfl (ih2 x1_1 σ h)
  · refine cf_aload_n E dX6_layDeeds_20 0 rfl rfl ?_
    refine mget_39 E dX6_layDeeds_21 rfl ?_
    refine cf_bipush E dX6_layDeeds_24 bp_6 rfl ?_
    refine cf_iload_n E dX6_layDeeds_26 1 rfl rfl ?_
    refine cf_imul E dX6_layDeeds_27 rfl ?_
    refine cf_iload_n E dX6_layDeeds_28 2 rfl rfl ?_
    refine cf_iadd E dX6_layDeeds_29 rfl ?_
    refine cf_aload_n E dX6_layDeeds_30 0 rfl rfl ?_
    refine cf_iload_n E dX6_layDeeds_31 1 rfl rfl ?_
    refine cf_iload_n E dX6_layDeeds_32 2 rfl rfl ?_
    refine mcl_deed E (rmle hR rfl rfl) (Nat.le_of_ble_eq_true rfl) dX6_layDeeds_33 h rfl (fun v_3 s_2 h => ?_)
    refine mast_39 E dX6_layDeeds_36 h rfl (fun s_4 h => ?_)
    refine cf_iinc E dX6_layDeeds_37 ic_1 h 2 rfl (fun x2_5 => [(2, .int x2_5), (0, .ref (mh g)), (1, .int x1)]) (Nat.le_of_ble_eq_true rfl) (fun _ => rfl) rfl (fun x2_5 h => ?_)
    refine cf_goto E dX6_layDeeds_40 rfl ?_
    exact CF.sub [1, 2, 0] rfl (ih12 x1 x2_5 s_4 h)
set_option maxHeartbeats 4000000 in
theorem wm_layDeeds_12 {p : Program} {l : Launch} {e : Env} {R : Room} {s : State} {m : MethodId} {args : Array Value} {below : List Frame} {meth : Method} {c : Code} {A : Nat → Prop} {g : MG} {Q : State → Prop} (E : EV p s m args c cX6_layDeeds 3 RX6) (hR : 4 ≤ R.frames ∧ 98 ≤ R.locals) {res : MS} (hq : RTv p l e R s m args below meth c cX6_layDeeds 3 A g Q res) (N : Nat) {rec2 : Int32 → MS → Option (MS)} (ih2 : ∀ (x1 : Int32) (σ : MS), rec2 x1 σ = some res → CF p l e R s m args below meth c 3 0 0 (MB g A s σ) Q 2 [(0, .ref (mh g)), (1, .int x1)] []) : ∀ (k : Nat) (x1 : Int32) (x2 : Int32) (σ : MS), m_layDeeds_12 N rec2 k x1 x2 σ = some res → CF p l e R s m args below meth c 3 0 0 (MB g A s σ) Q 12 [(0, .ref (mh g)), (1, .int x1), (2, .int x2)] [] := by
  intro k
  induction k with
  | zero => intro x1 x2 σ h; have h : (none : Option (MS)) = some res := h; cases h
  | succ k ih => intro x1 x2 σ h; exact wm_layDeeds_12b E hR hq N ih2 ih x1 x2 σ h
set_option maxHeartbeats 4000000 in
theorem wm_layDeeds_2b {p : Program} {l : Launch} {e : Env} {R : Room} {s : State} {m : MethodId} {args : Array Value} {below : List Frame} {meth : Method} {c : Code} {A : Nat → Prop} {g : MG} {Q : State → Prop} (E : EV p s m args c cX6_layDeeds 3 RX6) (hR : 4 ≤ R.frames ∧ 98 ≤ R.locals) {res : MS} (hq : RTv p l e R s m args below meth c cX6_layDeeds 3 A g Q res) (N : Nat)  {rec2 : Int32 → MS → Option (MS)} (ih2 : ∀ (x1 : Int32) (σ : MS), rec2 x1 σ = some res → CF p l e R s m args below meth c 3 0 0 (MB g A s σ) Q 2 [(0, .ref (mh g)), (1, .int x1)] []) (x1 : Int32) (σ : MS) (h : m_layDeeds_2b N  rec2 x1 σ = some res) : CF p l e R s m args below meth c 3 0 0 (MB g A s σ) Q 2 [(0, .ref (mh g)), (1, .int x1)] [] := by
  unfold m_layDeeds_2b at h
  refine cf_iload_n E dX6_layDeeds_2 1 rfl rfl ?_
  refine cf_aload_n E dX6_layDeeds_3 0 rfl rfl ?_
  refine mget_1 E dX6_layDeeds_4 rfl ?_
  refine cf_icmp_ge E dX6_layDeeds_7 h rfl rfl (fun h => ?_) (fun h => ?_)
  · exact mret_v dX6_layDeeds_49 h hq
  · refine cf_iconst E dX6_layDeeds_10 ic_0 rfl ?_
    refine cf_istore_n E dX6_layDeeds_11 h (fun x2_1 => [(2, .int x2_1), (0, .ref (mh g)), (1, .int x1)]) (Nat.le_of_ble_eq_true rfl) (fun _ => rfl) rfl (fun x2_1 h => ?_)
    exact CF.sub [1, 2, 0] rfl (wm_layDeeds_12 E hR hq N ih2 N x1 x2_1 σ h)
set_option maxHeartbeats 4000000 in
theorem wm_layDeeds_2 {p : Program} {l : Launch} {e : Env} {R : Room} {s : State} {m : MethodId} {args : Array Value} {below : List Frame} {meth : Method} {c : Code} {A : Nat → Prop} {g : MG} {Q : State → Prop} (E : EV p s m args c cX6_layDeeds 3 RX6) (hR : 4 ≤ R.frames ∧ 98 ≤ R.locals) {res : MS} (hq : RTv p l e R s m args below meth c cX6_layDeeds 3 A g Q res) (N : Nat)  : ∀ (k : Nat) (x1 : Int32) (σ : MS), m_layDeeds_2 N  k x1 σ = some res → CF p l e R s m args below meth c 3 0 0 (MB g A s σ) Q 2 [(0, .ref (mh g)), (1, .int x1)] [] := by
  intro k
  induction k with
  | zero => intro x1 σ h; have h : (none : Option (MS)) = some res := h; cases h
  | succ k ih => intro x1 σ h; exact wm_layDeeds_2b E hR hq N  ih x1 σ h
set_option maxHeartbeats 4000000 in
theorem met_layDeeds (l : Launch) (g : MG) (N : Nat)  (σ : MS) {σ1 : MS} (h : m_layDeeds N  σ = some σ1) : MetMv l g yX6_layDeeds (ws_ yX6_layDeeds cX6_layDeeds 3 (none)) { frames := 4, cells := 0, slots := 0, locals := 98 } [] σ σ1 := by
  refine met_mv (lv0 := [(0, .ref (mh g))]) (by decide) rfl ⟨rfl, rfl⟩ (Nat.le_of_ble_eq_true rfl) rfl ?_
  intro p e s m below meth c A Q E hq
  have hR : 4 ≤ ({ frames := 4, cells := 0, slots := 0, locals := 98 } : Room).frames ∧ 98 ≤ ({ frames := 4, cells := 0, slots := 0, locals := 98 } : Room).locals := ⟨Nat.le_refl _, Nat.le_refl _⟩
  unfold m_layDeeds at h
  refine cf_iconst E dX6_layDeeds_0 ic_0 rfl ?_
  refine cf_istore_n E dX6_layDeeds_1 h (fun x1_1 => [(1, .int x1_1), (0, .ref (mh g))]) (Nat.le_of_ble_eq_true rfl) (fun _ => rfl) rfl (fun x1_1 h => ?_)
  exact CF.sub [1, 0] rfl (wm_layDeeds_2 E hR hq N N x1_1 σ h)
theorem gw_layDeeds : GoodIn lw_all (wsV RX6 371 RX6 yX6_layDeeds (ws_ yX6_layDeeds cX6_layDeeds 3 none)) := lw_V q1966 q1968 qs73 q105 q1969
theorem hd_layDeeds : yX6_layDeeds.cls = RX6 ∧ yX6_layDeeds.cls ≠ "java/lang/invoke/MethodHandle" ∧ yX6_layDeeds.cls ≠ "java/lang/invoke/VarHandle" ∧ (parseMethodDescriptor yX6_layDeeds.desc).map (fun d => d.parameters.length) = some 0 := by decide +kernel
theorem mcl_layDeeds {p : Program} {l : Launch} {e : Env} {R : Room} {s : State} {m : MethodId} {args : Array Value} {below : List Frame} {meth : Method} {c : Code} {nL : Nat} {A : Nat → Prop} {g : MG} {σ : MS} {Q : State → Prop} {pc n : Nat} {lv : List (Nat × Value)} {st : List Value} {cc : ByteArray} {ρ : Type} {res : ρ} (E : EV p s m args c cc nL RX6) {N : Nat}  {kk : MS → Option ρ} (hR : 5 ≤ R.frames ∧ 120 ≤ R.locals) (hcat : (st.map fun v => v.category).sum ≤ 8) (d : decode cc pc = .ok (.invokevirtual 371, 3)) (h : bnv (m_layDeeds N  σ) kk = some res) (hn : pc + 3 = n) (k : ∀ (σ1 : MS), kk σ1 = some res → CF p l e R s m args below meth c nL 0 0 (MB g A s σ1) Q n lv st) : CF p l e R s m args below meth c nL 0 0 (MB g A s σ) Q pc lv (.ref (mh g) :: st) :=
  mcall_v E [] (fun σ1 ho => met_layDeeds l g N  σ ho) gw_layDeeds hd_layDeeds rfl rfl hR rfl rfl hcat d h hn k
set_option maxHeartbeats 4000000 in
theorem wm_ones_4b {p : Program} {l : Launch} {e : Env} {R : Room} {s : State} {m : MethodId} {args : Array Value} {below : List Frame} {meth : Method} {c : Code} {A : Nat → Prop} {g : MG} {Q : State → Prop} (E : EV p s m args c cX6_ones 4 RX6) (hR : 0 ≤ R.frames ∧ 0 ≤ R.locals) {res : Int32 × MS} (hq : RTi p l e R s m args below meth c cX6_ones 4 A g .int Q res) (N : Nat)  {rec4 : Int32 → Int32 → MS → Option (Int32 × MS)} (ih4 : ∀ (x2 : Int32) (x3 : Int32) (σ : MS), rec4 x2 x3 σ = some res → CF p l e R s m args below meth c 4 0 0 (MB g A s σ) Q 4 [(2, .int x2), (3, .int x3)] []) (x2 : Int32) (x3 : Int32) (σ : MS) (h : m_ones_4b N  rec4 x2 x3 σ = some res) : CF p l e R s m args below meth c 4 0 0 (MB g A s σ) Q 4 [(2, .int x2), (3, .int x3)] [] := by
  unfold m_ones_4b at h
  refine cf_iload_n E dX6_ones_4 1 rfl rfl ?_
  refine cf_if_eq E dX6_ones_5 h rfl rfl (fun h => ?_) (fun h => ?_)
  · refine cf_iload_n E dX6_ones_20 0 rfl rfl ?_
    exact mret_i dX6_ones_21 h rfl hq
  · refine cf_iinc E dX6_ones_8 ic_1 h 0 rfl (fun x2_1 => [(2, .int x2_1), (3, .int x3)]) (Nat.le_of_ble_eq_true rfl) (fun _ => rfl) rfl (fun x2_1 h => ?_)
    refine cf_iload_n E dX6_ones_11 1 rfl rfl ?_
    refine cf_iload_n E dX6_ones_12 1 rfl rfl ?_
    refine cf_iconst E dX6_ones_13 ic_1 rfl ?_
    refine cf_isub E dX6_ones_14 rfl ?_
    refine cf_iand E dX6_ones_15 rfl ?_
    refine cf_istore_n E dX6_ones_16 h (fun x3_2 => [(3, .int x3_2), (2, .int x2_1)]) (Nat.le_of_ble_eq_true rfl) (fun _ => rfl) rfl (fun x3_2 h => ?_)
    refine cf_goto E dX6_ones_17 rfl ?_
    exact CF.sub [1, 0] rfl (ih4 x2_1 x3_2 σ h)
set_option maxHeartbeats 4000000 in
theorem wm_ones_4 {p : Program} {l : Launch} {e : Env} {R : Room} {s : State} {m : MethodId} {args : Array Value} {below : List Frame} {meth : Method} {c : Code} {A : Nat → Prop} {g : MG} {Q : State → Prop} (E : EV p s m args c cX6_ones 4 RX6) (hR : 0 ≤ R.frames ∧ 0 ≤ R.locals) {res : Int32 × MS} (hq : RTi p l e R s m args below meth c cX6_ones 4 A g .int Q res) (N : Nat)  : ∀ (k : Nat) (x2 : Int32) (x3 : Int32) (σ : MS), m_ones_4 N  k x2 x3 σ = some res → CF p l e R s m args below meth c 4 0 0 (MB g A s σ) Q 4 [(2, .int x2), (3, .int x3)] [] := by
  intro k
  induction k with
  | zero => intro x2 x3 σ h; have h : (none : Option (Int32 × MS)) = some res := h; cases h
  | succ k ih => intro x2 x3 σ h; exact wm_ones_4b E hR hq N  ih x2 x3 σ h
set_option maxHeartbeats 4000000 in
theorem met_ones (l : Launch) (g : MG) (N : Nat) (x1 : Int32) (σ : MS) {v : Int32} {σ1 : MS} (h : m_ones N x1 σ = some (v, σ1)) : MetMi l g yX6_ones (ws_ yX6_ones cX6_ones 4 (some .int)) { frames := 0, cells := 0, slots := 0, locals := 0 } [.int x1] σ v σ1 := by
  refine met_mi (lv0 := [(0, .ref (mh g)), (1, .int x1)]) (by decide) rfl ⟨rfl, rfl⟩ (Nat.le_of_ble_eq_true rfl) rfl ?_
  intro p e s m below meth c A Q E hq
  have hR : 0 ≤ ({ frames := 0, cells := 0, slots := 0, locals := 0 } : Room).frames ∧ 0 ≤ ({ frames := 0, cells := 0, slots := 0, locals := 0 } : Room).locals := ⟨Nat.le_refl _, Nat.le_refl _⟩
  unfold m_ones at h
  refine cf_iconst E dX6_ones_0 ic_0 rfl ?_
  refine cf_istore_n E dX6_ones_1 h (fun x2_1 => [(2, .int x2_1), (0, .ref (mh g)), (1, .int x1)]) (Nat.le_of_ble_eq_true rfl) (fun _ => rfl) rfl (fun x2_1 h => ?_)
  refine cf_iload_n E dX6_ones_2 2 rfl rfl ?_
  refine cf_istore_n E dX6_ones_3 h (fun x3_2 => [(3, .int x3_2), (2, .int x2_1), (0, .ref (mh g)), (1, .int x1)]) (Nat.le_of_ble_eq_true rfl) (fun _ => rfl) rfl (fun x3_2 h => ?_)
  exact CF.sub [1, 0] rfl (wm_ones_4 E hR hq N N x2_1 x3_2 σ h)
theorem gw_ones : GoodIn lw_all (wsV RX6 374 RX6 yX6_ones (ws_ yX6_ones cX6_ones 4 (some .int))) := lw_V q1970 q1972 qs74 q105 q1973
theorem hd_ones : yX6_ones.cls = RX6 ∧ yX6_ones.cls ≠ "java/lang/invoke/MethodHandle" ∧ yX6_ones.cls ≠ "java/lang/invoke/VarHandle" ∧ (parseMethodDescriptor yX6_ones.desc).map (fun d => d.parameters.length) = some 1 := by decide +kernel
theorem mcl_ones {p : Program} {l : Launch} {e : Env} {R : Room} {s : State} {m : MethodId} {args : Array Value} {below : List Frame} {meth : Method} {c : Code} {nL : Nat} {A : Nat → Prop} {g : MG} {σ : MS} {Q : State → Prop} {pc n : Nat} {lv : List (Nat × Value)} {st : List Value} {cc : ByteArray} {ρ : Type} {res : ρ} (E : EV p s m args c cc nL RX6) {N : Nat} {x1 : Int32} {kk : Int32 → MS → Option ρ} (hR : 1 ≤ R.frames ∧ 23 ≤ R.locals) (hcat : (st.map fun v => v.category).sum ≤ 8) (d : decode cc pc = .ok (.invokevirtual 374, 3)) (h : bnd (m_ones N x1 σ) kk = some res) (hn : pc + 3 = n) (k : ∀ (v : Int32) (σ1 : MS), kk v σ1 = some res → CF p l e R s m args below meth c nL 0 0 (MB g A s σ1) Q n lv (.int v :: st)) : CF p l e R s m args below meth c nL 0 0 (MB g A s σ) Q pc lv (.int x1 :: .ref (mh g) :: st) :=
  mcall_i E [.int x1] (fun v σ1 ho => met_ones l g N x1 σ ho) gw_ones hd_ones rfl rfl hR rfl rfl hcat d h hn k
set_option maxHeartbeats 4000000 in
theorem met_has (l : Launch) (g : MG) (N : Nat) (x1 : Int32) (x2 : Int32) (σ : MS) {v : Int32} {σ1 : MS} (h : m_has N x1 x2 σ = some (v, σ1)) : MetMi l g yX6_has (ws_ yX6_has cX6_has 3 (some .boolean)) { frames := 0, cells := 0, slots := 0, locals := 0 } [.int x1, .int x2] σ v σ1 := by
  refine met_mi (lv0 := [(0, .ref (mh g)), (1, .int x1), (2, .int x2)]) (by decide) rfl ⟨rfl, rfl⟩ (Nat.le_of_ble_eq_true rfl) rfl ?_
  intro p e s m below meth c A Q E hq
  have hR : 0 ≤ ({ frames := 0, cells := 0, slots := 0, locals := 0 } : Room).frames ∧ 0 ≤ ({ frames := 0, cells := 0, slots := 0, locals := 0 } : Room).locals := ⟨Nat.le_refl _, Nat.le_refl _⟩
  unfold m_has at h
  refine cf_iload_n E dX6_has_0 1 rfl rfl ?_
  refine cf_iload_n E dX6_has_1 2 rfl rfl ?_
  refine cf_ishr E dX6_has_2 rfl ?_
  refine cf_iconst E dX6_has_3 ic_1 rfl ?_
  refine cf_iand E dX6_has_4 rfl ?_
  refine cf_iconst E dX6_has_5 ic_1 rfl ?_
  refine cf_icmp_ne E dX6_has_6 h rfl rfl (fun h => ?_) (fun h => ?_)
  · refine cf_iconst E dX6_has_13 ic_0 rfl ?_
    exact mret_i dX6_has_14 h nzb0 hq
  · refine cf_iconst E dX6_has_9 ic_1 rfl ?_
    refine cf_goto E dX6_has_10 rfl ?_
    exact mret_i dX6_has_14 h nzb1 hq
theorem gw_has : GoodIn lw_all (wsV RX6 368 RX6 yX6_has (ws_ yX6_has cX6_has 3 (some .boolean))) := lw_V q1978 q1980 qs76 q105 q1981
theorem hd_has : yX6_has.cls = RX6 ∧ yX6_has.cls ≠ "java/lang/invoke/MethodHandle" ∧ yX6_has.cls ≠ "java/lang/invoke/VarHandle" ∧ (parseMethodDescriptor yX6_has.desc).map (fun d => d.parameters.length) = some 2 := by decide +kernel
theorem mcl_has {p : Program} {l : Launch} {e : Env} {R : Room} {s : State} {m : MethodId} {args : Array Value} {below : List Frame} {meth : Method} {c : Code} {nL : Nat} {A : Nat → Prop} {g : MG} {σ : MS} {Q : State → Prop} {pc n : Nat} {lv : List (Nat × Value)} {st : List Value} {cc : ByteArray} {ρ : Type} {res : ρ} (E : EV p s m args c cc nL RX6) {N : Nat} {x1 : Int32} {x2 : Int32} {kk : Int32 → MS → Option ρ} (hR : 1 ≤ R.frames ∧ 22 ≤ R.locals) (hcat : (st.map fun v => v.category).sum ≤ 8) (d : decode cc pc = .ok (.invokevirtual 368, 3)) (h : bnd (m_has N x1 x2 σ) kk = some res) (hn : pc + 3 = n) (k : ∀ (v : Int32) (σ1 : MS), kk v σ1 = some res → CF p l e R s m args below meth c nL 0 0 (MB g A s σ1) Q n lv (.int v :: st)) : CF p l e R s m args below meth c nL 0 0 (MB g A s σ) Q pc lv (.int x2 :: .int x1 :: .ref (mh g) :: st) :=
  mcall_i E [.int x1, .int x2] (fun v σ1 ho => met_has l g N x1 x2 σ ho) gw_has hd_has rfl rfl hR rfl rfl hcat d h hn k
set_option maxHeartbeats 4000000 in
theorem wm_onwardBy_38 {p : Program} {l : Launch} {e : Env} {R : Room} {s : State} {m : MethodId} {args : Array Value} {below : List Frame} {meth : Method} {c : Code} {A : Nat → Prop} {g : MG} {Q : State → Prop} (E : EV p s m args c cX6_onwardBy 5 RX6) (hR : 1 ≤ R.frames ∧ 22 ≤ R.locals) {res : Int32 × MS} (hq : RTi p l e R s m args below meth c cX6_onwardBy 5 A g .int Q res) (N : Nat)  (x1 : Int32) (x3 : Int32) (z0 : Int32) (z1 : Int32) (σ : MS) (h : m_onwardBy_38 N  x1 x3 z0 z1 σ = some res) : CF p l e R s m args below meth c 5 0 0 (MB g A s σ) Q 38 [(0, .ref (mh g)), (1, .int x1), (3, .int x3)] [.int z0, .int z1, .ref (ma g 41)] := by
  unfold m_onwardBy_38 at h
  refine cf_iadd E dX6_onwardBy_38 rfl ?_
  refine mald_41 E dX6_onwardBy_39 h rfl (fun h => ?_)
  refine cf_istore E dX6_onwardBy_40 h (fun x4_1 => [(4, .int x4_1), (0, .ref (mh g)), (1, .int x1), (3, .int x3)]) (Nat.le_of_ble_eq_true rfl) (fun _ => rfl) rfl (fun x4_1 h => ?_)
  refine cf_iload E dX6_onwardBy_42 0 rfl rfl ?_
  refine cf_if_ge E dX6_onwardBy_44 h rfl rfl (fun h => ?_) (fun h => ?_)
  · refine cf_iload E dX6_onwardBy_51 0 rfl rfl ?_
    refine cf_iload_n E dX6_onwardBy_53 3 rfl rfl ?_
    refine cf_if_ge E dX6_onwardBy_54 h rfl rfl (fun h => ?_) (fun h => ?_)
    · refine cf_aload_n E dX6_onwardBy_61 1 rfl rfl ?_
      refine mget_39 E dX6_onwardBy_62 rfl ?_
      refine cf_bipush E dX6_onwardBy_65 bp_6 rfl ?_
      refine cf_iload_n E dX6_onwardBy_67 3 rfl rfl ?_
      refine cf_imul E dX6_onwardBy_68 rfl ?_
      refine cf_iload_n E dX6_onwardBy_69 2 rfl rfl ?_
      refine cf_iadd E dX6_onwardBy_70 rfl ?_
      refine mald_39 E dX6_onwardBy_71 h rfl (fun h => ?_)
      refine cf_iadd E dX6_onwardBy_72 rfl ?_
      exact mret_i dX6_onwardBy_73 h rfl hq
    · refine cf_iconst E dX6_onwardBy_57 ic_0 rfl ?_
      refine cf_goto E dX6_onwardBy_58 rfl ?_
      refine cf_iadd E dX6_onwardBy_72 rfl ?_
      exact mret_i dX6_onwardBy_73 h rfl hq
  · refine cf_iconst E dX6_onwardBy_47 ic_m1 rfl ?_
    refine cf_goto E dX6_onwardBy_48 rfl ?_
    exact mret_i dX6_onwardBy_73 h rfl hq
set_option maxHeartbeats 4000000 in
theorem wm_onwardBy_15 {p : Program} {l : Launch} {e : Env} {R : Room} {s : State} {m : MethodId} {args : Array Value} {below : List Frame} {meth : Method} {c : Code} {A : Nat → Prop} {g : MG} {Q : State → Prop} (E : EV p s m args c cX6_onwardBy 5 RX6) (hR : 1 ≤ R.frames ∧ 22 ≤ R.locals) {res : Int32 × MS} (hq : RTi p l e R s m args below meth c cX6_onwardBy 5 A g .int Q res) (N : Nat)  (x1 : Int32) (x2 : Int32) (x3 : Int32) (σ : MS) (h : m_onwardBy_15 N  x1 x2 x3 σ = some res) : CF p l e R s m args below meth c 5 0 0 (MB g A s σ) Q 15 [(0, .ref (mh g)), (1, .int x1), (2, .int x2), (3, .int x3)] [] := by
  unfold m_onwardBy_15 at h
  refine cf_aload_n E dX6_onwardBy_15 0 rfl rfl ?_
  refine mget_41 E dX6_onwardBy_16 rfl ?_
  refine cf_bipush E dX6_onwardBy_19 bp_64 rfl ?_
  refine cf_iload_n E dX6_onwardBy_21 1 rfl rfl ?_
  refine cf_iconst E dX6_onwardBy_22 ic_1 rfl ?_
  refine cf_iadd E dX6_onwardBy_23 rfl ?_
  refine cf_imul E dX6_onwardBy_24 rfl ?_
  refine cf_iload_n E dX6_onwardBy_25 3 rfl rfl ?_
  refine cf_if_ge E dX6_onwardBy_26 h rfl rfl (fun h => ?_) (fun h => ?_)
  · refine cf_iload_n E dX6_onwardBy_33 2 rfl rfl ?_
    refine cf_iconst E dX6_onwardBy_34 ic_1 rfl ?_
    refine cf_iload_n E dX6_onwardBy_35 3 rfl rfl ?_
    refine cf_ishl E dX6_onwardBy_36 rfl ?_
    refine cf_ior E dX6_onwardBy_37 rfl ?_
    exact CF.sub [0, 1, 3] rfl (wm_onwardBy_38 E hR hq N x1 x3 (x2 ||| ((1 : Int32) <<< (x3 &&& 31))) ((64 : Int32) * (x1 + (1 : Int32))) σ h)
  · refine cf_iload_n E dX6_onwardBy_29 2 rfl rfl ?_
    refine cf_goto E dX6_onwardBy_30 rfl ?_
    exact CF.sub [0, 1, 3] rfl (wm_onwardBy_38 E hR hq N x1 x3 x2 ((64 : Int32) * (x1 + (1 : Int32))) σ h)
set_option maxHeartbeats 4000000 in
theorem met_onwardBy (l : Launch) (g : MG) (N : Nat) (x1 : Int32) (x2 : Int32) (x3 : Int32) (σ : MS) {v : Int32} {σ1 : MS} (h : m_onwardBy N x1 x2 x3 σ = some (v, σ1)) : MetMi l g yX6_onwardBy (ws_ yX6_onwardBy cX6_onwardBy 5 (some .int)) { frames := 1, cells := 0, slots := 0, locals := 22 } [.int x1, .int x2, .int x3] σ v σ1 := by
  refine met_mi (lv0 := [(0, .ref (mh g)), (1, .int x1), (2, .int x2), (3, .int x3)]) (by decide) rfl ⟨rfl, rfl⟩ (Nat.le_of_ble_eq_true rfl) rfl ?_
  intro p e s m below meth c A Q E hq
  have hR : 1 ≤ ({ frames := 1, cells := 0, slots := 0, locals := 22 } : Room).frames ∧ 22 ≤ ({ frames := 1, cells := 0, slots := 0, locals := 22 } : Room).locals := ⟨Nat.le_refl _, Nat.le_refl _⟩
  unfold m_onwardBy at h
  refine cf_iload_n E dX6_onwardBy_0 3 rfl rfl ?_
  refine cf_if_lt E dX6_onwardBy_1 h rfl rfl (fun h => ?_) (fun h => ?_)
  · exact CF.sub [0, 1, 2, 3] rfl (wm_onwardBy_15 E hR hq N x1 x2 x3 σ h)
  · refine cf_aload_n E dX6_onwardBy_4 0 rfl rfl ?_
    refine cf_iload_n E dX6_onwardBy_5 2 rfl rfl ?_
    refine cf_iload_n E dX6_onwardBy_6 3 rfl rfl ?_
    refine mcl_has E (rmle hR rfl rfl) (Nat.le_of_ble_eq_true rfl) dX6_onwardBy_7 h rfl (fun v_2 s_1 h => ?_)
    refine cf_if_eq E dX6_onwardBy_10 h rfl rfl (fun h => ?_) (fun h => ?_)
    · exact CF.sub [0, 1, 2, 3] rfl (wm_onwardBy_15 E hR hq N x1 x2 x3 s_1 h)
    · refine cf_iconst E dX6_onwardBy_13 ic_m1 rfl ?_
      exact mret_i dX6_onwardBy_14 h rfl hq
theorem gw_onwardBy : GoodIn lw_all (wsV RX6 377 RX6 yX6_onwardBy (ws_ yX6_onwardBy cX6_onwardBy 5 (some .int))) := lw_V q1974 q1976 qs75 q105 q1977
theorem hd_onwardBy : yX6_onwardBy.cls = RX6 ∧ yX6_onwardBy.cls ≠ "java/lang/invoke/MethodHandle" ∧ yX6_onwardBy.cls ≠ "java/lang/invoke/VarHandle" ∧ (parseMethodDescriptor yX6_onwardBy.desc).map (fun d => d.parameters.length) = some 3 := by decide +kernel
theorem mcl_onwardBy {p : Program} {l : Launch} {e : Env} {R : Room} {s : State} {m : MethodId} {args : Array Value} {below : List Frame} {meth : Method} {c : Code} {nL : Nat} {A : Nat → Prop} {g : MG} {σ : MS} {Q : State → Prop} {pc n : Nat} {lv : List (Nat × Value)} {st : List Value} {cc : ByteArray} {ρ : Type} {res : ρ} (E : EV p s m args c cc nL RX6) {N : Nat} {x1 : Int32} {x2 : Int32} {x3 : Int32} {kk : Int32 → MS → Option ρ} (hR : 2 ≤ R.frames ∧ 46 ≤ R.locals) (hcat : (st.map fun v => v.category).sum ≤ 8) (d : decode cc pc = .ok (.invokevirtual 377, 3)) (h : bnd (m_onwardBy N x1 x2 x3 σ) kk = some res) (hn : pc + 3 = n) (k : ∀ (v : Int32) (σ1 : MS), kk v σ1 = some res → CF p l e R s m args below meth c nL 0 0 (MB g A s σ1) Q n lv (.int v :: st)) : CF p l e R s m args below meth c nL 0 0 (MB g A s σ) Q pc lv (.int x3 :: .int x2 :: .int x1 :: .ref (mh g) :: st) :=
  mcall_i E [.int x1, .int x2, .int x3] (fun v σ1 ho => met_onwardBy l g N x1 x2 x3 σ ho) gw_onwardBy hd_onwardBy rfl rfl hR rfl rfl hcat d h hn k
set_option maxHeartbeats 4000000 in
theorem wm_layBest_225 {p : Program} {l : Launch} {e : Env} {R : Room} {s : State} {m : MethodId} {args : Array Value} {below : List Frame} {meth : Method} {c : Code} {A : Nat → Prop} {g : MG} {Q : State → Prop} (E : EV p s m args c cX6_layBest 6 RX6) (hR : 5 ≤ R.frames ∧ 120 ≤ R.locals) {res : MS} (hq : RTv p l e R s m args below meth c cX6_layBest 6 A g Q res) (N : Nat) {rec164 : Int32 → Int32 → MS → Option (MS)} (ih164 : ∀ (x2 : Int32) (x3 : Int32) (σ : MS), rec164 x2 x3 σ = some res → CF p l e R s m args below meth c 6 0 0 (MB g A s σ) Q 164 [(0, .ref (mh g)), (2, .int x2), (3, .int x3)] []) (x3 : Int32) (z0 : Int32) (z1 : Int32) (σ : MS) (h : m_layBest_225 N rec164 x3 z0 z1 σ = some res) : CF p l e R s m args below meth c 6 0 0 (MB g A s σ) Q 225 [(0, .ref (mh g)), (3, .int x3)] [.int z0, .int z1] := by
  unfold m_layBest_225 at h
  refine cf_ior E dX6_layBest_225 rfl ?_
  refine cf_istore_n E dX6_layBest_226 h (fun x2_1 => [(2, .int x2_1), (0, .ref (mh g)), (3, .int x3)]) (Nat.le_of_ble_eq_true rfl) (fun _ => rfl) rfl (fun x2_1 h => ?_)
  refine cf_iinc E dX6_layBest_227 ic_1 h 2 rfl (fun x3_2 => [(3, .int x3_2), (2, .int x2_1), (0, .ref (mh g))]) (Nat.le_of_ble_eq_true rfl) (fun _ => rfl) rfl (fun x3_2 h => ?_)
  refine cf_goto E dX6_layBest_230 rfl ?_
  exact CF.sub [2, 1, 0] rfl (ih164 x2_1 x3_2 σ h)
set_option maxHeartbeats 4000000 in
theorem wm_layBest_175b {p : Program} {l : Launch} {e : Env} {R : Room} {s : State} {m : MethodId} {args : Array Value} {below : List Frame} {meth : Method} {c : Code} {A : Nat → Prop} {g : MG} {Q : State → Prop} (E : EV p s m args c cX6_layBest 6 RX6) (hR : 5 ≤ R.frames ∧ 120 ≤ R.locals) {res : MS} (hq : RTv p l e R s m args below meth c cX6_layBest 6 A g Q res) (N : Nat) {rec164 : Int32 → Int32 → MS → Option (MS)} (ih164 : ∀ (x2 : Int32) (x3 : Int32) (σ : MS), rec164 x2 x3 σ = some res → CF p l e R s m args below meth c 6 0 0 (MB g A s σ) Q 164 [(0, .ref (mh g)), (2, .int x2), (3, .int x3)] []) {rec175 : Int32 → Int32 → Int32 → MS → Option (MS)} (ih175 : ∀ (x2 : Int32) (x3 : Int32) (x4 : Int32) (σ : MS), rec175 x2 x3 x4 σ = some res → CF p l e R s m args below meth c 6 0 0 (MB g A s σ) Q 175 [(0, .ref (mh g)), (2, .int x2), (3, .int x3), (4, .int x4)] []) (x2 : Int32) (x3 : Int32) (x4 : Int32) (σ : MS) (h : m_layBest_175b N rec164 rec175 x2 x3 x4 σ = some res) : CF p l e R s m args below meth c 6 0 0 (MB g A s σ) Q 175 [(0, .ref (mh g)), (2, .int x2), (3, .int x3), (4, .int x4)] [] := by
  unfold m_layBest_175b at h
  refine cf_aload_n E dX6_layBest_175 0 rfl rfl ?_
  refine cf_iload_n E dX6_layBest_176 2 rfl rfl ?_
  refine cf_iload_n E dX6_layBest_177 1 rfl rfl ?_
  refine cf_iload E dX6_layBest_178 3 rfl rfl ?_
  refine mcl_onwardBy E (rmle hR rfl rfl) (Nat.le_of_ble_eq_true rfl) dX6_layBest_180 h rfl (fun v_2 s_1 h => ?_)
  refine cf_aload_n E dX6_layBest_183 0 rfl rfl ?_
  refine mget_41 E dX6_layBest_184 rfl ?_
  refine cf_bipush E dX6_layBest_187 bp_64 rfl ?_
  refine cf_iload_n E dX6_layBest_189 2 rfl rfl ?_
  refine cf_imul E dX6_layBest_190 rfl ?_
  refine cf_iload_n E dX6_layBest_191 1 rfl rfl ?_
  refine cf_iadd E dX6_layBest_192 rfl ?_
  refine mald_41 E dX6_layBest_193 h rfl (fun h => ?_)
  refine cf_icmp_eq E dX6_layBest_194 h rfl rfl (fun h => ?_) (fun h => ?_)
  · refine cf_aload_n E dX6_layBest_203 0 rfl rfl ?_
    refine mget_38 E dX6_layBest_204 rfl ?_
    refine cf_iload_n E dX6_layBest_207 2 rfl rfl ?_
    refine cf_iload E dX6_layBest_208 3 rfl rfl ?_
    refine mast_38 E dX6_layBest_210 h rfl (fun s_3 h => ?_)
    refine cf_iload_n E dX6_layBest_211 1 rfl rfl ?_
    refine cf_iload E dX6_layBest_212 3 rfl rfl ?_
    refine cf_if_ge E dX6_layBest_214 h rfl rfl (fun h => ?_) (fun h => ?_)
    · refine cf_iconst E dX6_layBest_221 ic_1 rfl ?_
      refine cf_iload E dX6_layBest_222 3 rfl rfl ?_
      refine cf_ishl E dX6_layBest_224 rfl ?_
      exact CF.sub [0, 2] rfl (wm_layBest_225 E hR hq N ih164 x3 ((1 : Int32) <<< (x4 &&& 31)) x2 s_3 h)
    · refine cf_iconst E dX6_layBest_217 ic_0 rfl ?_
      refine cf_goto E dX6_layBest_218 rfl ?_
      exact CF.sub [0, 2] rfl (wm_layBest_225 E hR hq N ih164 x3 (0 : Int32) x2 s_3 h)
  · refine cf_iinc E dX6_layBest_197 ic_1 h 3 rfl (fun x4_4 => [(4, .int x4_4), (0, .ref (mh g)), (2, .int x2), (3, .int x3)]) (Nat.le_of_ble_eq_true rfl) (fun _ => rfl) rfl (fun x4_4 h => ?_)
    refine cf_goto E dX6_layBest_200 rfl ?_
    exact CF.sub [1, 2, 3, 0] rfl (ih175 x2 x3 x4_4 s_1 h)
set_option maxHeartbeats 4000000 in
theorem wm_layBest_175 {p : Program} {l : Launch} {e : Env} {R : Room} {s : State} {m : MethodId} {args : Array Value} {below : List Frame} {meth : Method} {c : Code} {A : Nat → Prop} {g : MG} {Q : State → Prop} (E : EV p s m args c cX6_layBest 6 RX6) (hR : 5 ≤ R.frames ∧ 120 ≤ R.locals) {res : MS} (hq : RTv p l e R s m args below meth c cX6_layBest 6 A g Q res) (N : Nat) {rec164 : Int32 → Int32 → MS → Option (MS)} (ih164 : ∀ (x2 : Int32) (x3 : Int32) (σ : MS), rec164 x2 x3 σ = some res → CF p l e R s m args below meth c 6 0 0 (MB g A s σ) Q 164 [(0, .ref (mh g)), (2, .int x2), (3, .int x3)] []) : ∀ (k : Nat) (x2 : Int32) (x3 : Int32) (x4 : Int32) (σ : MS), m_layBest_175 N rec164 k x2 x3 x4 σ = some res → CF p l e R s m args below meth c 6 0 0 (MB g A s σ) Q 175 [(0, .ref (mh g)), (2, .int x2), (3, .int x3), (4, .int x4)] [] := by
  intro k
  induction k with
  | zero => intro x2 x3 x4 σ h; have h : (none : Option (MS)) = some res := h; cases h
  | succ k ih => intro x2 x3 x4 σ h; exact wm_layBest_175b E hR hq N ih164 ih x2 x3 x4 σ h
set_option maxHeartbeats 4000000 in
theorem wm_layBest_164b {p : Program} {l : Launch} {e : Env} {R : Room} {s : State} {m : MethodId} {args : Array Value} {below : List Frame} {meth : Method} {c : Code} {A : Nat → Prop} {g : MG} {Q : State → Prop} (E : EV p s m args c cX6_layBest 6 RX6) (hR : 5 ≤ R.frames ∧ 120 ≤ R.locals) {res : MS} (hq : RTv p l e R s m args below meth c cX6_layBest 6 A g Q res) (N : Nat)  {rec164 : Int32 → Int32 → MS → Option (MS)} (ih164 : ∀ (x2 : Int32) (x3 : Int32) (σ : MS), rec164 x2 x3 σ = some res → CF p l e R s m args below meth c 6 0 0 (MB g A s σ) Q 164 [(0, .ref (mh g)), (2, .int x2), (3, .int x3)] []) (x2 : Int32) (x3 : Int32) (σ : MS) (h : m_layBest_164b N  rec164 x2 x3 σ = some res) : CF p l e R s m args below meth c 6 0 0 (MB g A s σ) Q 164 [(0, .ref (mh g)), (2, .int x2), (3, .int x3)] [] := by
  unfold m_layBest_164b at h
  refine cf_iload_n E dX6_layBest_164 2 rfl rfl ?_
  refine cf_aload_n E dX6_layBest_165 0 rfl rfl ?_
  refine mget_0 E dX6_layBest_166 rfl ?_
  refine cf_icmp_ge E dX6_layBest_169 h rfl rfl (fun h => ?_) (fun h => ?_)
  · exact mret_v dX6_layBest_233 h hq
  · refine cf_iconst E dX6_layBest_172 ic_m1 rfl ?_
    refine cf_istore E dX6_layBest_173 h (fun x4_1 => [(4, .int x4_1), (0, .ref (mh g)), (2, .int x2), (3, .int x3)]) (Nat.le_of_ble_eq_true rfl) (fun _ => rfl) rfl (fun x4_1 h => ?_)
    exact CF.sub [1, 2, 3, 0] rfl (wm_layBest_175 E hR hq N ih164 N x2 x3 x4_1 σ h)
set_option maxHeartbeats 4000000 in
theorem wm_layBest_164 {p : Program} {l : Launch} {e : Env} {R : Room} {s : State} {m : MethodId} {args : Array Value} {below : List Frame} {meth : Method} {c : Code} {A : Nat → Prop} {g : MG} {Q : State → Prop} (E : EV p s m args c cX6_layBest 6 RX6) (hR : 5 ≤ R.frames ∧ 120 ≤ R.locals) {res : MS} (hq : RTv p l e R s m args below meth c cX6_layBest 6 A g Q res) (N : Nat)  : ∀ (k : Nat) (x2 : Int32) (x3 : Int32) (σ : MS), m_layBest_164 N  k x2 x3 σ = some res → CF p l e R s m args below meth c 6 0 0 (MB g A s σ) Q 164 [(0, .ref (mh g)), (2, .int x2), (3, .int x3)] [] := by
  intro k
  induction k with
  | zero => intro x2 x3 σ h; have h : (none : Option (MS)) = some res := h; cases h
  | succ k ih => intro x2 x3 σ h; exact wm_layBest_164b E hR hq N  ih x2 x3 σ h
set_option maxHeartbeats 4000000 in
theorem wm_layBest_94b {p : Program} {l : Launch} {e : Env} {R : Room} {s : State} {m : MethodId} {args : Array Value} {below : List Frame} {meth : Method} {c : Code} {A : Nat → Prop} {g : MG} {Q : State → Prop} (E : EV p s m args c cX6_layBest 6 RX6) (hR : 5 ≤ R.frames ∧ 120 ≤ R.locals) {res : MS} (hq : RTv p l e R s m args below meth c cX6_layBest 6 A g Q res) (N : Nat) {rec76 : Int32 → MS → Option (MS)} (ih76 : ∀ (x2 : Int32) (σ : MS), rec76 x2 σ = some res → CF p l e R s m args below meth c 6 0 0 (MB g A s σ) Q 76 [(0, .ref (mh g)), (2, .int x2)] []) {rec82 : Int32 → Int32 → MS → Option (MS)} (ih82 : ∀ (x2 : Int32) (x3 : Int32) (σ : MS), rec82 x2 x3 σ = some res → CF p l e R s m args below meth c 6 0 0 (MB g A s σ) Q 82 [(0, .ref (mh g)), (2, .int x2), (3, .int x3)] []) {rec94 : Int32 → Int32 → Int32 → Int32 → MS → Option (MS)} (ih94 : ∀ (x2 : Int32) (x3 : Int32) (x4 : Int32) (x5 : Int32) (σ : MS), rec94 x2 x3 x4 x5 σ = some res → CF p l e R s m args below meth c 6 0 0 (MB g A s σ) Q 94 [(0, .ref (mh g)), (2, .int x2), (3, .int x3), (4, .int x4), (5, .int x5)] []) (x2 : Int32) (x3 : Int32) (x4 : Int32) (x5 : Int32) (σ : MS) (h : m_layBest_94b N rec76 rec82 rec94 x2 x3 x4 x5 σ = some res) : CF p l e R s m args below meth c 6 0 0 (MB g A s σ) Q 94 [(0, .ref (mh g)), (2, .int x2), (3, .int x3), (4, .int x4), (5, .int x5)] [] := by
  unfold m_layBest_94b at h
  refine cf_iload E dX6_layBest_94 4 rfl rfl ?_
  refine cf_aload_n E dX6_layBest_96 0 rfl rfl ?_
  refine mget_1 E dX6_layBest_97 rfl ?_
  refine cf_icmp_ge E dX6_layBest_100 h rfl rfl (fun h => ?_) (fun h => ?_)
  · refine cf_aload_n E dX6_layBest_125 0 rfl rfl ?_
    refine mget_41 E dX6_layBest_126 rfl ?_
    refine cf_bipush E dX6_layBest_129 bp_64 rfl ?_
    refine cf_iload_n E dX6_layBest_131 1 rfl rfl ?_
    refine cf_imul E dX6_layBest_132 rfl ?_
    refine cf_iload_n E dX6_layBest_133 2 rfl rfl ?_
    refine cf_iadd E dX6_layBest_134 rfl ?_
    refine cf_iload E dX6_layBest_135 3 rfl rfl ?_
    refine mast_41 E dX6_layBest_137 h rfl (fun s_1 h => ?_)
    refine cf_iinc E dX6_layBest_138 ic_1 h 2 rfl (fun x3_2 => [(3, .int x3_2), (0, .ref (mh g)), (2, .int x2), (4, .int x4), (5, .int x5)]) (Nat.le_of_ble_eq_true rfl) (fun _ => rfl) rfl (fun x3_2 h => ?_)
    refine cf_goto E dX6_layBest_141 rfl ?_
    exact CF.sub [1, 2, 0] rfl (ih82 x2 x3_2 s_1 h)
  · refine cf_aload_n E dX6_layBest_103 0 rfl rfl ?_
    refine cf_iload E dX6_layBest_104 3 rfl rfl ?_
    refine cf_aload_n E dX6_layBest_106 0 rfl rfl ?_
    refine cf_iload_n E dX6_layBest_107 1 rfl rfl ?_
    refine cf_iload_n E dX6_layBest_108 2 rfl rfl ?_
    refine cf_iload E dX6_layBest_109 4 rfl rfl ?_
    refine mcl_onwardBy E (rmle hR rfl rfl) (Nat.le_of_ble_eq_true rfl) dX6_layBest_111 h rfl (fun v_4 s_3 h => ?_)
    refine mcl_most E (rmle hR rfl rfl) (Nat.le_of_ble_eq_true rfl) dX6_layBest_114 h rfl (fun v_6 s_5 h => ?_)
    refine cf_istore E dX6_layBest_117 h (fun x4_7 => [(4, .int x4_7), (0, .ref (mh g)), (2, .int x2), (3, .int x3), (5, .int x5)]) (Nat.le_of_ble_eq_true rfl) (fun _ => rfl) rfl (fun x4_7 h => ?_)
    refine cf_iinc E dX6_layBest_119 ic_1 h 4 rfl (fun x5_8 => [(5, .int x5_8), (4, .int x4_7), (0, .ref (mh g)), (2, .int x2), (3, .int x3)]) (Nat.le_of_ble_eq_true rfl) (fun _ => rfl) rfl (fun x5_8 h => ?_)
    refine cf_goto E dX6_layBest_122 rfl ?_
    exact CF.sub [2, 3, 4, 1, 0] rfl (ih94 x2 x3 x4_7 x5_8 s_5 h)
set_option maxHeartbeats 4000000 in
theorem wm_layBest_94 {p : Program} {l : Launch} {e : Env} {R : Room} {s : State} {m : MethodId} {args : Array Value} {below : List Frame} {meth : Method} {c : Code} {A : Nat → Prop} {g : MG} {Q : State → Prop} (E : EV p s m args c cX6_layBest 6 RX6) (hR : 5 ≤ R.frames ∧ 120 ≤ R.locals) {res : MS} (hq : RTv p l e R s m args below meth c cX6_layBest 6 A g Q res) (N : Nat) {rec76 : Int32 → MS → Option (MS)} (ih76 : ∀ (x2 : Int32) (σ : MS), rec76 x2 σ = some res → CF p l e R s m args below meth c 6 0 0 (MB g A s σ) Q 76 [(0, .ref (mh g)), (2, .int x2)] []) {rec82 : Int32 → Int32 → MS → Option (MS)} (ih82 : ∀ (x2 : Int32) (x3 : Int32) (σ : MS), rec82 x2 x3 σ = some res → CF p l e R s m args below meth c 6 0 0 (MB g A s σ) Q 82 [(0, .ref (mh g)), (2, .int x2), (3, .int x3)] []) : ∀ (k : Nat) (x2 : Int32) (x3 : Int32) (x4 : Int32) (x5 : Int32) (σ : MS), m_layBest_94 N rec76 rec82 k x2 x3 x4 x5 σ = some res → CF p l e R s m args below meth c 6 0 0 (MB g A s σ) Q 94 [(0, .ref (mh g)), (2, .int x2), (3, .int x3), (4, .int x4), (5, .int x5)] [] := by
  intro k
  induction k with
  | zero => intro x2 x3 x4 x5 σ h; have h : (none : Option (MS)) = some res := h; cases h
  | succ k ih => intro x2 x3 x4 x5 σ h; exact wm_layBest_94b E hR hq N ih76 ih82 ih x2 x3 x4 x5 σ h
set_option maxHeartbeats 4000000 in
theorem wm_layBest_82b {p : Program} {l : Launch} {e : Env} {R : Room} {s : State} {m : MethodId} {args : Array Value} {below : List Frame} {meth : Method} {c : Code} {A : Nat → Prop} {g : MG} {Q : State → Prop} (E : EV p s m args c cX6_layBest 6 RX6) (hR : 5 ≤ R.frames ∧ 120 ≤ R.locals) {res : MS} (hq : RTv p l e R s m args below meth c cX6_layBest 6 A g Q res) (N : Nat) {rec76 : Int32 → MS → Option (MS)} (ih76 : ∀ (x2 : Int32) (σ : MS), rec76 x2 σ = some res → CF p l e R s m args below meth c 6 0 0 (MB g A s σ) Q 76 [(0, .ref (mh g)), (2, .int x2)] []) {rec82 : Int32 → Int32 → MS → Option (MS)} (ih82 : ∀ (x2 : Int32) (x3 : Int32) (σ : MS), rec82 x2 x3 σ = some res → CF p l e R s m args below meth c 6 0 0 (MB g A s σ) Q 82 [(0, .ref (mh g)), (2, .int x2), (3, .int x3)] []) (x2 : Int32) (x3 : Int32) (σ : MS) (h : m_layBest_82b N rec76 rec82 x2 x3 σ = some res) : CF p l e R s m args below meth c 6 0 0 (MB g A s σ) Q 82 [(0, .ref (mh g)), (2, .int x2), (3, .int x3)] [] := by
  unfold m_layBest_82b at h
  refine cf_iload_n E dX6_layBest_82 2 rfl rfl ?_
  refine cf_bipush E dX6_layBest_83 bp_64 rfl ?_
  refine cf_icmp_ge E dX6_layBest_85 h rfl rfl (fun h => ?_) (fun h => ?_)
  · refine cf_iinc E dX6_layBest_144 ic_m1 h 1 rfl (fun x2_1 => [(2, .int x2_1), (0, .ref (mh g)), (3, .int x3)]) (Nat.le_of_ble_eq_true rfl) (fun _ => rfl) rfl (fun x2_1 h => ?_)
    refine cf_goto E dX6_layBest_147 rfl ?_
    exact CF.sub [1, 0] rfl (ih76 x2_1 σ h)
  · refine cf_iconst E dX6_layBest_88 ic_m1 rfl ?_
    refine cf_istore E dX6_layBest_89 h (fun x4_2 => [(4, .int x4_2), (0, .ref (mh g)), (2, .int x2), (3, .int x3)]) (Nat.le_of_ble_eq_true rfl) (fun _ => rfl) rfl (fun x4_2 h => ?_)
    refine cf_iconst E dX6_layBest_91 ic_m1 rfl ?_
    refine cf_istore E dX6_layBest_92 h (fun x5_3 => [(5, .int x5_3), (4, .int x4_2), (0, .ref (mh g)), (2, .int x2), (3, .int x3)]) (Nat.le_of_ble_eq_true rfl) (fun _ => rfl) rfl (fun x5_3 h => ?_)
    exact CF.sub [2, 3, 4, 1, 0] rfl (wm_layBest_94 E hR hq N ih76 ih82 N x2 x3 x4_2 x5_3 σ h)
set_option maxHeartbeats 4000000 in
theorem wm_layBest_82 {p : Program} {l : Launch} {e : Env} {R : Room} {s : State} {m : MethodId} {args : Array Value} {below : List Frame} {meth : Method} {c : Code} {A : Nat → Prop} {g : MG} {Q : State → Prop} (E : EV p s m args c cX6_layBest 6 RX6) (hR : 5 ≤ R.frames ∧ 120 ≤ R.locals) {res : MS} (hq : RTv p l e R s m args below meth c cX6_layBest 6 A g Q res) (N : Nat) {rec76 : Int32 → MS → Option (MS)} (ih76 : ∀ (x2 : Int32) (σ : MS), rec76 x2 σ = some res → CF p l e R s m args below meth c 6 0 0 (MB g A s σ) Q 76 [(0, .ref (mh g)), (2, .int x2)] []) : ∀ (k : Nat) (x2 : Int32) (x3 : Int32) (σ : MS), m_layBest_82 N rec76 k x2 x3 σ = some res → CF p l e R s m args below meth c 6 0 0 (MB g A s σ) Q 82 [(0, .ref (mh g)), (2, .int x2), (3, .int x3)] [] := by
  intro k
  induction k with
  | zero => intro x2 x3 σ h; have h : (none : Option (MS)) = some res := h; cases h
  | succ k ih => intro x2 x3 σ h; exact wm_layBest_82b E hR hq N ih76 ih x2 x3 σ h
set_option maxHeartbeats 4000000 in
theorem wm_layBest_76b {p : Program} {l : Launch} {e : Env} {R : Room} {s : State} {m : MethodId} {args : Array Value} {below : List Frame} {meth : Method} {c : Code} {A : Nat → Prop} {g : MG} {Q : State → Prop} (E : EV p s m args c cX6_layBest 6 RX6) (hR : 5 ≤ R.frames ∧ 120 ≤ R.locals) {res : MS} (hq : RTv p l e R s m args below meth c cX6_layBest 6 A g Q res) (N : Nat)  {rec76 : Int32 → MS → Option (MS)} (ih76 : ∀ (x2 : Int32) (σ : MS), rec76 x2 σ = some res → CF p l e R s m args below meth c 6 0 0 (MB g A s σ) Q 76 [(0, .ref (mh g)), (2, .int x2)] []) (x2 : Int32) (σ : MS) (h : m_layBest_76b N  rec76 x2 σ = some res) : CF p l e R s m args below meth c 6 0 0 (MB g A s σ) Q 76 [(0, .ref (mh g)), (2, .int x2)] [] := by
  unfold m_layBest_76b at h
  refine cf_iload_n E dX6_layBest_76 1 rfl rfl ?_
  refine cf_if_lt E dX6_layBest_77 h rfl rfl (fun h => ?_) (fun h => ?_)
  · refine cf_aload_n E dX6_layBest_150 0 rfl rfl ?_
    refine cf_aload_n E dX6_layBest_151 0 rfl rfl ?_
    refine mget_41 E dX6_layBest_152 rfl ?_
    refine cf_iconst E dX6_layBest_155 ic_0 rfl ?_
    refine mald_41 E dX6_layBest_156 h rfl (fun h => ?_)
    refine mput_40 E dX6_layBest_157 h rfl (fun s_1 h => ?_)
    refine cf_iconst E dX6_layBest_160 ic_0 rfl ?_
    refine cf_istore_n E dX6_layBest_161 h (fun x2_2 => [(2, .int x2_2), (0, .ref (mh g))]) (Nat.le_of_ble_eq_true rfl) (fun _ => rfl) rfl (fun x2_2 h => ?_)
    refine cf_iconst E dX6_layBest_162 ic_0 rfl ?_
    refine cf_istore_n E dX6_layBest_163 h (fun x3_3 => [(3, .int x3_3), (2, .int x2_2), (0, .ref (mh g))]) (Nat.le_of_ble_eq_true rfl) (fun _ => rfl) rfl (fun x3_3 h => ?_)
    exact CF.sub [2, 1, 0] rfl (wm_layBest_164 E hR hq N N x2_2 x3_3 s_1 h)
  · refine cf_iconst E dX6_layBest_80 ic_0 rfl ?_
    refine cf_istore_n E dX6_layBest_81 h (fun x3_4 => [(3, .int x3_4), (0, .ref (mh g)), (2, .int x2)]) (Nat.le_of_ble_eq_true rfl) (fun _ => rfl) rfl (fun x3_4 h => ?_)
    exact CF.sub [1, 2, 0] rfl (wm_layBest_82 E hR hq N ih76 N x2 x3_4 σ h)
set_option maxHeartbeats 4000000 in
theorem wm_layBest_76 {p : Program} {l : Launch} {e : Env} {R : Room} {s : State} {m : MethodId} {args : Array Value} {below : List Frame} {meth : Method} {c : Code} {A : Nat → Prop} {g : MG} {Q : State → Prop} (E : EV p s m args c cX6_layBest 6 RX6) (hR : 5 ≤ R.frames ∧ 120 ≤ R.locals) {res : MS} (hq : RTv p l e R s m args below meth c cX6_layBest 6 A g Q res) (N : Nat)  : ∀ (k : Nat) (x2 : Int32) (σ : MS), m_layBest_76 N  k x2 σ = some res → CF p l e R s m args below meth c 6 0 0 (MB g A s σ) Q 76 [(0, .ref (mh g)), (2, .int x2)] [] := by
  intro k
  induction k with
  | zero => intro x2 σ h; have h : (none : Option (MS)) = some res := h; cases h
  | succ k ih => intro x2 σ h; exact wm_layBest_76b E hR hq N  ih x2 σ h
set_option maxHeartbeats 4000000 in
theorem wm_layBest_62 {p : Program} {l : Launch} {e : Env} {R : Room} {s : State} {m : MethodId} {args : Array Value} {below : List Frame} {meth : Method} {c : Code} {A : Nat → Prop} {g : MG} {Q : State → Prop} (E : EV p s m args c cX6_layBest 6 RX6) (hR : 5 ≤ R.frames ∧ 120 ≤ R.locals) {res : MS} (hq : RTv p l e R s m args below meth c cX6_layBest 6 A g Q res) (N : Nat) {rec29 : Int32 → Int32 → MS → Option (MS)} (ih29 : ∀ (x1 : Int32) (x2 : Int32) (σ : MS), rec29 x1 x2 σ = some res → CF p l e R s m args below meth c 6 0 0 (MB g A s σ) Q 29 [(0, .ref (mh g)), (1, .int x1), (2, .int x2)] []) (x1 : Int32) (x2 : Int32) (z0 : Int32) (z1 : Int32) (σ : MS) (h : m_layBest_62 N rec29 x1 x2 z0 z1 σ = some res) : CF p l e R s m args below meth c 6 0 0 (MB g A s σ) Q 62 [(0, .ref (mh g)), (1, .int x1), (2, .int x2)] [.int z0, .int z1, .ref (ma g 41)] := by
  unfold m_layBest_62 at h
  refine mast_41 E dX6_layBest_62 h rfl (fun s_1 h => ?_)
  refine cf_iinc E dX6_layBest_63 ic_1 h 2 rfl (fun x2_2 => [(2, .int x2_2), (0, .ref (mh g)), (1, .int x1)]) (Nat.le_of_ble_eq_true rfl) (fun _ => rfl) rfl (fun x2_2 h => ?_)
  refine cf_goto E dX6_layBest_66 rfl ?_
  exact CF.sub [1, 2, 0] rfl (ih29 x1 x2_2 s_1 h)
set_option maxHeartbeats 4000000 in
theorem wm_layBest_29b {p : Program} {l : Launch} {e : Env} {R : Room} {s : State} {m : MethodId} {args : Array Value} {below : List Frame} {meth : Method} {c : Code} {A : Nat → Prop} {g : MG} {Q : State → Prop} (E : EV p s m args c cX6_layBest 6 RX6) (hR : 5 ≤ R.frames ∧ 120 ≤ R.locals) {res : MS} (hq : RTv p l e R s m args below meth c cX6_layBest 6 A g Q res) (N : Nat)  {rec29 : Int32 → Int32 → MS → Option (MS)} (ih29 : ∀ (x1 : Int32) (x2 : Int32) (σ : MS), rec29 x1 x2 σ = some res → CF p l e R s m args below meth c 6 0 0 (MB g A s σ) Q 29 [(0, .ref (mh g)), (1, .int x1), (2, .int x2)] []) (x1 : Int32) (x2 : Int32) (σ : MS) (h : m_layBest_29b N  rec29 x1 x2 σ = some res) : CF p l e R s m args below meth c 6 0 0 (MB g A s σ) Q 29 [(0, .ref (mh g)), (1, .int x1), (2, .int x2)] [] := by
  unfold m_layBest_29b at h
  refine cf_iload_n E dX6_layBest_29 2 rfl rfl ?_
  refine cf_bipush E dX6_layBest_30 bp_64 rfl ?_
  refine cf_icmp_ge E dX6_layBest_32 h rfl rfl (fun h => ?_) (fun h => ?_)
  · refine cf_aload_n E dX6_layBest_69 0 rfl rfl ?_
    refine mget_0 E dX6_layBest_70 rfl ?_
    refine cf_iconst E dX6_layBest_73 ic_1 rfl ?_
    refine cf_isub E dX6_layBest_74 rfl ?_
    refine cf_istore_n E dX6_layBest_75 h (fun x2_1 => [(2, .int x2_1), (0, .ref (mh g)), (1, .int x1)]) (Nat.le_of_ble_eq_true rfl) (fun _ => rfl) rfl (fun x2_1 h => ?_)
    exact CF.sub [1, 0] rfl (wm_layBest_76 E hR hq N N x2_1 σ h)
  · refine cf_aload_n E dX6_layBest_35 0 rfl rfl ?_
    refine mget_41 E dX6_layBest_36 rfl ?_
    refine cf_bipush E dX6_layBest_39 bp_64 rfl ?_
    refine cf_aload_n E dX6_layBest_41 0 rfl rfl ?_
    refine mget_0 E dX6_layBest_42 rfl ?_
    refine cf_imul E dX6_layBest_45 rfl ?_
    refine cf_iload_n E dX6_layBest_46 2 rfl rfl ?_
    refine cf_iadd E dX6_layBest_47 rfl ?_
    refine cf_aload_n E dX6_layBest_48 0 rfl rfl ?_
    refine cf_iload_n E dX6_layBest_49 2 rfl rfl ?_
    refine mcl_ones E (rmle hR rfl rfl) (Nat.le_of_ble_eq_true rfl) dX6_layBest_50 h rfl (fun v_3 s_2 h => ?_)
    refine cf_iload_n E dX6_layBest_53 1 rfl rfl ?_
    refine cf_icmp_ne E dX6_layBest_54 h rfl rfl (fun h => ?_) (fun h => ?_)
    · refine cf_iconst E dX6_layBest_61 ic_m1 rfl ?_
      exact CF.sub [0, 1, 2] rfl (wm_layBest_62 E hR hq N ih29 x1 x2 (-1 : Int32) (((64 : Int32) * (gF σ 0)) + x2) s_2 h)
    · refine cf_iconst E dX6_layBest_57 ic_0 rfl ?_
      refine cf_goto E dX6_layBest_58 rfl ?_
      exact CF.sub [0, 1, 2] rfl (wm_layBest_62 E hR hq N ih29 x1 x2 (0 : Int32) (((64 : Int32) * (gF σ 0)) + x2) s_2 h)
set_option maxHeartbeats 4000000 in
theorem wm_layBest_29 {p : Program} {l : Launch} {e : Env} {R : Room} {s : State} {m : MethodId} {args : Array Value} {below : List Frame} {meth : Method} {c : Code} {A : Nat → Prop} {g : MG} {Q : State → Prop} (E : EV p s m args c cX6_layBest 6 RX6) (hR : 5 ≤ R.frames ∧ 120 ≤ R.locals) {res : MS} (hq : RTv p l e R s m args below meth c cX6_layBest 6 A g Q res) (N : Nat)  : ∀ (k : Nat) (x1 : Int32) (x2 : Int32) (σ : MS), m_layBest_29 N  k x1 x2 σ = some res → CF p l e R s m args below meth c 6 0 0 (MB g A s σ) Q 29 [(0, .ref (mh g)), (1, .int x1), (2, .int x2)] [] := by
  intro k
  induction k with
  | zero => intro x1 x2 σ h; have h : (none : Option (MS)) = some res := h; cases h
  | succ k ih => intro x1 x2 σ h; exact wm_layBest_29b E hR hq N  ih x1 x2 σ h
set_option maxHeartbeats 4000000 in
theorem wm_layBest_26 {p : Program} {l : Launch} {e : Env} {R : Room} {s : State} {m : MethodId} {args : Array Value} {below : List Frame} {meth : Method} {c : Code} {A : Nat → Prop} {g : MG} {Q : State → Prop} (E : EV p s m args c cX6_layBest 6 RX6) (hR : 5 ≤ R.frames ∧ 120 ≤ R.locals) {res : MS} (hq : RTv p l e R s m args below meth c cX6_layBest 6 A g Q res) (N : Nat)  (z0 : Int32) (σ : MS) (h : m_layBest_26 N  z0 σ = some res) : CF p l e R s m args below meth c 6 0 0 (MB g A s σ) Q 26 [(0, .ref (mh g))] [.int z0] := by
  unfold m_layBest_26 at h
  refine cf_istore_n E dX6_layBest_26 h (fun x1_1 => [(1, .int x1_1), (0, .ref (mh g))]) (Nat.le_of_ble_eq_true rfl) (fun _ => rfl) rfl (fun x1_1 h => ?_)
  refine cf_iconst E dX6_layBest_27 ic_0 rfl ?_
  refine cf_istore_n E dX6_layBest_28 h (fun x2_2 => [(2, .int x2_2), (1, .int x1_1), (0, .ref (mh g))]) (Nat.le_of_ble_eq_true rfl) (fun _ => rfl) rfl (fun x2_2 h => ?_)
  exact CF.sub [2, 1, 0] rfl (wm_layBest_29 E hR hq N N x1_1 x2_2 σ h)
set_option maxHeartbeats 4000000 in
theorem met_layBest (l : Launch) (g : MG) (N : Nat)  (σ : MS) {σ1 : MS} (h : m_layBest N  σ = some σ1) : MetMv l g yX6_layBest (ws_ yX6_layBest cX6_layBest 6 (none)) { frames := 5, cells := 0, slots := 0, locals := 120 } [] σ σ1 := by
  refine met_mv (lv0 := [(0, .ref (mh g))]) (by decide) rfl ⟨rfl, rfl⟩ (Nat.le_of_ble_eq_true rfl) rfl ?_
  intro p e s m below meth c A Q E hq
  have hR : 5 ≤ ({ frames := 5, cells := 0, slots := 0, locals := 120 } : Room).frames ∧ 120 ≤ ({ frames := 5, cells := 0, slots := 0, locals := 120 } : Room).locals := ⟨Nat.le_refl _, Nat.le_refl _⟩
  unfold m_layBest at h
  refine cf_aload_n E dX6_layBest_0 0 rfl rfl ?_
  refine mcl_layDeeds E (rmle hR rfl rfl) (Nat.le_of_ble_eq_true rfl) dX6_layBest_1 h rfl (fun s_1 h => ?_)
  refine cf_aload_n E dX6_layBest_4 0 rfl rfl ?_
  refine mget_0 E dX6_layBest_5 rfl ?_
  refine cf_aload_n E dX6_layBest_8 0 rfl rfl ?_
  refine mget_1 E dX6_layBest_9 rfl ?_
  refine cf_icmp_ge E dX6_layBest_12 h rfl rfl (fun h => ?_) (fun h => ?_)
  · refine cf_aload_n E dX6_layBest_22 0 rfl rfl ?_
    refine mget_1 E dX6_layBest_23 rfl ?_
    exact CF.sub [0] rfl (wm_layBest_26 E hR hq N (gF s_1 1) s_1 h)
  · refine cf_aload_n E dX6_layBest_15 0 rfl rfl ?_
    refine mget_0 E dX6_layBest_16 rfl ?_
    refine cf_goto E dX6_layBest_19 rfl ?_
    exact CF.sub [0] rfl (wm_layBest_26 E hR hq N (gF s_1 0) s_1 h)
theorem gw_layBest : GoodIn lw_all (wsV RX6 380 RX6 yX6_layBest (ws_ yX6_layBest cX6_layBest 6 none)) := lw_V q1962 q1964 qs72 q105 q1965
theorem hd_layBest : yX6_layBest.cls = RX6 ∧ yX6_layBest.cls ≠ "java/lang/invoke/MethodHandle" ∧ yX6_layBest.cls ≠ "java/lang/invoke/VarHandle" ∧ (parseMethodDescriptor yX6_layBest.desc).map (fun d => d.parameters.length) = some 0 := by decide +kernel
theorem mcl_layBest {p : Program} {l : Launch} {e : Env} {R : Room} {s : State} {m : MethodId} {args : Array Value} {below : List Frame} {meth : Method} {c : Code} {nL : Nat} {A : Nat → Prop} {g : MG} {σ : MS} {Q : State → Prop} {pc n : Nat} {lv : List (Nat × Value)} {st : List Value} {cc : ByteArray} {ρ : Type} {res : ρ} (E : EV p s m args c cc nL RX6) {N : Nat}  {kk : MS → Option ρ} (hR : 6 ≤ R.frames ∧ 145 ≤ R.locals) (hcat : (st.map fun v => v.category).sum ≤ 8) (d : decode cc pc = .ok (.invokevirtual 380, 3)) (h : bnv (m_layBest N  σ) kk = some res) (hn : pc + 3 = n) (k : ∀ (σ1 : MS), kk σ1 = some res → CF p l e R s m args below meth c nL 0 0 (MB g A s σ1) Q n lv st) : CF p l e R s m args below meth c nL 0 0 (MB g A s σ) Q pc lv (.ref (mh g) :: st) :=
  mcall_v E [] (fun σ1 ho => met_layBest l g N  σ ho) gw_layBest hd_layBest rfl rfl hR rfl rfl hcat d h hn k
set_option maxHeartbeats 4000000 in
theorem met_by (l : Launch) (g : MG) (N : Nat) (x1 : Int32) (σ : MS) {v : Int32} {σ1 : MS} (h : m_by N x1 σ = some (v, σ1)) : MetMi l g yX6_by (ws_ yX6_by cX6_by 2 (some .int)) { frames := 6, cells := 0, slots := 0, locals := 145 } [.int x1] σ v σ1 := by
  refine met_mi (lv0 := [(0, .ref (mh g)), (1, .int x1)]) (by decide) rfl ⟨rfl, rfl⟩ (Nat.le_of_ble_eq_true rfl) rfl ?_
  intro p e s m below meth c A Q E hq
  have hR : 6 ≤ ({ frames := 6, cells := 0, slots := 0, locals := 145 } : Room).frames ∧ 145 ≤ ({ frames := 6, cells := 0, slots := 0, locals := 145 } : Room).locals := ⟨Nat.le_refl _, Nat.le_refl _⟩
  unfold m_by at h
  refine cf_aload_n E dX6_by_0 0 rfl rfl ?_
  refine cf_iload_n E dX6_by_1 1 rfl rfl ?_
  refine cf_iconst E dX6_by_2 ic_m1 rfl ?_
  refine cf_iconst E dX6_by_3 ic_5 rfl ?_
  refine mcl_in E (rmle hR rfl rfl) (Nat.le_of_ble_eq_true rfl) dX6_by_4 h rfl (fun v_2 s_1 h => ?_)
  refine cf_if_ne E dX6_by_7 h rfl rfl (fun h => ?_) (fun h => ?_)
  · refine cf_iload_n E dX6_by_12 1 rfl rfl ?_
    refine cf_aload_n E dX6_by_13 0 rfl rfl ?_
    refine mget_0 E dX6_by_14 rfl ?_
    refine cf_icmp_lt E dX6_by_17 h rfl rfl (fun h => ?_) (fun h => ?_)
    · refine cf_aload_n E dX6_by_23 0 rfl rfl ?_
      refine mcl_layBest E (rmle hR rfl rfl) (Nat.le_of_ble_eq_true rfl) dX6_by_24 h rfl (fun s_3 h => ?_)
      refine cf_iload_n E dX6_by_27 1 rfl rfl ?_
      refine cf_if_ge E dX6_by_28 h rfl rfl (fun h => ?_) (fun h => ?_)
      · refine cf_aload_n E dX6_by_38 0 rfl rfl ?_
        refine cf_aload_n E dX6_by_39 0 rfl rfl ?_
        refine mget_38 E dX6_by_40 rfl ?_
        refine cf_iload_n E dX6_by_43 1 rfl rfl ?_
        refine mald_38 E dX6_by_44 h rfl (fun h => ?_)
        refine mcl_orNone E (rmle hR rfl rfl) (Nat.le_of_ble_eq_true rfl) dX6_by_45 h rfl (fun v_5 s_4 h => ?_)
        exact mret_i dX6_by_48 h rfl hq
      · refine cf_aload_n E dX6_by_31 0 rfl rfl ?_
        refine mget_40 E dX6_by_32 rfl ?_
        refine cf_goto E dX6_by_35 rfl ?_
        exact mret_i dX6_by_48 h rfl hq
    · refine cf_bipush E dX6_by_20 bp_m5 rfl ?_
      exact mret_i dX6_by_22 h rfl hq
  · refine cf_iconst E dX6_by_10 ic_m1 rfl ?_
    exact mret_i dX6_by_11 h rfl hq

set_option maxHeartbeats 4000000 in
theorem wm_mostOf_174b {p : Program} {l : Launch} {e : Env} {R : Room} {s : State} {m : MethodId} {args : Array Value} {below : List Frame} {meth : Method} {c : Code} {A : Nat → Prop} {g : MG} {Q : State → Prop} (E : EV p s m args c cX6_mostOf 6 RX6) (hR : 1 ≤ R.frames ∧ 22 ≤ R.locals) {res : Int32 × MS} (hq : RTi p l e R s m args below meth c cX6_mostOf 6 A g .int Q res) (N : Nat)  {rec174 : Int32 → Int32 → MS → Option (Int32 × MS)} (ih174 : ∀ (x2 : Int32) (x3 : Int32) (σ : MS), rec174 x2 x3 σ = some res → CF p l e R s m args below meth c 6 0 0 (MB g A s σ) Q 174 [(0, .ref (mh g)), (2, .int x2), (3, .int x3)] []) (x2 : Int32) (x3 : Int32) (σ : MS) (h : m_mostOf_174b N  rec174 x2 x3 σ = some res) : CF p l e R s m args below meth c 6 0 0 (MB g A s σ) Q 174 [(0, .ref (mh g)), (2, .int x2), (3, .int x3)] [] := by
  unfold m_mostOf_174b at h
  refine cf_iload_n E dX6_mostOf_174 2 rfl rfl ?_
  refine cf_bipush E dX6_mostOf_175 bp_64 rfl ?_
  refine cf_icmp_ge E dX6_mostOf_177 h rfl rfl (fun h => ?_) (fun h => ?_)
  · refine cf_iload_n E dX6_mostOf_198 1 rfl rfl ?_
    exact mret_i dX6_mostOf_199 h rfl hq
  · refine cf_aload_n E dX6_mostOf_180 0 rfl rfl ?_
    refine cf_iload_n E dX6_mostOf_181 1 rfl rfl ?_
    refine cf_aload_n E dX6_mostOf_182 0 rfl rfl ?_
    refine mget_42 E dX6_mostOf_183 rfl ?_
    refine cf_iload_n E dX6_mostOf_186 2 rfl rfl ?_
    refine mald_42 E dX6_mostOf_187 h rfl (fun h => ?_)
    refine mcl_most E (rmle hR rfl rfl) (Nat.le_of_ble_eq_true rfl) dX6_mostOf_188 h rfl (fun v_2 s_1 h => ?_)
    refine cf_istore_n E dX6_mostOf_191 h (fun x2_3 => [(2, .int x2_3), (0, .ref (mh g)), (3, .int x3)]) (Nat.le_of_ble_eq_true rfl) (fun _ => rfl) rfl (fun x2_3 h => ?_)
    refine cf_iinc E dX6_mostOf_192 ic_1 h 2 rfl (fun x3_4 => [(3, .int x3_4), (2, .int x2_3), (0, .ref (mh g))]) (Nat.le_of_ble_eq_true rfl) (fun _ => rfl) rfl (fun x3_4 h => ?_)
    refine cf_goto E dX6_mostOf_195 rfl ?_
    exact CF.sub [2, 1, 0] rfl (ih174 x2_3 x3_4 s_1 h)
set_option maxHeartbeats 4000000 in
theorem wm_mostOf_174 {p : Program} {l : Launch} {e : Env} {R : Room} {s : State} {m : MethodId} {args : Array Value} {below : List Frame} {meth : Method} {c : Code} {A : Nat → Prop} {g : MG} {Q : State → Prop} (E : EV p s m args c cX6_mostOf 6 RX6) (hR : 1 ≤ R.frames ∧ 22 ≤ R.locals) {res : Int32 × MS} (hq : RTi p l e R s m args below meth c cX6_mostOf 6 A g .int Q res) (N : Nat)  : ∀ (k : Nat) (x2 : Int32) (x3 : Int32) (σ : MS), m_mostOf_174 N  k x2 x3 σ = some res → CF p l e R s m args below meth c 6 0 0 (MB g A s σ) Q 174 [(0, .ref (mh g)), (2, .int x2), (3, .int x3)] [] := by
  intro k
  induction k with
  | zero => intro x2 x3 σ h; have h : (none : Option (Int32 × MS)) = some res := h; cases h
  | succ k ih => intro x2 x3 σ h; exact wm_mostOf_174b E hR hq N  ih x2 x3 σ h
set_option maxHeartbeats 4000000 in
theorem wm_mostOf_164 {p : Program} {l : Launch} {e : Env} {R : Room} {s : State} {m : MethodId} {args : Array Value} {below : List Frame} {meth : Method} {c : Code} {A : Nat → Prop} {g : MG} {Q : State → Prop} (E : EV p s m args c cX6_mostOf 6 RX6) (hR : 1 ≤ R.frames ∧ 22 ≤ R.locals) {res : Int32 × MS} (hq : RTi p l e R s m args below meth c cX6_mostOf 6 A g .int Q res) (N : Nat) {rec31 : Int32 → Int32 → MS → Option (Int32 × MS)} (ih31 : ∀ (x1 : Int32) (x2 : Int32) (σ : MS), rec31 x1 x2 σ = some res → CF p l e R s m args below meth c 6 0 0 (MB g A s σ) Q 31 [(0, .ref (mh g)), (1, .int x1), (2, .int x2)] []) (x1 : Int32) (x2 : Int32) (σ : MS) (h : m_mostOf_164 N rec31 x1 x2 σ = some res) : CF p l e R s m args below meth c 6 0 0 (MB g A s σ) Q 164 [(0, .ref (mh g)), (1, .int x1), (2, .int x2)] [] := by
  unfold m_mostOf_164 at h
  refine cf_iinc E dX6_mostOf_164 ic_1 h 2 rfl (fun x2_1 => [(2, .int x2_1), (0, .ref (mh g)), (1, .int x1)]) (Nat.le_of_ble_eq_true rfl) (fun _ => rfl) rfl (fun x2_1 h => ?_)
  refine cf_goto E dX6_mostOf_167 rfl ?_
  exact CF.sub [1, 2, 0] rfl (ih31 x1 x2_1 σ h)
set_option maxHeartbeats 4000000 in
theorem wm_mostOf_152 {p : Program} {l : Launch} {e : Env} {R : Room} {s : State} {m : MethodId} {args : Array Value} {below : List Frame} {meth : Method} {c : Code} {A : Nat → Prop} {g : MG} {Q : State → Prop} (E : EV p s m args c cX6_mostOf 6 RX6) (hR : 1 ≤ R.frames ∧ 22 ≤ R.locals) {res : Int32 × MS} (hq : RTi p l e R s m args below meth c cX6_mostOf 6 A g .int Q res) (N : Nat) {rec31 : Int32 → Int32 → MS → Option (Int32 × MS)} (ih31 : ∀ (x1 : Int32) (x2 : Int32) (σ : MS), rec31 x1 x2 σ = some res → CF p l e R s m args below meth c 6 0 0 (MB g A s σ) Q 31 [(0, .ref (mh g)), (1, .int x1), (2, .int x2)] []) {rec61 : Int32 → Int32 → Int32 → MS → Option (Int32 × MS)} (ih61 : ∀ (x1 : Int32) (x2 : Int32) (x3 : Int32) (σ : MS), rec61 x1 x2 x3 σ = some res → CF p l e R s m args below meth c 6 0 0 (MB g A s σ) Q 61 [(0, .ref (mh g)), (1, .int x1), (2, .int x2), (3, .int x3)] []) {rec68 : Int32 → Int32 → Int32 → Int32 → MS → Option (Int32 × MS)} (ih68 : ∀ (x1 : Int32) (x2 : Int32) (x3 : Int32) (x4 : Int32) (σ : MS), rec68 x1 x2 x3 x4 σ = some res → CF p l e R s m args below meth c 6 0 0 (MB g A s σ) Q 68 [(0, .ref (mh g)), (1, .int x1), (2, .int x2), (3, .int x3), (4, .int x4)] []) (x1 : Int32) (x2 : Int32) (x3 : Int32) (x4 : Int32) (σ : MS) (h : m_mostOf_152 N rec31 rec61 rec68 x1 x2 x3 x4 σ = some res) : CF p l e R s m args below meth c 6 0 0 (MB g A s σ) Q 152 [(0, .ref (mh g)), (1, .int x1), (2, .int x2), (3, .int x3), (4, .int x4)] [] := by
  unfold m_mostOf_152 at h
  refine cf_iinc E dX6_mostOf_152 ic_1 h 4 rfl (fun x4_1 => [(4, .int x4_1), (0, .ref (mh g)), (1, .int x1), (2, .int x2), (3, .int x3)]) (Nat.le_of_ble_eq_true rfl) (fun _ => rfl) rfl (fun x4_1 h => ?_)
  refine cf_goto E dX6_mostOf_155 rfl ?_
  exact CF.sub [1, 2, 3, 4, 0] rfl (ih68 x1 x2 x3 x4_1 σ h)
set_option maxHeartbeats 4000000 in
theorem wm_mostOf_68b {p : Program} {l : Launch} {e : Env} {R : Room} {s : State} {m : MethodId} {args : Array Value} {below : List Frame} {meth : Method} {c : Code} {A : Nat → Prop} {g : MG} {Q : State → Prop} (E : EV p s m args c cX6_mostOf 6 RX6) (hR : 1 ≤ R.frames ∧ 22 ≤ R.locals) {res : Int32 × MS} (hq : RTi p l e R s m args below meth c cX6_mostOf 6 A g .int Q res) (N : Nat) {rec31 : Int32 → Int32 → MS → Option (Int32 × MS)} (ih31 : ∀ (x1 : Int32) (x2 : Int32) (σ : MS), rec31 x1 x2 σ = some res → CF p l e R s m args below meth c 6 0 0 (MB g A s σ) Q 31 [(0, .ref (mh g)), (1, .int x1), (2, .int x2)] []) {rec61 : Int32 → Int32 → Int32 → MS → Option (Int32 × MS)} (ih61 : ∀ (x1 : Int32) (x2 : Int32) (x3 : Int32) (σ : MS), rec61 x1 x2 x3 σ = some res → CF p l e R s m args below meth c 6 0 0 (MB g A s σ) Q 61 [(0, .ref (mh g)), (1, .int x1), (2, .int x2), (3, .int x3)] []) {rec68 : Int32 → Int32 → Int32 → Int32 → MS → Option (Int32 × MS)} (ih68 : ∀ (x1 : Int32) (x2 : Int32) (x3 : Int32) (x4 : Int32) (σ : MS), rec68 x1 x2 x3 x4 σ = some res → CF p l e R s m args below meth c 6 0 0 (MB g A s σ) Q 68 [(0, .ref (mh g)), (1, .int x1), (2, .int x2), (3, .int x3), (4, .int x4)] []) (x1 : Int32) (x2 : Int32) (x3 : Int32) (x4 : Int32) (σ : MS) (h : m_mostOf_68b N rec31 rec61 rec68 x1 x2 x3 x4 σ = some res) : CF p l e R s m args below meth c 6 0 0 (MB g A s σ) Q 68 [(0, .ref (mh g)), (1, .int x1), (2, .int x2), (3, .int x3), (4, .int x4)] [] := by
  unfold m_mostOf_68b at h
  refine cf_iload E dX6_mostOf_68 4 rfl rfl ?_
  refine cf_aload_n E dX6_mostOf_70 0 rfl rfl ?_
  refine mget_0 E dX6_mostOf_71 rfl ?_
  refine cf_icmp_ge E dX6_mostOf_74 h rfl rfl (fun h => ?_) (fun h => ?_)
  · refine cf_iinc E dX6_mostOf_158 ic_m1 h 3 rfl (fun x3_1 => [(3, .int x3_1), (0, .ref (mh g)), (1, .int x1), (2, .int x2), (4, .int x4)]) (Nat.le_of_ble_eq_true rfl) (fun _ => rfl) rfl (fun x3_1 h => ?_)
    refine cf_goto E dX6_mostOf_161 rfl ?_
    exact CF.sub [1, 2, 3, 0] rfl (ih61 x1 x2 x3_1 σ h)
  · refine cf_aload_n E dX6_mostOf_77 0 rfl rfl ?_
    refine cf_iload_n E dX6_mostOf_78 3 rfl rfl ?_
    refine cf_iload E dX6_mostOf_79 4 rfl rfl ?_
    refine mcl_has E (rmle hR rfl rfl) (Nat.le_of_ble_eq_true rfl) dX6_mostOf_81 h rfl (fun v_3 s_2 h => ?_)
    refine cf_if_eq E dX6_mostOf_84 h rfl rfl (fun h => ?_) (fun h => ?_)
    · exact CF.sub [0, 1, 2, 3, 4] rfl (wm_mostOf_152 E hR hq N ih31 ih61 ih68 x1 x2 x3 x4 s_2 h)
    · refine cf_aload_n E dX6_mostOf_87 0 rfl rfl ?_
      refine mget_42 E dX6_mostOf_88 rfl ?_
      refine cf_iload_n E dX6_mostOf_91 3 rfl rfl ?_
      refine cf_iconst E dX6_mostOf_92 ic_1 rfl ?_
      refine cf_iload E dX6_mostOf_93 4 rfl rfl ?_
      refine cf_ishl E dX6_mostOf_95 rfl ?_
      refine cf_iconst E dX6_mostOf_96 ic_m1 rfl ?_
      refine cf_ixor E dX6_mostOf_97 rfl ?_
      refine cf_iand E dX6_mostOf_98 rfl ?_
      refine mald_42 E dX6_mostOf_99 h rfl (fun h => ?_)
      refine cf_if_ge E dX6_mostOf_100 h rfl rfl (fun h => ?_) (fun h => ?_)
      · refine cf_aload_n E dX6_mostOf_106 0 rfl rfl ?_
        refine mget_42 E dX6_mostOf_107 rfl ?_
        refine cf_iload_n E dX6_mostOf_110 3 rfl rfl ?_
        refine cf_iconst E dX6_mostOf_111 ic_1 rfl ?_
        refine cf_iload E dX6_mostOf_112 4 rfl rfl ?_
        refine cf_ishl E dX6_mostOf_114 rfl ?_
        refine cf_iconst E dX6_mostOf_115 ic_m1 rfl ?_
        refine cf_ixor E dX6_mostOf_116 rfl ?_
        refine cf_iand E dX6_mostOf_117 rfl ?_
        refine mald_42 E dX6_mostOf_118 h rfl (fun h => ?_)
        refine cf_aload_n E dX6_mostOf_119 0 rfl rfl ?_
        refine mget_39 E dX6_mostOf_120 rfl ?_
        refine cf_bipush E dX6_mostOf_123 bp_6 rfl ?_
        refine cf_iload_n E dX6_mostOf_125 2 rfl rfl ?_
        refine cf_imul E dX6_mostOf_126 rfl ?_
        refine cf_iload E dX6_mostOf_127 4 rfl rfl ?_
        refine cf_iadd E dX6_mostOf_129 rfl ?_
        refine mald_39 E dX6_mostOf_130 h rfl (fun h => ?_)
        refine cf_iadd E dX6_mostOf_131 rfl ?_
        refine cf_istore E dX6_mostOf_132 h (fun x5_4 => [(5, .int x5_4), (0, .ref (mh g)), (1, .int x1), (2, .int x2), (3, .int x3), (4, .int x4)]) (Nat.le_of_ble_eq_true rfl) (fun _ => rfl) rfl (fun x5_4 h => ?_)
        refine cf_aload_n E dX6_mostOf_134 1 rfl rfl ?_
        refine mget_42 E dX6_mostOf_135 rfl ?_
        refine cf_iload_n E dX6_mostOf_138 4 rfl rfl ?_
        refine cf_aload_n E dX6_mostOf_139 1 rfl rfl ?_
        refine cf_aload_n E dX6_mostOf_140 1 rfl rfl ?_
        refine mget_42 E dX6_mostOf_141 rfl ?_
        refine cf_iload_n E dX6_mostOf_144 4 rfl rfl ?_
        refine mald_42 E dX6_mostOf_145 h rfl (fun h => ?_)
        refine cf_iload E dX6_mostOf_146 0 rfl rfl ?_
        refine mcl_most E (rmle hR rfl rfl) (Nat.le_of_ble_eq_true rfl) dX6_mostOf_148 h rfl (fun v_6 s_5 h => ?_)
        refine mast_42 E dX6_mostOf_151 h rfl (fun s_7 h => ?_)
        exact CF.sub [1, 2, 3, 4, 5] rfl (wm_mostOf_152 E hR hq N ih31 ih61 ih68 x1 x2 x3 x4 s_7 h)
      · refine cf_goto E dX6_mostOf_103 rfl ?_
        exact CF.sub [0, 1, 2, 3, 4] rfl (wm_mostOf_152 E hR hq N ih31 ih61 ih68 x1 x2 x3 x4 s_2 h)
set_option maxHeartbeats 4000000 in
theorem wm_mostOf_68 {p : Program} {l : Launch} {e : Env} {R : Room} {s : State} {m : MethodId} {args : Array Value} {below : List Frame} {meth : Method} {c : Code} {A : Nat → Prop} {g : MG} {Q : State → Prop} (E : EV p s m args c cX6_mostOf 6 RX6) (hR : 1 ≤ R.frames ∧ 22 ≤ R.locals) {res : Int32 × MS} (hq : RTi p l e R s m args below meth c cX6_mostOf 6 A g .int Q res) (N : Nat) {rec31 : Int32 → Int32 → MS → Option (Int32 × MS)} (ih31 : ∀ (x1 : Int32) (x2 : Int32) (σ : MS), rec31 x1 x2 σ = some res → CF p l e R s m args below meth c 6 0 0 (MB g A s σ) Q 31 [(0, .ref (mh g)), (1, .int x1), (2, .int x2)] []) {rec61 : Int32 → Int32 → Int32 → MS → Option (Int32 × MS)} (ih61 : ∀ (x1 : Int32) (x2 : Int32) (x3 : Int32) (σ : MS), rec61 x1 x2 x3 σ = some res → CF p l e R s m args below meth c 6 0 0 (MB g A s σ) Q 61 [(0, .ref (mh g)), (1, .int x1), (2, .int x2), (3, .int x3)] []) : ∀ (k : Nat) (x1 : Int32) (x2 : Int32) (x3 : Int32) (x4 : Int32) (σ : MS), m_mostOf_68 N rec31 rec61 k x1 x2 x3 x4 σ = some res → CF p l e R s m args below meth c 6 0 0 (MB g A s σ) Q 68 [(0, .ref (mh g)), (1, .int x1), (2, .int x2), (3, .int x3), (4, .int x4)] [] := by
  intro k
  induction k with
  | zero => intro x1 x2 x3 x4 σ h; have h : (none : Option (Int32 × MS)) = some res := h; cases h
  | succ k ih => intro x1 x2 x3 x4 σ h; exact wm_mostOf_68b E hR hq N ih31 ih61 ih x1 x2 x3 x4 σ h
set_option maxHeartbeats 4000000 in
theorem wm_mostOf_61b {p : Program} {l : Launch} {e : Env} {R : Room} {s : State} {m : MethodId} {args : Array Value} {below : List Frame} {meth : Method} {c : Code} {A : Nat → Prop} {g : MG} {Q : State → Prop} (E : EV p s m args c cX6_mostOf 6 RX6) (hR : 1 ≤ R.frames ∧ 22 ≤ R.locals) {res : Int32 × MS} (hq : RTi p l e R s m args below meth c cX6_mostOf 6 A g .int Q res) (N : Nat) {rec31 : Int32 → Int32 → MS → Option (Int32 × MS)} (ih31 : ∀ (x1 : Int32) (x2 : Int32) (σ : MS), rec31 x1 x2 σ = some res → CF p l e R s m args below meth c 6 0 0 (MB g A s σ) Q 31 [(0, .ref (mh g)), (1, .int x1), (2, .int x2)] []) {rec61 : Int32 → Int32 → Int32 → MS → Option (Int32 × MS)} (ih61 : ∀ (x1 : Int32) (x2 : Int32) (x3 : Int32) (σ : MS), rec61 x1 x2 x3 σ = some res → CF p l e R s m args below meth c 6 0 0 (MB g A s σ) Q 61 [(0, .ref (mh g)), (1, .int x1), (2, .int x2), (3, .int x3)] []) (x1 : Int32) (x2 : Int32) (x3 : Int32) (σ : MS) (h : m_mostOf_61b N rec31 rec61 x1 x2 x3 σ = some res) : CF p l e R s m args below meth c 6 0 0 (MB g A s σ) Q 61 [(0, .ref (mh g)), (1, .int x1), (2, .int x2), (3, .int x3)] [] := by
  unfold m_mostOf_61b at h
  refine cf_iload_n E dX6_mostOf_61 3 rfl rfl ?_
  refine cf_if_lt E dX6_mostOf_62 h rfl rfl (fun h => ?_) (fun h => ?_)
  · exact CF.sub [0, 1, 2] rfl (wm_mostOf_164 E hR hq N ih31 x1 x2 σ h)
  · refine cf_iconst E dX6_mostOf_65 ic_0 rfl ?_
    refine cf_istore E dX6_mostOf_66 h (fun x4_1 => [(4, .int x4_1), (0, .ref (mh g)), (1, .int x1), (2, .int x2), (3, .int x3)]) (Nat.le_of_ble_eq_true rfl) (fun _ => rfl) rfl (fun x4_1 h => ?_)
    exact CF.sub [1, 2, 3, 4, 0] rfl (wm_mostOf_68 E hR hq N ih31 ih61 N x1 x2 x3 x4_1 σ h)
set_option maxHeartbeats 4000000 in
theorem wm_mostOf_61 {p : Program} {l : Launch} {e : Env} {R : Room} {s : State} {m : MethodId} {args : Array Value} {below : List Frame} {meth : Method} {c : Code} {A : Nat → Prop} {g : MG} {Q : State → Prop} (E : EV p s m args c cX6_mostOf 6 RX6) (hR : 1 ≤ R.frames ∧ 22 ≤ R.locals) {res : Int32 × MS} (hq : RTi p l e R s m args below meth c cX6_mostOf 6 A g .int Q res) (N : Nat) {rec31 : Int32 → Int32 → MS → Option (Int32 × MS)} (ih31 : ∀ (x1 : Int32) (x2 : Int32) (σ : MS), rec31 x1 x2 σ = some res → CF p l e R s m args below meth c 6 0 0 (MB g A s σ) Q 31 [(0, .ref (mh g)), (1, .int x1), (2, .int x2)] []) : ∀ (k : Nat) (x1 : Int32) (x2 : Int32) (x3 : Int32) (σ : MS), m_mostOf_61 N rec31 k x1 x2 x3 σ = some res → CF p l e R s m args below meth c 6 0 0 (MB g A s σ) Q 61 [(0, .ref (mh g)), (1, .int x1), (2, .int x2), (3, .int x3)] [] := by
  intro k
  induction k with
  | zero => intro x1 x2 x3 σ h; have h : (none : Option (Int32 × MS)) = some res := h; cases h
  | succ k ih => intro x1 x2 x3 σ h; exact wm_mostOf_61b E hR hq N ih31 ih x1 x2 x3 σ h
set_option maxHeartbeats 4000000 in
theorem wm_mostOf_31b {p : Program} {l : Launch} {e : Env} {R : Room} {s : State} {m : MethodId} {args : Array Value} {below : List Frame} {meth : Method} {c : Code} {A : Nat → Prop} {g : MG} {Q : State → Prop} (E : EV p s m args c cX6_mostOf 6 RX6) (hR : 1 ≤ R.frames ∧ 22 ≤ R.locals) {res : Int32 × MS} (hq : RTi p l e R s m args below meth c cX6_mostOf 6 A g .int Q res) (N : Nat)  {rec31 : Int32 → Int32 → MS → Option (Int32 × MS)} (ih31 : ∀ (x1 : Int32) (x2 : Int32) (σ : MS), rec31 x1 x2 σ = some res → CF p l e R s m args below meth c 6 0 0 (MB g A s σ) Q 31 [(0, .ref (mh g)), (1, .int x1), (2, .int x2)] []) (x1 : Int32) (x2 : Int32) (σ : MS) (h : m_mostOf_31b N  rec31 x1 x2 σ = some res) : CF p l e R s m args below meth c 6 0 0 (MB g A s σ) Q 31 [(0, .ref (mh g)), (1, .int x1), (2, .int x2)] [] := by
  unfold m_mostOf_31b at h
  refine cf_iload_n E dX6_mostOf_31 2 rfl rfl ?_
  refine cf_aload_n E dX6_mostOf_32 0 rfl rfl ?_
  refine mget_1 E dX6_mostOf_33 rfl ?_
  refine cf_icmp_ge E dX6_mostOf_36 h rfl rfl (fun h => ?_) (fun h => ?_)
  · refine cf_iconst E dX6_mostOf_170 ic_0 rfl ?_
    refine cf_istore_n E dX6_mostOf_171 h (fun x2_1 => [(2, .int x2_1), (0, .ref (mh g)), (1, .int x1)]) (Nat.le_of_ble_eq_true rfl) (fun _ => rfl) rfl (fun x2_1 h => ?_)
    refine cf_iconst E dX6_mostOf_172 ic_0 rfl ?_
    refine cf_istore_n E dX6_mostOf_173 h (fun x3_2 => [(3, .int x3_2), (2, .int x2_1), (0, .ref (mh g)), (1, .int x1)]) (Nat.le_of_ble_eq_true rfl) (fun _ => rfl) rfl (fun x3_2 h => ?_)
    exact CF.sub [2, 1, 0] rfl (wm_mostOf_174 E hR hq N N x2_1 x3_2 σ h)
  · refine cf_aload_n E dX6_mostOf_39 0 rfl rfl ?_
    refine mget_10 E dX6_mostOf_40 rfl ?_
    refine cf_iload_n E dX6_mostOf_43 2 rfl rfl ?_
    refine mald_10 E dX6_mostOf_44 h rfl (fun h => ?_)
    refine cf_iload_n E dX6_mostOf_45 1 rfl rfl ?_
    refine cf_icmp_eq E dX6_mostOf_46 h rfl rfl (fun h => ?_) (fun h => ?_)
    · refine cf_iconst E dX6_mostOf_52 ic_1 rfl ?_
      refine cf_aload_n E dX6_mostOf_53 0 rfl rfl ?_
      refine mget_0 E dX6_mostOf_54 rfl ?_
      refine cf_ishl E dX6_mostOf_57 rfl ?_
      refine cf_iconst E dX6_mostOf_58 ic_1 rfl ?_
      refine cf_isub E dX6_mostOf_59 rfl ?_
      refine cf_istore_n E dX6_mostOf_60 h (fun x3_3 => [(3, .int x3_3), (0, .ref (mh g)), (1, .int x1), (2, .int x2)]) (Nat.le_of_ble_eq_true rfl) (fun _ => rfl) rfl (fun x3_3 h => ?_)
      exact CF.sub [1, 2, 3, 0] rfl (wm_mostOf_61 E hR hq N ih31 N x1 x2 x3_3 σ h)
    · refine cf_goto E dX6_mostOf_49 rfl ?_
      exact CF.sub [0, 1, 2] rfl (wm_mostOf_164 E hR hq N ih31 x1 x2 σ h)
set_option maxHeartbeats 4000000 in
theorem wm_mostOf_31 {p : Program} {l : Launch} {e : Env} {R : Room} {s : State} {m : MethodId} {args : Array Value} {below : List Frame} {meth : Method} {c : Code} {A : Nat → Prop} {g : MG} {Q : State → Prop} (E : EV p s m args c cX6_mostOf 6 RX6) (hR : 1 ≤ R.frames ∧ 22 ≤ R.locals) {res : Int32 × MS} (hq : RTi p l e R s m args below meth c cX6_mostOf 6 A g .int Q res) (N : Nat)  : ∀ (k : Nat) (x1 : Int32) (x2 : Int32) (σ : MS), m_mostOf_31 N  k x1 x2 σ = some res → CF p l e R s m args below meth c 6 0 0 (MB g A s σ) Q 31 [(0, .ref (mh g)), (1, .int x1), (2, .int x2)] [] := by
  intro k
  induction k with
  | zero => intro x1 x2 σ h; have h : (none : Option (Int32 × MS)) = some res := h; cases h
  | succ k ih => intro x1 x2 σ h; exact wm_mostOf_31b E hR hq N  ih x1 x2 σ h
set_option maxHeartbeats 4000000 in
theorem wm_mostOf_22 {p : Program} {l : Launch} {e : Env} {R : Room} {s : State} {m : MethodId} {args : Array Value} {below : List Frame} {meth : Method} {c : Code} {A : Nat → Prop} {g : MG} {Q : State → Prop} (E : EV p s m args c cX6_mostOf 6 RX6) (hR : 1 ≤ R.frames ∧ 22 ≤ R.locals) {res : Int32 × MS} (hq : RTi p l e R s m args below meth c cX6_mostOf 6 A g .int Q res) (N : Nat) {rec2 : Int32 → Int32 → MS → Option (Int32 × MS)} (ih2 : ∀ (x1 : Int32) (x2 : Int32) (σ : MS), rec2 x1 x2 σ = some res → CF p l e R s m args below meth c 6 0 0 (MB g A s σ) Q 2 [(0, .ref (mh g)), (1, .int x1), (2, .int x2)] []) (x1 : Int32) (x2 : Int32) (z0 : Int32) (z1 : Int32) (σ : MS) (h : m_mostOf_22 N rec2 x1 x2 z0 z1 σ = some res) : CF p l e R s m args below meth c 6 0 0 (MB g A s σ) Q 22 [(0, .ref (mh g)), (1, .int x1), (2, .int x2)] [.int z0, .int z1, .ref (ma g 42)] := by
  unfold m_mostOf_22 at h
  refine mast_42 E dX6_mostOf_22 h rfl (fun s_1 h => ?_)
  refine cf_iinc E dX6_mostOf_23 ic_1 h 2 rfl (fun x2_2 => [(2, .int x2_2), (0, .ref (mh g)), (1, .int x1)]) (Nat.le_of_ble_eq_true rfl) (fun _ => rfl) rfl (fun x2_2 h => ?_)
  refine cf_goto E dX6_mostOf_26 rfl ?_
  exact CF.sub [1, 2, 0] rfl (ih2 x1 x2_2 s_1 h)
set_option maxHeartbeats 4000000 in
theorem wm_mostOf_2b {p : Program} {l : Launch} {e : Env} {R : Room} {s : State} {m : MethodId} {args : Array Value} {below : List Frame} {meth : Method} {c : Code} {A : Nat → Prop} {g : MG} {Q : State → Prop} (E : EV p s m args c cX6_mostOf 6 RX6) (hR : 1 ≤ R.frames ∧ 22 ≤ R.locals) {res : Int32 × MS} (hq : RTi p l e R s m args below meth c cX6_mostOf 6 A g .int Q res) (N : Nat)  {rec2 : Int32 → Int32 → MS → Option (Int32 × MS)} (ih2 : ∀ (x1 : Int32) (x2 : Int32) (σ : MS), rec2 x1 x2 σ = some res → CF p l e R s m args below meth c 6 0 0 (MB g A s σ) Q 2 [(0, .ref (mh g)), (1, .int x1), (2, .int x2)] []) (x1 : Int32) (x2 : Int32) (σ : MS) (h : m_mostOf_2b N  rec2 x1 x2 σ = some res) : CF p l e R s m args below meth c 6 0 0 (MB g A s σ) Q 2 [(0, .ref (mh g)), (1, .int x1), (2, .int x2)] [] := by
  unfold m_mostOf_2b at h
  refine cf_iload_n E dX6_mostOf_2 2 rfl rfl ?_
  refine cf_bipush E dX6_mostOf_3 bp_64 rfl ?_
  refine cf_icmp_ge E dX6_mostOf_5 h rfl rfl (fun h => ?_) (fun h => ?_)
  · refine cf_iconst E dX6_mostOf_29 ic_0 rfl ?_
    refine cf_istore_n E dX6_mostOf_30 h (fun x2_1 => [(2, .int x2_1), (0, .ref (mh g)), (1, .int x1)]) (Nat.le_of_ble_eq_true rfl) (fun _ => rfl) rfl (fun x2_1 h => ?_)
    exact CF.sub [1, 2, 0] rfl (wm_mostOf_31 E hR hq N N x1 x2_1 σ h)
  · refine cf_aload_n E dX6_mostOf_8 0 rfl rfl ?_
    refine mget_42 E dX6_mostOf_9 rfl ?_
    refine cf_iload_n E dX6_mostOf_12 2 rfl rfl ?_
    refine cf_iload_n E dX6_mostOf_13 2 rfl rfl ?_
    refine cf_if_ne E dX6_mostOf_14 h rfl rfl (fun h => ?_) (fun h => ?_)
    · refine cf_iconst E dX6_mostOf_21 ic_m1 rfl ?_
      exact CF.sub [0, 1, 2] rfl (wm_mostOf_22 E hR hq N ih2 x1 x2 (-1 : Int32) x2 σ h)
    · refine cf_iconst E dX6_mostOf_17 ic_0 rfl ?_
      refine cf_goto E dX6_mostOf_18 rfl ?_
      exact CF.sub [0, 1, 2] rfl (wm_mostOf_22 E hR hq N ih2 x1 x2 (0 : Int32) x2 σ h)
set_option maxHeartbeats 4000000 in
theorem wm_mostOf_2 {p : Program} {l : Launch} {e : Env} {R : Room} {s : State} {m : MethodId} {args : Array Value} {below : List Frame} {meth : Method} {c : Code} {A : Nat → Prop} {g : MG} {Q : State → Prop} (E : EV p s m args c cX6_mostOf 6 RX6) (hR : 1 ≤ R.frames ∧ 22 ≤ R.locals) {res : Int32 × MS} (hq : RTi p l e R s m args below meth c cX6_mostOf 6 A g .int Q res) (N : Nat)  : ∀ (k : Nat) (x1 : Int32) (x2 : Int32) (σ : MS), m_mostOf_2 N  k x1 x2 σ = some res → CF p l e R s m args below meth c 6 0 0 (MB g A s σ) Q 2 [(0, .ref (mh g)), (1, .int x1), (2, .int x2)] [] := by
  intro k
  induction k with
  | zero => intro x1 x2 σ h; have h : (none : Option (Int32 × MS)) = some res := h; cases h
  | succ k ih => intro x1 x2 σ h; exact wm_mostOf_2b E hR hq N  ih x1 x2 σ h
set_option maxHeartbeats 4000000 in
theorem met_mostOf (l : Launch) (g : MG) (N : Nat) (x1 : Int32) (σ : MS) {v : Int32} {σ1 : MS} (h : m_mostOf N x1 σ = some (v, σ1)) : MetMi l g yX6_mostOf (ws_ yX6_mostOf cX6_mostOf 6 (some .int)) { frames := 1, cells := 0, slots := 0, locals := 22 } [.int x1] σ v σ1 := by
  refine met_mi (lv0 := [(0, .ref (mh g)), (1, .int x1)]) (by decide) rfl ⟨rfl, rfl⟩ (Nat.le_of_ble_eq_true rfl) rfl ?_
  intro p e s m below meth c A Q E hq
  have hR : 1 ≤ ({ frames := 1, cells := 0, slots := 0, locals := 22 } : Room).frames ∧ 22 ≤ ({ frames := 1, cells := 0, slots := 0, locals := 22 } : Room).locals := ⟨Nat.le_refl _, Nat.le_refl _⟩
  unfold m_mostOf at h
  refine cf_iconst E dX6_mostOf_0 ic_0 rfl ?_
  refine cf_istore_n E dX6_mostOf_1 h (fun x2_1 => [(2, .int x2_1), (0, .ref (mh g)), (1, .int x1)]) (Nat.le_of_ble_eq_true rfl) (fun _ => rfl) rfl (fun x2_1 h => ?_)
  exact CF.sub [1, 2, 0] rfl (wm_mostOf_2 E hR hq N N x1 x2_1 σ h)
theorem gw_mostOf : GoodIn lw_all (wsV RX6 383 RX6 yX6_mostOf (ws_ yX6_mostOf cX6_mostOf 6 (some .int))) := lw_V q1986 q1988 qs77 q105 q1989
theorem hd_mostOf : yX6_mostOf.cls = RX6 ∧ yX6_mostOf.cls ≠ "java/lang/invoke/MethodHandle" ∧ yX6_mostOf.cls ≠ "java/lang/invoke/VarHandle" ∧ (parseMethodDescriptor yX6_mostOf.desc).map (fun d => d.parameters.length) = some 1 := by decide +kernel
theorem mcl_mostOf {p : Program} {l : Launch} {e : Env} {R : Room} {s : State} {m : MethodId} {args : Array Value} {below : List Frame} {meth : Method} {c : Code} {nL : Nat} {A : Nat → Prop} {g : MG} {σ : MS} {Q : State → Prop} {pc n : Nat} {lv : List (Nat × Value)} {st : List Value} {cc : ByteArray} {ρ : Type} {res : ρ} (E : EV p s m args c cc nL RX6) {N : Nat} {x1 : Int32} {kk : Int32 → MS → Option ρ} (hR : 2 ≤ R.frames ∧ 47 ≤ R.locals) (hcat : (st.map fun v => v.category).sum ≤ 8) (d : decode cc pc = .ok (.invokevirtual 383, 3)) (h : bnd (m_mostOf N x1 σ) kk = some res) (hn : pc + 3 = n) (k : ∀ (v : Int32) (σ1 : MS), kk v σ1 = some res → CF p l e R s m args below meth c nL 0 0 (MB g A s σ1) Q n lv (.int v :: st)) : CF p l e R s m args below meth c nL 0 0 (MB g A s σ) Q pc lv (.int x1 :: .ref (mh g) :: st) :=
  mcall_i E [.int x1] (fun v σ1 ho => met_mostOf l g N x1 σ ho) gw_mostOf hd_mostOf rfl rfl hR rfl rfl hcat d h hn k
set_option maxHeartbeats 4000000 in
theorem wm_can_34 {p : Program} {l : Launch} {e : Env} {R : Room} {s : State} {m : MethodId} {args : Array Value} {below : List Frame} {meth : Method} {c : Code} {A : Nat → Prop} {g : MG} {Q : State → Prop} (E : EV p s m args c cX6_can 3 RX6) (hR : 5 ≤ R.frames ∧ 120 ≤ R.locals) {res : Int32 × MS} (hq : RTi p l e R s m args below meth c cX6_can 3 A g .int Q res) (N : Nat) {rec8 : Int32 → Int32 → MS → Option (Int32 × MS)} (ih8 : ∀ (x1 : Int32) (x2 : Int32) (σ : MS), rec8 x1 x2 σ = some res → CF p l e R s m args below meth c 3 0 0 (MB g A s σ) Q 8 [(0, .ref (mh g)), (1, .int x1), (2, .int x2)] []) (x2 : Int32) (z0 : Int32) (z1 : Int32) (σ : MS) (h : m_can_34 N rec8 x2 z0 z1 σ = some res) : CF p l e R s m args below meth c 3 0 0 (MB g A s σ) Q 34 [(0, .ref (mh g)), (2, .int x2)] [.int z0, .int z1] := by
  unfold m_can_34 at h
  refine cf_ior E dX6_can_34 rfl ?_
  refine cf_istore_n E dX6_can_35 h (fun x1_1 => [(1, .int x1_1), (0, .ref (mh g)), (2, .int x2)]) (Nat.le_of_ble_eq_true rfl) (fun _ => rfl) rfl (fun x1_1 h => ?_)
  refine cf_iinc E dX6_can_36 ic_1 h 2 rfl (fun x2_2 => [(2, .int x2_2), (1, .int x1_1), (0, .ref (mh g))]) (Nat.le_of_ble_eq_true rfl) (fun _ => rfl) rfl (fun x2_2 h => ?_)
  refine cf_goto E dX6_can_39 rfl ?_
  exact CF.sub [2, 1, 0] rfl (ih8 x1_1 x2_2 σ h)
set_option maxHeartbeats 4000000 in
theorem wm_can_8b {p : Program} {l : Launch} {e : Env} {R : Room} {s : State} {m : MethodId} {args : Array Value} {below : List Frame} {meth : Method} {c : Code} {A : Nat → Prop} {g : MG} {Q : State → Prop} (E : EV p s m args c cX6_can 3 RX6) (hR : 5 ≤ R.frames ∧ 120 ≤ R.locals) {res : Int32 × MS} (hq : RTi p l e R s m args below meth c cX6_can 3 A g .int Q res) (N : Nat)  {rec8 : Int32 → Int32 → MS → Option (Int32 × MS)} (ih8 : ∀ (x1 : Int32) (x2 : Int32) (σ : MS), rec8 x1 x2 σ = some res → CF p l e R s m args below meth c 3 0 0 (MB g A s σ) Q 8 [(0, .ref (mh g)), (1, .int x1), (2, .int x2)] []) (x1 : Int32) (x2 : Int32) (σ : MS) (h : m_can_8b N  rec8 x1 x2 σ = some res) : CF p l e R s m args below meth c 3 0 0 (MB g A s σ) Q 8 [(0, .ref (mh g)), (1, .int x1), (2, .int x2)] [] := by
  unfold m_can_8b at h
  refine cf_iload_n E dX6_can_8 2 rfl rfl ?_
  refine cf_iconst E dX6_can_9 ic_5 rfl ?_
  refine cf_icmp_ge E dX6_can_10 h rfl rfl (fun h => ?_) (fun h => ?_)
  · refine cf_iload_n E dX6_can_42 1 rfl rfl ?_
    exact mret_i dX6_can_43 h rfl hq
  · refine cf_iload_n E dX6_can_13 1 rfl rfl ?_
    refine cf_aload_n E dX6_can_14 0 rfl rfl ?_
    refine cf_iload_n E dX6_can_15 2 rfl rfl ?_
    refine mcl_mostOf E (rmle hR rfl rfl) (Nat.le_of_ble_eq_true rfl) dX6_can_16 h rfl (fun v_2 s_1 h => ?_)
    refine cf_aload_n E dX6_can_19 0 rfl rfl ?_
    refine cf_iload_n E dX6_can_20 2 rfl rfl ?_
    refine mcl_work E (rmle hR rfl rfl) (Nat.le_of_ble_eq_true rfl) dX6_can_21 h rfl (fun v_4 s_3 h => ?_)
    refine cf_icmp_lt E dX6_can_24 h rfl rfl (fun h => ?_) (fun h => ?_)
    · refine cf_iconst E dX6_can_33 ic_0 rfl ?_
      exact CF.sub [0, 2] rfl (wm_can_34 E hR hq N ih8 x2 (0 : Int32) x1 s_3 h)
    · refine cf_iconst E dX6_can_27 ic_1 rfl ?_
      refine cf_iload_n E dX6_can_28 2 rfl rfl ?_
      refine cf_ishl E dX6_can_29 rfl ?_
      refine cf_goto E dX6_can_30 rfl ?_
      exact CF.sub [0, 2] rfl (wm_can_34 E hR hq N ih8 x2 ((1 : Int32) <<< (x2 &&& 31)) x1 s_3 h)
set_option maxHeartbeats 4000000 in
theorem wm_can_8 {p : Program} {l : Launch} {e : Env} {R : Room} {s : State} {m : MethodId} {args : Array Value} {below : List Frame} {meth : Method} {c : Code} {A : Nat → Prop} {g : MG} {Q : State → Prop} (E : EV p s m args c cX6_can 3 RX6) (hR : 5 ≤ R.frames ∧ 120 ≤ R.locals) {res : Int32 × MS} (hq : RTi p l e R s m args below meth c cX6_can 3 A g .int Q res) (N : Nat)  : ∀ (k : Nat) (x1 : Int32) (x2 : Int32) (σ : MS), m_can_8 N  k x1 x2 σ = some res → CF p l e R s m args below meth c 3 0 0 (MB g A s σ) Q 8 [(0, .ref (mh g)), (1, .int x1), (2, .int x2)] [] := by
  intro k
  induction k with
  | zero => intro x1 x2 σ h; have h : (none : Option (Int32 × MS)) = some res := h; cases h
  | succ k ih => intro x1 x2 σ h; exact wm_can_8b E hR hq N  ih x1 x2 σ h
set_option maxHeartbeats 4000000 in
theorem met_can (l : Launch) (g : MG) (N : Nat)  (σ : MS) {v : Int32} {σ1 : MS} (h : m_can N  σ = some (v, σ1)) : MetMi l g yX6_can (ws_ yX6_can cX6_can 3 (some .int)) { frames := 5, cells := 0, slots := 0, locals := 120 } [] σ v σ1 := by
  refine met_mi (lv0 := [(0, .ref (mh g))]) (by decide) rfl ⟨rfl, rfl⟩ (Nat.le_of_ble_eq_true rfl) rfl ?_
  intro p e s m below meth c A Q E hq
  have hR : 5 ≤ ({ frames := 5, cells := 0, slots := 0, locals := 120 } : Room).frames ∧ 120 ≤ ({ frames := 5, cells := 0, slots := 0, locals := 120 } : Room).locals := ⟨Nat.le_refl _, Nat.le_refl _⟩
  unfold m_can at h
  refine cf_aload_n E dX6_can_0 0 rfl rfl ?_
  refine mcl_layDeeds E (rmle hR rfl rfl) (Nat.le_of_ble_eq_true rfl) dX6_can_1 h rfl (fun s_1 h => ?_)
  refine cf_iconst E dX6_can_4 ic_0 rfl ?_
  refine cf_istore_n E dX6_can_5 h (fun x1_2 => [(1, .int x1_2), (0, .ref (mh g))]) (Nat.le_of_ble_eq_true rfl) (fun _ => rfl) rfl (fun x1_2 h => ?_)
  refine cf_iconst E dX6_can_6 ic_0 rfl ?_
  refine cf_istore_n E dX6_can_7 h (fun x2_3 => [(2, .int x2_3), (1, .int x1_2), (0, .ref (mh g))]) (Nat.le_of_ble_eq_true rfl) (fun _ => rfl) rfl (fun x2_3 h => ?_)
  exact CF.sub [2, 1, 0] rfl (wm_can_8 E hR hq N N x1_2 x2_3 s_1 h)

set_option maxHeartbeats 4000000 in
theorem wm_isClash_61 {p : Program} {l : Launch} {e : Env} {R : Room} {s : State} {m : MethodId} {args : Array Value} {below : List Frame} {meth : Method} {c : Code} {A : Nat → Prop} {g : MG} {Q : State → Prop} (E : EV p s m args c cX6_isClash 3 RX6) (hR : 1 ≤ R.frames ∧ 22 ≤ R.locals) {res : Int32 × MS} (hq : RTi p l e R s m args below meth c cX6_isClash 3 A g .boolean Q res) (N : Nat) {rec2 : Int32 → MS → Option (Int32 × MS)} (ih2 : ∀ (x1 : Int32) (σ : MS), rec2 x1 σ = some res → CF p l e R s m args below meth c 3 0 0 (MB g A s σ) Q 2 [(0, .ref (mh g)), (1, .int x1)] []) {rec14 : Int32 → Int32 → MS → Option (Int32 × MS)} (ih14 : ∀ (x1 : Int32) (x2 : Int32) (σ : MS), rec14 x1 x2 σ = some res → CF p l e R s m args below meth c 3 0 0 (MB g A s σ) Q 14 [(0, .ref (mh g)), (1, .int x1), (2, .int x2)] []) (x1 : Int32) (x2 : Int32) (σ : MS) (h : m_isClash_61 N rec2 rec14 x1 x2 σ = some res) : CF p l e R s m args below meth c 3 0 0 (MB g A s σ) Q 61 [(0, .ref (mh g)), (1, .int x1), (2, .int x2)] [] := by
  unfold m_isClash_61 at h
  refine cf_iinc E dX6_isClash_61 ic_1 h 2 rfl (fun x2_1 => [(2, .int x2_1), (0, .ref (mh g)), (1, .int x1)]) (Nat.le_of_ble_eq_true rfl) (fun _ => rfl) rfl (fun x2_1 h => ?_)
  refine cf_goto E dX6_isClash_64 rfl ?_
  exact CF.sub [1, 2, 0] rfl (ih14 x1 x2_1 σ h)
set_option maxHeartbeats 4000000 in
theorem wm_isClash_14b {p : Program} {l : Launch} {e : Env} {R : Room} {s : State} {m : MethodId} {args : Array Value} {below : List Frame} {meth : Method} {c : Code} {A : Nat → Prop} {g : MG} {Q : State → Prop} (E : EV p s m args c cX6_isClash 3 RX6) (hR : 1 ≤ R.frames ∧ 22 ≤ R.locals) {res : Int32 × MS} (hq : RTi p l e R s m args below meth c cX6_isClash 3 A g .boolean Q res) (N : Nat) {rec2 : Int32 → MS → Option (Int32 × MS)} (ih2 : ∀ (x1 : Int32) (σ : MS), rec2 x1 σ = some res → CF p l e R s m args below meth c 3 0 0 (MB g A s σ) Q 2 [(0, .ref (mh g)), (1, .int x1)] []) {rec14 : Int32 → Int32 → MS → Option (Int32 × MS)} (ih14 : ∀ (x1 : Int32) (x2 : Int32) (σ : MS), rec14 x1 x2 σ = some res → CF p l e R s m args below meth c 3 0 0 (MB g A s σ) Q 14 [(0, .ref (mh g)), (1, .int x1), (2, .int x2)] []) (x1 : Int32) (x2 : Int32) (σ : MS) (h : m_isClash_14b N rec2 rec14 x1 x2 σ = some res) : CF p l e R s m args below meth c 3 0 0 (MB g A s σ) Q 14 [(0, .ref (mh g)), (1, .int x1), (2, .int x2)] [] := by
  unfold m_isClash_14b at h
  refine cf_iload_n E dX6_isClash_14 2 rfl rfl ?_
  refine cf_aload_n E dX6_isClash_15 0 rfl rfl ?_
  refine mget_0 E dX6_isClash_16 rfl ?_
  refine cf_icmp_ge E dX6_isClash_19 h rfl rfl (fun h => ?_) (fun h => ?_)
  · refine cf_iinc E dX6_isClash_67 ic_1 h 1 rfl (fun x1_1 => [(1, .int x1_1), (0, .ref (mh g)), (2, .int x2)]) (Nat.le_of_ble_eq_true rfl) (fun _ => rfl) rfl (fun x1_1 h => ?_)
    refine cf_goto E dX6_isClash_70 rfl ?_
    exact CF.sub [1, 0] rfl (ih2 x1_1 σ h)
  · refine cf_aload_n E dX6_isClash_22 0 rfl rfl ?_
    refine mget_4 E dX6_isClash_23 rfl ?_
    refine cf_iload_n E dX6_isClash_26 1 rfl rfl ?_
    refine mald_4 E dX6_isClash_27 h rfl (fun h => ?_)
    refine cf_if_lt E dX6_isClash_28 h rfl rfl (fun h => ?_) (fun h => ?_)
    · exact CF.sub [0, 1, 2] rfl (wm_isClash_61 E hR hq N ih2 ih14 x1 x2 σ h)
    · refine cf_aload_n E dX6_isClash_31 0 rfl rfl ?_
      refine mget_4 E dX6_isClash_32 rfl ?_
      refine cf_iload_n E dX6_isClash_35 1 rfl rfl ?_
      refine mald_4 E dX6_isClash_36 h rfl (fun h => ?_)
      refine cf_aload_n E dX6_isClash_37 0 rfl rfl ?_
      refine mget_4 E dX6_isClash_38 rfl ?_
      refine cf_iload_n E dX6_isClash_41 2 rfl rfl ?_
      refine mald_4 E dX6_isClash_42 h rfl (fun h => ?_)
      refine cf_icmp_ne E dX6_isClash_43 h rfl rfl (fun h => ?_) (fun h => ?_)
      · exact CF.sub [0, 1, 2] rfl (wm_isClash_61 E hR hq N ih2 ih14 x1 x2 σ h)
      · refine cf_aload_n E dX6_isClash_46 0 rfl rfl ?_
        refine cf_aload_n E dX6_isClash_47 0 rfl rfl ?_
        refine mget_4 E dX6_isClash_48 rfl ?_
        refine cf_iload_n E dX6_isClash_51 1 rfl rfl ?_
        refine mald_4 E dX6_isClash_52 h rfl (fun h => ?_)
        refine mcl_headOf E (rmle hR rfl rfl) (Nat.le_of_ble_eq_true rfl) dX6_isClash_53 h rfl (fun v_3 s_2 h => ?_)
        refine cf_if_lt E dX6_isClash_56 h rfl rfl (fun h => ?_) (fun h => ?_)
        · exact CF.sub [0, 1, 2] rfl (wm_isClash_61 E hR hq N ih2 ih14 x1 x2 s_2 h)
        · refine cf_iconst E dX6_isClash_59 ic_1 rfl ?_
          exact mret_i dX6_isClash_60 h nzb1 hq
set_option maxHeartbeats 4000000 in
theorem wm_isClash_14 {p : Program} {l : Launch} {e : Env} {R : Room} {s : State} {m : MethodId} {args : Array Value} {below : List Frame} {meth : Method} {c : Code} {A : Nat → Prop} {g : MG} {Q : State → Prop} (E : EV p s m args c cX6_isClash 3 RX6) (hR : 1 ≤ R.frames ∧ 22 ≤ R.locals) {res : Int32 × MS} (hq : RTi p l e R s m args below meth c cX6_isClash 3 A g .boolean Q res) (N : Nat) {rec2 : Int32 → MS → Option (Int32 × MS)} (ih2 : ∀ (x1 : Int32) (σ : MS), rec2 x1 σ = some res → CF p l e R s m args below meth c 3 0 0 (MB g A s σ) Q 2 [(0, .ref (mh g)), (1, .int x1)] []) : ∀ (k : Nat) (x1 : Int32) (x2 : Int32) (σ : MS), m_isClash_14 N rec2 k x1 x2 σ = some res → CF p l e R s m args below meth c 3 0 0 (MB g A s σ) Q 14 [(0, .ref (mh g)), (1, .int x1), (2, .int x2)] [] := by
  intro k
  induction k with
  | zero => intro x1 x2 σ h; have h : (none : Option (Int32 × MS)) = some res := h; cases h
  | succ k ih => intro x1 x2 σ h; exact wm_isClash_14b E hR hq N ih2 ih x1 x2 σ h
set_option maxHeartbeats 4000000 in
theorem wm_isClash_2b {p : Program} {l : Launch} {e : Env} {R : Room} {s : State} {m : MethodId} {args : Array Value} {below : List Frame} {meth : Method} {c : Code} {A : Nat → Prop} {g : MG} {Q : State → Prop} (E : EV p s m args c cX6_isClash 3 RX6) (hR : 1 ≤ R.frames ∧ 22 ≤ R.locals) {res : Int32 × MS} (hq : RTi p l e R s m args below meth c cX6_isClash 3 A g .boolean Q res) (N : Nat)  {rec2 : Int32 → MS → Option (Int32 × MS)} (ih2 : ∀ (x1 : Int32) (σ : MS), rec2 x1 σ = some res → CF p l e R s m args below meth c 3 0 0 (MB g A s σ) Q 2 [(0, .ref (mh g)), (1, .int x1)] []) (x1 : Int32) (σ : MS) (h : m_isClash_2b N  rec2 x1 σ = some res) : CF p l e R s m args below meth c 3 0 0 (MB g A s σ) Q 2 [(0, .ref (mh g)), (1, .int x1)] [] := by
  unfold m_isClash_2b at h
  refine cf_iload_n E dX6_isClash_2 1 rfl rfl ?_
  refine cf_aload_n E dX6_isClash_3 0 rfl rfl ?_
  refine mget_0 E dX6_isClash_4 rfl ?_
  refine cf_icmp_ge E dX6_isClash_7 h rfl rfl (fun h => ?_) (fun h => ?_)
  · refine cf_iconst E dX6_isClash_73 ic_0 rfl ?_
    exact mret_i dX6_isClash_74 h nzb0 hq
  · refine cf_iload_n E dX6_isClash_10 1 rfl rfl ?_
    refine cf_iconst E dX6_isClash_11 ic_1 rfl ?_
    refine cf_iadd E dX6_isClash_12 rfl ?_
    refine cf_istore_n E dX6_isClash_13 h (fun x2_1 => [(2, .int x2_1), (0, .ref (mh g)), (1, .int x1)]) (Nat.le_of_ble_eq_true rfl) (fun _ => rfl) rfl (fun x2_1 h => ?_)
    exact CF.sub [1, 2, 0] rfl (wm_isClash_14 E hR hq N ih2 N x1 x2_1 σ h)
set_option maxHeartbeats 4000000 in
theorem wm_isClash_2 {p : Program} {l : Launch} {e : Env} {R : Room} {s : State} {m : MethodId} {args : Array Value} {below : List Frame} {meth : Method} {c : Code} {A : Nat → Prop} {g : MG} {Q : State → Prop} (E : EV p s m args c cX6_isClash 3 RX6) (hR : 1 ≤ R.frames ∧ 22 ≤ R.locals) {res : Int32 × MS} (hq : RTi p l e R s m args below meth c cX6_isClash 3 A g .boolean Q res) (N : Nat)  : ∀ (k : Nat) (x1 : Int32) (σ : MS), m_isClash_2 N  k x1 σ = some res → CF p l e R s m args below meth c 3 0 0 (MB g A s σ) Q 2 [(0, .ref (mh g)), (1, .int x1)] [] := by
  intro k
  induction k with
  | zero => intro x1 σ h; have h : (none : Option (Int32 × MS)) = some res := h; cases h
  | succ k ih => intro x1 σ h; exact wm_isClash_2b E hR hq N  ih x1 σ h
set_option maxHeartbeats 4000000 in
theorem met_isClash (l : Launch) (g : MG) (N : Nat)  (σ : MS) {v : Int32} {σ1 : MS} (h : m_isClash N  σ = some (v, σ1)) : MetMi l g yX6_isClash (ws_ yX6_isClash cX6_isClash 3 (some .boolean)) { frames := 1, cells := 0, slots := 0, locals := 22 } [] σ v σ1 := by
  refine met_mi (lv0 := [(0, .ref (mh g))]) (by decide) rfl ⟨rfl, rfl⟩ (Nat.le_of_ble_eq_true rfl) rfl ?_
  intro p e s m below meth c A Q E hq
  have hR : 1 ≤ ({ frames := 1, cells := 0, slots := 0, locals := 22 } : Room).frames ∧ 22 ≤ ({ frames := 1, cells := 0, slots := 0, locals := 22 } : Room).locals := ⟨Nat.le_refl _, Nat.le_refl _⟩
  unfold m_isClash at h
  refine cf_iconst E dX6_isClash_0 ic_0 rfl ?_
  refine cf_istore_n E dX6_isClash_1 h (fun x1_1 => [(1, .int x1_1), (0, .ref (mh g))]) (Nat.le_of_ble_eq_true rfl) (fun _ => rfl) rfl (fun x1_1 h => ?_)
  exact CF.sub [1, 0] rfl (wm_isClash_2 E hR hq N N x1_1 σ h)
theorem gw_isClash : GoodIn lw_all (wsV RX6 389 RX6 yX6_isClash (ws_ yX6_isClash cX6_isClash 3 (some .boolean))) := lw_V q1994 q1996 qs78 q105 q1997
theorem hd_isClash : yX6_isClash.cls = RX6 ∧ yX6_isClash.cls ≠ "java/lang/invoke/MethodHandle" ∧ yX6_isClash.cls ≠ "java/lang/invoke/VarHandle" ∧ (parseMethodDescriptor yX6_isClash.desc).map (fun d => d.parameters.length) = some 0 := by decide +kernel
theorem mcl_isClash {p : Program} {l : Launch} {e : Env} {R : Room} {s : State} {m : MethodId} {args : Array Value} {below : List Frame} {meth : Method} {c : Code} {nL : Nat} {A : Nat → Prop} {g : MG} {σ : MS} {Q : State → Prop} {pc n : Nat} {lv : List (Nat × Value)} {st : List Value} {cc : ByteArray} {ρ : Type} {res : ρ} (E : EV p s m args c cc nL RX6) {N : Nat}  {kk : Int32 → MS → Option ρ} (hR : 2 ≤ R.frames ∧ 44 ≤ R.locals) (hcat : (st.map fun v => v.category).sum ≤ 8) (d : decode cc pc = .ok (.invokevirtual 389, 3)) (h : bnd (m_isClash N  σ) kk = some res) (hn : pc + 3 = n) (k : ∀ (v : Int32) (σ1 : MS), kk v σ1 = some res → CF p l e R s m args below meth c nL 0 0 (MB g A s σ1) Q n lv (.int v :: st)) : CF p l e R s m args below meth c nL 0 0 (MB g A s σ) Q pc lv (.ref (mh g) :: st) :=
  mcall_i E [] (fun v σ1 ho => met_isClash l g N  σ ho) gw_isClash hd_isClash rfl rfl hR rfl rfl hcat d h hn k
set_option maxHeartbeats 4000000 in
theorem wm_dueFor_13b {p : Program} {l : Launch} {e : Env} {R : Room} {s : State} {m : MethodId} {args : Array Value} {below : List Frame} {meth : Method} {c : Code} {A : Nat → Prop} {g : MG} {Q : State → Prop} (E : EV p s m args c cX6_dueFor 3 RX6) (hR : 0 ≤ R.frames ∧ 0 ≤ R.locals) {res : Int32 × MS} (hq : RTi p l e R s m args below meth c cX6_dueFor 3 A g .int Q res) (N : Nat)  {rec13 : Int32 → Int32 → MS → Option (Int32 × MS)} (ih13 : ∀ (x1 : Int32) (x2 : Int32) (σ : MS), rec13 x1 x2 σ = some res → CF p l e R s m args below meth c 3 0 0 (MB g A s σ) Q 13 [(0, .ref (mh g)), (1, .int x1), (2, .int x2)] []) (x1 : Int32) (x2 : Int32) (σ : MS) (h : m_dueFor_13b N  rec13 x1 x2 σ = some res) : CF p l e R s m args below meth c 3 0 0 (MB g A s σ) Q 13 [(0, .ref (mh g)), (1, .int x1), (2, .int x2)] [] := by
  unfold m_dueFor_13b at h
  refine cf_iload_n E dX6_dueFor_13 2 rfl rfl ?_
  refine cf_aload_n E dX6_dueFor_14 0 rfl rfl ?_
  refine mget_0 E dX6_dueFor_15 rfl ?_
  refine cf_icmp_ge E dX6_dueFor_18 h rfl rfl (fun h => ?_) (fun h => ?_)
  · refine cf_iconst E dX6_dueFor_44 ic_m1 rfl ?_
    exact mret_i dX6_dueFor_45 h rfl hq
  · refine cf_aload_n E dX6_dueFor_21 0 rfl rfl ?_
    refine mget_4 E dX6_dueFor_22 rfl ?_
    refine cf_iload_n E dX6_dueFor_25 2 rfl rfl ?_
    refine mald_4 E dX6_dueFor_26 h rfl (fun h => ?_)
    refine cf_aload_n E dX6_dueFor_27 0 rfl rfl ?_
    refine mget_5 E dX6_dueFor_28 rfl ?_
    refine cf_iload_n E dX6_dueFor_31 1 rfl rfl ?_
    refine mald_5 E dX6_dueFor_32 h rfl (fun h => ?_)
    refine cf_icmp_ne E dX6_dueFor_33 h rfl rfl (fun h => ?_) (fun h => ?_)
    · refine cf_iinc E dX6_dueFor_38 ic_1 h 2 rfl (fun x2_1 => [(2, .int x2_1), (0, .ref (mh g)), (1, .int x1)]) (Nat.le_of_ble_eq_true rfl) (fun _ => rfl) rfl (fun x2_1 h => ?_)
      refine cf_goto E dX6_dueFor_41 rfl ?_
      exact CF.sub [1, 2, 0] rfl (ih13 x1 x2_1 σ h)
    · refine cf_iload_n E dX6_dueFor_36 2 rfl rfl ?_
      exact mret_i dX6_dueFor_37 h rfl hq
set_option maxHeartbeats 4000000 in
theorem wm_dueFor_13 {p : Program} {l : Launch} {e : Env} {R : Room} {s : State} {m : MethodId} {args : Array Value} {below : List Frame} {meth : Method} {c : Code} {A : Nat → Prop} {g : MG} {Q : State → Prop} (E : EV p s m args c cX6_dueFor 3 RX6) (hR : 0 ≤ R.frames ∧ 0 ≤ R.locals) {res : Int32 × MS} (hq : RTi p l e R s m args below meth c cX6_dueFor 3 A g .int Q res) (N : Nat)  : ∀ (k : Nat) (x1 : Int32) (x2 : Int32) (σ : MS), m_dueFor_13 N  k x1 x2 σ = some res → CF p l e R s m args below meth c 3 0 0 (MB g A s σ) Q 13 [(0, .ref (mh g)), (1, .int x1), (2, .int x2)] [] := by
  intro k
  induction k with
  | zero => intro x1 x2 σ h; have h : (none : Option (Int32 × MS)) = some res := h; cases h
  | succ k ih => intro x1 x2 σ h; exact wm_dueFor_13b E hR hq N  ih x1 x2 σ h
set_option maxHeartbeats 4000000 in
theorem met_dueFor (l : Launch) (g : MG) (N : Nat) (x1 : Int32) (σ : MS) {v : Int32} {σ1 : MS} (h : m_dueFor N x1 σ = some (v, σ1)) : MetMi l g yX6_dueFor (ws_ yX6_dueFor cX6_dueFor 3 (some .int)) { frames := 0, cells := 0, slots := 0, locals := 0 } [.int x1] σ v σ1 := by
  refine met_mi (lv0 := [(0, .ref (mh g)), (1, .int x1)]) (by decide) rfl ⟨rfl, rfl⟩ (Nat.le_of_ble_eq_true rfl) rfl ?_
  intro p e s m below meth c A Q E hq
  have hR : 0 ≤ ({ frames := 0, cells := 0, slots := 0, locals := 0 } : Room).frames ∧ 0 ≤ ({ frames := 0, cells := 0, slots := 0, locals := 0 } : Room).locals := ⟨Nat.le_refl _, Nat.le_refl _⟩
  unfold m_dueFor at h
  refine cf_aload_n E dX6_dueFor_0 0 rfl rfl ?_
  refine mget_5 E dX6_dueFor_1 rfl ?_
  refine cf_iload_n E dX6_dueFor_4 1 rfl rfl ?_
  refine mald_5 E dX6_dueFor_5 h rfl (fun h => ?_)
  refine cf_if_ge E dX6_dueFor_6 h rfl rfl (fun h => ?_) (fun h => ?_)
  · refine cf_iconst E dX6_dueFor_11 ic_0 rfl ?_
    refine cf_istore_n E dX6_dueFor_12 h (fun x2_1 => [(2, .int x2_1), (0, .ref (mh g)), (1, .int x1)]) (Nat.le_of_ble_eq_true rfl) (fun _ => rfl) rfl (fun x2_1 h => ?_)
    exact CF.sub [1, 2, 0] rfl (wm_dueFor_13 E hR hq N N x1 x2_1 σ h)
  · refine cf_iconst E dX6_dueFor_9 ic_m1 rfl ?_
    exact mret_i dX6_dueFor_10 h rfl hq
theorem gw_dueFor : GoodIn lw_all (wsV RX6 386 RX6 yX6_dueFor (ws_ yX6_dueFor cX6_dueFor 3 (some .int))) := lw_V q1998 q2000 qs79 q105 q2001
theorem hd_dueFor : yX6_dueFor.cls = RX6 ∧ yX6_dueFor.cls ≠ "java/lang/invoke/MethodHandle" ∧ yX6_dueFor.cls ≠ "java/lang/invoke/VarHandle" ∧ (parseMethodDescriptor yX6_dueFor.desc).map (fun d => d.parameters.length) = some 1 := by decide +kernel
theorem mcl_dueFor {p : Program} {l : Launch} {e : Env} {R : Room} {s : State} {m : MethodId} {args : Array Value} {below : List Frame} {meth : Method} {c : Code} {nL : Nat} {A : Nat → Prop} {g : MG} {σ : MS} {Q : State → Prop} {pc n : Nat} {lv : List (Nat × Value)} {st : List Value} {cc : ByteArray} {ρ : Type} {res : ρ} (E : EV p s m args c cc nL RX6) {N : Nat} {x1 : Int32} {kk : Int32 → MS → Option ρ} (hR : 1 ≤ R.frames ∧ 22 ≤ R.locals) (hcat : (st.map fun v => v.category).sum ≤ 8) (d : decode cc pc = .ok (.invokevirtual 386, 3)) (h : bnd (m_dueFor N x1 σ) kk = some res) (hn : pc + 3 = n) (k : ∀ (v : Int32) (σ1 : MS), kk v σ1 = some res → CF p l e R s m args below meth c nL 0 0 (MB g A s σ1) Q n lv (.int v :: st)) : CF p l e R s m args below meth c nL 0 0 (MB g A s σ) Q pc lv (.int x1 :: .ref (mh g) :: st) :=
  mcall_i E [.int x1] (fun v σ1 ho => met_dueFor l g N x1 σ ho) gw_dueFor hd_dueFor rfl rfl hR rfl rfl hcat d h hn k
set_option maxHeartbeats 4000000 in
theorem wm_isRing_13b {p : Program} {l : Launch} {e : Env} {R : Room} {s : State} {m : MethodId} {args : Array Value} {below : List Frame} {meth : Method} {c : Code} {A : Nat → Prop} {g : MG} {Q : State → Prop} (E : EV p s m args c cX6_isRing 3 RX6) (hR : 1 ≤ R.frames ∧ 22 ≤ R.locals) {res : Int32 × MS} (hq : RTi p l e R s m args below meth c cX6_isRing 3 A g .boolean Q res) (N : Nat)  {rec13 : Int32 → Int32 → MS → Option (Int32 × MS)} (ih13 : ∀ (x1 : Int32) (x2 : Int32) (σ : MS), rec13 x1 x2 σ = some res → CF p l e R s m args below meth c 3 0 0 (MB g A s σ) Q 13 [(0, .ref (mh g)), (1, .int x1), (2, .int x2)] []) (x1 : Int32) (x2 : Int32) (σ : MS) (h : m_isRing_13b N  rec13 x1 x2 σ = some res) : CF p l e R s m args below meth c 3 0 0 (MB g A s σ) Q 13 [(0, .ref (mh g)), (1, .int x1), (2, .int x2)] [] := by
  unfold m_isRing_13b at h
  refine cf_iload_n E dX6_isRing_13 2 rfl rfl ?_
  refine cf_iload_n E dX6_isRing_14 1 rfl rfl ?_
  refine cf_icmp_le E dX6_isRing_15 h rfl rfl (fun h => ?_) (fun h => ?_)
  · refine cf_iload_n E dX6_isRing_27 2 rfl rfl ?_
    refine cf_iload_n E dX6_isRing_28 1 rfl rfl ?_
    refine cf_icmp_ne E dX6_isRing_29 h rfl rfl (fun h => ?_) (fun h => ?_)
    · refine cf_iconst E dX6_isRing_36 ic_0 rfl ?_
      exact mret_i dX6_isRing_37 h nzb0 hq
    · refine cf_iconst E dX6_isRing_32 ic_1 rfl ?_
      refine cf_goto E dX6_isRing_33 rfl ?_
      exact mret_i dX6_isRing_37 h nzb1 hq
  · refine cf_aload_n E dX6_isRing_18 0 rfl rfl ?_
    refine cf_iload_n E dX6_isRing_19 2 rfl rfl ?_
    refine mcl_dueFor E (rmle hR rfl rfl) (Nat.le_of_ble_eq_true rfl) dX6_isRing_20 h rfl (fun v_2 s_1 h => ?_)
    refine cf_istore_n E dX6_isRing_23 h (fun x2_3 => [(2, .int x2_3), (0, .ref (mh g)), (1, .int x1)]) (Nat.le_of_ble_eq_true rfl) (fun _ => rfl) rfl (fun x2_3 h => ?_)
    refine cf_goto E dX6_isRing_24 rfl ?_
    exact CF.sub [1, 2, 0] rfl (ih13 x1 x2_3 s_1 h)
set_option maxHeartbeats 4000000 in
theorem wm_isRing_13 {p : Program} {l : Launch} {e : Env} {R : Room} {s : State} {m : MethodId} {args : Array Value} {below : List Frame} {meth : Method} {c : Code} {A : Nat → Prop} {g : MG} {Q : State → Prop} (E : EV p s m args c cX6_isRing 3 RX6) (hR : 1 ≤ R.frames ∧ 22 ≤ R.locals) {res : Int32 × MS} (hq : RTi p l e R s m args below meth c cX6_isRing 3 A g .boolean Q res) (N : Nat)  : ∀ (k : Nat) (x1 : Int32) (x2 : Int32) (σ : MS), m_isRing_13 N  k x1 x2 σ = some res → CF p l e R s m args below meth c 3 0 0 (MB g A s σ) Q 13 [(0, .ref (mh g)), (1, .int x1), (2, .int x2)] [] := by
  intro k
  induction k with
  | zero => intro x1 x2 σ h; have h : (none : Option (Int32 × MS)) = some res := h; cases h
  | succ k ih => intro x1 x2 σ h; exact wm_isRing_13b E hR hq N  ih x1 x2 σ h
set_option maxHeartbeats 4000000 in
theorem met_isRing (l : Launch) (g : MG) (N : Nat) (x1 : Int32) (σ : MS) {v : Int32} {σ1 : MS} (h : m_isRing N x1 σ = some (v, σ1)) : MetMi l g yX6_isRing (ws_ yX6_isRing cX6_isRing 3 (some .boolean)) { frames := 1, cells := 0, slots := 0, locals := 22 } [.int x1] σ v σ1 := by
  refine met_mi (lv0 := [(0, .ref (mh g)), (1, .int x1)]) (by decide) rfl ⟨rfl, rfl⟩ (Nat.le_of_ble_eq_true rfl) rfl ?_
  intro p e s m below meth c A Q E hq
  have hR : 1 ≤ ({ frames := 1, cells := 0, slots := 0, locals := 22 } : Room).frames ∧ 22 ≤ ({ frames := 1, cells := 0, slots := 0, locals := 22 } : Room).locals := ⟨Nat.le_refl _, Nat.le_refl _⟩
  unfold m_isRing at h
  refine cf_aload_n E dX6_isRing_0 0 rfl rfl ?_
  refine cf_iload_n E dX6_isRing_1 1 rfl rfl ?_
  refine mcl_dueFor E (rmle hR rfl rfl) (Nat.le_of_ble_eq_true rfl) dX6_isRing_2 h rfl (fun v_2 s_1 h => ?_)
  refine cf_istore_n E dX6_isRing_5 h (fun x2_3 => [(2, .int x2_3), (0, .ref (mh g)), (1, .int x1)]) (Nat.le_of_ble_eq_true rfl) (fun _ => rfl) rfl (fun x2_3 h => ?_)
  refine cf_iload_n E dX6_isRing_6 0 rfl rfl ?_
  refine cf_iload_n E dX6_isRing_7 2 rfl rfl ?_
  refine cf_icmp_ne E dX6_isRing_8 h rfl rfl (fun h => ?_) (fun h => ?_)
  · exact CF.sub [1, 2, 0] rfl (wm_isRing_13 E hR hq N N x1 x2_3 s_1 h)
  · refine cf_iconst E dX6_isRing_11 ic_0 rfl ?_
    exact mret_i dX6_isRing_12 h nzb0 hq
theorem gw_isRing : GoodIn lw_all (wsV RX6 392 RX6 yX6_isRing (ws_ yX6_isRing cX6_isRing 3 (some .boolean))) := lw_V q2002 q2004 qs80 q105 q2005
theorem hd_isRing : yX6_isRing.cls = RX6 ∧ yX6_isRing.cls ≠ "java/lang/invoke/MethodHandle" ∧ yX6_isRing.cls ≠ "java/lang/invoke/VarHandle" ∧ (parseMethodDescriptor yX6_isRing.desc).map (fun d => d.parameters.length) = some 1 := by decide +kernel
theorem mcl_isRing {p : Program} {l : Launch} {e : Env} {R : Room} {s : State} {m : MethodId} {args : Array Value} {below : List Frame} {meth : Method} {c : Code} {nL : Nat} {A : Nat → Prop} {g : MG} {σ : MS} {Q : State → Prop} {pc n : Nat} {lv : List (Nat × Value)} {st : List Value} {cc : ByteArray} {ρ : Type} {res : ρ} (E : EV p s m args c cc nL RX6) {N : Nat} {x1 : Int32} {kk : Int32 → MS → Option ρ} (hR : 2 ≤ R.frames ∧ 44 ≤ R.locals) (hcat : (st.map fun v => v.category).sum ≤ 8) (d : decode cc pc = .ok (.invokevirtual 392, 3)) (h : bnd (m_isRing N x1 σ) kk = some res) (hn : pc + 3 = n) (k : ∀ (v : Int32) (σ1 : MS), kk v σ1 = some res → CF p l e R s m args below meth c nL 0 0 (MB g A s σ1) Q n lv (.int v :: st)) : CF p l e R s m args below meth c nL 0 0 (MB g A s σ) Q pc lv (.int x1 :: .ref (mh g) :: st) :=
  mcall_i E [.int x1] (fun v σ1 ho => met_isRing l g N x1 σ ho) gw_isRing hd_isRing rfl rfl hR rfl rfl hcat d h hn k
set_option maxHeartbeats 4000000 in
theorem wm_back_61 {p : Program} {l : Launch} {e : Env} {R : Room} {s : State} {m : MethodId} {args : Array Value} {below : List Frame} {meth : Method} {c : Code} {A : Nat → Prop} {g : MG} {Q : State → Prop} (E : EV p s m args c cX6_back 3 RX6) (hR : 2 ≤ R.frames ∧ 44 ≤ R.locals) {res : Int32 × MS} (hq : RTi p l e R s m args below meth c cX6_back 3 A g .int Q res) (N : Nat) {rec14 : Int32 → Int32 → MS → Option (Int32 × MS)} (ih14 : ∀ (x1 : Int32) (x2 : Int32) (σ : MS), rec14 x1 x2 σ = some res → CF p l e R s m args below meth c 3 0 0 (MB g A s σ) Q 14 [(0, .ref (mh g)), (1, .int x1), (2, .int x2)] []) (x2 : Int32) (z0 : Int32) (z1 : Int32) (σ : MS) (h : m_back_61 N rec14 x2 z0 z1 σ = some res) : CF p l e R s m args below meth c 3 0 0 (MB g A s σ) Q 61 [(0, .ref (mh g)), (2, .int x2)] [.int z0, .int z1] := by
  unfold m_back_61 at h
  refine cf_isub E dX6_back_61 rfl ?_
  refine cf_istore_n E dX6_back_62 h (fun x1_1 => [(1, .int x1_1), (0, .ref (mh g)), (2, .int x2)]) (Nat.le_of_ble_eq_true rfl) (fun _ => rfl) rfl (fun x1_1 h => ?_)
  refine cf_iinc E dX6_back_63 ic_1 h 2 rfl (fun x2_2 => [(2, .int x2_2), (1, .int x1_1), (0, .ref (mh g))]) (Nat.le_of_ble_eq_true rfl) (fun _ => rfl) rfl (fun x2_2 h => ?_)
  refine cf_goto E dX6_back_66 rfl ?_
  exact CF.sub [2, 1, 0] rfl (ih14 x1_1 x2_2 σ h)
set_option maxHeartbeats 4000000 in
theorem wm_back_45 {p : Program} {l : Launch} {e : Env} {R : Room} {s : State} {m : MethodId} {args : Array Value} {below : List Frame} {meth : Method} {c : Code} {A : Nat → Prop} {g : MG} {Q : State → Prop} (E : EV p s m args c cX6_back 3 RX6) (hR : 2 ≤ R.frames ∧ 44 ≤ R.locals) {res : Int32 × MS} (hq : RTi p l e R s m args below meth c cX6_back 3 A g .int Q res) (N : Nat) {rec14 : Int32 → Int32 → MS → Option (Int32 × MS)} (ih14 : ∀ (x1 : Int32) (x2 : Int32) (σ : MS), rec14 x1 x2 σ = some res → CF p l e R s m args below meth c 3 0 0 (MB g A s σ) Q 14 [(0, .ref (mh g)), (1, .int x1), (2, .int x2)] []) (x2 : Int32) (z0 : Int32) (z1 : Int32) (σ : MS) (h : m_back_45 N rec14 x2 z0 z1 σ = some res) : CF p l e R s m args below meth c 3 0 0 (MB g A s σ) Q 45 [(0, .ref (mh g)), (2, .int x2)] [.int z0, .int z1] := by
  unfold m_back_45 at h
  refine cf_iadd E dX6_back_45 rfl ?_
  refine cf_istore_n E dX6_back_46 h (fun x1_1 => [(1, .int x1_1), (0, .ref (mh g)), (2, .int x2)]) (Nat.le_of_ble_eq_true rfl) (fun _ => rfl) rfl (fun x1_1 h => ?_)
  refine cf_iload_n E dX6_back_47 0 rfl rfl ?_
  refine cf_aload_n E dX6_back_48 1 rfl rfl ?_
  refine cf_iload_n E dX6_back_49 2 rfl rfl ?_
  refine mcl_isRing E (rmle hR rfl rfl) (Nat.le_of_ble_eq_true rfl) dX6_back_50 h rfl (fun v_3 s_2 h => ?_)
  refine cf_if_eq E dX6_back_53 h rfl rfl (fun h => ?_) (fun h => ?_)
  · refine cf_iconst E dX6_back_60 ic_0 rfl ?_
    exact CF.sub [1, 2] rfl (wm_back_61 E hR hq N ih14 x2 (0 : Int32) x1_1 s_2 h)
  · refine cf_iconst E dX6_back_56 ic_1 rfl ?_
    refine cf_goto E dX6_back_57 rfl ?_
    exact CF.sub [1, 2] rfl (wm_back_61 E hR hq N ih14 x2 (1 : Int32) x1_1 s_2 h)
set_option maxHeartbeats 4000000 in
theorem wm_back_44 {p : Program} {l : Launch} {e : Env} {R : Room} {s : State} {m : MethodId} {args : Array Value} {below : List Frame} {meth : Method} {c : Code} {A : Nat → Prop} {g : MG} {Q : State → Prop} (E : EV p s m args c cX6_back 3 RX6) (hR : 2 ≤ R.frames ∧ 44 ≤ R.locals) {res : Int32 × MS} (hq : RTi p l e R s m args below meth c cX6_back 3 A g .int Q res) (N : Nat) {rec14 : Int32 → Int32 → MS → Option (Int32 × MS)} (ih14 : ∀ (x1 : Int32) (x2 : Int32) (σ : MS), rec14 x1 x2 σ = some res → CF p l e R s m args below meth c 3 0 0 (MB g A s σ) Q 14 [(0, .ref (mh g)), (1, .int x1), (2, .int x2)] []) (x2 : Int32) (z0 : Int32) (σ : MS) (h : m_back_44 N rec14 x2 z0 σ = some res) : CF p l e R s m args below meth c 3 0 0 (MB g A s σ) Q 44 [(0, .ref (mh g)), (2, .int x2)] [.int z0] := by
  unfold m_back_44 at h
  refine cf_iconst E dX6_back_44 ic_0 rfl ?_
  exact CF.sub [0, 1] rfl (wm_back_45 E hR hq N ih14 x2 (0 : Int32) z0 σ h)
set_option maxHeartbeats 4000000 in
theorem wm_back_14b {p : Program} {l : Launch} {e : Env} {R : Room} {s : State} {m : MethodId} {args : Array Value} {below : List Frame} {meth : Method} {c : Code} {A : Nat → Prop} {g : MG} {Q : State → Prop} (E : EV p s m args c cX6_back 3 RX6) (hR : 2 ≤ R.frames ∧ 44 ≤ R.locals) {res : Int32 × MS} (hq : RTi p l e R s m args below meth c cX6_back 3 A g .int Q res) (N : Nat)  {rec14 : Int32 → Int32 → MS → Option (Int32 × MS)} (ih14 : ∀ (x1 : Int32) (x2 : Int32) (σ : MS), rec14 x1 x2 σ = some res → CF p l e R s m args below meth c 3 0 0 (MB g A s σ) Q 14 [(0, .ref (mh g)), (1, .int x1), (2, .int x2)] []) (x1 : Int32) (x2 : Int32) (σ : MS) (h : m_back_14b N  rec14 x1 x2 σ = some res) : CF p l e R s m args below meth c 3 0 0 (MB g A s σ) Q 14 [(0, .ref (mh g)), (1, .int x1), (2, .int x2)] [] := by
  unfold m_back_14b at h
  refine cf_iload_n E dX6_back_14 2 rfl rfl ?_
  refine cf_aload_n E dX6_back_15 0 rfl rfl ?_
  refine mget_0 E dX6_back_16 rfl ?_
  refine cf_icmp_ge E dX6_back_19 h rfl rfl (fun h => ?_) (fun h => ?_)
  · refine cf_iload_n E dX6_back_69 1 rfl rfl ?_
    exact mret_i dX6_back_70 h rfl hq
  · refine cf_iload_n E dX6_back_22 1 rfl rfl ?_
    refine cf_aload_n E dX6_back_23 0 rfl rfl ?_
    refine cf_iload_n E dX6_back_24 2 rfl rfl ?_
    refine mcl_dueFor E (rmle hR rfl rfl) (Nat.le_of_ble_eq_true rfl) dX6_back_25 h rfl (fun v_2 s_1 h => ?_)
    refine cf_if_lt E dX6_back_28 h rfl rfl (fun h => ?_) (fun h => ?_)
    · exact CF.sub [0, 2] rfl (wm_back_44 E hR hq N ih14 x2 x1 s_1 h)
    · refine cf_aload_n E dX6_back_31 0 rfl rfl ?_
      refine cf_iload_n E dX6_back_32 2 rfl rfl ?_
      refine mcl_dueFor E (rmle hR rfl rfl) (Nat.le_of_ble_eq_true rfl) dX6_back_33 h rfl (fun v_4 s_3 h => ?_)
      refine cf_iload_n E dX6_back_36 2 rfl rfl ?_
      refine cf_icmp_eq E dX6_back_37 h rfl rfl (fun h => ?_) (fun h => ?_)
      · exact CF.sub [0, 2] rfl (wm_back_44 E hR hq N ih14 x2 x1 s_3 h)
      · refine cf_iconst E dX6_back_40 ic_1 rfl ?_
        refine cf_goto E dX6_back_41 rfl ?_
        exact CF.sub [0, 2] rfl (wm_back_45 E hR hq N ih14 x2 (1 : Int32) x1 s_3 h)
set_option maxHeartbeats 4000000 in
theorem wm_back_14 {p : Program} {l : Launch} {e : Env} {R : Room} {s : State} {m : MethodId} {args : Array Value} {below : List Frame} {meth : Method} {c : Code} {A : Nat → Prop} {g : MG} {Q : State → Prop} (E : EV p s m args c cX6_back 3 RX6) (hR : 2 ≤ R.frames ∧ 44 ≤ R.locals) {res : Int32 × MS} (hq : RTi p l e R s m args below meth c cX6_back 3 A g .int Q res) (N : Nat)  : ∀ (k : Nat) (x1 : Int32) (x2 : Int32) (σ : MS), m_back_14 N  k x1 x2 σ = some res → CF p l e R s m args below meth c 3 0 0 (MB g A s σ) Q 14 [(0, .ref (mh g)), (1, .int x1), (2, .int x2)] [] := by
  intro k
  induction k with
  | zero => intro x1 x2 σ h; have h : (none : Option (Int32 × MS)) = some res := h; cases h
  | succ k ih => intro x1 x2 σ h; exact wm_back_14b E hR hq N  ih x1 x2 σ h
set_option maxHeartbeats 4000000 in
theorem met_back (l : Launch) (g : MG) (N : Nat)  (σ : MS) {v : Int32} {σ1 : MS} (h : m_back N  σ = some (v, σ1)) : MetMi l g yX6_back (ws_ yX6_back cX6_back 3 (some .int)) { frames := 2, cells := 0, slots := 0, locals := 44 } [] σ v σ1 := by
  refine met_mi (lv0 := [(0, .ref (mh g))]) (by decide) rfl ⟨rfl, rfl⟩ (Nat.le_of_ble_eq_true rfl) rfl ?_
  intro p e s m below meth c A Q E hq
  have hR : 2 ≤ ({ frames := 2, cells := 0, slots := 0, locals := 44 } : Room).frames ∧ 44 ≤ ({ frames := 2, cells := 0, slots := 0, locals := 44 } : Room).locals := ⟨Nat.le_refl _, Nat.le_refl _⟩
  unfold m_back at h
  refine cf_aload_n E dX6_back_0 0 rfl rfl ?_
  refine mcl_isClash E (rmle hR rfl rfl) (Nat.le_of_ble_eq_true rfl) dX6_back_1 h rfl (fun v_2 s_1 h => ?_)
  refine cf_if_eq E dX6_back_4 h rfl rfl (fun h => ?_) (fun h => ?_)
  · refine cf_iconst E dX6_back_10 ic_0 rfl ?_
    refine cf_istore_n E dX6_back_11 h (fun x1_3 => [(1, .int x1_3), (0, .ref (mh g))]) (Nat.le_of_ble_eq_true rfl) (fun _ => rfl) rfl (fun x1_3 h => ?_)
    refine cf_iconst E dX6_back_12 ic_0 rfl ?_
    refine cf_istore_n E dX6_back_13 h (fun x2_4 => [(2, .int x2_4), (1, .int x1_3), (0, .ref (mh g))]) (Nat.le_of_ble_eq_true rfl) (fun _ => rfl) rfl (fun x2_4 h => ?_)
    exact CF.sub [2, 1, 0] rfl (wm_back_14 E hR hq N N x1_3 x2_4 s_1 h)
  · refine cf_bipush E dX6_back_7 bp_m5 rfl ?_
    exact mret_i dX6_back_9 h rfl hq

set_option maxHeartbeats 4000000 in
theorem met_gustedBy (l : Launch) (g : MG) (N : Nat) (x1 : Int32) (σ : MS) {v : Int32} {σ1 : MS} (h : m_gustedBy N x1 σ = some (v, σ1)) : MetMi l g yX6_gustedBy (ws_ yX6_gustedBy cX6_gustedBy 4 (some .int)) { frames := 5, cells := 0, slots := 0, locals := 121 } [.int x1] σ v σ1 := by
  refine met_mi (lv0 := [(0, .ref (mh g)), (1, .int x1)]) (by decide) rfl ⟨rfl, rfl⟩ (Nat.le_of_ble_eq_true rfl) rfl ?_
  intro p e s m below meth c A Q E hq
  have hR : 5 ≤ ({ frames := 5, cells := 0, slots := 0, locals := 121 } : Room).frames ∧ 121 ≤ ({ frames := 5, cells := 0, slots := 0, locals := 121 } : Room).locals := ⟨Nat.le_refl _, Nat.le_refl _⟩
  unfold m_gustedBy at h
  refine cf_aload_n E dX6_gustedBy_0 0 rfl rfl ?_
  refine mcl_save E (rmle hR rfl rfl) (Nat.le_of_ble_eq_true rfl) dX6_gustedBy_1 h rfl (fun s_1 h => ?_)
  refine cf_aload_n E dX6_gustedBy_4 0 rfl rfl ?_
  refine cf_iload_n E dX6_gustedBy_5 1 rfl rfl ?_
  refine mcl_goGust E (rmle hR rfl rfl) (Nat.le_of_ble_eq_true rfl) dX6_gustedBy_6 h rfl (fun v_3 s_2 h => ?_)
  refine cf_istore_n E dX6_gustedBy_9 h (fun x2_4 => [(2, .int x2_4), (0, .ref (mh g)), (1, .int x1)]) (Nat.le_of_ble_eq_true rfl) (fun _ => rfl) rfl (fun x2_4 h => ?_)
  refine cf_aload_n E dX6_gustedBy_10 1 rfl rfl ?_
  refine cf_iconst E dX6_gustedBy_11 ic_m1 rfl ?_
  refine mcl_todayOf E (rmle hR rfl rfl) (Nat.le_of_ble_eq_true rfl) dX6_gustedBy_12 h rfl (fun v_6 s_5 h => ?_)
  refine cf_istore_n E dX6_gustedBy_15 h (fun x3_7 => [(3, .int x3_7), (2, .int x2_4), (0, .ref (mh g)), (1, .int x1)]) (Nat.le_of_ble_eq_true rfl) (fun _ => rfl) rfl (fun x3_7 h => ?_)
  refine cf_aload_n E dX6_gustedBy_16 2 rfl rfl ?_
  refine mcl_putBack E (rmle hR rfl rfl) (Nat.le_of_ble_eq_true rfl) dX6_gustedBy_17 h rfl (fun s_8 h => ?_)
  refine cf_iload_n E dX6_gustedBy_20 0 rfl rfl ?_
  exact mret_i dX6_gustedBy_21 h rfl hq
theorem gw_gustedBy : GoodIn lw_all (wsV RX6 395 RX6 yX6_gustedBy (ws_ yX6_gustedBy cX6_gustedBy 4 (some .int))) := lw_V q2010 q2012 qs81 q105 q2013
theorem hd_gustedBy : yX6_gustedBy.cls = RX6 ∧ yX6_gustedBy.cls ≠ "java/lang/invoke/MethodHandle" ∧ yX6_gustedBy.cls ≠ "java/lang/invoke/VarHandle" ∧ (parseMethodDescriptor yX6_gustedBy.desc).map (fun d => d.parameters.length) = some 1 := by decide +kernel
theorem mcl_gustedBy {p : Program} {l : Launch} {e : Env} {R : Room} {s : State} {m : MethodId} {args : Array Value} {below : List Frame} {meth : Method} {c : Code} {nL : Nat} {A : Nat → Prop} {g : MG} {σ : MS} {Q : State → Prop} {pc n : Nat} {lv : List (Nat × Value)} {st : List Value} {cc : ByteArray} {ρ : Type} {res : ρ} (E : EV p s m args c cc nL RX6) {N : Nat} {x1 : Int32} {kk : Int32 → MS → Option ρ} (hR : 6 ≤ R.frames ∧ 144 ≤ R.locals) (hcat : (st.map fun v => v.category).sum ≤ 8) (d : decode cc pc = .ok (.invokevirtual 395, 3)) (h : bnd (m_gustedBy N x1 σ) kk = some res) (hn : pc + 3 = n) (k : ∀ (v : Int32) (σ1 : MS), kk v σ1 = some res → CF p l e R s m args below meth c nL 0 0 (MB g A s σ1) Q n lv (.int v :: st)) : CF p l e R s m args below meth c nL 0 0 (MB g A s σ) Q pc lv (.int x1 :: .ref (mh g) :: st) :=
  mcall_i E [.int x1] (fun v σ1 ho => met_gustedBy l g N x1 σ ho) gw_gustedBy hd_gustedBy rfl rfl hR rfl rfl hcat d h hn k
set_option maxHeartbeats 4000000 in
theorem met_gusted (l : Launch) (g : MG) (N : Nat) (x1 : Int32) (σ : MS) {v : Int32} {σ1 : MS} (h : m_gusted N x1 σ = some (v, σ1)) : MetMi l g yX6_gusted (ws_ yX6_gusted cX6_gusted 2 (some .int)) { frames := 6, cells := 0, slots := 0, locals := 144 } [.int x1] σ v σ1 := by
  refine met_mi (lv0 := [(0, .ref (mh g)), (1, .int x1)]) (by decide) rfl ⟨rfl, rfl⟩ (Nat.le_of_ble_eq_true rfl) rfl ?_
  intro p e s m below meth c A Q E hq
  have hR : 6 ≤ ({ frames := 6, cells := 0, slots := 0, locals := 144 } : Room).frames ∧ 144 ≤ ({ frames := 6, cells := 0, slots := 0, locals := 144 } : Room).locals := ⟨Nat.le_refl _, Nat.le_refl _⟩
  unfold m_gusted at h
  refine cf_aload_n E dX6_gusted_0 0 rfl rfl ?_
  refine cf_iload_n E dX6_gusted_1 1 rfl rfl ?_
  refine cf_iconst E dX6_gusted_2 ic_0 rfl ?_
  refine cf_iconst E dX6_gusted_3 ic_5 rfl ?_
  refine mcl_in E (rmle hR rfl rfl) (Nat.le_of_ble_eq_true rfl) dX6_gusted_4 h rfl (fun v_2 s_1 h => ?_)
  refine cf_if_eq E dX6_gusted_7 h rfl rfl (fun h => ?_) (fun h => ?_)
  · refine cf_bipush E dX6_gusted_18 bp_m2 rfl ?_
    exact mret_i dX6_gusted_20 h rfl hq
  · refine cf_aload_n E dX6_gusted_10 0 rfl rfl ?_
    refine cf_iload_n E dX6_gusted_11 1 rfl rfl ?_
    refine mcl_gustedBy E (rmle hR rfl rfl) (Nat.le_of_ble_eq_true rfl) dX6_gusted_12 h rfl (fun v_4 s_3 h => ?_)
    refine cf_goto E dX6_gusted_15 rfl ?_
    exact mret_i dX6_gusted_20 h rfl hq

set_option maxHeartbeats 4000000 in
theorem wm_lucky_36 {p : Program} {l : Launch} {e : Env} {R : Room} {s : State} {m : MethodId} {args : Array Value} {below : List Frame} {meth : Method} {c : Code} {A : Nat → Prop} {g : MG} {Q : State → Prop} (E : EV p s m args c cX6_lucky 5 RX6) (hR : 6 ≤ R.frames ∧ 144 ≤ R.locals) {res : Int32 × MS} (hq : RTi p l e R s m args below meth c cX6_lucky 5 A g .int Q res) (N : Nat) {rec7 : Int32 → Int32 → Int32 → MS → Option (Int32 × MS)} (ih7 : ∀ (x1 : Int32) (x2 : Int32) (x3 : Int32) (σ : MS), rec7 x1 x2 x3 σ = some res → CF p l e R s m args below meth c 5 0 0 (MB g A s σ) Q 7 [(0, .ref (mh g)), (1, .int x1), (2, .int x2), (3, .int x3)] []) (x1 : Int32) (x2 : Int32) (x3 : Int32) (σ : MS) (h : m_lucky_36 N rec7 x1 x2 x3 σ = some res) : CF p l e R s m args below meth c 5 0 0 (MB g A s σ) Q 36 [(0, .ref (mh g)), (1, .int x1), (2, .int x2), (3, .int x3)] [] := by
  unfold m_lucky_36 at h
  refine cf_iinc E dX6_lucky_36 ic_1 h 3 rfl (fun x3_1 => [(3, .int x3_1), (0, .ref (mh g)), (1, .int x1), (2, .int x2)]) (Nat.le_of_ble_eq_true rfl) (fun _ => rfl) rfl (fun x3_1 h => ?_)
  refine cf_goto E dX6_lucky_39 rfl ?_
  exact CF.sub [1, 2, 3, 0] rfl (ih7 x1 x2 x3_1 σ h)
set_option maxHeartbeats 4000000 in
theorem wm_lucky_7b {p : Program} {l : Launch} {e : Env} {R : Room} {s : State} {m : MethodId} {args : Array Value} {below : List Frame} {meth : Method} {c : Code} {A : Nat → Prop} {g : MG} {Q : State → Prop} (E : EV p s m args c cX6_lucky 5 RX6) (hR : 6 ≤ R.frames ∧ 144 ≤ R.locals) {res : Int32 × MS} (hq : RTi p l e R s m args below meth c cX6_lucky 5 A g .int Q res) (N : Nat)  {rec7 : Int32 → Int32 → Int32 → MS → Option (Int32 × MS)} (ih7 : ∀ (x1 : Int32) (x2 : Int32) (x3 : Int32) (σ : MS), rec7 x1 x2 x3 σ = some res → CF p l e R s m args below meth c 5 0 0 (MB g A s σ) Q 7 [(0, .ref (mh g)), (1, .int x1), (2, .int x2), (3, .int x3)] []) (x1 : Int32) (x2 : Int32) (x3 : Int32) (σ : MS) (h : m_lucky_7b N  rec7 x1 x2 x3 σ = some res) : CF p l e R s m args below meth c 5 0 0 (MB g A s σ) Q 7 [(0, .ref (mh g)), (1, .int x1), (2, .int x2), (3, .int x3)] [] := by
  unfold m_lucky_7b at h
  refine cf_iload_n E dX6_lucky_7 3 rfl rfl ?_
  refine cf_aload_n E dX6_lucky_8 0 rfl rfl ?_
  refine mget_0 E dX6_lucky_9 rfl ?_
  refine cf_icmp_ge E dX6_lucky_12 h rfl rfl (fun h => ?_) (fun h => ?_)
  · refine cf_iload_n E dX6_lucky_42 1 rfl rfl ?_
    exact mret_i dX6_lucky_43 h rfl hq
  · refine cf_aload_n E dX6_lucky_15 0 rfl rfl ?_
    refine cf_iload_n E dX6_lucky_16 3 rfl rfl ?_
    refine mcl_gustedBy E (rmle hR rfl rfl) (Nat.le_of_ble_eq_true rfl) dX6_lucky_17 h rfl (fun v_2 s_1 h => ?_)
    refine cf_istore E dX6_lucky_20 h (fun x4_3 => [(4, .int x4_3), (0, .ref (mh g)), (1, .int x1), (2, .int x2), (3, .int x3)]) (Nat.le_of_ble_eq_true rfl) (fun _ => rfl) rfl (fun x4_3 h => ?_)
    refine cf_iload E dX6_lucky_22 0 rfl rfl ?_
    refine cf_iload_n E dX6_lucky_24 3 rfl rfl ?_
    refine cf_icmp_gt E dX6_lucky_25 h rfl rfl (fun h => ?_) (fun h => ?_)
    · refine cf_iload_n E dX6_lucky_31 4 rfl rfl ?_
      refine cf_istore_n E dX6_lucky_32 h (fun x1_4 => [(1, .int x1_4), (4, .int x4_3), (0, .ref (mh g)), (2, .int x2), (3, .int x3)]) (Nat.le_of_ble_eq_true rfl) (fun _ => rfl) rfl (fun x1_4 h => ?_)
      refine cf_iload E dX6_lucky_33 1 rfl rfl ?_
      refine cf_istore_n E dX6_lucky_35 h (fun x2_5 => [(2, .int x2_5), (1, .int x1_4), (4, .int x4_3), (0, .ref (mh g)), (3, .int x3)]) (Nat.le_of_ble_eq_true rfl) (fun _ => rfl) rfl (fun x2_5 h => ?_)
      exact CF.sub [3, 1, 0, 4] rfl (wm_lucky_36 E hR hq N ih7 x1_4 x2_5 x3 s_1 h)
    · refine cf_goto E dX6_lucky_28 rfl ?_
      exact CF.sub [1, 2, 3, 4] rfl (wm_lucky_36 E hR hq N ih7 x1 x2 x3 s_1 h)
set_option maxHeartbeats 4000000 in
theorem wm_lucky_7 {p : Program} {l : Launch} {e : Env} {R : Room} {s : State} {m : MethodId} {args : Array Value} {below : List Frame} {meth : Method} {c : Code} {A : Nat → Prop} {g : MG} {Q : State → Prop} (E : EV p s m args c cX6_lucky 5 RX6) (hR : 6 ≤ R.frames ∧ 144 ≤ R.locals) {res : Int32 × MS} (hq : RTi p l e R s m args below meth c cX6_lucky 5 A g .int Q res) (N : Nat)  : ∀ (k : Nat) (x1 : Int32) (x2 : Int32) (x3 : Int32) (σ : MS), m_lucky_7 N  k x1 x2 x3 σ = some res → CF p l e R s m args below meth c 5 0 0 (MB g A s σ) Q 7 [(0, .ref (mh g)), (1, .int x1), (2, .int x2), (3, .int x3)] [] := by
  intro k
  induction k with
  | zero => intro x1 x2 x3 σ h; have h : (none : Option (Int32 × MS)) = some res := h; cases h
  | succ k ih => intro x1 x2 x3 σ h; exact wm_lucky_7b E hR hq N  ih x1 x2 x3 σ h
set_option maxHeartbeats 4000000 in
theorem met_lucky (l : Launch) (g : MG) (N : Nat)  (σ : MS) {v : Int32} {σ1 : MS} (h : m_lucky N  σ = some (v, σ1)) : MetMi l g yX6_lucky (ws_ yX6_lucky cX6_lucky 5 (some .int)) { frames := 6, cells := 0, slots := 0, locals := 144 } [] σ v σ1 := by
  refine met_mi (lv0 := [(0, .ref (mh g))]) (by decide) rfl ⟨rfl, rfl⟩ (Nat.le_of_ble_eq_true rfl) rfl ?_
  intro p e s m below meth c A Q E hq
  have hR : 6 ≤ ({ frames := 6, cells := 0, slots := 0, locals := 144 } : Room).frames ∧ 144 ≤ ({ frames := 6, cells := 0, slots := 0, locals := 144 } : Room).locals := ⟨Nat.le_refl _, Nat.le_refl _⟩
  unfold m_lucky at h
  refine cf_bipush E dX6_lucky_0 bp_m5 rfl ?_
  refine cf_istore_n E dX6_lucky_2 h (fun x1_1 => [(1, .int x1_1), (0, .ref (mh g))]) (Nat.le_of_ble_eq_true rfl) (fun _ => rfl) rfl (fun x1_1 h => ?_)
  refine cf_iconst E dX6_lucky_3 ic_m1 rfl ?_
  refine cf_istore_n E dX6_lucky_4 h (fun x2_2 => [(2, .int x2_2), (1, .int x1_1), (0, .ref (mh g))]) (Nat.le_of_ble_eq_true rfl) (fun _ => rfl) rfl (fun x2_2 h => ?_)
  refine cf_iconst E dX6_lucky_5 ic_0 rfl ?_
  refine cf_istore_n E dX6_lucky_6 h (fun x3_3 => [(3, .int x3_3), (2, .int x2_2), (1, .int x1_1), (0, .ref (mh g))]) (Nat.le_of_ble_eq_true rfl) (fun _ => rfl) rfl (fun x3_3 h => ?_)
  exact CF.sub [3, 2, 1, 0] rfl (wm_lucky_7 E hR hq N N x1_1 x2_2 x3_3 σ h)

