/-! walks 0-35 -/
set_option maxRecDepth 100000
set_option maxHeartbeats 4000000 in
theorem met_in (l : Launch) (g : MG) (N : Nat) (x1 : Int32) (x2 : Int32) (x3 : Int32) (σ : MS) {v : Int32} {σ1 : MS} (h : m_in N x1 x2 x3 σ = some (v, σ1)) : MetMi l g yX6_in (ws_ yX6_in cX6_in 4 (some .boolean)) { frames := 0, cells := 0, slots := 0, locals := 0 } [.int x1, .int x2, .int x3] σ v σ1 := by
  refine met_mi (lv0 := [(0, .ref (mh g)), (1, .int x1), (2, .int x2), (3, .int x3)]) (by decide) rfl ⟨rfl, rfl⟩ (Nat.le_of_ble_eq_true rfl) rfl ?_
  intro p e s m below meth c A Q E hq
  have hR : 0 ≤ ({ frames := 0, cells := 0, slots := 0, locals := 0 } : Room).frames ∧ 0 ≤ ({ frames := 0, cells := 0, slots := 0, locals := 0 } : Room).locals := ⟨Nat.le_refl _, Nat.le_refl _⟩
  unfold m_in at h
  refine cf_iload_n E dX6_in_0 1 rfl rfl ?_
  refine cf_iload_n E dX6_in_1 2 rfl rfl ?_
  refine cf_icmp_lt E dX6_in_2 h rfl rfl (fun h => ?_) (fun h => ?_)
  · refine cf_iconst E dX6_in_14 ic_0 rfl ?_
    exact mret_i dX6_in_15 h nzb0 hq
  · refine cf_iload_n E dX6_in_5 1 rfl rfl ?_
    refine cf_iload_n E dX6_in_6 3 rfl rfl ?_
    refine cf_icmp_gt E dX6_in_7 h rfl rfl (fun h => ?_) (fun h => ?_)
    · refine cf_iconst E dX6_in_14 ic_0 rfl ?_
      exact mret_i dX6_in_15 h nzb0 hq
    · refine cf_iconst E dX6_in_10 ic_1 rfl ?_
      refine cf_goto E dX6_in_11 rfl ?_
      exact mret_i dX6_in_15 h nzb1 hq
theorem gw_in : GoodIn lw_all (wsV RX6 248 RX6 yX6_in (ws_ yX6_in cX6_in 4 (some .boolean))) := lw_V q1740 q1742 qs36 q105 q1743
theorem hd_in : yX6_in.cls = RX6 ∧ yX6_in.cls ≠ "java/lang/invoke/MethodHandle" ∧ yX6_in.cls ≠ "java/lang/invoke/VarHandle" ∧ (parseMethodDescriptor yX6_in.desc).map (fun d => d.parameters.length) = some 3 := by decide +kernel
theorem mcl_in {p : Program} {l : Launch} {e : Env} {R : Room} {s : State} {m : MethodId} {args : Array Value} {below : List Frame} {meth : Method} {c : Code} {nL : Nat} {A : Nat → Prop} {g : MG} {σ : MS} {Q : State → Prop} {pc n : Nat} {lv : List (Nat × Value)} {st : List Value} {cc : ByteArray} {ρ : Type} {res : ρ} (E : EV p s m args c cc nL RX6) {N : Nat} {x1 : Int32} {x2 : Int32} {x3 : Int32} {kk : Int32 → MS → Option ρ} (hR : 1 ≤ R.frames ∧ 23 ≤ R.locals) (hcat : (st.map fun v => v.category).sum ≤ 8) (d : decode cc pc = .ok (.invokevirtual 248, 3)) (h : bnd (m_in N x1 x2 x3 σ) kk = some res) (hn : pc + 3 = n) (k : ∀ (v : Int32) (σ1 : MS), kk v σ1 = some res → CF p l e R s m args below meth c nL 0 0 (MB g A s σ1) Q n lv (.int v :: st)) : CF p l e R s m args below meth c nL 0 0 (MB g A s σ) Q pc lv (.int x3 :: .int x2 :: .int x1 :: .ref (mh g) :: st) :=
  mcall_i E [.int x1, .int x2, .int x3] (fun v σ1 ho => met_in l g N x1 x2 x3 σ ho) gw_in hd_in rfl rfl hR rfl rfl hcat d h hn k
set_option maxHeartbeats 4000000 in
theorem met_head (l : Launch) (g : MG) (N : Nat) (x1 : Int32) (σ : MS) {v : Int32} {σ1 : MS} (h : m_head N x1 σ = some (v, σ1)) : MetMi l g yX6_head (ws_ yX6_head cX6_head 2 (some .int)) { frames := 1, cells := 0, slots := 0, locals := 23 } [.int x1] σ v σ1 := by
  refine met_mi (lv0 := [(0, .ref (mh g)), (1, .int x1)]) (by decide) rfl ⟨rfl, rfl⟩ (Nat.le_of_ble_eq_true rfl) rfl ?_
  intro p e s m below meth c A Q E hq
  have hR : 1 ≤ ({ frames := 1, cells := 0, slots := 0, locals := 23 } : Room).frames ∧ 23 ≤ ({ frames := 1, cells := 0, slots := 0, locals := 23 } : Room).locals := ⟨Nat.le_refl _, Nat.le_refl _⟩
  unfold m_head at h
  refine cf_aload_n E dX6_head_0 0 rfl rfl ?_
  refine cf_iload_n E dX6_head_1 1 rfl rfl ?_
  refine cf_iconst E dX6_head_2 ic_0 rfl ?_
  refine cf_bipush E dX6_head_3 bp_9 rfl ?_
  refine mcl_in E (rmle hR rfl rfl) (Nat.le_of_ble_eq_true rfl) dX6_head_5 h rfl (fun v_2 s_1 h => ?_)
  refine cf_if_ne E dX6_head_8 h rfl rfl (fun h => ?_) (fun h => ?_)
  · refine cf_aload_n E dX6_head_14 0 rfl rfl ?_
    refine mget_0 E dX6_head_15 rfl ?_
    refine cf_bipush E dX6_head_18 bp_6 rfl ?_
    refine cf_icmp_ne E dX6_head_20 h rfl rfl (fun h => ?_) (fun h => ?_)
    · refine cf_aload_n E dX6_head_26 0 rfl rfl ?_
      refine mget_3 E dX6_head_27 rfl ?_
      refine cf_aload_n E dX6_head_30 0 rfl rfl ?_
      refine mget_0 E dX6_head_31 rfl ?_
      refine cf_iload_n E dX6_head_34 1 rfl rfl ?_
      refine mast_3 E dX6_head_35 h rfl (fun s_3 h => ?_)
      refine cf_aload_n E dX6_head_36 0 rfl rfl ?_
      refine mget_4 E dX6_head_37 rfl ?_
      refine cf_aload_n E dX6_head_40 0 rfl rfl ?_
      refine mget_0 E dX6_head_41 rfl ?_
      refine cf_iconst E dX6_head_44 ic_m1 rfl ?_
      refine mast_4 E dX6_head_45 h rfl (fun s_4 h => ?_)
      refine cf_aload_n E dX6_head_46 0 rfl rfl ?_
      refine mget_5 E dX6_head_47 rfl ?_
      refine cf_aload_n E dX6_head_50 0 rfl rfl ?_
      refine mget_0 E dX6_head_51 rfl ?_
      refine cf_iconst E dX6_head_54 ic_m1 rfl ?_
      refine mast_5 E dX6_head_55 h rfl (fun s_5 h => ?_)
      refine cf_aload_n E dX6_head_56 0 rfl rfl ?_
      refine cf_dup E dX6_head_57 rfl rfl ?_
      refine mget_0 E dX6_head_58 rfl ?_
      refine cf_iconst E dX6_head_61 ic_1 rfl ?_
      refine cf_iadd E dX6_head_62 rfl ?_
      refine mput_0 E dX6_head_63 h rfl (fun s_6 h => ?_)
      refine cf_aload_n E dX6_head_66 0 rfl rfl ?_
      refine mget_0 E dX6_head_67 rfl ?_
      refine cf_iconst E dX6_head_70 ic_1 rfl ?_
      refine cf_isub E dX6_head_71 rfl ?_
      exact mret_i dX6_head_72 h rfl hq
    · refine cf_bipush E dX6_head_23 bp_m4 rfl ?_
      exact mret_i dX6_head_25 h rfl hq
  · refine cf_bipush E dX6_head_11 bp_m2 rfl ?_
    exact mret_i dX6_head_13 h rfl hq

set_option maxHeartbeats 4000000 in
theorem met_isTrade (l : Launch) (g : MG) (N : Nat) (x1 : Int32) (σ : MS) {v : Int32} {σ1 : MS} (h : m_isTrade N x1 σ = some (v, σ1)) : MetMi l g yX6_isTrade (ws_ yX6_isTrade cX6_isTrade 2 (some .boolean)) { frames := 1, cells := 0, slots := 0, locals := 23 } [.int x1] σ v σ1 := by
  refine met_mi (lv0 := [(0, .ref (mh g)), (1, .int x1)]) (by decide) rfl ⟨rfl, rfl⟩ (Nat.le_of_ble_eq_true rfl) rfl ?_
  intro p e s m below meth c A Q E hq
  have hR : 1 ≤ ({ frames := 1, cells := 0, slots := 0, locals := 23 } : Room).frames ∧ 23 ≤ ({ frames := 1, cells := 0, slots := 0, locals := 23 } : Room).locals := ⟨Nat.le_refl _, Nat.le_refl _⟩
  unfold m_isTrade at h
  refine cf_aload_n E dX6_isTrade_0 0 rfl rfl ?_
  refine cf_iload_n E dX6_isTrade_1 1 rfl rfl ?_
  refine cf_iconst E dX6_isTrade_2 ic_0 rfl ?_
  refine cf_iconst E dX6_isTrade_3 ic_4 rfl ?_
  refine mcl_in E (rmle hR rfl rfl) (Nat.le_of_ble_eq_true rfl) dX6_isTrade_4 h rfl (fun v_2 s_1 h => ?_)
  exact mret_z dX6_isTrade_7 h hq
theorem gw_isTrade : GoodIn lw_all (wsV RX6 252 RX6 yX6_isTrade (ws_ yX6_isTrade cX6_isTrade 2 (some .boolean))) := lw_V q1748 q1750 qs37 q105 q1751
theorem hd_isTrade : yX6_isTrade.cls = RX6 ∧ yX6_isTrade.cls ≠ "java/lang/invoke/MethodHandle" ∧ yX6_isTrade.cls ≠ "java/lang/invoke/VarHandle" ∧ (parseMethodDescriptor yX6_isTrade.desc).map (fun d => d.parameters.length) = some 1 := by decide +kernel
theorem mcl_isTrade {p : Program} {l : Launch} {e : Env} {R : Room} {s : State} {m : MethodId} {args : Array Value} {below : List Frame} {meth : Method} {c : Code} {nL : Nat} {A : Nat → Prop} {g : MG} {σ : MS} {Q : State → Prop} {pc n : Nat} {lv : List (Nat × Value)} {st : List Value} {cc : ByteArray} {ρ : Type} {res : ρ} (E : EV p s m args c cc nL RX6) {N : Nat} {x1 : Int32} {kk : Int32 → MS → Option ρ} (hR : 2 ≤ R.frames ∧ 44 ≤ R.locals) (hcat : (st.map fun v => v.category).sum ≤ 8) (d : decode cc pc = .ok (.invokevirtual 252, 3)) (h : bnd (m_isTrade N x1 σ) kk = some res) (hn : pc + 3 = n) (k : ∀ (v : Int32) (σ1 : MS), kk v σ1 = some res → CF p l e R s m args below meth c nL 0 0 (MB g A s σ1) Q n lv (.int v :: st)) : CF p l e R s m args below meth c nL 0 0 (MB g A s σ) Q pc lv (.int x1 :: .ref (mh g) :: st) :=
  mcall_i E [.int x1] (fun v σ1 ho => met_isTrade l g N x1 σ ho) gw_isTrade hd_isTrade rfl rfl hR rfl rfl hcat d h hn k
set_option maxHeartbeats 4000000 in
theorem wm_hat_136b {p : Program} {l : Launch} {e : Env} {R : Room} {s : State} {m : MethodId} {args : Array Value} {below : List Frame} {meth : Method} {c : Code} {A : Nat → Prop} {g : MG} {Q : State → Prop} (E : EV p s m args c cX6_hat 7 RX6) (hR : 2 ≤ R.frames ∧ 44 ≤ R.locals) {res : Int32 × MS} (hq : RTi p l e R s m args below meth c cX6_hat 7 A g .int Q res) (N : Nat)  {rec136 : Int32 → MS → Option (Int32 × MS)} (ih136 : ∀ (x6 : Int32) (σ : MS), rec136 x6 σ = some res → CF p l e R s m args below meth c 7 0 0 (MB g A s σ) Q 136 [(0, .ref (mh g)), (6, .int x6)] []) (x6 : Int32) (σ : MS) (h : m_hat_136b N  rec136 x6 σ = some res) : CF p l e R s m args below meth c 7 0 0 (MB g A s σ) Q 136 [(0, .ref (mh g)), (6, .int x6)] [] := by
  unfold m_hat_136b at h
  refine cf_iload E dX6_hat_136 1 rfl rfl ?_
  refine cf_iconst E dX6_hat_138 ic_4 rfl ?_
  refine cf_icmp_ge E dX6_hat_139 h rfl rfl (fun h => ?_) (fun h => ?_)
  · refine cf_aload_n E dX6_hat_163 0 rfl rfl ?_
    refine cf_dup E dX6_hat_164 rfl rfl ?_
    refine mget_1 E dX6_hat_165 rfl ?_
    refine cf_iconst E dX6_hat_168 ic_1 rfl ?_
    refine cf_iadd E dX6_hat_169 rfl ?_
    refine mput_1 E dX6_hat_170 h rfl (fun s_1 h => ?_)
    refine cf_aload_n E dX6_hat_173 0 rfl rfl ?_
    refine mget_1 E dX6_hat_174 rfl ?_
    refine cf_iconst E dX6_hat_177 ic_1 rfl ?_
    refine cf_isub E dX6_hat_178 rfl ?_
    exact mret_i dX6_hat_179 h rfl hq
  · refine cf_aload_n E dX6_hat_142 0 rfl rfl ?_
    refine mget_12 E dX6_hat_143 rfl ?_
    refine cf_iconst E dX6_hat_146 ic_4 rfl ?_
    refine cf_aload_n E dX6_hat_147 0 rfl rfl ?_
    refine mget_1 E dX6_hat_148 rfl ?_
    refine cf_imul E dX6_hat_151 rfl ?_
    refine cf_iload E dX6_hat_152 1 rfl rfl ?_
    refine cf_iadd E dX6_hat_154 rfl ?_
    refine cf_iconst E dX6_hat_155 ic_0 rfl ?_
    refine mast_12 E dX6_hat_156 h rfl (fun s_2 h => ?_)
    refine cf_iinc E dX6_hat_157 ic_1 h 1 rfl (fun x6_3 => [(6, .int x6_3), (0, .ref (mh g))]) (Nat.le_of_ble_eq_true rfl) (fun _ => rfl) rfl (fun x6_3 h => ?_)
    refine cf_goto E dX6_hat_160 rfl ?_
    exact CF.sub [1, 0] rfl (ih136 x6_3 s_2 h)
set_option maxHeartbeats 4000000 in
theorem wm_hat_136 {p : Program} {l : Launch} {e : Env} {R : Room} {s : State} {m : MethodId} {args : Array Value} {below : List Frame} {meth : Method} {c : Code} {A : Nat → Prop} {g : MG} {Q : State → Prop} (E : EV p s m args c cX6_hat 7 RX6) (hR : 2 ≤ R.frames ∧ 44 ≤ R.locals) {res : Int32 × MS} (hq : RTi p l e R s m args below meth c cX6_hat 7 A g .int Q res) (N : Nat)  : ∀ (k : Nat) (x6 : Int32) (σ : MS), m_hat_136 N  k x6 σ = some res → CF p l e R s m args below meth c 7 0 0 (MB g A s σ) Q 136 [(0, .ref (mh g)), (6, .int x6)] [] := by
  intro k
  induction k with
  | zero => intro x6 σ h; have h : (none : Option (Int32 × MS)) = some res := h; cases h
  | succ k ih => intro x6 σ h; exact wm_hat_136b E hR hq N  ih x6 σ h
set_option maxHeartbeats 4000000 in
theorem met_hat (l : Launch) (g : MG) (N : Nat) (x1 : Int32) (x2 : Int32) (x3 : Int32) (x4 : Int32) (x5 : Int32) (σ : MS) {v : Int32} {σ1 : MS} (h : m_hat N x1 x2 x3 x4 x5 σ = some (v, σ1)) : MetMi l g yX6_hat (ws_ yX6_hat cX6_hat 7 (some .int)) { frames := 2, cells := 0, slots := 0, locals := 44 } [.int x1, .int x2, .int x3, .int x4, .int x5] σ v σ1 := by
  refine met_mi (lv0 := [(0, .ref (mh g)), (1, .int x1), (2, .int x2), (3, .int x3), (4, .int x4), (5, .int x5)]) (by decide) rfl ⟨rfl, rfl⟩ (Nat.le_of_ble_eq_true rfl) rfl ?_
  intro p e s m below meth c A Q E hq
  have hR : 2 ≤ ({ frames := 2, cells := 0, slots := 0, locals := 44 } : Room).frames ∧ 44 ≤ ({ frames := 2, cells := 0, slots := 0, locals := 44 } : Room).locals := ⟨Nat.le_refl _, Nat.le_refl _⟩
  unfold m_hat at h
  refine cf_aload_n E dX6_hat_0 0 rfl rfl ?_
  refine cf_iload_n E dX6_hat_1 1 rfl rfl ?_
  refine cf_iconst E dX6_hat_2 ic_0 rfl ?_
  refine cf_bipush E dX6_hat_3 bp_6 rfl ?_
  refine mcl_in E (rmle hR rfl rfl) (Nat.le_of_ble_eq_true rfl) dX6_hat_5 h rfl (fun v_2 s_1 h => ?_)
  refine cf_if_eq E dX6_hat_8 h rfl rfl (fun h => ?_) (fun h => ?_)
  · refine cf_iconst E dX6_hat_20 ic_m1 rfl ?_
    exact mret_i dX6_hat_21 h rfl hq
  · refine cf_aload_n E dX6_hat_11 0 rfl rfl ?_
    refine cf_iload E dX6_hat_12 5 rfl rfl ?_
    refine mcl_isTrade E (rmle hR rfl rfl) (Nat.le_of_ble_eq_true rfl) dX6_hat_14 h rfl (fun v_4 s_3 h => ?_)
    refine cf_if_ne E dX6_hat_17 h rfl rfl (fun h => ?_) (fun h => ?_)
    · refine cf_aload_n E dX6_hat_22 0 rfl rfl ?_
      refine cf_iload_n E dX6_hat_23 2 rfl rfl ?_
      refine cf_iconst E dX6_hat_24 ic_0 rfl ?_
      refine cf_bipush E dX6_hat_25 bp_9 rfl ?_
      refine mcl_in E (rmle hR rfl rfl) (Nat.le_of_ble_eq_true rfl) dX6_hat_27 h rfl (fun v_6 s_5 h => ?_)
      refine cf_if_eq E dX6_hat_30 h rfl rfl (fun h => ?_) (fun h => ?_)
      · refine cf_bipush E dX6_hat_56 bp_m2 rfl ?_
        exact mret_i dX6_hat_58 h rfl hq
      · refine cf_aload_n E dX6_hat_33 0 rfl rfl ?_
        refine cf_iload_n E dX6_hat_34 3 rfl rfl ?_
        refine cf_iconst E dX6_hat_35 ic_0 rfl ?_
        refine cf_bipush E dX6_hat_36 bp_9 rfl ?_
        refine mcl_in E (rmle hR rfl rfl) (Nat.le_of_ble_eq_true rfl) dX6_hat_38 h rfl (fun v_8 s_7 h => ?_)
        refine cf_if_eq E dX6_hat_41 h rfl rfl (fun h => ?_) (fun h => ?_)
        · refine cf_bipush E dX6_hat_56 bp_m2 rfl ?_
          exact mret_i dX6_hat_58 h rfl hq
        · refine cf_aload_n E dX6_hat_44 0 rfl rfl ?_
          refine cf_iload E dX6_hat_45 4 rfl rfl ?_
          refine cf_iconst E dX6_hat_47 ic_0 rfl ?_
          refine cf_bipush E dX6_hat_48 bp_50 rfl ?_
          refine mcl_in E (rmle hR rfl rfl) (Nat.le_of_ble_eq_true rfl) dX6_hat_50 h rfl (fun v_10 s_9 h => ?_)
          refine cf_if_ne E dX6_hat_53 h rfl rfl (fun h => ?_) (fun h => ?_)
          · refine cf_aload_n E dX6_hat_59 0 rfl rfl ?_
            refine mget_1 E dX6_hat_60 rfl ?_
            refine cf_bipush E dX6_hat_63 bp_6 rfl ?_
            refine cf_icmp_ne E dX6_hat_65 h rfl rfl (fun h => ?_) (fun h => ?_)
            · refine cf_aload_n E dX6_hat_71 0 rfl rfl ?_
              refine mget_6 E dX6_hat_72 rfl ?_
              refine cf_aload_n E dX6_hat_75 0 rfl rfl ?_
              refine mget_1 E dX6_hat_76 rfl ?_
              refine cf_iload_n E dX6_hat_79 1 rfl rfl ?_
              refine mast_6 E dX6_hat_80 h rfl (fun s_11 h => ?_)
              refine cf_aload_n E dX6_hat_81 0 rfl rfl ?_
              refine mget_7 E dX6_hat_82 rfl ?_
              refine cf_aload_n E dX6_hat_85 0 rfl rfl ?_
              refine mget_1 E dX6_hat_86 rfl ?_
              refine cf_iload_n E dX6_hat_89 2 rfl rfl ?_
              refine mast_7 E dX6_hat_90 h rfl (fun s_12 h => ?_)
              refine cf_aload_n E dX6_hat_91 0 rfl rfl ?_
              refine mget_8 E dX6_hat_92 rfl ?_
              refine cf_aload_n E dX6_hat_95 0 rfl rfl ?_
              refine mget_1 E dX6_hat_96 rfl ?_
              refine cf_iload_n E dX6_hat_99 3 rfl rfl ?_
              refine mast_8 E dX6_hat_100 h rfl (fun s_13 h => ?_)
              refine cf_aload_n E dX6_hat_101 0 rfl rfl ?_
              refine mget_9 E dX6_hat_102 rfl ?_
              refine cf_aload_n E dX6_hat_105 0 rfl rfl ?_
              refine mget_1 E dX6_hat_106 rfl ?_
              refine cf_iload E dX6_hat_109 4 rfl rfl ?_
              refine mast_9 E dX6_hat_111 h rfl (fun s_14 h => ?_)
              refine cf_aload_n E dX6_hat_112 0 rfl rfl ?_
              refine mget_10 E dX6_hat_113 rfl ?_
              refine cf_aload_n E dX6_hat_116 0 rfl rfl ?_
              refine mget_1 E dX6_hat_117 rfl ?_
              refine cf_iload E dX6_hat_120 5 rfl rfl ?_
              refine mast_10 E dX6_hat_122 h rfl (fun s_15 h => ?_)
              refine cf_aload_n E dX6_hat_123 0 rfl rfl ?_
              refine mget_11 E dX6_hat_124 rfl ?_
              refine cf_aload_n E dX6_hat_127 0 rfl rfl ?_
              refine mget_1 E dX6_hat_128 rfl ?_
              refine cf_iconst E dX6_hat_131 ic_0 rfl ?_
              refine mast_11 E dX6_hat_132 h rfl (fun s_16 h => ?_)
              refine cf_iconst E dX6_hat_133 ic_0 rfl ?_
              refine cf_istore E dX6_hat_134 h (fun x6_17 => [(6, .int x6_17), (0, .ref (mh g)), (1, .int x1), (2, .int x2), (3, .int x3), (4, .int x4), (5, .int x5)]) (Nat.le_of_ble_eq_true rfl) (fun _ => rfl) rfl (fun x6_17 h => ?_)
              exact CF.sub [1, 0] rfl (wm_hat_136 E hR hq N N x6_17 s_16 h)
            · refine cf_bipush E dX6_hat_68 bp_m4 rfl ?_
              exact mret_i dX6_hat_70 h rfl hq
          · refine cf_bipush E dX6_hat_56 bp_m2 rfl ?_
            exact mret_i dX6_hat_58 h rfl hq
    · refine cf_iconst E dX6_hat_20 ic_m1 rfl ?_
      exact mret_i dX6_hat_21 h rfl hq

set_option maxHeartbeats 4000000 in
theorem met_isHat (l : Launch) (g : MG) (N : Nat) (x1 : Int32) (σ : MS) {v : Int32} {σ1 : MS} (h : m_isHat N x1 σ = some (v, σ1)) : MetMi l g yX6_isHat (ws_ yX6_isHat cX6_isHat 2 (some .boolean)) { frames := 1, cells := 0, slots := 0, locals := 23 } [.int x1] σ v σ1 := by
  refine met_mi (lv0 := [(0, .ref (mh g)), (1, .int x1)]) (by decide) rfl ⟨rfl, rfl⟩ (Nat.le_of_ble_eq_true rfl) rfl ?_
  intro p e s m below meth c A Q E hq
  have hR : 1 ≤ ({ frames := 1, cells := 0, slots := 0, locals := 23 } : Room).frames ∧ 23 ≤ ({ frames := 1, cells := 0, slots := 0, locals := 23 } : Room).locals := ⟨Nat.le_refl _, Nat.le_refl _⟩
  unfold m_isHat at h
  refine cf_aload_n E dX6_isHat_0 0 rfl rfl ?_
  refine cf_iload_n E dX6_isHat_1 1 rfl rfl ?_
  refine cf_iconst E dX6_isHat_2 ic_0 rfl ?_
  refine cf_aload_n E dX6_isHat_3 0 rfl rfl ?_
  refine mget_1 E dX6_isHat_4 rfl ?_
  refine cf_iconst E dX6_isHat_7 ic_1 rfl ?_
  refine cf_isub E dX6_isHat_8 rfl ?_
  refine mcl_in E (rmle hR rfl rfl) (Nat.le_of_ble_eq_true rfl) dX6_isHat_9 h rfl (fun v_2 s_1 h => ?_)
  exact mret_z dX6_isHat_12 h hq
theorem gw_isHat : GoodIn lw_all (wsV RX6 256 RX6 yX6_isHat (ws_ yX6_isHat cX6_isHat 2 (some .boolean))) := lw_V q1756 q1758 qs38 q105 q1759
theorem hd_isHat : yX6_isHat.cls = RX6 ∧ yX6_isHat.cls ≠ "java/lang/invoke/MethodHandle" ∧ yX6_isHat.cls ≠ "java/lang/invoke/VarHandle" ∧ (parseMethodDescriptor yX6_isHat.desc).map (fun d => d.parameters.length) = some 1 := by decide +kernel
theorem mcl_isHat {p : Program} {l : Launch} {e : Env} {R : Room} {s : State} {m : MethodId} {args : Array Value} {below : List Frame} {meth : Method} {c : Code} {nL : Nat} {A : Nat → Prop} {g : MG} {σ : MS} {Q : State → Prop} {pc n : Nat} {lv : List (Nat × Value)} {st : List Value} {cc : ByteArray} {ρ : Type} {res : ρ} (E : EV p s m args c cc nL RX6) {N : Nat} {x1 : Int32} {kk : Int32 → MS → Option ρ} (hR : 2 ≤ R.frames ∧ 44 ≤ R.locals) (hcat : (st.map fun v => v.category).sum ≤ 8) (d : decode cc pc = .ok (.invokevirtual 256, 3)) (h : bnd (m_isHat N x1 σ) kk = some res) (hn : pc + 3 = n) (k : ∀ (v : Int32) (σ1 : MS), kk v σ1 = some res → CF p l e R s m args below meth c nL 0 0 (MB g A s σ1) Q n lv (.int v :: st)) : CF p l e R s m args below meth c nL 0 0 (MB g A s σ) Q pc lv (.int x1 :: .ref (mh g) :: st) :=
  mcall_i E [.int x1] (fun v σ1 ho => met_isHat l g N x1 σ ho) gw_isHat hd_isHat rfl rfl hR rfl rfl hcat d h hn k
set_option maxHeartbeats 4000000 in
theorem met_row (l : Launch) (g : MG) (N : Nat) (x1 : Int32) (x2 : Int32) (x3 : Int32) (σ : MS) {v : Int32} {σ1 : MS} (h : m_row N x1 x2 x3 σ = some (v, σ1)) : MetMi l g yX6_row (ws_ yX6_row cX6_row 5 (some .int)) { frames := 2, cells := 0, slots := 0, locals := 44 } [.int x1, .int x2, .int x3] σ v σ1 := by
  refine met_mi (lv0 := [(0, .ref (mh g)), (1, .int x1), (2, .int x2), (3, .int x3)]) (by decide) rfl ⟨rfl, rfl⟩ (Nat.le_of_ble_eq_true rfl) rfl ?_
  intro p e s m below meth c A Q E hq
  have hR : 2 ≤ ({ frames := 2, cells := 0, slots := 0, locals := 44 } : Room).frames ∧ 44 ≤ ({ frames := 2, cells := 0, slots := 0, locals := 44 } : Room).locals := ⟨Nat.le_refl _, Nat.le_refl _⟩
  unfold m_row at h
  refine cf_aload_n E dX6_row_0 0 rfl rfl ?_
  refine cf_iload_n E dX6_row_1 1 rfl rfl ?_
  refine mcl_isHat E (rmle hR rfl rfl) (Nat.le_of_ble_eq_true rfl) dX6_row_2 h rfl (fun v_2 s_1 h => ?_)
  refine cf_if_eq E dX6_row_5 h rfl rfl (fun h => ?_) (fun h => ?_)
  · refine cf_iconst E dX6_row_18 ic_m1 rfl ?_
    exact mret_i dX6_row_19 h rfl hq
  · refine cf_aload_n E dX6_row_8 0 rfl rfl ?_
    refine cf_iload_n E dX6_row_9 2 rfl rfl ?_
    refine cf_iconst E dX6_row_10 ic_0 rfl ?_
    refine cf_iconst E dX6_row_11 ic_3 rfl ?_
    refine mcl_in E (rmle hR rfl rfl) (Nat.le_of_ble_eq_true rfl) dX6_row_12 h rfl (fun v_4 s_3 h => ?_)
    refine cf_if_ne E dX6_row_15 h rfl rfl (fun h => ?_) (fun h => ?_)
    · refine cf_aload_n E dX6_row_20 0 rfl rfl ?_
      refine cf_iload_n E dX6_row_21 3 rfl rfl ?_
      refine cf_iconst E dX6_row_22 ic_0 rfl ?_
      refine cf_bipush E dX6_row_23 bp_9 rfl ?_
      refine mcl_in E (rmle hR rfl rfl) (Nat.le_of_ble_eq_true rfl) dX6_row_25 h rfl (fun v_6 s_5 h => ?_)
      refine cf_if_ne E dX6_row_28 h rfl rfl (fun h => ?_) (fun h => ?_)
      · refine cf_aload_n E dX6_row_34 0 rfl rfl ?_
        refine mget_6 E dX6_row_35 rfl ?_
        refine cf_iload_n E dX6_row_38 1 rfl rfl ?_
        refine mald_6 E dX6_row_39 h rfl (fun h => ?_)
        refine cf_bipush E dX6_row_40 bp_6 rfl ?_
        refine cf_icmp_eq E dX6_row_42 h rfl rfl (fun h => ?_) (fun h => ?_)
        · refine cf_aload_n E dX6_row_48 0 rfl rfl ?_
          refine mget_12 E dX6_row_49 rfl ?_
          refine cf_iconst E dX6_row_52 ic_4 rfl ?_
          refine cf_iload_n E dX6_row_53 1 rfl rfl ?_
          refine cf_imul E dX6_row_54 rfl ?_
          refine cf_iload_n E dX6_row_55 2 rfl rfl ?_
          refine cf_iadd E dX6_row_56 rfl ?_
          refine mald_12 E dX6_row_57 h rfl (fun h => ?_)
          refine cf_istore E dX6_row_58 h (fun x4_7 => [(4, .int x4_7), (0, .ref (mh g)), (1, .int x1), (2, .int x2), (3, .int x3)]) (Nat.le_of_ble_eq_true rfl) (fun _ => rfl) rfl (fun x4_7 h => ?_)
          refine cf_aload_n E dX6_row_60 1 rfl rfl ?_
          refine mget_12 E dX6_row_61 rfl ?_
          refine cf_iconst E dX6_row_64 ic_4 rfl ?_
          refine cf_iload_n E dX6_row_65 2 rfl rfl ?_
          refine cf_imul E dX6_row_66 rfl ?_
          refine cf_iload_n E dX6_row_67 3 rfl rfl ?_
          refine cf_iadd E dX6_row_68 rfl ?_
          refine cf_iload_n E dX6_row_69 4 rfl rfl ?_
          refine mast_12 E dX6_row_70 h rfl (fun s_8 h => ?_)
          refine cf_iload E dX6_row_71 0 rfl rfl ?_
          exact mret_i dX6_row_73 h rfl hq
        · refine cf_bipush E dX6_row_45 bp_m3 rfl ?_
          exact mret_i dX6_row_47 h rfl hq
      · refine cf_bipush E dX6_row_31 bp_m2 rfl ?_
        exact mret_i dX6_row_33 h rfl hq
    · refine cf_iconst E dX6_row_18 ic_m1 rfl ?_
      exact mret_i dX6_row_19 h rfl hq

set_option maxHeartbeats 4000000 in
theorem met_isHead (l : Launch) (g : MG) (N : Nat) (x1 : Int32) (σ : MS) {v : Int32} {σ1 : MS} (h : m_isHead N x1 σ = some (v, σ1)) : MetMi l g yX6_isHead (ws_ yX6_isHead cX6_isHead 2 (some .boolean)) { frames := 1, cells := 0, slots := 0, locals := 23 } [.int x1] σ v σ1 := by
  refine met_mi (lv0 := [(0, .ref (mh g)), (1, .int x1)]) (by decide) rfl ⟨rfl, rfl⟩ (Nat.le_of_ble_eq_true rfl) rfl ?_
  intro p e s m below meth c A Q E hq
  have hR : 1 ≤ ({ frames := 1, cells := 0, slots := 0, locals := 23 } : Room).frames ∧ 23 ≤ ({ frames := 1, cells := 0, slots := 0, locals := 23 } : Room).locals := ⟨Nat.le_refl _, Nat.le_refl _⟩
  unfold m_isHead at h
  refine cf_aload_n E dX6_isHead_0 0 rfl rfl ?_
  refine cf_iload_n E dX6_isHead_1 1 rfl rfl ?_
  refine cf_iconst E dX6_isHead_2 ic_0 rfl ?_
  refine cf_aload_n E dX6_isHead_3 0 rfl rfl ?_
  refine mget_0 E dX6_isHead_4 rfl ?_
  refine cf_iconst E dX6_isHead_7 ic_1 rfl ?_
  refine cf_isub E dX6_isHead_8 rfl ?_
  refine mcl_in E (rmle hR rfl rfl) (Nat.le_of_ble_eq_true rfl) dX6_isHead_9 h rfl (fun v_2 s_1 h => ?_)
  exact mret_z dX6_isHead_12 h hq
theorem gw_isHead : GoodIn lw_all (wsV RX6 259 RX6 yX6_isHead (ws_ yX6_isHead cX6_isHead 2 (some .boolean))) := lw_V q1764 q1766 qs39 q105 q1767
theorem hd_isHead : yX6_isHead.cls = RX6 ∧ yX6_isHead.cls ≠ "java/lang/invoke/MethodHandle" ∧ yX6_isHead.cls ≠ "java/lang/invoke/VarHandle" ∧ (parseMethodDescriptor yX6_isHead.desc).map (fun d => d.parameters.length) = some 1 := by decide +kernel
theorem mcl_isHead {p : Program} {l : Launch} {e : Env} {R : Room} {s : State} {m : MethodId} {args : Array Value} {below : List Frame} {meth : Method} {c : Code} {nL : Nat} {A : Nat → Prop} {g : MG} {σ : MS} {Q : State → Prop} {pc n : Nat} {lv : List (Nat × Value)} {st : List Value} {cc : ByteArray} {ρ : Type} {res : ρ} (E : EV p s m args c cc nL RX6) {N : Nat} {x1 : Int32} {kk : Int32 → MS → Option ρ} (hR : 2 ≤ R.frames ∧ 44 ≤ R.locals) (hcat : (st.map fun v => v.category).sum ≤ 8) (d : decode cc pc = .ok (.invokevirtual 259, 3)) (h : bnd (m_isHead N x1 σ) kk = some res) (hn : pc + 3 = n) (k : ∀ (v : Int32) (σ1 : MS), kk v σ1 = some res → CF p l e R s m args below meth c nL 0 0 (MB g A s σ1) Q n lv (.int v :: st)) : CF p l e R s m args below meth c nL 0 0 (MB g A s σ) Q pc lv (.int x1 :: .ref (mh g) :: st) :=
  mcall_i E [.int x1] (fun v σ1 ho => met_isHead l g N x1 σ ho) gw_isHead hd_isHead rfl rfl hR rfl rfl hcat d h hn k
set_option maxHeartbeats 4000000 in
theorem wm_headOf_2b {p : Program} {l : Launch} {e : Env} {R : Room} {s : State} {m : MethodId} {args : Array Value} {below : List Frame} {meth : Method} {c : Code} {A : Nat → Prop} {g : MG} {Q : State → Prop} (E : EV p s m args c cX6_headOf 3 RX6) (hR : 0 ≤ R.frames ∧ 0 ≤ R.locals) {res : Int32 × MS} (hq : RTi p l e R s m args below meth c cX6_headOf 3 A g .int Q res) (N : Nat)  {rec2 : Int32 → Int32 → MS → Option (Int32 × MS)} (ih2 : ∀ (x1 : Int32) (x2 : Int32) (σ : MS), rec2 x1 x2 σ = some res → CF p l e R s m args below meth c 3 0 0 (MB g A s σ) Q 2 [(0, .ref (mh g)), (1, .int x1), (2, .int x2)] []) (x1 : Int32) (x2 : Int32) (σ : MS) (h : m_headOf_2b N  rec2 x1 x2 σ = some res) : CF p l e R s m args below meth c 3 0 0 (MB g A s σ) Q 2 [(0, .ref (mh g)), (1, .int x1), (2, .int x2)] [] := by
  unfold m_headOf_2b at h
  refine cf_iload_n E dX6_headOf_2 2 rfl rfl ?_
  refine cf_aload_n E dX6_headOf_3 0 rfl rfl ?_
  refine mget_0 E dX6_headOf_4 rfl ?_
  refine cf_icmp_ge E dX6_headOf_7 h rfl rfl (fun h => ?_) (fun h => ?_)
  · refine cf_bipush E dX6_headOf_28 bp_m5 rfl ?_
    exact mret_i dX6_headOf_30 h rfl hq
  · refine cf_aload_n E dX6_headOf_10 0 rfl rfl ?_
    refine mget_5 E dX6_headOf_11 rfl ?_
    refine cf_iload_n E dX6_headOf_14 2 rfl rfl ?_
    refine mald_5 E dX6_headOf_15 h rfl (fun h => ?_)
    refine cf_iload_n E dX6_headOf_16 1 rfl rfl ?_
    refine cf_icmp_ne E dX6_headOf_17 h rfl rfl (fun h => ?_) (fun h => ?_)
    · refine cf_iinc E dX6_headOf_22 ic_1 h 2 rfl (fun x2_1 => [(2, .int x2_1), (0, .ref (mh g)), (1, .int x1)]) (Nat.le_of_ble_eq_true rfl) (fun _ => rfl) rfl (fun x2_1 h => ?_)
      refine cf_goto E dX6_headOf_25 rfl ?_
      exact CF.sub [1, 2, 0] rfl (ih2 x1 x2_1 σ h)
    · refine cf_iload_n E dX6_headOf_20 2 rfl rfl ?_
      exact mret_i dX6_headOf_21 h rfl hq
set_option maxHeartbeats 4000000 in
theorem wm_headOf_2 {p : Program} {l : Launch} {e : Env} {R : Room} {s : State} {m : MethodId} {args : Array Value} {below : List Frame} {meth : Method} {c : Code} {A : Nat → Prop} {g : MG} {Q : State → Prop} (E : EV p s m args c cX6_headOf 3 RX6) (hR : 0 ≤ R.frames ∧ 0 ≤ R.locals) {res : Int32 × MS} (hq : RTi p l e R s m args below meth c cX6_headOf 3 A g .int Q res) (N : Nat)  : ∀ (k : Nat) (x1 : Int32) (x2 : Int32) (σ : MS), m_headOf_2 N  k x1 x2 σ = some res → CF p l e R s m args below meth c 3 0 0 (MB g A s σ) Q 2 [(0, .ref (mh g)), (1, .int x1), (2, .int x2)] [] := by
  intro k
  induction k with
  | zero => intro x1 x2 σ h; have h : (none : Option (Int32 × MS)) = some res := h; cases h
  | succ k ih => intro x1 x2 σ h; exact wm_headOf_2b E hR hq N  ih x1 x2 σ h
set_option maxHeartbeats 4000000 in
theorem met_headOf (l : Launch) (g : MG) (N : Nat) (x1 : Int32) (σ : MS) {v : Int32} {σ1 : MS} (h : m_headOf N x1 σ = some (v, σ1)) : MetMi l g yX6_headOf (ws_ yX6_headOf cX6_headOf 3 (some .int)) { frames := 0, cells := 0, slots := 0, locals := 0 } [.int x1] σ v σ1 := by
  refine met_mi (lv0 := [(0, .ref (mh g)), (1, .int x1)]) (by decide) rfl ⟨rfl, rfl⟩ (Nat.le_of_ble_eq_true rfl) rfl ?_
  intro p e s m below meth c A Q E hq
  have hR : 0 ≤ ({ frames := 0, cells := 0, slots := 0, locals := 0 } : Room).frames ∧ 0 ≤ ({ frames := 0, cells := 0, slots := 0, locals := 0 } : Room).locals := ⟨Nat.le_refl _, Nat.le_refl _⟩
  unfold m_headOf at h
  refine cf_iconst E dX6_headOf_0 ic_0 rfl ?_
  refine cf_istore_n E dX6_headOf_1 h (fun x2_1 => [(2, .int x2_1), (0, .ref (mh g)), (1, .int x1)]) (Nat.le_of_ble_eq_true rfl) (fun _ => rfl) rfl (fun x2_1 h => ?_)
  exact CF.sub [1, 2, 0] rfl (wm_headOf_2 E hR hq N N x1 x2_1 σ h)
theorem gw_headOf : GoodIn lw_all (wsV RX6 262 RX6 yX6_headOf (ws_ yX6_headOf cX6_headOf 3 (some .int))) := lw_V q1768 q1770 qs40 q105 q1771
theorem hd_headOf : yX6_headOf.cls = RX6 ∧ yX6_headOf.cls ≠ "java/lang/invoke/MethodHandle" ∧ yX6_headOf.cls ≠ "java/lang/invoke/VarHandle" ∧ (parseMethodDescriptor yX6_headOf.desc).map (fun d => d.parameters.length) = some 1 := by decide +kernel
theorem mcl_headOf {p : Program} {l : Launch} {e : Env} {R : Room} {s : State} {m : MethodId} {args : Array Value} {below : List Frame} {meth : Method} {c : Code} {nL : Nat} {A : Nat → Prop} {g : MG} {σ : MS} {Q : State → Prop} {pc n : Nat} {lv : List (Nat × Value)} {st : List Value} {cc : ByteArray} {ρ : Type} {res : ρ} (E : EV p s m args c cc nL RX6) {N : Nat} {x1 : Int32} {kk : Int32 → MS → Option ρ} (hR : 1 ≤ R.frames ∧ 22 ≤ R.locals) (hcat : (st.map fun v => v.category).sum ≤ 8) (d : decode cc pc = .ok (.invokevirtual 262, 3)) (h : bnd (m_headOf N x1 σ) kk = some res) (hn : pc + 3 = n) (k : ∀ (v : Int32) (σ1 : MS), kk v σ1 = some res → CF p l e R s m args below meth c nL 0 0 (MB g A s σ1) Q n lv (.int v :: st)) : CF p l e R s m args below meth c nL 0 0 (MB g A s σ) Q pc lv (.int x1 :: .ref (mh g) :: st) :=
  mcall_i E [.int x1] (fun v σ1 ho => met_headOf l g N x1 σ ho) gw_headOf hd_headOf rfl rfl hR rfl rfl hcat d h hn k
set_option maxHeartbeats 4000000 in
theorem wm_put_66 {p : Program} {l : Launch} {e : Env} {R : Room} {s : State} {m : MethodId} {args : Array Value} {below : List Frame} {meth : Method} {c : Code} {A : Nat → Prop} {g : MG} {Q : State → Prop} (E : EV p s m args c cX6_put 4 RX6) (hR : 2 ≤ R.frames ∧ 44 ≤ R.locals) {res : Int32 × MS} (hq : RTi p l e R s m args below meth c cX6_put 4 A g .int Q res) (N : Nat)  (x1 : Int32) (x2 : Int32) (x3 : Int32) (σ : MS) (h : m_put_66 N  x1 x2 x3 σ = some res) : CF p l e R s m args below meth c 4 0 0 (MB g A s σ) Q 66 [(0, .ref (mh g)), (1, .int x1), (2, .int x2), (3, .int x3)] [] := by
  unfold m_put_66 at h
  refine cf_iload_n E dX6_put_66 2 rfl rfl ?_
  refine cf_if_lt E dX6_put_67 h rfl rfl (fun h => ?_) (fun h => ?_)
  · refine cf_iload_n E dX6_put_77 3 rfl rfl ?_
    exact mret_i dX6_put_78 h rfl hq
  · refine cf_aload_n E dX6_put_70 0 rfl rfl ?_
    refine mget_5 E dX6_put_71 rfl ?_
    refine cf_iload_n E dX6_put_74 2 rfl rfl ?_
    refine cf_iload_n E dX6_put_75 1 rfl rfl ?_
    refine mast_5 E dX6_put_76 h rfl (fun s_1 h => ?_)
    refine cf_iload_n E dX6_put_77 3 rfl rfl ?_
    exact mret_i dX6_put_78 h rfl hq
set_option maxHeartbeats 4000000 in
theorem wm_put_49 {p : Program} {l : Launch} {e : Env} {R : Room} {s : State} {m : MethodId} {args : Array Value} {below : List Frame} {meth : Method} {c : Code} {A : Nat → Prop} {g : MG} {Q : State → Prop} (E : EV p s m args c cX6_put 4 RX6) (hR : 2 ≤ R.frames ∧ 44 ≤ R.locals) {res : Int32 × MS} (hq : RTi p l e R s m args below meth c cX6_put 4 A g .int Q res) (N : Nat)  (x1 : Int32) (x2 : Int32) (σ : MS) (h : m_put_49 N  x1 x2 σ = some res) : CF p l e R s m args below meth c 4 0 0 (MB g A s σ) Q 49 [(0, .ref (mh g)), (1, .int x1), (2, .int x2)] [] := by
  unfold m_put_49 at h
  refine cf_aload_n E dX6_put_49 0 rfl rfl ?_
  refine cf_iload_n E dX6_put_50 1 rfl rfl ?_
  refine mcl_headOf E (rmle hR rfl rfl) (Nat.le_of_ble_eq_true rfl) dX6_put_51 h rfl (fun v_2 s_1 h => ?_)
  refine cf_istore_n E dX6_put_54 h (fun x3_3 => [(3, .int x3_3), (0, .ref (mh g)), (1, .int x1), (2, .int x2)]) (Nat.le_of_ble_eq_true rfl) (fun _ => rfl) rfl (fun x3_3 h => ?_)
  refine cf_iload_n E dX6_put_55 0 rfl rfl ?_
  refine cf_if_lt E dX6_put_56 h rfl rfl (fun h => ?_) (fun h => ?_)
  · exact CF.sub [1, 2, 3, 0] rfl (wm_put_66 E hR hq N x1 x2 x3_3 s_1 h)
  · refine cf_aload_n E dX6_put_59 1 rfl rfl ?_
    refine mget_5 E dX6_put_60 rfl ?_
    refine cf_iload_n E dX6_put_63 0 rfl rfl ?_
    refine cf_iconst E dX6_put_64 ic_m1 rfl ?_
    refine mast_5 E dX6_put_65 h rfl (fun s_4 h => ?_)
    exact CF.sub [1, 2, 3, 0] rfl (wm_put_66 E hR hq N x1 x2 x3_3 s_4 h)
set_option maxHeartbeats 4000000 in
theorem wm_put_23 {p : Program} {l : Launch} {e : Env} {R : Room} {s : State} {m : MethodId} {args : Array Value} {below : List Frame} {meth : Method} {c : Code} {A : Nat → Prop} {g : MG} {Q : State → Prop} (E : EV p s m args c cX6_put 4 RX6) (hR : 2 ≤ R.frames ∧ 44 ≤ R.locals) {res : Int32 × MS} (hq : RTi p l e R s m args below meth c cX6_put 4 A g .int Q res) (N : Nat)  (x1 : Int32) (x2 : Int32) (σ : MS) (h : m_put_23 N  x1 x2 σ = some res) : CF p l e R s m args below meth c 4 0 0 (MB g A s σ) Q 23 [(0, .ref (mh g)), (1, .int x1), (2, .int x2)] [] := by
  unfold m_put_23 at h
  refine cf_iload_n E dX6_put_23 2 rfl rfl ?_
  refine cf_if_lt E dX6_put_24 h rfl rfl (fun h => ?_) (fun h => ?_)
  · exact CF.sub [0, 1, 2] rfl (wm_put_49 E hR hq N x1 x2 σ h)
  · refine cf_aload_n E dX6_put_27 0 rfl rfl ?_
    refine mget_5 E dX6_put_28 rfl ?_
    refine cf_iload_n E dX6_put_31 2 rfl rfl ?_
    refine mald_5 E dX6_put_32 h rfl (fun h => ?_)
    refine cf_if_lt E dX6_put_33 h rfl rfl (fun h => ?_) (fun h => ?_)
    · exact CF.sub [0, 1, 2] rfl (wm_put_49 E hR hq N x1 x2 σ h)
    · refine cf_aload_n E dX6_put_36 0 rfl rfl ?_
      refine mget_5 E dX6_put_37 rfl ?_
      refine cf_iload_n E dX6_put_40 2 rfl rfl ?_
      refine mald_5 E dX6_put_41 h rfl (fun h => ?_)
      refine cf_iload_n E dX6_put_42 1 rfl rfl ?_
      refine cf_icmp_eq E dX6_put_43 h rfl rfl (fun h => ?_) (fun h => ?_)
      · exact CF.sub [0, 1, 2] rfl (wm_put_49 E hR hq N x1 x2 σ h)
      · refine cf_bipush E dX6_put_46 bp_m3 rfl ?_
        exact mret_i dX6_put_48 h rfl hq
set_option maxHeartbeats 4000000 in
theorem met_put (l : Launch) (g : MG) (N : Nat) (x1 : Int32) (x2 : Int32) (σ : MS) {v : Int32} {σ1 : MS} (h : m_put N x1 x2 σ = some (v, σ1)) : MetMi l g yX6_put (ws_ yX6_put cX6_put 4 (some .int)) { frames := 2, cells := 0, slots := 0, locals := 44 } [.int x1, .int x2] σ v σ1 := by
  refine met_mi (lv0 := [(0, .ref (mh g)), (1, .int x1), (2, .int x2)]) (by decide) rfl ⟨rfl, rfl⟩ (Nat.le_of_ble_eq_true rfl) rfl ?_
  intro p e s m below meth c A Q E hq
  have hR : 2 ≤ ({ frames := 2, cells := 0, slots := 0, locals := 44 } : Room).frames ∧ 44 ≤ ({ frames := 2, cells := 0, slots := 0, locals := 44 } : Room).locals := ⟨Nat.le_refl _, Nat.le_refl _⟩
  unfold m_put at h
  refine cf_aload_n E dX6_put_0 0 rfl rfl ?_
  refine cf_iload_n E dX6_put_1 1 rfl rfl ?_
  refine mcl_isHat E (rmle hR rfl rfl) (Nat.le_of_ble_eq_true rfl) dX6_put_2 h rfl (fun v_2 s_1 h => ?_)
  refine cf_if_eq E dX6_put_5 h rfl rfl (fun h => ?_) (fun h => ?_)
  · refine cf_iconst E dX6_put_21 ic_m1 rfl ?_
    exact mret_i dX6_put_22 h rfl hq
  · refine cf_iload_n E dX6_put_8 2 rfl rfl ?_
    refine cf_iconst E dX6_put_9 ic_m1 rfl ?_
    refine cf_icmp_eq E dX6_put_10 h rfl rfl (fun h => ?_) (fun h => ?_)
    · exact CF.sub [0, 1, 2] rfl (wm_put_23 E hR hq N x1 x2 s_1 h)
    · refine cf_aload_n E dX6_put_13 0 rfl rfl ?_
      refine cf_iload_n E dX6_put_14 2 rfl rfl ?_
      refine mcl_isHead E (rmle hR rfl rfl) (Nat.le_of_ble_eq_true rfl) dX6_put_15 h rfl (fun v_4 s_3 h => ?_)
      refine cf_if_ne E dX6_put_18 h rfl rfl (fun h => ?_) (fun h => ?_)
      · exact CF.sub [0, 1, 2] rfl (wm_put_23 E hR hq N x1 x2 s_3 h)
      · refine cf_iconst E dX6_put_21 ic_m1 rfl ?_
        exact mret_i dX6_put_22 h rfl hq

set_option maxHeartbeats 4000000 in
theorem met_orNone (l : Launch) (g : MG) (N : Nat) (x1 : Int32) (σ : MS) {v : Int32} {σ1 : MS} (h : m_orNone N x1 σ = some (v, σ1)) : MetMi l g yX6_orNone (ws_ yX6_orNone cX6_orNone 2 (some .int)) { frames := 0, cells := 0, slots := 0, locals := 0 } [.int x1] σ v σ1 := by
  refine met_mi (lv0 := [(0, .ref (mh g)), (1, .int x1)]) (by decide) rfl ⟨rfl, rfl⟩ (Nat.le_of_ble_eq_true rfl) rfl ?_
  intro p e s m below meth c A Q E hq
  have hR : 0 ≤ ({ frames := 0, cells := 0, slots := 0, locals := 0 } : Room).frames ∧ 0 ≤ ({ frames := 0, cells := 0, slots := 0, locals := 0 } : Room).locals := ⟨Nat.le_refl _, Nat.le_refl _⟩
  unfold m_orNone at h
  refine cf_iload_n E dX6_orNone_0 1 rfl rfl ?_
  refine cf_if_ge E dX6_orNone_1 h rfl rfl (fun h => ?_) (fun h => ?_)
  · refine cf_iload_n E dX6_orNone_9 1 rfl rfl ?_
    exact mret_i dX6_orNone_10 h rfl hq
  · refine cf_bipush E dX6_orNone_4 bp_m5 rfl ?_
    refine cf_goto E dX6_orNone_6 rfl ?_
    exact mret_i dX6_orNone_10 h rfl hq
theorem gw_orNone : GoodIn lw_all (wsV RX6 266 RX6 yX6_orNone (ws_ yX6_orNone cX6_orNone 2 (some .int))) := lw_V q1776 q1778 qs41 q105 q1779
theorem hd_orNone : yX6_orNone.cls = RX6 ∧ yX6_orNone.cls ≠ "java/lang/invoke/MethodHandle" ∧ yX6_orNone.cls ≠ "java/lang/invoke/VarHandle" ∧ (parseMethodDescriptor yX6_orNone.desc).map (fun d => d.parameters.length) = some 1 := by decide +kernel
theorem mcl_orNone {p : Program} {l : Launch} {e : Env} {R : Room} {s : State} {m : MethodId} {args : Array Value} {below : List Frame} {meth : Method} {c : Code} {nL : Nat} {A : Nat → Prop} {g : MG} {σ : MS} {Q : State → Prop} {pc n : Nat} {lv : List (Nat × Value)} {st : List Value} {cc : ByteArray} {ρ : Type} {res : ρ} (E : EV p s m args c cc nL RX6) {N : Nat} {x1 : Int32} {kk : Int32 → MS → Option ρ} (hR : 1 ≤ R.frames ∧ 21 ≤ R.locals) (hcat : (st.map fun v => v.category).sum ≤ 8) (d : decode cc pc = .ok (.invokevirtual 266, 3)) (h : bnd (m_orNone N x1 σ) kk = some res) (hn : pc + 3 = n) (k : ∀ (v : Int32) (σ1 : MS), kk v σ1 = some res → CF p l e R s m args below meth c nL 0 0 (MB g A s σ1) Q n lv (.int v :: st)) : CF p l e R s m args below meth c nL 0 0 (MB g A s σ) Q pc lv (.int x1 :: .ref (mh g) :: st) :=
  mcall_i E [.int x1] (fun v σ1 ho => met_orNone l g N x1 σ ho) gw_orNone hd_orNone rfl rfl hR rfl rfl hcat d h hn k
set_option maxHeartbeats 4000000 in
theorem wm_own_23 {p : Program} {l : Launch} {e : Env} {R : Room} {s : State} {m : MethodId} {args : Array Value} {below : List Frame} {meth : Method} {c : Code} {A : Nat → Prop} {g : MG} {Q : State → Prop} (E : EV p s m args c cX6_own 4 RX6) (hR : 2 ≤ R.frames ∧ 44 ≤ R.locals) {res : Int32 × MS} (hq : RTi p l e R s m args below meth c cX6_own 4 A g .int Q res) (N : Nat)  (x1 : Int32) (x2 : Int32) (σ : MS) (h : m_own_23 N  x1 x2 σ = some res) : CF p l e R s m args below meth c 4 0 0 (MB g A s σ) Q 23 [(0, .ref (mh g)), (1, .int x1), (2, .int x2)] [] := by
  unfold m_own_23 at h
  refine cf_aload_n E dX6_own_23 0 rfl rfl ?_
  refine mget_4 E dX6_own_24 rfl ?_
  refine cf_iload_n E dX6_own_27 1 rfl rfl ?_
  refine mald_4 E dX6_own_28 h rfl (fun h => ?_)
  refine cf_istore_n E dX6_own_29 h (fun x3_1 => [(3, .int x3_1), (0, .ref (mh g)), (1, .int x1), (2, .int x2)]) (Nat.le_of_ble_eq_true rfl) (fun _ => rfl) rfl (fun x3_1 h => ?_)
  refine cf_aload_n E dX6_own_30 1 rfl rfl ?_
  refine mget_4 E dX6_own_31 rfl ?_
  refine cf_iload_n E dX6_own_34 2 rfl rfl ?_
  refine cf_iload_n E dX6_own_35 3 rfl rfl ?_
  refine mast_4 E dX6_own_36 h rfl (fun s_2 h => ?_)
  refine cf_aload_n E dX6_own_37 1 rfl rfl ?_
  refine cf_iload_n E dX6_own_38 0 rfl rfl ?_
  refine mcl_orNone E (rmle hR rfl rfl) (Nat.le_of_ble_eq_true rfl) dX6_own_39 h rfl (fun v_4 s_3 h => ?_)
  exact mret_i dX6_own_42 h rfl hq
set_option maxHeartbeats 4000000 in
theorem met_own (l : Launch) (g : MG) (N : Nat) (x1 : Int32) (x2 : Int32) (σ : MS) {v : Int32} {σ1 : MS} (h : m_own N x1 x2 σ = some (v, σ1)) : MetMi l g yX6_own (ws_ yX6_own cX6_own 4 (some .int)) { frames := 2, cells := 0, slots := 0, locals := 44 } [.int x1, .int x2] σ v σ1 := by
  refine met_mi (lv0 := [(0, .ref (mh g)), (1, .int x1), (2, .int x2)]) (by decide) rfl ⟨rfl, rfl⟩ (Nat.le_of_ble_eq_true rfl) rfl ?_
  intro p e s m below meth c A Q E hq
  have hR : 2 ≤ ({ frames := 2, cells := 0, slots := 0, locals := 44 } : Room).frames ∧ 44 ≤ ({ frames := 2, cells := 0, slots := 0, locals := 44 } : Room).locals := ⟨Nat.le_refl _, Nat.le_refl _⟩
  unfold m_own at h
  refine cf_aload_n E dX6_own_0 0 rfl rfl ?_
  refine cf_iload_n E dX6_own_1 1 rfl rfl ?_
  refine mcl_isHead E (rmle hR rfl rfl) (Nat.le_of_ble_eq_true rfl) dX6_own_2 h rfl (fun v_2 s_1 h => ?_)
  refine cf_if_eq E dX6_own_5 h rfl rfl (fun h => ?_) (fun h => ?_)
  · refine cf_iconst E dX6_own_21 ic_m1 rfl ?_
    exact mret_i dX6_own_22 h rfl hq
  · refine cf_iload_n E dX6_own_8 2 rfl rfl ?_
    refine cf_iconst E dX6_own_9 ic_m1 rfl ?_
    refine cf_icmp_eq E dX6_own_10 h rfl rfl (fun h => ?_) (fun h => ?_)
    · exact CF.sub [0, 1, 2] rfl (wm_own_23 E hR hq N x1 x2 s_1 h)
    · refine cf_aload_n E dX6_own_13 0 rfl rfl ?_
      refine cf_iload_n E dX6_own_14 2 rfl rfl ?_
      refine mcl_isHat E (rmle hR rfl rfl) (Nat.le_of_ble_eq_true rfl) dX6_own_15 h rfl (fun v_4 s_3 h => ?_)
      refine cf_if_ne E dX6_own_18 h rfl rfl (fun h => ?_) (fun h => ?_)
      · exact CF.sub [0, 1, 2] rfl (wm_own_23 E hR hq N x1 x2 s_3 h)
      · refine cf_iconst E dX6_own_21 ic_m1 rfl ?_
        exact mret_i dX6_own_22 h rfl hq

set_option maxHeartbeats 4000000 in
theorem met_skill (l : Launch) (g : MG) (N : Nat) (x1 : Int32) (x2 : Int32) (σ : MS) {v : Int32} {σ1 : MS} (h : m_skill N x1 x2 σ = some (v, σ1)) : MetMi l g yX6_skill (ws_ yX6_skill cX6_skill 4 (some .int)) { frames := 2, cells := 0, slots := 0, locals := 44 } [.int x1, .int x2] σ v σ1 := by
  refine met_mi (lv0 := [(0, .ref (mh g)), (1, .int x1), (2, .int x2)]) (by decide) rfl ⟨rfl, rfl⟩ (Nat.le_of_ble_eq_true rfl) rfl ?_
  intro p e s m below meth c A Q E hq
  have hR : 2 ≤ ({ frames := 2, cells := 0, slots := 0, locals := 44 } : Room).frames ∧ 44 ≤ ({ frames := 2, cells := 0, slots := 0, locals := 44 } : Room).locals := ⟨Nat.le_refl _, Nat.le_refl _⟩
  unfold m_skill at h
  refine cf_aload_n E dX6_skill_0 0 rfl rfl ?_
  refine cf_iload_n E dX6_skill_1 1 rfl rfl ?_
  refine mcl_isHat E (rmle hR rfl rfl) (Nat.le_of_ble_eq_true rfl) dX6_skill_2 h rfl (fun v_2 s_1 h => ?_)
  refine cf_if_ne E dX6_skill_5 h rfl rfl (fun h => ?_) (fun h => ?_)
  · refine cf_aload_n E dX6_skill_10 0 rfl rfl ?_
    refine cf_iload_n E dX6_skill_11 2 rfl rfl ?_
    refine cf_iconst E dX6_skill_12 ic_0 rfl ?_
    refine cf_bipush E dX6_skill_13 bp_50 rfl ?_
    refine mcl_in E (rmle hR rfl rfl) (Nat.le_of_ble_eq_true rfl) dX6_skill_15 h rfl (fun v_4 s_3 h => ?_)
    refine cf_if_ne E dX6_skill_18 h rfl rfl (fun h => ?_) (fun h => ?_)
    · refine cf_aload_n E dX6_skill_24 0 rfl rfl ?_
      refine mget_9 E dX6_skill_25 rfl ?_
      refine cf_iload_n E dX6_skill_28 1 rfl rfl ?_
      refine mald_9 E dX6_skill_29 h rfl (fun h => ?_)
      refine cf_istore_n E dX6_skill_30 h (fun x3_5 => [(3, .int x3_5), (0, .ref (mh g)), (1, .int x1), (2, .int x2)]) (Nat.le_of_ble_eq_true rfl) (fun _ => rfl) rfl (fun x3_5 h => ?_)
      refine cf_aload_n E dX6_skill_31 1 rfl rfl ?_
      refine mget_9 E dX6_skill_32 rfl ?_
      refine cf_iload_n E dX6_skill_35 2 rfl rfl ?_
      refine cf_iload_n E dX6_skill_36 3 rfl rfl ?_
      refine mast_9 E dX6_skill_37 h rfl (fun s_6 h => ?_)
      refine cf_iload_n E dX6_skill_38 0 rfl rfl ?_
      exact mret_i dX6_skill_39 h rfl hq
    · refine cf_bipush E dX6_skill_21 bp_m2 rfl ?_
      exact mret_i dX6_skill_23 h rfl hq
  · refine cf_iconst E dX6_skill_8 ic_m1 rfl ?_
    exact mret_i dX6_skill_9 h rfl hq

set_option maxHeartbeats 4000000 in
theorem met_feed (l : Launch) (g : MG) (N : Nat) (x1 : Int32) (σ : MS) {v : Int32} {σ1 : MS} (h : m_feed N x1 σ = some (v, σ1)) : MetMi l g yX6_feed (ws_ yX6_feed cX6_feed 2 (some .int)) { frames := 1, cells := 0, slots := 0, locals := 23 } [.int x1] σ v σ1 := by
  refine met_mi (lv0 := [(0, .ref (mh g)), (1, .int x1)]) (by decide) rfl ⟨rfl, rfl⟩ (Nat.le_of_ble_eq_true rfl) rfl ?_
  intro p e s m below meth c A Q E hq
  have hR : 1 ≤ ({ frames := 1, cells := 0, slots := 0, locals := 23 } : Room).frames ∧ 23 ≤ ({ frames := 1, cells := 0, slots := 0, locals := 23 } : Room).locals := ⟨Nat.le_refl _, Nat.le_refl _⟩
  unfold m_feed at h
  refine cf_aload_n E dX6_feed_0 0 rfl rfl ?_
  refine cf_iload_n E dX6_feed_1 1 rfl rfl ?_
  refine cf_iconst E dX6_feed_2 ic_0 rfl ?_
  refine cf_bipush E dX6_feed_3 bp_127 rfl ?_
  refine mcl_in E (rmle hR rfl rfl) (Nat.le_of_ble_eq_true rfl) dX6_feed_5 h rfl (fun v_2 s_1 h => ?_)
  refine cf_if_ne E dX6_feed_8 h rfl rfl (fun h => ?_) (fun h => ?_)
  · refine cf_aload_n E dX6_feed_14 0 rfl rfl ?_
    refine mget_16 E dX6_feed_15 rfl ?_
    refine cf_bipush E dX6_feed_18 bp_100 rfl ?_
    refine cf_icmp_ne E dX6_feed_20 h rfl rfl (fun h => ?_) (fun h => ?_)
    · refine cf_aload_n E dX6_feed_26 0 rfl rfl ?_
      refine mget_19 E dX6_feed_27 rfl ?_
      refine cf_aload_n E dX6_feed_30 0 rfl rfl ?_
      refine mget_16 E dX6_feed_31 rfl ?_
      refine cf_iload_n E dX6_feed_34 1 rfl rfl ?_
      refine mast_19 E dX6_feed_35 h rfl (fun s_3 h => ?_)
      refine cf_aload_n E dX6_feed_36 0 rfl rfl ?_
      refine cf_dup E dX6_feed_37 rfl rfl ?_
      refine mget_16 E dX6_feed_38 rfl ?_
      refine cf_iconst E dX6_feed_41 ic_1 rfl ?_
      refine cf_iadd E dX6_feed_42 rfl ?_
      refine mput_16 E dX6_feed_43 h rfl (fun s_4 h => ?_)
      refine cf_aload_n E dX6_feed_46 0 rfl rfl ?_
      refine mget_16 E dX6_feed_47 rfl ?_
      exact mret_i dX6_feed_50 h rfl hq
    · refine cf_bipush E dX6_feed_23 bp_m4 rfl ?_
      exact mret_i dX6_feed_25 h rfl hq
  · refine cf_bipush E dX6_feed_11 bp_m2 rfl ?_
    exact mret_i dX6_feed_13 h rfl hq

set_option maxHeartbeats 4000000 in
theorem met_next (l : Launch) (g : MG) (N : Nat)  (σ : MS) {v : Int32} {σ1 : MS} (h : m_next N  σ = some (v, σ1)) : MetMi l g yX6_next (ws_ yX6_next cX6_next 1 (some .int)) { frames := 0, cells := 0, slots := 0, locals := 0 } [] σ v σ1 := by
  refine met_mi (lv0 := [(0, .ref (mh g))]) (by decide) rfl ⟨rfl, rfl⟩ (Nat.le_of_ble_eq_true rfl) rfl ?_
  intro p e s m below meth c A Q E hq
  have hR : 0 ≤ ({ frames := 0, cells := 0, slots := 0, locals := 0 } : Room).frames ∧ 0 ≤ ({ frames := 0, cells := 0, slots := 0, locals := 0 } : Room).locals := ⟨Nat.le_refl _, Nat.le_refl _⟩
  unfold m_next at h
  refine cf_aload_n E dX6_next_0 0 rfl rfl ?_
  refine mget_17 E dX6_next_1 rfl ?_
  refine cf_aload_n E dX6_next_4 0 rfl rfl ?_
  refine mget_16 E dX6_next_5 rfl ?_
  refine cf_icmp_ge E dX6_next_8 h rfl rfl (fun h => ?_) (fun h => ?_)
  · refine cf_iconst E dX6_next_23 ic_m1 rfl ?_
    exact mret_i dX6_next_24 h rfl hq
  · refine cf_aload_n E dX6_next_11 0 rfl rfl ?_
    refine mget_19 E dX6_next_12 rfl ?_
    refine cf_aload_n E dX6_next_15 0 rfl rfl ?_
    refine mget_17 E dX6_next_16 rfl ?_
    refine mald_19 E dX6_next_19 h rfl (fun h => ?_)
    refine cf_goto E dX6_next_20 rfl ?_
    exact mret_i dX6_next_24 h rfl hq
theorem gw_next : GoodIn lw_all (wsV RX6 269 RX6 yX6_next (ws_ yX6_next cX6_next 1 (some .int))) := lw_V q1804 q1806 qs45 q105 q1807
theorem hd_next : yX6_next.cls = RX6 ∧ yX6_next.cls ≠ "java/lang/invoke/MethodHandle" ∧ yX6_next.cls ≠ "java/lang/invoke/VarHandle" ∧ (parseMethodDescriptor yX6_next.desc).map (fun d => d.parameters.length) = some 0 := by decide +kernel
theorem mcl_next {p : Program} {l : Launch} {e : Env} {R : Room} {s : State} {m : MethodId} {args : Array Value} {below : List Frame} {meth : Method} {c : Code} {nL : Nat} {A : Nat → Prop} {g : MG} {σ : MS} {Q : State → Prop} {pc n : Nat} {lv : List (Nat × Value)} {st : List Value} {cc : ByteArray} {ρ : Type} {res : ρ} (E : EV p s m args c cc nL RX6) {N : Nat}  {kk : Int32 → MS → Option ρ} (hR : 1 ≤ R.frames ∧ 20 ≤ R.locals) (hcat : (st.map fun v => v.category).sum ≤ 8) (d : decode cc pc = .ok (.invokevirtual 269, 3)) (h : bnd (m_next N  σ) kk = some res) (hn : pc + 3 = n) (k : ∀ (v : Int32) (σ1 : MS), kk v σ1 = some res → CF p l e R s m args below meth c nL 0 0 (MB g A s σ1) Q n lv (.int v :: st)) : CF p l e R s m args below meth c nL 0 0 (MB g A s σ) Q pc lv (.ref (mh g) :: st) :=
  mcall_i E [] (fun v σ1 ho => met_next l g N  σ ho) gw_next hd_next rfl rfl hR rfl rfl hcat d h hn k
set_option maxHeartbeats 4000000 in
theorem met_takes (l : Launch) (g : MG) (N : Nat) (x1 : Int32) (σ : MS) {v : Int32} {σ1 : MS} (h : m_takes N x1 σ = some (v, σ1)) : MetMi l g yX6_takes (ws_ yX6_takes cX6_takes 2 (some .boolean)) { frames := 1, cells := 0, slots := 0, locals := 20 } [.int x1] σ v σ1 := by
  refine met_mi (lv0 := [(0, .ref (mh g)), (1, .int x1)]) (by decide) rfl ⟨rfl, rfl⟩ (Nat.le_of_ble_eq_true rfl) rfl ?_
  intro p e s m below meth c A Q E hq
  have hR : 1 ≤ ({ frames := 1, cells := 0, slots := 0, locals := 20 } : Room).frames ∧ 20 ≤ ({ frames := 1, cells := 0, slots := 0, locals := 20 } : Room).locals := ⟨Nat.le_refl _, Nat.le_refl _⟩
  unfold m_takes at h
  refine cf_aload_n E dX6_takes_0 0 rfl rfl ?_
  refine mcl_next E (rmle hR rfl rfl) (Nat.le_of_ble_eq_true rfl) dX6_takes_1 h rfl (fun v_2 s_1 h => ?_)
  refine cf_iload_n E dX6_takes_4 1 rfl rfl ?_
  refine cf_icmp_eq E dX6_takes_5 h rfl rfl (fun h => ?_) (fun h => ?_)
  · refine cf_aload_n E dX6_takes_10 0 rfl rfl ?_
    refine cf_dup E dX6_takes_11 rfl rfl ?_
    refine mget_17 E dX6_takes_12 rfl ?_
    refine cf_iconst E dX6_takes_15 ic_1 rfl ?_
    refine cf_iadd E dX6_takes_16 rfl ?_
    refine mput_17 E dX6_takes_17 h rfl (fun s_3 h => ?_)
    refine cf_iconst E dX6_takes_20 ic_1 rfl ?_
    exact mret_i dX6_takes_21 h nzb1 hq
  · refine cf_iconst E dX6_takes_8 ic_0 rfl ?_
    exact mret_i dX6_takes_9 h nzb0 hq
theorem gw_takes : GoodIn lw_all (wsV RX6 273 RX6 yX6_takes (ws_ yX6_takes cX6_takes 2 (some .boolean))) := lw_V q1812 q1814 qs47 q105 q1815
theorem hd_takes : yX6_takes.cls = RX6 ∧ yX6_takes.cls ≠ "java/lang/invoke/MethodHandle" ∧ yX6_takes.cls ≠ "java/lang/invoke/VarHandle" ∧ (parseMethodDescriptor yX6_takes.desc).map (fun d => d.parameters.length) = some 1 := by decide +kernel
theorem mcl_takes {p : Program} {l : Launch} {e : Env} {R : Room} {s : State} {m : MethodId} {args : Array Value} {below : List Frame} {meth : Method} {c : Code} {nL : Nat} {A : Nat → Prop} {g : MG} {σ : MS} {Q : State → Prop} {pc n : Nat} {lv : List (Nat × Value)} {st : List Value} {cc : ByteArray} {ρ : Type} {res : ρ} (E : EV p s m args c cc nL RX6) {N : Nat} {x1 : Int32} {kk : Int32 → MS → Option ρ} (hR : 2 ≤ R.frames ∧ 41 ≤ R.locals) (hcat : (st.map fun v => v.category).sum ≤ 8) (d : decode cc pc = .ok (.invokevirtual 273, 3)) (h : bnd (m_takes N x1 σ) kk = some res) (hn : pc + 3 = n) (k : ∀ (v : Int32) (σ1 : MS), kk v σ1 = some res → CF p l e R s m args below meth c nL 0 0 (MB g A s σ1) Q n lv (.int v :: st)) : CF p l e R s m args below meth c nL 0 0 (MB g A s σ) Q pc lv (.int x1 :: .ref (mh g) :: st) :=
  mcall_i E [.int x1] (fun v σ1 ho => met_takes l g N x1 σ ho) gw_takes hd_takes rfl rfl hR rfl rfl hcat d h hn k
set_option maxHeartbeats 4000000 in
theorem wm_takesWord_2b {p : Program} {l : Launch} {e : Env} {R : Room} {s : State} {m : MethodId} {args : Array Value} {below : List Frame} {meth : Method} {c : Code} {A : Nat → Prop} {g : MG} {Q : State → Prop} (E : EV p s m args c cX6_takesWord 4 RX6) (hR : 2 ≤ R.frames ∧ 41 ≤ R.locals) {res : Int32 × MS} (hq : RTi p l e R s m args below meth c cX6_takesWord 4 A g .boolean Q res) (N : Nat)  {rec2 : Int32 → Int32 → Int32 → MS → Option (Int32 × MS)} (ih2 : ∀ (x1 : Int32) (x2 : Int32) (x3 : Int32) (σ : MS), rec2 x1 x2 x3 σ = some res → CF p l e R s m args below meth c 4 0 0 (MB g A s σ) Q 2 [(0, .ref (mh g)), (1, .int x1), (2, .int x2), (3, .int x3)] []) (x1 : Int32) (x2 : Int32) (x3 : Int32) (σ : MS) (h : m_takesWord_2b N  rec2 x1 x2 x3 σ = some res) : CF p l e R s m args below meth c 4 0 0 (MB g A s σ) Q 2 [(0, .ref (mh g)), (1, .int x1), (2, .int x2), (3, .int x3)] [] := by
  unfold m_takesWord_2b at h
  refine cf_iload_n E dX6_takesWord_2 3 rfl rfl ?_
  refine cf_iload_n E dX6_takesWord_3 2 rfl rfl ?_
  refine cf_icmp_ge E dX6_takesWord_4 h rfl rfl (fun h => ?_) (fun h => ?_)
  · refine cf_aload_n E dX6_takesWord_30 0 rfl rfl ?_
    refine cf_bipush E dX6_takesWord_31 bp_32 rfl ?_
    refine mcl_takes E (rmle hR rfl rfl) (Nat.le_of_ble_eq_true rfl) dX6_takesWord_33 h rfl (fun v_2 s_1 h => ?_)
    exact mret_z dX6_takesWord_36 h hq
  · refine cf_aload_n E dX6_takesWord_7 0 rfl rfl ?_
    refine cf_aload_n E dX6_takesWord_8 0 rfl rfl ?_
    refine mget_31 E dX6_takesWord_9 rfl ?_
    refine cf_iload_n E dX6_takesWord_12 1 rfl rfl ?_
    refine cf_iload_n E dX6_takesWord_13 3 rfl rfl ?_
    refine cf_iadd E dX6_takesWord_14 rfl ?_
    refine mald_31 E dX6_takesWord_15 h rfl (fun h => ?_)
    refine mcl_takes E (rmle hR rfl rfl) (Nat.le_of_ble_eq_true rfl) dX6_takesWord_16 h rfl (fun v_4 s_3 h => ?_)
    refine cf_if_ne E dX6_takesWord_19 h rfl rfl (fun h => ?_) (fun h => ?_)
    · refine cf_iinc E dX6_takesWord_24 ic_1 h 3 rfl (fun x3_5 => [(3, .int x3_5), (0, .ref (mh g)), (1, .int x1), (2, .int x2)]) (Nat.le_of_ble_eq_true rfl) (fun _ => rfl) rfl (fun x3_5 h => ?_)
      refine cf_goto E dX6_takesWord_27 rfl ?_
      exact CF.sub [1, 2, 3, 0] rfl (ih2 x1 x2 x3_5 s_3 h)
    · refine cf_iconst E dX6_takesWord_22 ic_0 rfl ?_
      exact mret_i dX6_takesWord_23 h nzb0 hq
set_option maxHeartbeats 4000000 in
theorem wm_takesWord_2 {p : Program} {l : Launch} {e : Env} {R : Room} {s : State} {m : MethodId} {args : Array Value} {below : List Frame} {meth : Method} {c : Code} {A : Nat → Prop} {g : MG} {Q : State → Prop} (E : EV p s m args c cX6_takesWord 4 RX6) (hR : 2 ≤ R.frames ∧ 41 ≤ R.locals) {res : Int32 × MS} (hq : RTi p l e R s m args below meth c cX6_takesWord 4 A g .boolean Q res) (N : Nat)  : ∀ (k : Nat) (x1 : Int32) (x2 : Int32) (x3 : Int32) (σ : MS), m_takesWord_2 N  k x1 x2 x3 σ = some res → CF p l e R s m args below meth c 4 0 0 (MB g A s σ) Q 2 [(0, .ref (mh g)), (1, .int x1), (2, .int x2), (3, .int x3)] [] := by
  intro k
  induction k with
  | zero => intro x1 x2 x3 σ h; have h : (none : Option (Int32 × MS)) = some res := h; cases h
  | succ k ih => intro x1 x2 x3 σ h; exact wm_takesWord_2b E hR hq N  ih x1 x2 x3 σ h
set_option maxHeartbeats 4000000 in
theorem met_takesWord (l : Launch) (g : MG) (N : Nat) (x1 : Int32) (x2 : Int32) (σ : MS) {v : Int32} {σ1 : MS} (h : m_takesWord N x1 x2 σ = some (v, σ1)) : MetMi l g yX6_takesWord (ws_ yX6_takesWord cX6_takesWord 4 (some .boolean)) { frames := 2, cells := 0, slots := 0, locals := 41 } [.int x1, .int x2] σ v σ1 := by
  refine met_mi (lv0 := [(0, .ref (mh g)), (1, .int x1), (2, .int x2)]) (by decide) rfl ⟨rfl, rfl⟩ (Nat.le_of_ble_eq_true rfl) rfl ?_
  intro p e s m below meth c A Q E hq
  have hR : 2 ≤ ({ frames := 2, cells := 0, slots := 0, locals := 41 } : Room).frames ∧ 41 ≤ ({ frames := 2, cells := 0, slots := 0, locals := 41 } : Room).locals := ⟨Nat.le_refl _, Nat.le_refl _⟩
  unfold m_takesWord at h
  refine cf_iconst E dX6_takesWord_0 ic_0 rfl ?_
  refine cf_istore_n E dX6_takesWord_1 h (fun x3_1 => [(3, .int x3_1), (0, .ref (mh g)), (1, .int x1), (2, .int x2)]) (Nat.le_of_ble_eq_true rfl) (fun _ => rfl) rfl (fun x3_1 h => ?_)
  exact CF.sub [1, 2, 3, 0] rfl (wm_takesWord_2 E hR hq N N x1 x2 x3_1 σ h)
theorem gw_takesWord : GoodIn lw_all (wsV RX6 299 RX6 yX6_takesWord (ws_ yX6_takesWord cX6_takesWord 4 (some .boolean))) := lw_V q1808 q1810 qs46 q105 q1811
theorem hd_takesWord : yX6_takesWord.cls = RX6 ∧ yX6_takesWord.cls ≠ "java/lang/invoke/MethodHandle" ∧ yX6_takesWord.cls ≠ "java/lang/invoke/VarHandle" ∧ (parseMethodDescriptor yX6_takesWord.desc).map (fun d => d.parameters.length) = some 2 := by decide +kernel
theorem mcl_takesWord {p : Program} {l : Launch} {e : Env} {R : Room} {s : State} {m : MethodId} {args : Array Value} {below : List Frame} {meth : Method} {c : Code} {nL : Nat} {A : Nat → Prop} {g : MG} {σ : MS} {Q : State → Prop} {pc n : Nat} {lv : List (Nat × Value)} {st : List Value} {cc : ByteArray} {ρ : Type} {res : ρ} (E : EV p s m args c cc nL RX6) {N : Nat} {x1 : Int32} {x2 : Int32} {kk : Int32 → MS → Option ρ} (hR : 3 ≤ R.frames ∧ 64 ≤ R.locals) (hcat : (st.map fun v => v.category).sum ≤ 8) (d : decode cc pc = .ok (.invokevirtual 299, 3)) (h : bnd (m_takesWord N x1 x2 σ) kk = some res) (hn : pc + 3 = n) (k : ∀ (v : Int32) (σ1 : MS), kk v σ1 = some res → CF p l e R s m args below meth c nL 0 0 (MB g A s σ1) Q n lv (.int v :: st)) : CF p l e R s m args below meth c nL 0 0 (MB g A s σ) Q pc lv (.int x2 :: .int x1 :: .ref (mh g) :: st) :=
  mcall_i E [.int x1, .int x2] (fun v σ1 ho => met_takesWord l g N x1 x2 σ ho) gw_takesWord hd_takesWord rfl rfl hR rfl rfl hcat d h hn k
set_option maxHeartbeats 4000000 in
theorem met_takesHead (l : Launch) (g : MG) (N : Nat) (x1 : Int32) (σ : MS) {v : Int32} {σ1 : MS} (h : m_takesHead N x1 σ = some (v, σ1)) : MetMi l g yX6_takesHead (ws_ yX6_takesHead cX6_takesHead 2 (some .boolean)) { frames := 3, cells := 0, slots := 0, locals := 64 } [.int x1] σ v σ1 := by
  refine met_mi (lv0 := [(0, .ref (mh g)), (1, .int x1)]) (by decide) rfl ⟨rfl, rfl⟩ (Nat.le_of_ble_eq_true rfl) rfl ?_
  intro p e s m below meth c A Q E hq
  have hR : 3 ≤ ({ frames := 3, cells := 0, slots := 0, locals := 64 } : Room).frames ∧ 64 ≤ ({ frames := 3, cells := 0, slots := 0, locals := 64 } : Room).locals := ⟨Nat.le_refl _, Nat.le_refl _⟩
  unfold m_takesHead at h
  refine cf_aload_n E dX6_takesHead_0 0 rfl rfl ?_
  refine mcl_next E (rmle hR rfl rfl) (Nat.le_of_ble_eq_true rfl) dX6_takesHead_1 h rfl (fun v_2 s_1 h => ?_)
  by_cases hx_3 : v_2 = (103 : Int32)
  · rw [if_pos hx_3] at h
    refine cf_look E dX6_takesHead_4 (by decide) (by rw [i32_eqZ (z := 103) hx_3 (by decide)]) rfl ?_
    refine cf_aload_n E dX6_takesHead_54 0 rfl rfl ?_
    refine mget_21 E dX6_takesHead_55 rfl ?_
    refine cf_iload_n E dX6_takesHead_58 1 rfl rfl ?_
    refine cf_iconst E dX6_takesHead_59 ic_1 rfl ?_
    refine mast_21 E dX6_takesHead_60 h rfl (fun s_4 h => ?_)
    refine cf_aload_n E dX6_takesHead_61 0 rfl rfl ?_
    refine cf_iconst E dX6_takesHead_62 ic_4 rfl ?_
    refine cf_iconst E dX6_takesHead_63 ic_4 rfl ?_
    refine mcl_takesWord E (rmle hR rfl rfl) (Nat.le_of_ble_eq_true rfl) dX6_takesHead_64 h rfl (fun v_6 s_5 h => ?_)
    exact mret_z dX6_takesHead_67 h hq
  rw [if_neg hx_3] at h
  by_cases hx_7 : v_2 = (109 : Int32)
  · rw [if_pos hx_7] at h
    refine cf_look E dX6_takesHead_4 (by decide) (by rw [i32_eqZ (z := 109) hx_7 (by decide)]) rfl ?_
    refine cf_aload_n E dX6_takesHead_68 0 rfl rfl ?_
    refine mget_21 E dX6_takesHead_69 rfl ?_
    refine cf_iload_n E dX6_takesHead_72 1 rfl rfl ?_
    refine cf_iconst E dX6_takesHead_73 ic_2 rfl ?_
    refine mast_21 E dX6_takesHead_74 h rfl (fun s_8 h => ?_)
    refine cf_aload_n E dX6_takesHead_75 0 rfl rfl ?_
    refine cf_bipush E dX6_takesHead_76 bp_8 rfl ?_
    refine cf_iconst E dX6_takesHead_78 ic_4 rfl ?_
    refine mcl_takesWord E (rmle hR rfl rfl) (Nat.le_of_ble_eq_true rfl) dX6_takesHead_79 h rfl (fun v_10 s_9 h => ?_)
    exact mret_z dX6_takesHead_82 h hq
  rw [if_neg hx_7] at h
  by_cases hx_11 : v_2 = (115 : Int32)
  · rw [if_pos hx_11] at h
    refine cf_look E dX6_takesHead_4 (by decide) (by rw [i32_eqZ (z := 115) hx_11 (by decide)]) rfl ?_
    refine cf_aload_n E dX6_takesHead_40 0 rfl rfl ?_
    refine mget_21 E dX6_takesHead_41 rfl ?_
    refine cf_iload_n E dX6_takesHead_44 1 rfl rfl ?_
    refine cf_iconst E dX6_takesHead_45 ic_0 rfl ?_
    refine mast_21 E dX6_takesHead_46 h rfl (fun s_12 h => ?_)
    refine cf_aload_n E dX6_takesHead_47 0 rfl rfl ?_
    refine cf_iconst E dX6_takesHead_48 ic_0 rfl ?_
    refine cf_iconst E dX6_takesHead_49 ic_4 rfl ?_
    refine mcl_takesWord E (rmle hR rfl rfl) (Nat.le_of_ble_eq_true rfl) dX6_takesHead_50 h rfl (fun v_14 s_13 h => ?_)
    exact mret_z dX6_takesHead_53 h hq
  rw [if_neg hx_11] at h
  refine cf_look E dX6_takesHead_4 (by decide) (look_no (i32_neZ (z := 103) hx_3 (by decide)) (look_no (i32_neZ (z := 109) hx_7 (by decide)) (look_no (i32_neZ (z := 115) hx_11 (by decide)) rfl))) rfl ?_
  refine cf_aload_n E dX6_takesHead_83 0 rfl rfl ?_
  refine mget_21 E dX6_takesHead_84 rfl ?_
  refine cf_iload_n E dX6_takesHead_87 1 rfl rfl ?_
  refine cf_iconst E dX6_takesHead_88 ic_3 rfl ?_
  refine mast_21 E dX6_takesHead_89 h rfl (fun s_15 h => ?_)
  refine cf_aload_n E dX6_takesHead_90 0 rfl rfl ?_
  refine cf_bipush E dX6_takesHead_91 bp_12 rfl ?_
  refine cf_iconst E dX6_takesHead_93 ic_4 rfl ?_
  refine mcl_takesWord E (rmle hR rfl rfl) (Nat.le_of_ble_eq_true rfl) dX6_takesHead_94 h rfl (fun v_17 s_16 h => ?_)
  exact mret_z dX6_takesHead_97 h hq
theorem gw_takesHead : GoodIn lw_all (wsV RX6 303 RX6 yX6_takesHead (ws_ yX6_takesHead cX6_takesHead 2 (some .boolean))) := lw_V q1800 q1802 qs44 q105 q1803
theorem hd_takesHead : yX6_takesHead.cls = RX6 ∧ yX6_takesHead.cls ≠ "java/lang/invoke/MethodHandle" ∧ yX6_takesHead.cls ≠ "java/lang/invoke/VarHandle" ∧ (parseMethodDescriptor yX6_takesHead.desc).map (fun d => d.parameters.length) = some 1 := by decide +kernel
theorem mcl_takesHead {p : Program} {l : Launch} {e : Env} {R : Room} {s : State} {m : MethodId} {args : Array Value} {below : List Frame} {meth : Method} {c : Code} {nL : Nat} {A : Nat → Prop} {g : MG} {σ : MS} {Q : State → Prop} {pc n : Nat} {lv : List (Nat × Value)} {st : List Value} {cc : ByteArray} {ρ : Type} {res : ρ} (E : EV p s m args c cc nL RX6) {N : Nat} {x1 : Int32} {kk : Int32 → MS → Option ρ} (hR : 4 ≤ R.frames ∧ 85 ≤ R.locals) (hcat : (st.map fun v => v.category).sum ≤ 8) (d : decode cc pc = .ok (.invokevirtual 303, 3)) (h : bnd (m_takesHead N x1 σ) kk = some res) (hn : pc + 3 = n) (k : ∀ (v : Int32) (σ1 : MS), kk v σ1 = some res → CF p l e R s m args below meth c nL 0 0 (MB g A s σ1) Q n lv (.int v :: st)) : CF p l e R s m args below meth c nL 0 0 (MB g A s σ) Q pc lv (.int x1 :: .ref (mh g) :: st) :=
  mcall_i E [.int x1] (fun v σ1 ho => met_takesHead l g N x1 σ ho) gw_takesHead hd_takesHead rfl rfl hR rfl rfl hcat d h hn k
set_option maxHeartbeats 4000000 in
theorem met_isDigit (l : Launch) (g : MG) (N : Nat)  (σ : MS) {v : Int32} {σ1 : MS} (h : m_isDigit N  σ = some (v, σ1)) : MetMi l g yX6_isDigit (ws_ yX6_isDigit cX6_isDigit 1 (some .boolean)) { frames := 1, cells := 0, slots := 0, locals := 23 } [] σ v σ1 := by
  refine met_mi (lv0 := [(0, .ref (mh g))]) (by decide) rfl ⟨rfl, rfl⟩ (Nat.le_of_ble_eq_true rfl) rfl ?_
  intro p e s m below meth c A Q E hq
  have hR : 1 ≤ ({ frames := 1, cells := 0, slots := 0, locals := 23 } : Room).frames ∧ 23 ≤ ({ frames := 1, cells := 0, slots := 0, locals := 23 } : Room).locals := ⟨Nat.le_refl _, Nat.le_refl _⟩
  unfold m_isDigit at h
  refine cf_aload_n E dX6_isDigit_0 0 rfl rfl ?_
  refine cf_aload_n E dX6_isDigit_1 0 rfl rfl ?_
  refine mcl_next E (rmle hR rfl rfl) (Nat.le_of_ble_eq_true rfl) dX6_isDigit_2 h rfl (fun v_2 s_1 h => ?_)
  refine cf_bipush E dX6_isDigit_5 bp_48 rfl ?_
  refine cf_bipush E dX6_isDigit_7 bp_57 rfl ?_
  refine mcl_in E (rmle hR rfl rfl) (Nat.le_of_ble_eq_true rfl) dX6_isDigit_9 h rfl (fun v_4 s_3 h => ?_)
  exact mret_z dX6_isDigit_12 h hq
theorem gw_isDigit : GoodIn lw_all (wsV RX6 276 RX6 yX6_isDigit (ws_ yX6_isDigit cX6_isDigit 1 (some .boolean))) := lw_V q1820 q1822 qs49 q105 q1823
theorem hd_isDigit : yX6_isDigit.cls = RX6 ∧ yX6_isDigit.cls ≠ "java/lang/invoke/MethodHandle" ∧ yX6_isDigit.cls ≠ "java/lang/invoke/VarHandle" ∧ (parseMethodDescriptor yX6_isDigit.desc).map (fun d => d.parameters.length) = some 0 := by decide +kernel
theorem mcl_isDigit {p : Program} {l : Launch} {e : Env} {R : Room} {s : State} {m : MethodId} {args : Array Value} {below : List Frame} {meth : Method} {c : Code} {nL : Nat} {A : Nat → Prop} {g : MG} {σ : MS} {Q : State → Prop} {pc n : Nat} {lv : List (Nat × Value)} {st : List Value} {cc : ByteArray} {ρ : Type} {res : ρ} (E : EV p s m args c cc nL RX6) {N : Nat}  {kk : Int32 → MS → Option ρ} (hR : 2 ≤ R.frames ∧ 43 ≤ R.locals) (hcat : (st.map fun v => v.category).sum ≤ 8) (d : decode cc pc = .ok (.invokevirtual 276, 3)) (h : bnd (m_isDigit N  σ) kk = some res) (hn : pc + 3 = n) (k : ∀ (v : Int32) (σ1 : MS), kk v σ1 = some res → CF p l e R s m args below meth c nL 0 0 (MB g A s σ1) Q n lv (.int v :: st)) : CF p l e R s m args below meth c nL 0 0 (MB g A s σ) Q pc lv (.ref (mh g) :: st) :=
  mcall_i E [] (fun v σ1 ho => met_isDigit l g N  σ ho) gw_isDigit hd_isDigit rfl rfl hR rfl rfl hcat d h hn k
set_option maxHeartbeats 4000000 in
theorem wm_takesNumber_16b {p : Program} {l : Launch} {e : Env} {R : Room} {s : State} {m : MethodId} {args : Array Value} {below : List Frame} {meth : Method} {c : Code} {A : Nat → Prop} {g : MG} {Q : State → Prop} (E : EV p s m args c cX6_takesNumber 2 RX6) (hR : 2 ≤ R.frames ∧ 43 ≤ R.locals) {res : Int32 × MS} (hq : RTi p l e R s m args below meth c cX6_takesNumber 2 A g .boolean Q res) (N : Nat)  {rec16 : Int32 → MS → Option (Int32 × MS)} (ih16 : ∀ (x1 : Int32) (σ : MS), rec16 x1 σ = some res → CF p l e R s m args below meth c 2 0 0 (MB g A s σ) Q 16 [(0, .ref (mh g)), (1, .int x1)] []) (x1 : Int32) (σ : MS) (h : m_takesNumber_16b N  rec16 x1 σ = some res) : CF p l e R s m args below meth c 2 0 0 (MB g A s σ) Q 16 [(0, .ref (mh g)), (1, .int x1)] [] := by
  unfold m_takesNumber_16b at h
  refine cf_iload_n E dX6_takesNumber_16 1 rfl rfl ?_
  refine cf_iconst E dX6_takesNumber_17 ic_2 rfl ?_
  refine cf_icmp_ge E dX6_takesNumber_18 h rfl rfl (fun h => ?_) (fun h => ?_)
  · refine cf_iconst E dX6_takesNumber_63 ic_1 rfl ?_
    exact mret_i dX6_takesNumber_64 h nzb1 hq
  · refine cf_aload_n E dX6_takesNumber_21 0 rfl rfl ?_
    refine mcl_isDigit E (rmle hR rfl rfl) (Nat.le_of_ble_eq_true rfl) dX6_takesNumber_22 h rfl (fun v_2 s_1 h => ?_)
    refine cf_if_eq E dX6_takesNumber_25 h rfl rfl (fun h => ?_) (fun h => ?_)
    · refine cf_iconst E dX6_takesNumber_63 ic_1 rfl ?_
      exact mret_i dX6_takesNumber_64 h nzb1 hq
    · refine cf_aload_n E dX6_takesNumber_28 0 rfl rfl ?_
      refine cf_bipush E dX6_takesNumber_29 bp_10 rfl ?_
      refine cf_aload_n E dX6_takesNumber_31 0 rfl rfl ?_
      refine mget_18 E dX6_takesNumber_32 rfl ?_
      refine cf_imul E dX6_takesNumber_35 rfl ?_
      refine cf_aload_n E dX6_takesNumber_36 0 rfl rfl ?_
      refine mcl_next E (rmle hR rfl rfl) (Nat.le_of_ble_eq_true rfl) dX6_takesNumber_37 h rfl (fun v_4 s_3 h => ?_)
      refine cf_iadd E dX6_takesNumber_40 rfl ?_
      refine cf_bipush E dX6_takesNumber_41 bp_48 rfl ?_
      refine cf_isub E dX6_takesNumber_43 rfl ?_
      refine mput_18 E dX6_takesNumber_44 h rfl (fun s_5 h => ?_)
      refine cf_aload_n E dX6_takesNumber_47 0 rfl rfl ?_
      refine cf_dup E dX6_takesNumber_48 rfl rfl ?_
      refine mget_17 E dX6_takesNumber_49 rfl ?_
      refine cf_iconst E dX6_takesNumber_52 ic_1 rfl ?_
      refine cf_iadd E dX6_takesNumber_53 rfl ?_
      refine mput_17 E dX6_takesNumber_54 h rfl (fun s_6 h => ?_)
      refine cf_iinc E dX6_takesNumber_57 ic_1 h 1 rfl (fun x1_7 => [(1, .int x1_7), (0, .ref (mh g))]) (Nat.le_of_ble_eq_true rfl) (fun _ => rfl) rfl (fun x1_7 h => ?_)
      refine cf_goto E dX6_takesNumber_60 rfl ?_
      exact CF.sub [1, 0] rfl (ih16 x1_7 s_6 h)
set_option maxHeartbeats 4000000 in
theorem wm_takesNumber_16 {p : Program} {l : Launch} {e : Env} {R : Room} {s : State} {m : MethodId} {args : Array Value} {below : List Frame} {meth : Method} {c : Code} {A : Nat → Prop} {g : MG} {Q : State → Prop} (E : EV p s m args c cX6_takesNumber 2 RX6) (hR : 2 ≤ R.frames ∧ 43 ≤ R.locals) {res : Int32 × MS} (hq : RTi p l e R s m args below meth c cX6_takesNumber 2 A g .boolean Q res) (N : Nat)  : ∀ (k : Nat) (x1 : Int32) (σ : MS), m_takesNumber_16 N  k x1 σ = some res → CF p l e R s m args below meth c 2 0 0 (MB g A s σ) Q 16 [(0, .ref (mh g)), (1, .int x1)] [] := by
  intro k
  induction k with
  | zero => intro x1 σ h; have h : (none : Option (Int32 × MS)) = some res := h; cases h
  | succ k ih => intro x1 σ h; exact wm_takesNumber_16b E hR hq N  ih x1 σ h
set_option maxHeartbeats 4000000 in
theorem met_takesNumber (l : Launch) (g : MG) (N : Nat)  (σ : MS) {v : Int32} {σ1 : MS} (h : m_takesNumber N  σ = some (v, σ1)) : MetMi l g yX6_takesNumber (ws_ yX6_takesNumber cX6_takesNumber 2 (some .boolean)) { frames := 2, cells := 0, slots := 0, locals := 43 } [] σ v σ1 := by
  refine met_mi (lv0 := [(0, .ref (mh g))]) (by decide) rfl ⟨rfl, rfl⟩ (Nat.le_of_ble_eq_true rfl) rfl ?_
  intro p e s m below meth c A Q E hq
  have hR : 2 ≤ ({ frames := 2, cells := 0, slots := 0, locals := 43 } : Room).frames ∧ 43 ≤ ({ frames := 2, cells := 0, slots := 0, locals := 43 } : Room).locals := ⟨Nat.le_refl _, Nat.le_refl _⟩
  unfold m_takesNumber at h
  refine cf_aload_n E dX6_takesNumber_0 0 rfl rfl ?_
  refine mcl_isDigit E (rmle hR rfl rfl) (Nat.le_of_ble_eq_true rfl) dX6_takesNumber_1 h rfl (fun v_2 s_1 h => ?_)
  refine cf_if_ne E dX6_takesNumber_4 h rfl rfl (fun h => ?_) (fun h => ?_)
  · refine cf_aload_n E dX6_takesNumber_9 0 rfl rfl ?_
    refine cf_iconst E dX6_takesNumber_10 ic_0 rfl ?_
    refine mput_18 E dX6_takesNumber_11 h rfl (fun s_3 h => ?_)
    refine cf_iconst E dX6_takesNumber_14 ic_0 rfl ?_
    refine cf_istore_n E dX6_takesNumber_15 h (fun x1_4 => [(1, .int x1_4), (0, .ref (mh g))]) (Nat.le_of_ble_eq_true rfl) (fun _ => rfl) rfl (fun x1_4 h => ?_)
    exact CF.sub [1, 0] rfl (wm_takesNumber_16 E hR hq N N x1_4 s_3 h)
  · refine cf_iconst E dX6_takesNumber_7 ic_0 rfl ?_
    exact mret_i dX6_takesNumber_8 h nzb0 hq
theorem gw_takesNumber : GoodIn lw_all (wsV RX6 287 RX6 yX6_takesNumber (ws_ yX6_takesNumber cX6_takesNumber 2 (some .boolean))) := lw_V q1816 q1818 qs48 q105 q1819
theorem hd_takesNumber : yX6_takesNumber.cls = RX6 ∧ yX6_takesNumber.cls ≠ "java/lang/invoke/MethodHandle" ∧ yX6_takesNumber.cls ≠ "java/lang/invoke/VarHandle" ∧ (parseMethodDescriptor yX6_takesNumber.desc).map (fun d => d.parameters.length) = some 0 := by decide +kernel
theorem mcl_takesNumber {p : Program} {l : Launch} {e : Env} {R : Room} {s : State} {m : MethodId} {args : Array Value} {below : List Frame} {meth : Method} {c : Code} {nL : Nat} {A : Nat → Prop} {g : MG} {σ : MS} {Q : State → Prop} {pc n : Nat} {lv : List (Nat × Value)} {st : List Value} {cc : ByteArray} {ρ : Type} {res : ρ} (E : EV p s m args c cc nL RX6) {N : Nat}  {kk : Int32 → MS → Option ρ} (hR : 3 ≤ R.frames ∧ 64 ≤ R.locals) (hcat : (st.map fun v => v.category).sum ≤ 8) (d : decode cc pc = .ok (.invokevirtual 287, 3)) (h : bnd (m_takesNumber N  σ) kk = some res) (hn : pc + 3 = n) (k : ∀ (v : Int32) (σ1 : MS), kk v σ1 = some res → CF p l e R s m args below meth c nL 0 0 (MB g A s σ1) Q n lv (.int v :: st)) : CF p l e R s m args below meth c nL 0 0 (MB g A s σ) Q pc lv (.ref (mh g) :: st) :=
  mcall_i E [] (fun v σ1 ho => met_takesNumber l g N  σ ho) gw_takesNumber hd_takesNumber rfl rfl hR rfl rfl hcat d h hn k
set_option maxHeartbeats 4000000 in
theorem met_place (l : Launch) (g : MG) (N : Nat) (x1 : Int32) (σ : MS) {v : Int32} {σ1 : MS} (h : m_place N x1 σ = some (v, σ1)) : MetMi l g yX6_place (ws_ yX6_place cX6_place 2 (some .int)) { frames := 0, cells := 0, slots := 0, locals := 0 } [.int x1] σ v σ1 := by
  refine met_mi (lv0 := [(0, .ref (mh g)), (1, .int x1)]) (by decide) rfl ⟨rfl, rfl⟩ (Nat.le_of_ble_eq_true rfl) rfl ?_
  intro p e s m below meth c A Q E hq
  have hR : 0 ≤ ({ frames := 0, cells := 0, slots := 0, locals := 0 } : Room).frames ∧ 0 ≤ ({ frames := 0, cells := 0, slots := 0, locals := 0 } : Room).locals := ⟨Nat.le_refl _, Nat.le_refl _⟩
  unfold m_place at h
  refine cf_iload_n E dX6_place_0 1 rfl rfl ?_
  by_cases hx_1 : x1 = (97 : Int32)
  · rw [if_pos hx_1] at h
    refine cf_look E dX6_place_1 (by decide) (by rw [i32_eqZ (z := 97) hx_1 (by decide)]) rfl ?_
    refine cf_iconst E dX6_place_60 ic_0 rfl ?_
    exact mret_i dX6_place_61 h rfl hq
  rw [if_neg hx_1] at h
  by_cases hx_2 : x1 = (100 : Int32)
  · rw [if_pos hx_2] at h
    refine cf_look E dX6_place_1 (by decide) (by rw [i32_eqZ (z := 100) hx_2 (by decide)]) rfl ?_
    refine cf_iconst E dX6_place_70 ic_5 rfl ?_
    exact mret_i dX6_place_71 h rfl hq
  rw [if_neg hx_2] at h
  by_cases hx_3 : x1 = (101 : Int32)
  · rw [if_pos hx_3] at h
    refine cf_look E dX6_place_1 (by decide) (by rw [i32_eqZ (z := 101) hx_3 (by decide)]) rfl ?_
    refine cf_iconst E dX6_place_62 ic_1 rfl ?_
    exact mret_i dX6_place_63 h rfl hq
  rw [if_neg hx_3] at h
  by_cases hx_4 : x1 = (107 : Int32)
  · rw [if_pos hx_4] at h
    refine cf_look E dX6_place_1 (by decide) (by rw [i32_eqZ (z := 107) hx_4 (by decide)]) rfl ?_
    refine cf_iconst E dX6_place_64 ic_2 rfl ?_
    exact mret_i dX6_place_65 h rfl hq
  rw [if_neg hx_4] at h
  by_cases hx_5 : x1 = (116 : Int32)
  · rw [if_pos hx_5] at h
    refine cf_look E dX6_place_1 (by decide) (by rw [i32_eqZ (z := 116) hx_5 (by decide)]) rfl ?_
    refine cf_iconst E dX6_place_66 ic_3 rfl ?_
    exact mret_i dX6_place_67 h rfl hq
  rw [if_neg hx_5] at h
  by_cases hx_6 : x1 = (117 : Int32)
  · rw [if_pos hx_6] at h
    refine cf_look E dX6_place_1 (by decide) (by rw [i32_eqZ (z := 117) hx_6 (by decide)]) rfl ?_
    refine cf_iconst E dX6_place_68 ic_4 rfl ?_
    exact mret_i dX6_place_69 h rfl hq
  rw [if_neg hx_6] at h
  refine cf_look E dX6_place_1 (by decide) (look_no (i32_neZ (z := 97) hx_1 (by decide)) (look_no (i32_neZ (z := 100) hx_2 (by decide)) (look_no (i32_neZ (z := 101) hx_3 (by decide)) (look_no (i32_neZ (z := 107) hx_4 (by decide)) (look_no (i32_neZ (z := 116) hx_5 (by decide)) (look_no (i32_neZ (z := 117) hx_6 (by decide)) rfl)))))) rfl ?_
  refine cf_iconst E dX6_place_72 ic_m1 rfl ?_
  exact mret_i dX6_place_73 h rfl hq
theorem gw_place : GoodIn lw_all (wsV RX6 284 RX6 yX6_place (ws_ yX6_place cX6_place 2 (some .int))) := lw_V q1832 q1834 qs52 q105 q1835
theorem hd_place : yX6_place.cls = RX6 ∧ yX6_place.cls ≠ "java/lang/invoke/MethodHandle" ∧ yX6_place.cls ≠ "java/lang/invoke/VarHandle" ∧ (parseMethodDescriptor yX6_place.desc).map (fun d => d.parameters.length) = some 1 := by decide +kernel
theorem mcl_place {p : Program} {l : Launch} {e : Env} {R : Room} {s : State} {m : MethodId} {args : Array Value} {below : List Frame} {meth : Method} {c : Code} {nL : Nat} {A : Nat → Prop} {g : MG} {σ : MS} {Q : State → Prop} {pc n : Nat} {lv : List (Nat × Value)} {st : List Value} {cc : ByteArray} {ρ : Type} {res : ρ} (E : EV p s m args c cc nL RX6) {N : Nat} {x1 : Int32} {kk : Int32 → MS → Option ρ} (hR : 1 ≤ R.frames ∧ 21 ≤ R.locals) (hcat : (st.map fun v => v.category).sum ≤ 8) (d : decode cc pc = .ok (.invokevirtual 284, 3)) (h : bnd (m_place N x1 σ) kk = some res) (hn : pc + 3 = n) (k : ∀ (v : Int32) (σ1 : MS), kk v σ1 = some res → CF p l e R s m args below meth c nL 0 0 (MB g A s σ1) Q n lv (.int v :: st)) : CF p l e R s m args below meth c nL 0 0 (MB g A s σ) Q pc lv (.int x1 :: .ref (mh g) :: st) :=
  mcall_i E [.int x1] (fun v σ1 ho => met_place l g N x1 σ ho) gw_place hd_place rfl rfl hR rfl rfl hcat d h hn k
set_option maxHeartbeats 4000000 in
theorem met_emits (l : Launch) (g : MG) (N : Nat) (x1 : Int32) (σ : MS) {σ1 : MS} (h : m_emits N x1 σ = some σ1) : MetMv l g yX6_emits (ws_ yX6_emits cX6_emits 2 (none)) { frames := 0, cells := 0, slots := 0, locals := 0 } [.int x1] σ σ1 := by
  refine met_mv (lv0 := [(0, .ref (mh g)), (1, .int x1)]) (by decide) rfl ⟨rfl, rfl⟩ (Nat.le_of_ble_eq_true rfl) rfl ?_
  intro p e s m below meth c A Q E hq
  have hR : 0 ≤ ({ frames := 0, cells := 0, slots := 0, locals := 0 } : Room).frames ∧ 0 ≤ ({ frames := 0, cells := 0, slots := 0, locals := 0 } : Room).locals := ⟨Nat.le_refl _, Nat.le_refl _⟩
  unfold m_emits at h
  refine cf_aload_n E dX6_emits_0 0 rfl rfl ?_
  refine mget_26 E dX6_emits_1 rfl ?_
  refine cf_aload_n E dX6_emits_4 0 rfl rfl ?_
  refine mget_28 E dX6_emits_5 rfl ?_
  refine cf_iload_n E dX6_emits_8 1 rfl rfl ?_
  refine mast_26 E dX6_emits_9 h rfl (fun s_1 h => ?_)
  refine cf_aload_n E dX6_emits_10 0 rfl rfl ?_
  refine cf_dup E dX6_emits_11 rfl rfl ?_
  refine mget_28 E dX6_emits_12 rfl ?_
  refine cf_iconst E dX6_emits_15 ic_1 rfl ?_
  refine cf_iadd E dX6_emits_16 rfl ?_
  refine mput_28 E dX6_emits_17 h rfl (fun s_2 h => ?_)
  exact mret_v dX6_emits_20 h hq
theorem gw_emits : GoodIn lw_all (wsV RX6 280 RX6 yX6_emits (ws_ yX6_emits cX6_emits 2 none)) := lw_V q1836 q1838 qs53 q105 q1839
theorem hd_emits : yX6_emits.cls = RX6 ∧ yX6_emits.cls ≠ "java/lang/invoke/MethodHandle" ∧ yX6_emits.cls ≠ "java/lang/invoke/VarHandle" ∧ (parseMethodDescriptor yX6_emits.desc).map (fun d => d.parameters.length) = some 1 := by decide +kernel
theorem mcl_emits {p : Program} {l : Launch} {e : Env} {R : Room} {s : State} {m : MethodId} {args : Array Value} {below : List Frame} {meth : Method} {c : Code} {nL : Nat} {A : Nat → Prop} {g : MG} {σ : MS} {Q : State → Prop} {pc n : Nat} {lv : List (Nat × Value)} {st : List Value} {cc : ByteArray} {ρ : Type} {res : ρ} (E : EV p s m args c cc nL RX6) {N : Nat} {x1 : Int32} {kk : MS → Option ρ} (hR : 1 ≤ R.frames ∧ 21 ≤ R.locals) (hcat : (st.map fun v => v.category).sum ≤ 8) (d : decode cc pc = .ok (.invokevirtual 280, 3)) (h : bnv (m_emits N x1 σ) kk = some res) (hn : pc + 3 = n) (k : ∀ (σ1 : MS), kk σ1 = some res → CF p l e R s m args below meth c nL 0 0 (MB g A s σ1) Q n lv st) : CF p l e R s m args below meth c nL 0 0 (MB g A s σ) Q pc lv (.int x1 :: .ref (mh g) :: st) :=
  mcall_v E [.int x1] (fun σ1 ho => met_emits l g N x1 σ ho) gw_emits hd_emits rfl rfl hR rfl rfl hcat d h hn k
set_option maxHeartbeats 4000000 in
theorem wm_whole_0b {p : Program} {l : Launch} {e : Env} {R : Room} {s : State} {m : MethodId} {args : Array Value} {below : List Frame} {meth : Method} {c : Code} {A : Nat → Prop} {g : MG} {Q : State → Prop} (E : EV p s m args c cX6_whole 1 RX6) (hR : 1 ≤ R.frames ∧ 21 ≤ R.locals) {res : MS} (hq : RTv p l e R s m args below meth c cX6_whole 1 A g Q res) (N : Nat)  {rec0 : MS → Option (MS)} (ih0 : ∀  (σ : MS), rec0  σ = some res → CF p l e R s m args below meth c 1 0 0 (MB g A s σ) Q 0 [(0, .ref (mh g))] [])  (σ : MS) (h : m_whole_0b N  rec0  σ = some res) : CF p l e R s m args below meth c 1 0 0 (MB g A s σ) Q 0 [(0, .ref (mh g))] [] := by
  unfold m_whole_0b at h
  refine cf_aload_n E dX6_whole_0 0 rfl rfl ?_
  refine mget_29 E dX6_whole_1 rfl ?_
  refine cf_if_le E dX6_whole_4 h rfl rfl (fun h => ?_) (fun h => ?_)
  · exact mret_v dX6_whole_52 h hq
  · refine cf_aload_n E dX6_whole_7 0 rfl rfl ?_
    refine mget_27 E dX6_whole_8 rfl ?_
    refine cf_aload_n E dX6_whole_11 0 rfl rfl ?_
    refine mget_29 E dX6_whole_12 rfl ?_
    refine cf_iconst E dX6_whole_15 ic_1 rfl ?_
    refine cf_isub E dX6_whole_16 rfl ?_
    refine mald_27 E dX6_whole_17 h rfl (fun h => ?_)
    refine cf_bipush E dX6_whole_18 bp_33 rfl ?_
    refine cf_icmp_ne E dX6_whole_20 h rfl rfl (fun h => ?_) (fun h => ?_)
    · exact mret_v dX6_whole_52 h hq
    · refine cf_aload_n E dX6_whole_23 0 rfl rfl ?_
      refine cf_bipush E dX6_whole_24 bp_m33 rfl ?_
      refine mcl_emits E (rmle hR rfl rfl) (Nat.le_of_ble_eq_true rfl) dX6_whole_26 h rfl (fun s_1 h => ?_)
      refine cf_aload_n E dX6_whole_29 0 rfl rfl ?_
      refine cf_dup E dX6_whole_30 rfl rfl ?_
      refine mget_29 E dX6_whole_31 rfl ?_
      refine cf_iconst E dX6_whole_34 ic_1 rfl ?_
      refine cf_isub E dX6_whole_35 rfl ?_
      refine mput_29 E dX6_whole_36 h rfl (fun s_2 h => ?_)
      refine cf_aload_n E dX6_whole_39 0 rfl rfl ?_
      refine cf_dup E dX6_whole_40 rfl rfl ?_
      refine mget_30 E dX6_whole_41 rfl ?_
      refine cf_iconst E dX6_whole_44 ic_1 rfl ?_
      refine cf_isub E dX6_whole_45 rfl ?_
      refine mput_30 E dX6_whole_46 h rfl (fun s_3 h => ?_)
      refine cf_goto E dX6_whole_49 rfl ?_
      exact CF.sub [0] rfl (ih0 s_3 h)
set_option maxHeartbeats 4000000 in
theorem wm_whole_0 {p : Program} {l : Launch} {e : Env} {R : Room} {s : State} {m : MethodId} {args : Array Value} {below : List Frame} {meth : Method} {c : Code} {A : Nat → Prop} {g : MG} {Q : State → Prop} (E : EV p s m args c cX6_whole 1 RX6) (hR : 1 ≤ R.frames ∧ 21 ≤ R.locals) {res : MS} (hq : RTv p l e R s m args below meth c cX6_whole 1 A g Q res) (N : Nat)  : ∀ (k : Nat)  (σ : MS), m_whole_0 N  k  σ = some res → CF p l e R s m args below meth c 1 0 0 (MB g A s σ) Q 0 [(0, .ref (mh g))] [] := by
  intro k
  induction k with
  | zero => intro  σ h; have h : (none : Option (MS)) = some res := h; cases h
  | succ k ih => intro  σ h; exact wm_whole_0b E hR hq N  ih  σ h
set_option maxHeartbeats 4000000 in
theorem met_whole (l : Launch) (g : MG) (N : Nat)  (σ : MS) {σ1 : MS} (h : m_whole N  σ = some σ1) : MetMv l g yX6_whole (ws_ yX6_whole cX6_whole 1 (none)) { frames := 1, cells := 0, slots := 0, locals := 21 } [] σ σ1 := by
  refine met_mv (lv0 := [(0, .ref (mh g))]) (by decide) rfl ⟨rfl, rfl⟩ (Nat.le_of_ble_eq_true rfl) rfl ?_
  intro p e s m below meth c A Q E hq
  have hR : 1 ≤ ({ frames := 1, cells := 0, slots := 0, locals := 21 } : Room).frames ∧ 21 ≤ ({ frames := 1, cells := 0, slots := 0, locals := 21 } : Room).locals := ⟨Nat.le_refl _, Nat.le_refl _⟩
  unfold m_whole at h
  exact CF.sub [0] rfl (wm_whole_0 E hR hq N N σ h)
theorem gw_whole : GoodIn lw_all (wsV RX6 290 RX6 yX6_whole (ws_ yX6_whole cX6_whole 1 none)) := lw_V q1840 q1842 qs54 q105 q1843
theorem hd_whole : yX6_whole.cls = RX6 ∧ yX6_whole.cls ≠ "java/lang/invoke/MethodHandle" ∧ yX6_whole.cls ≠ "java/lang/invoke/VarHandle" ∧ (parseMethodDescriptor yX6_whole.desc).map (fun d => d.parameters.length) = some 0 := by decide +kernel
theorem mcl_whole {p : Program} {l : Launch} {e : Env} {R : Room} {s : State} {m : MethodId} {args : Array Value} {below : List Frame} {meth : Method} {c : Code} {nL : Nat} {A : Nat → Prop} {g : MG} {σ : MS} {Q : State → Prop} {pc n : Nat} {lv : List (Nat × Value)} {st : List Value} {cc : ByteArray} {ρ : Type} {res : ρ} (E : EV p s m args c cc nL RX6) {N : Nat}  {kk : MS → Option ρ} (hR : 2 ≤ R.frames ∧ 41 ≤ R.locals) (hcat : (st.map fun v => v.category).sum ≤ 8) (d : decode cc pc = .ok (.invokevirtual 290, 3)) (h : bnv (m_whole N  σ) kk = some res) (hn : pc + 3 = n) (k : ∀ (σ1 : MS), kk σ1 = some res → CF p l e R s m args below meth c nL 0 0 (MB g A s σ1) Q n lv st) : CF p l e R s m args below meth c nL 0 0 (MB g A s σ) Q pc lv (.ref (mh g) :: st) :=
  mcall_v E [] (fun σ1 ho => met_whole l g N  σ ho) gw_whole hd_whole rfl rfl hR rfl rfl hcat d h hn k
set_option maxHeartbeats 4000000 in
theorem met_takesTest (l : Launch) (g : MG) (N : Nat)  (σ : MS) {v : Int32} {σ1 : MS} (h : m_takesTest N  σ = some (v, σ1)) : MetMi l g yX6_takesTest (ws_ yX6_takesTest cX6_takesTest 3 (some .boolean)) { frames := 3, cells := 0, slots := 0, locals := 64 } [] σ v σ1 := by
  refine met_mi (lv0 := [(0, .ref (mh g))]) (by decide) rfl ⟨rfl, rfl⟩ (Nat.le_of_ble_eq_true rfl) rfl ?_
  intro p e s m below meth c A Q E hq
  have hR : 3 ≤ ({ frames := 3, cells := 0, slots := 0, locals := 64 } : Room).frames ∧ 64 ≤ ({ frames := 3, cells := 0, slots := 0, locals := 64 } : Room).locals := ⟨Nat.le_refl _, Nat.le_refl _⟩
  unfold m_takesTest at h
  refine cf_aload_n E dX6_takesTest_0 0 rfl rfl ?_
  refine cf_aload_n E dX6_takesTest_1 0 rfl rfl ?_
  refine mcl_next E (rmle hR rfl rfl) (Nat.le_of_ble_eq_true rfl) dX6_takesTest_2 h rfl (fun v_2 s_1 h => ?_)
  refine mcl_place E (rmle hR rfl rfl) (Nat.le_of_ble_eq_true rfl) dX6_takesTest_5 h rfl (fun v_4 s_3 h => ?_)
  refine cf_istore_n E dX6_takesTest_8 h (fun x1_5 => [(1, .int x1_5), (0, .ref (mh g))]) (Nat.le_of_ble_eq_true rfl) (fun _ => rfl) rfl (fun x1_5 h => ?_)
  refine cf_iload_n E dX6_takesTest_9 0 rfl rfl ?_
  refine cf_if_ge E dX6_takesTest_10 h rfl rfl (fun h => ?_) (fun h => ?_)
  · refine cf_aload_n E dX6_takesTest_15 1 rfl rfl ?_
    refine cf_dup E dX6_takesTest_16 rfl rfl ?_
    refine mget_17 E dX6_takesTest_17 rfl ?_
    refine cf_iconst E dX6_takesTest_20 ic_1 rfl ?_
    refine cf_iadd E dX6_takesTest_21 rfl ?_
    refine mput_17 E dX6_takesTest_22 h rfl (fun s_6 h => ?_)
    refine cf_aload_n E dX6_takesTest_25 1 rfl rfl ?_
    refine mcl_next E (rmle hR rfl rfl) (Nat.le_of_ble_eq_true rfl) dX6_takesTest_26 h rfl (fun v_8 s_7 h => ?_)
    refine cf_istore_n E dX6_takesTest_29 h (fun x2_9 => [(2, .int x2_9), (1, .int x1_5), (0, .ref (mh g))]) (Nat.le_of_ble_eq_true rfl) (fun _ => rfl) rfl (fun x2_9 h => ?_)
    refine cf_aload_n E dX6_takesTest_30 2 rfl rfl ?_
    refine cf_iload_n E dX6_takesTest_31 0 rfl rfl ?_
    refine cf_bipush E dX6_takesTest_32 bp_60 rfl ?_
    refine cf_bipush E dX6_takesTest_34 bp_62 rfl ?_
    refine mcl_in E (rmle hR rfl rfl) (Nat.le_of_ble_eq_true rfl) dX6_takesTest_36 h rfl (fun v_11 s_10 h => ?_)
    refine cf_if_ne E dX6_takesTest_39 h rfl rfl (fun h => ?_) (fun h => ?_)
    · refine cf_aload_n E dX6_takesTest_44 2 rfl rfl ?_
      refine cf_dup E dX6_takesTest_45 rfl rfl ?_
      refine mget_17 E dX6_takesTest_46 rfl ?_
      refine cf_iconst E dX6_takesTest_49 ic_1 rfl ?_
      refine cf_iadd E dX6_takesTest_50 rfl ?_
      refine mput_17 E dX6_takesTest_51 h rfl (fun s_12 h => ?_)
      refine cf_aload_n E dX6_takesTest_54 2 rfl rfl ?_
      refine mcl_takesNumber E (rmle hR rfl rfl) (Nat.le_of_ble_eq_true rfl) dX6_takesTest_55 h rfl (fun v_14 s_13 h => ?_)
      refine cf_if_ne E dX6_takesTest_58 h rfl rfl (fun h => ?_) (fun h => ?_)
      · refine cf_aload_n E dX6_takesTest_63 2 rfl rfl ?_
        refine cf_sipush E dX6_takesTest_64 sp_1000 rfl ?_
        refine cf_iload_n E dX6_takesTest_67 1 rfl rfl ?_
        refine cf_imul E dX6_takesTest_68 rfl ?_
        refine cf_bipush E dX6_takesTest_69 bp_100 rfl ?_
        refine cf_iload_n E dX6_takesTest_71 0 rfl rfl ?_
        refine cf_bipush E dX6_takesTest_72 bp_60 rfl ?_
        refine cf_isub E dX6_takesTest_74 rfl ?_
        refine cf_imul E dX6_takesTest_75 rfl ?_
        refine cf_iadd E dX6_takesTest_76 rfl ?_
        refine cf_aload_n E dX6_takesTest_77 2 rfl rfl ?_
        refine mget_18 E dX6_takesTest_78 rfl ?_
        refine cf_iadd E dX6_takesTest_81 rfl ?_
        refine mcl_emits E (rmle hR rfl rfl) (Nat.le_of_ble_eq_true rfl) dX6_takesTest_82 h rfl (fun s_15 h => ?_)
        refine cf_aload_n E dX6_takesTest_85 2 rfl rfl ?_
        refine mcl_whole E (rmle hR rfl rfl) (Nat.le_of_ble_eq_true rfl) dX6_takesTest_86 h rfl (fun s_16 h => ?_)
        refine cf_iconst E dX6_takesTest_89 ic_1 rfl ?_
        exact mret_i dX6_takesTest_90 h nzb1 hq
      · refine cf_iconst E dX6_takesTest_61 ic_0 rfl ?_
        exact mret_i dX6_takesTest_62 h nzb0 hq
    · refine cf_iconst E dX6_takesTest_42 ic_0 rfl ?_
      exact mret_i dX6_takesTest_43 h nzb0 hq
  · refine cf_iconst E dX6_takesTest_13 ic_0 rfl ?_
    exact mret_i dX6_takesTest_14 h nzb0 hq
theorem gw_takesTest : GoodIn lw_all (wsV RX6 293 RX6 yX6_takesTest (ws_ yX6_takesTest cX6_takesTest 3 (some .boolean))) := lw_V q1828 q1830 qs51 q105 q1831
theorem hd_takesTest : yX6_takesTest.cls = RX6 ∧ yX6_takesTest.cls ≠ "java/lang/invoke/MethodHandle" ∧ yX6_takesTest.cls ≠ "java/lang/invoke/VarHandle" ∧ (parseMethodDescriptor yX6_takesTest.desc).map (fun d => d.parameters.length) = some 0 := by decide +kernel
theorem mcl_takesTest {p : Program} {l : Launch} {e : Env} {R : Room} {s : State} {m : MethodId} {args : Array Value} {below : List Frame} {meth : Method} {c : Code} {nL : Nat} {A : Nat → Prop} {g : MG} {σ : MS} {Q : State → Prop} {pc n : Nat} {lv : List (Nat × Value)} {st : List Value} {cc : ByteArray} {ρ : Type} {res : ρ} (E : EV p s m args c cc nL RX6) {N : Nat}  {kk : Int32 → MS → Option ρ} (hR : 4 ≤ R.frames ∧ 86 ≤ R.locals) (hcat : (st.map fun v => v.category).sum ≤ 8) (d : decode cc pc = .ok (.invokevirtual 293, 3)) (h : bnd (m_takesTest N  σ) kk = some res) (hn : pc + 3 = n) (k : ∀ (v : Int32) (σ1 : MS), kk v σ1 = some res → CF p l e R s m args below meth c nL 0 0 (MB g A s σ1) Q n lv (.int v :: st)) : CF p l e R s m args below meth c nL 0 0 (MB g A s σ) Q pc lv (.ref (mh g) :: st) :=
  mcall_i E [] (fun v σ1 ho => met_takesTest l g N  σ ho) gw_takesTest hd_takesTest rfl rfl hR rfl rfl hcat d h hn k
set_option maxHeartbeats 4000000 in
theorem wm_settle_45 {p : Program} {l : Launch} {e : Env} {R : Room} {s : State} {m : MethodId} {args : Array Value} {below : List Frame} {meth : Method} {c : Code} {A : Nat → Prop} {g : MG} {Q : State → Prop} (E : EV p s m args c cX6_settle 2 RX6) (hR : 1 ≤ R.frames ∧ 21 ≤ R.locals) {res : MS} (hq : RTv p l e R s m args below meth c cX6_settle 2 A g Q res) (N : Nat) {rec0 : Int32 → MS → Option (MS)} (ih0 : ∀ (x1 : Int32) (σ : MS), rec0 x1 σ = some res → CF p l e R s m args below meth c 2 0 0 (MB g A s σ) Q 0 [(0, .ref (mh g)), (1, .int x1)] []) (x1 : Int32) (σ : MS) (h : m_settle_45 N rec0 x1 σ = some res) : CF p l e R s m args below meth c 2 0 0 (MB g A s σ) Q 45 [(0, .ref (mh g)), (1, .int x1)] [] := by
  unfold m_settle_45 at h
  refine cf_aload_n E dX6_settle_45 0 rfl rfl ?_
  refine cf_dup E dX6_settle_46 rfl rfl ?_
  refine mget_29 E dX6_settle_47 rfl ?_
  refine cf_iconst E dX6_settle_50 ic_1 rfl ?_
  refine cf_isub E dX6_settle_51 rfl ?_
  refine mput_29 E dX6_settle_52 h rfl (fun s_1 h => ?_)
  refine cf_aload_n E dX6_settle_55 0 rfl rfl ?_
  refine cf_aload_n E dX6_settle_56 0 rfl rfl ?_
  refine mget_27 E dX6_settle_57 rfl ?_
  refine cf_aload_n E dX6_settle_60 0 rfl rfl ?_
  refine mget_29 E dX6_settle_61 rfl ?_
  refine mald_27 E dX6_settle_64 h rfl (fun h => ?_)
  refine cf_ineg E dX6_settle_65 rfl ?_
  refine mcl_emits E (rmle hR rfl rfl) (Nat.le_of_ble_eq_true rfl) dX6_settle_66 h rfl (fun s_2 h => ?_)
  refine cf_goto E dX6_settle_69 rfl ?_
  exact CF.sub [0, 1] rfl (ih0 x1 s_2 h)
set_option maxHeartbeats 4000000 in
theorem wm_settle_0b {p : Program} {l : Launch} {e : Env} {R : Room} {s : State} {m : MethodId} {args : Array Value} {below : List Frame} {meth : Method} {c : Code} {A : Nat → Prop} {g : MG} {Q : State → Prop} (E : EV p s m args c cX6_settle 2 RX6) (hR : 1 ≤ R.frames ∧ 21 ≤ R.locals) {res : MS} (hq : RTv p l e R s m args below meth c cX6_settle 2 A g Q res) (N : Nat)  {rec0 : Int32 → MS → Option (MS)} (ih0 : ∀ (x1 : Int32) (σ : MS), rec0 x1 σ = some res → CF p l e R s m args below meth c 2 0 0 (MB g A s σ) Q 0 [(0, .ref (mh g)), (1, .int x1)] []) (x1 : Int32) (σ : MS) (h : m_settle_0b N  rec0 x1 σ = some res) : CF p l e R s m args below meth c 2 0 0 (MB g A s σ) Q 0 [(0, .ref (mh g)), (1, .int x1)] [] := by
  unfold m_settle_0b at h
  refine cf_aload_n E dX6_settle_0 0 rfl rfl ?_
  refine mget_29 E dX6_settle_1 rfl ?_
  refine cf_if_le E dX6_settle_4 h rfl rfl (fun h => ?_) (fun h => ?_)
  · exact mret_v dX6_settle_72 h hq
  · refine cf_aload_n E dX6_settle_7 0 rfl rfl ?_
    refine mget_27 E dX6_settle_8 rfl ?_
    refine cf_aload_n E dX6_settle_11 0 rfl rfl ?_
    refine mget_29 E dX6_settle_12 rfl ?_
    refine cf_iconst E dX6_settle_15 ic_1 rfl ?_
    refine cf_isub E dX6_settle_16 rfl ?_
    refine mald_27 E dX6_settle_17 h rfl (fun h => ?_)
    refine cf_bipush E dX6_settle_18 bp_38 rfl ?_
    refine cf_icmp_eq E dX6_settle_20 h rfl rfl (fun h => ?_) (fun h => ?_)
    · exact CF.sub [0, 1] rfl (wm_settle_45 E hR hq N ih0 x1 σ h)
    · refine cf_aload_n E dX6_settle_23 0 rfl rfl ?_
      refine mget_27 E dX6_settle_24 rfl ?_
      refine cf_aload_n E dX6_settle_27 0 rfl rfl ?_
      refine mget_29 E dX6_settle_28 rfl ?_
      refine cf_iconst E dX6_settle_31 ic_1 rfl ?_
      refine cf_isub E dX6_settle_32 rfl ?_
      refine mald_27 E dX6_settle_33 h rfl (fun h => ?_)
      refine cf_bipush E dX6_settle_34 bp_124 rfl ?_
      refine cf_icmp_ne E dX6_settle_36 h rfl rfl (fun h => ?_) (fun h => ?_)
      · exact mret_v dX6_settle_72 h hq
      · refine cf_iload_n E dX6_settle_39 1 rfl rfl ?_
        refine cf_bipush E dX6_settle_40 bp_38 rfl ?_
        refine cf_icmp_eq E dX6_settle_42 h rfl rfl (fun h => ?_) (fun h => ?_)
        · exact mret_v dX6_settle_72 h hq
        · exact CF.sub [0, 1] rfl (wm_settle_45 E hR hq N ih0 x1 σ h)
set_option maxHeartbeats 4000000 in
theorem wm_settle_0 {p : Program} {l : Launch} {e : Env} {R : Room} {s : State} {m : MethodId} {args : Array Value} {below : List Frame} {meth : Method} {c : Code} {A : Nat → Prop} {g : MG} {Q : State → Prop} (E : EV p s m args c cX6_settle 2 RX6) (hR : 1 ≤ R.frames ∧ 21 ≤ R.locals) {res : MS} (hq : RTv p l e R s m args below meth c cX6_settle 2 A g Q res) (N : Nat)  : ∀ (k : Nat) (x1 : Int32) (σ : MS), m_settle_0 N  k x1 σ = some res → CF p l e R s m args below meth c 2 0 0 (MB g A s σ) Q 0 [(0, .ref (mh g)), (1, .int x1)] [] := by
  intro k
  induction k with
  | zero => intro x1 σ h; have h : (none : Option (MS)) = some res := h; cases h
  | succ k ih => intro x1 σ h; exact wm_settle_0b E hR hq N  ih x1 σ h
set_option maxHeartbeats 4000000 in
theorem met_settle (l : Launch) (g : MG) (N : Nat) (x1 : Int32) (σ : MS) {σ1 : MS} (h : m_settle N x1 σ = some σ1) : MetMv l g yX6_settle (ws_ yX6_settle cX6_settle 2 (none)) { frames := 1, cells := 0, slots := 0, locals := 21 } [.int x1] σ σ1 := by
  refine met_mv (lv0 := [(0, .ref (mh g)), (1, .int x1)]) (by decide) rfl ⟨rfl, rfl⟩ (Nat.le_of_ble_eq_true rfl) rfl ?_
  intro p e s m below meth c A Q E hq
  have hR : 1 ≤ ({ frames := 1, cells := 0, slots := 0, locals := 21 } : Room).frames ∧ 21 ≤ ({ frames := 1, cells := 0, slots := 0, locals := 21 } : Room).locals := ⟨Nat.le_refl _, Nat.le_refl _⟩
  unfold m_settle at h
  exact CF.sub [0, 1] rfl (wm_settle_0 E hR hq N N x1 σ h)
theorem gw_settle : GoodIn lw_all (wsV RX6 296 RX6 yX6_settle (ws_ yX6_settle cX6_settle 2 none)) := lw_V q1844 q1846 qs55 q105 q1847
theorem hd_settle : yX6_settle.cls = RX6 ∧ yX6_settle.cls ≠ "java/lang/invoke/MethodHandle" ∧ yX6_settle.cls ≠ "java/lang/invoke/VarHandle" ∧ (parseMethodDescriptor yX6_settle.desc).map (fun d => d.parameters.length) = some 1 := by decide +kernel
theorem mcl_settle {p : Program} {l : Launch} {e : Env} {R : Room} {s : State} {m : MethodId} {args : Array Value} {below : List Frame} {meth : Method} {c : Code} {nL : Nat} {A : Nat → Prop} {g : MG} {σ : MS} {Q : State → Prop} {pc n : Nat} {lv : List (Nat × Value)} {st : List Value} {cc : ByteArray} {ρ : Type} {res : ρ} (E : EV p s m args c cc nL RX6) {N : Nat} {x1 : Int32} {kk : MS → Option ρ} (hR : 2 ≤ R.frames ∧ 42 ≤ R.locals) (hcat : (st.map fun v => v.category).sum ≤ 8) (d : decode cc pc = .ok (.invokevirtual 296, 3)) (h : bnv (m_settle N x1 σ) kk = some res) (hn : pc + 3 = n) (k : ∀ (σ1 : MS), kk σ1 = some res → CF p l e R s m args below meth c nL 0 0 (MB g A s σ1) Q n lv st) : CF p l e R s m args below meth c nL 0 0 (MB g A s σ) Q pc lv (.int x1 :: .ref (mh g) :: st) :=
  mcall_v E [.int x1] (fun σ1 ho => met_settle l g N x1 σ ho) gw_settle hd_settle rfl rfl hR rfl rfl hcat d h hn k
set_option maxHeartbeats 4000000 in
theorem wm_takesE_122 {p : Program} {l : Launch} {e : Env} {R : Room} {s : State} {m : MethodId} {args : Array Value} {below : List Frame} {meth : Method} {c : Code} {A : Nat → Prop} {g : MG} {Q : State → Prop} (E : EV p s m args c cX6_takesE 4 RX6) (hR : 4 ≤ R.frames ∧ 86 ≤ R.locals) {res : Int32 × MS} (hq : RTi p l e R s m args below meth c cX6_takesE 4 A g .boolean Q res) (N : Nat) {rec22 : Int32 → Int32 → MS → Option (Int32 × MS)} (ih22 : ∀ (x1 : Int32) (x2 : Int32) (σ : MS), rec22 x1 x2 σ = some res → CF p l e R s m args below meth c 4 0 0 (MB g A s σ) Q 22 [(0, .ref (mh g)), (1, .int x1), (2, .int x2)] []) (x1 : Int32) (x3 : Int32) (σ : MS) (h : m_takesE_122 N rec22 x1 x3 σ = some res) : CF p l e R s m args below meth c 4 0 0 (MB g A s σ) Q 122 [(0, .ref (mh g)), (1, .int x1), (3, .int x3)] [] := by
  unfold m_takesE_122 at h
  refine cf_aload_n E dX6_takesE_122 0 rfl rfl ?_
  refine cf_iload_n E dX6_takesE_123 2 rfl rfl ?_
  refine mcl_settle E (rmle hR rfl rfl) (Nat.le_of_ble_eq_true rfl) dX6_takesE_124 h rfl (fun s_1 h => ?_)
  refine cf_aload_n E dX6_takesE_127 0 rfl rfl ?_
  refine mget_27 E dX6_takesE_128 rfl ?_
  refine cf_aload_n E dX6_takesE_131 0 rfl rfl ?_
  refine mget_29 E dX6_takesE_132 rfl ?_
  refine cf_iload_n E dX6_takesE_135 2 rfl rfl ?_
  refine mast_27 E dX6_takesE_136 h rfl (fun s_2 h => ?_)
  refine cf_aload_n E dX6_takesE_137 0 rfl rfl ?_
  refine cf_dup E dX6_takesE_138 rfl rfl ?_
  refine mget_29 E dX6_takesE_139 rfl ?_
  refine cf_iconst E dX6_takesE_142 ic_1 rfl ?_
  refine cf_iadd E dX6_takesE_143 rfl ?_
  refine mput_29 E dX6_takesE_144 h rfl (fun s_3 h => ?_)
  refine cf_iconst E dX6_takesE_147 ic_1 rfl ?_
  refine cf_istore_n E dX6_takesE_148 h (fun x2_4 => [(2, .int x2_4), (0, .ref (mh g)), (1, .int x1), (3, .int x3)]) (Nat.le_of_ble_eq_true rfl) (fun _ => rfl) rfl (fun x2_4 h => ?_)
  refine cf_aload_n E dX6_takesE_149 1 rfl rfl ?_
  refine cf_dup E dX6_takesE_150 rfl rfl ?_
  refine mget_17 E dX6_takesE_151 rfl ?_
  refine cf_iconst E dX6_takesE_154 ic_1 rfl ?_
  refine cf_iadd E dX6_takesE_155 rfl ?_
  refine mput_17 E dX6_takesE_156 h rfl (fun s_5 h => ?_)
  refine cf_goto E dX6_takesE_159 rfl ?_
  exact CF.sub [1, 2, 0] rfl (ih22 x1 x2_4 s_5 h)
set_option maxHeartbeats 4000000 in
theorem wm_takesE_43 {p : Program} {l : Launch} {e : Env} {R : Room} {s : State} {m : MethodId} {args : Array Value} {below : List Frame} {meth : Method} {c : Code} {A : Nat → Prop} {g : MG} {Q : State → Prop} (E : EV p s m args c cX6_takesE 4 RX6) (hR : 4 ≤ R.frames ∧ 86 ≤ R.locals) {res : Int32 × MS} (hq : RTi p l e R s m args below meth c cX6_takesE 4 A g .boolean Q res) (N : Nat) {rec22 : Int32 → Int32 → MS → Option (Int32 × MS)} (ih22 : ∀ (x1 : Int32) (x2 : Int32) (σ : MS), rec22 x1 x2 σ = some res → CF p l e R s m args below meth c 4 0 0 (MB g A s σ) Q 22 [(0, .ref (mh g)), (1, .int x1), (2, .int x2)] []) (x1 : Int32) (x2 : Int32) (x3 : Int32) (σ : MS) (h : m_takesE_43 N rec22 x1 x2 x3 σ = some res) : CF p l e R s m args below meth c 4 0 0 (MB g A s σ) Q 43 [(0, .ref (mh g)), (1, .int x1), (2, .int x2), (3, .int x3)] [] := by
  unfold m_takesE_43 at h
  refine cf_aload_n E dX6_takesE_43 0 rfl rfl ?_
  refine mget_30 E dX6_takesE_44 rfl ?_
  refine cf_iconst E dX6_takesE_47 ic_4 rfl ?_
  refine cf_icmp_ne E dX6_takesE_48 h rfl rfl (fun h => ?_) (fun h => ?_)
  · refine cf_aload_n E dX6_takesE_53 0 rfl rfl ?_
    refine cf_dup E dX6_takesE_54 rfl rfl ?_
    refine mget_30 E dX6_takesE_55 rfl ?_
    refine cf_iconst E dX6_takesE_58 ic_1 rfl ?_
    refine cf_iadd E dX6_takesE_59 rfl ?_
    refine mput_30 E dX6_takesE_60 h rfl (fun s_1 h => ?_)
    refine cf_aload_n E dX6_takesE_63 0 rfl rfl ?_
    refine mget_27 E dX6_takesE_64 rfl ?_
    refine cf_aload_n E dX6_takesE_67 0 rfl rfl ?_
    refine mget_29 E dX6_takesE_68 rfl ?_
    refine cf_iload_n E dX6_takesE_71 3 rfl rfl ?_
    refine mast_27 E dX6_takesE_72 h rfl (fun s_2 h => ?_)
    refine cf_aload_n E dX6_takesE_73 0 rfl rfl ?_
    refine cf_dup E dX6_takesE_74 rfl rfl ?_
    refine mget_29 E dX6_takesE_75 rfl ?_
    refine cf_iconst E dX6_takesE_78 ic_1 rfl ?_
    refine cf_iadd E dX6_takesE_79 rfl ?_
    refine mput_29 E dX6_takesE_80 h rfl (fun s_3 h => ?_)
    refine cf_aload_n E dX6_takesE_83 0 rfl rfl ?_
    refine cf_dup E dX6_takesE_84 rfl rfl ?_
    refine mget_17 E dX6_takesE_85 rfl ?_
    refine cf_iconst E dX6_takesE_88 ic_1 rfl ?_
    refine cf_iadd E dX6_takesE_89 rfl ?_
    refine mput_17 E dX6_takesE_90 h rfl (fun s_4 h => ?_)
    refine cf_goto E dX6_takesE_93 rfl ?_
    exact CF.sub [0, 1, 2] rfl (ih22 x1 x2 s_4 h)
  · refine cf_iconst E dX6_takesE_51 ic_0 rfl ?_
    exact mret_i dX6_takesE_52 h nzb0 hq
set_option maxHeartbeats 4000000 in
theorem wm_takesE_22b {p : Program} {l : Launch} {e : Env} {R : Room} {s : State} {m : MethodId} {args : Array Value} {below : List Frame} {meth : Method} {c : Code} {A : Nat → Prop} {g : MG} {Q : State → Prop} (E : EV p s m args c cX6_takesE 4 RX6) (hR : 4 ≤ R.frames ∧ 86 ≤ R.locals) {res : Int32 × MS} (hq : RTi p l e R s m args below meth c cX6_takesE 4 A g .boolean Q res) (N : Nat)  {rec22 : Int32 → Int32 → MS → Option (Int32 × MS)} (ih22 : ∀ (x1 : Int32) (x2 : Int32) (σ : MS), rec22 x1 x2 σ = some res → CF p l e R s m args below meth c 4 0 0 (MB g A s σ) Q 22 [(0, .ref (mh g)), (1, .int x1), (2, .int x2)] []) (x1 : Int32) (x2 : Int32) (σ : MS) (h : m_takesE_22b N  rec22 x1 x2 σ = some res) : CF p l e R s m args below meth c 4 0 0 (MB g A s σ) Q 22 [(0, .ref (mh g)), (1, .int x1), (2, .int x2)] [] := by
  unfold m_takesE_22b at h
  refine cf_aload_n E dX6_takesE_22 0 rfl rfl ?_
  refine mcl_next E (rmle hR rfl rfl) (Nat.le_of_ble_eq_true rfl) dX6_takesE_23 h rfl (fun v_2 s_1 h => ?_)
  refine cf_istore_n E dX6_takesE_26 h (fun x3_3 => [(3, .int x3_3), (0, .ref (mh g)), (1, .int x1), (2, .int x2)]) (Nat.le_of_ble_eq_true rfl) (fun _ => rfl) rfl (fun x3_3 h => ?_)
  refine cf_iload_n E dX6_takesE_27 3 rfl rfl ?_
  refine cf_if_eq E dX6_takesE_28 h rfl rfl (fun h => ?_) (fun h => ?_)
  · refine cf_iload_n E dX6_takesE_110 0 rfl rfl ?_
    refine cf_bipush E dX6_takesE_111 bp_38 rfl ?_
    refine cf_icmp_eq E dX6_takesE_113 h rfl rfl (fun h => ?_) (fun h => ?_)
    · exact CF.sub [1, 2, 0] rfl (wm_takesE_122 E hR hq N ih22 x1 x3_3 s_1 h)
    · refine cf_iload_n E dX6_takesE_116 0 rfl rfl ?_
      refine cf_bipush E dX6_takesE_117 bp_124 rfl ?_
      refine cf_icmp_ne E dX6_takesE_119 h rfl rfl (fun h => ?_) (fun h => ?_)
      · refine cf_aload_n E dX6_takesE_162 1 rfl rfl ?_
        refine cf_bipush E dX6_takesE_163 bp_124 rfl ?_
        refine mcl_settle E (rmle hR rfl rfl) (Nat.le_of_ble_eq_true rfl) dX6_takesE_165 h rfl (fun s_4 h => ?_)
        refine cf_aload_n E dX6_takesE_168 1 rfl rfl ?_
        refine mget_25 E dX6_takesE_169 rfl ?_
        refine cf_iload_n E dX6_takesE_172 2 rfl rfl ?_
        refine cf_aload_n E dX6_takesE_173 1 rfl rfl ?_
        refine mget_28 E dX6_takesE_174 rfl ?_
        refine mast_25 E dX6_takesE_177 h rfl (fun s_5 h => ?_)
        refine cf_aload_n E dX6_takesE_178 1 rfl rfl ?_
        refine mget_29 E dX6_takesE_179 rfl ?_
        refine cf_if_ne E dX6_takesE_182 h rfl rfl (fun h => ?_) (fun h => ?_)
        · refine cf_iload_n E dX6_takesE_187 0 rfl rfl ?_
          refine cf_bipush E dX6_takesE_188 bp_41 rfl ?_
          refine cf_icmp_eq E dX6_takesE_190 h rfl rfl (fun h => ?_) (fun h => ?_)
          · refine cf_aload_n E dX6_takesE_195 1 rfl rfl ?_
            refine cf_dup E dX6_takesE_196 rfl rfl ?_
            refine mget_29 E dX6_takesE_197 rfl ?_
            refine cf_iconst E dX6_takesE_200 ic_1 rfl ?_
            refine cf_isub E dX6_takesE_201 rfl ?_
            refine mput_29 E dX6_takesE_202 h rfl (fun s_6 h => ?_)
            refine cf_aload_n E dX6_takesE_205 1 rfl rfl ?_
            refine cf_dup E dX6_takesE_206 rfl rfl ?_
            refine mget_30 E dX6_takesE_207 rfl ?_
            refine cf_iconst E dX6_takesE_210 ic_1 rfl ?_
            refine cf_isub E dX6_takesE_211 rfl ?_
            refine mput_30 E dX6_takesE_212 h rfl (fun s_7 h => ?_)
            refine cf_aload_n E dX6_takesE_215 1 rfl rfl ?_
            refine cf_dup E dX6_takesE_216 rfl rfl ?_
            refine mget_17 E dX6_takesE_217 rfl ?_
            refine cf_iconst E dX6_takesE_220 ic_1 rfl ?_
            refine cf_iadd E dX6_takesE_221 rfl ?_
            refine mput_17 E dX6_takesE_222 h rfl (fun s_8 h => ?_)
            refine cf_aload_n E dX6_takesE_225 1 rfl rfl ?_
            refine mcl_whole E (rmle hR rfl rfl) (Nat.le_of_ble_eq_true rfl) dX6_takesE_226 h rfl (fun s_9 h => ?_)
            refine cf_goto E dX6_takesE_229 rfl ?_
            exact CF.sub [1, 2, 3] rfl (ih22 x1 x2 s_9 h)
          · refine cf_iconst E dX6_takesE_193 ic_0 rfl ?_
            exact mret_i dX6_takesE_194 h nzb0 hq
        · refine cf_iconst E dX6_takesE_185 ic_1 rfl ?_
          exact mret_i dX6_takesE_186 h nzb1 hq
      · exact CF.sub [1, 2, 0] rfl (wm_takesE_122 E hR hq N ih22 x1 x3_3 s_1 h)
  · refine cf_iload_n E dX6_takesE_31 0 rfl rfl ?_
    refine cf_bipush E dX6_takesE_32 bp_33 rfl ?_
    refine cf_icmp_eq E dX6_takesE_34 h rfl rfl (fun h => ?_) (fun h => ?_)
    · exact CF.sub [1, 2, 3, 0] rfl (wm_takesE_43 E hR hq N ih22 x1 x2 x3_3 s_1 h)
    · refine cf_iload_n E dX6_takesE_37 0 rfl rfl ?_
      refine cf_bipush E dX6_takesE_38 bp_40 rfl ?_
      refine cf_icmp_ne E dX6_takesE_40 h rfl rfl (fun h => ?_) (fun h => ?_)
      · refine cf_aload_n E dX6_takesE_96 1 rfl rfl ?_
        refine mcl_takesTest E (rmle hR rfl rfl) (Nat.le_of_ble_eq_true rfl) dX6_takesE_97 h rfl (fun v_11 s_10 h => ?_)
        refine cf_if_eq E dX6_takesE_100 h rfl rfl (fun h => ?_) (fun h => ?_)
        · refine cf_iconst E dX6_takesE_108 ic_0 rfl ?_
          exact mret_i dX6_takesE_109 h nzb0 hq
        · refine cf_iconst E dX6_takesE_103 ic_0 rfl ?_
          refine cf_istore_n E dX6_takesE_104 h (fun x2_12 => [(2, .int x2_12), (3, .int x3_3), (0, .ref (mh g)), (1, .int x1)]) (Nat.le_of_ble_eq_true rfl) (fun _ => rfl) rfl (fun x2_12 h => ?_)
          refine cf_goto E dX6_takesE_105 rfl ?_
          exact CF.sub [2, 3, 0] rfl (ih22 x1 x2_12 s_10 h)
      · exact CF.sub [1, 2, 3, 0] rfl (wm_takesE_43 E hR hq N ih22 x1 x2 x3_3 s_1 h)
set_option maxHeartbeats 4000000 in
theorem wm_takesE_22 {p : Program} {l : Launch} {e : Env} {R : Room} {s : State} {m : MethodId} {args : Array Value} {below : List Frame} {meth : Method} {c : Code} {A : Nat → Prop} {g : MG} {Q : State → Prop} (E : EV p s m args c cX6_takesE 4 RX6) (hR : 4 ≤ R.frames ∧ 86 ≤ R.locals) {res : Int32 × MS} (hq : RTi p l e R s m args below meth c cX6_takesE 4 A g .boolean Q res) (N : Nat)  : ∀ (k : Nat) (x1 : Int32) (x2 : Int32) (σ : MS), m_takesE_22 N  k x1 x2 σ = some res → CF p l e R s m args below meth c 4 0 0 (MB g A s σ) Q 22 [(0, .ref (mh g)), (1, .int x1), (2, .int x2)] [] := by
  intro k
  induction k with
  | zero => intro x1 x2 σ h; have h : (none : Option (Int32 × MS)) = some res := h; cases h
  | succ k ih => intro x1 x2 σ h; exact wm_takesE_22b E hR hq N  ih x1 x2 σ h
set_option maxHeartbeats 4000000 in
theorem met_takesE (l : Launch) (g : MG) (N : Nat) (x1 : Int32) (σ : MS) {v : Int32} {σ1 : MS} (h : m_takesE N x1 σ = some (v, σ1)) : MetMi l g yX6_takesE (ws_ yX6_takesE cX6_takesE 4 (some .boolean)) { frames := 4, cells := 0, slots := 0, locals := 86 } [.int x1] σ v σ1 := by
  refine met_mi (lv0 := [(0, .ref (mh g)), (1, .int x1)]) (by decide) rfl ⟨rfl, rfl⟩ (Nat.le_of_ble_eq_true rfl) rfl ?_
  intro p e s m below meth c A Q E hq
  have hR : 4 ≤ ({ frames := 4, cells := 0, slots := 0, locals := 86 } : Room).frames ∧ 86 ≤ ({ frames := 4, cells := 0, slots := 0, locals := 86 } : Room).locals := ⟨Nat.le_refl _, Nat.le_refl _⟩
  unfold m_takesE at h
  refine cf_aload_n E dX6_takesE_0 0 rfl rfl ?_
  refine cf_iconst E dX6_takesE_1 ic_0 rfl ?_
  refine mput_29 E dX6_takesE_2 h rfl (fun s_1 h => ?_)
  refine cf_aload_n E dX6_takesE_5 0 rfl rfl ?_
  refine cf_iconst E dX6_takesE_6 ic_0 rfl ?_
  refine mput_30 E dX6_takesE_7 h rfl (fun s_2 h => ?_)
  refine cf_aload_n E dX6_takesE_10 0 rfl rfl ?_
  refine mget_24 E dX6_takesE_11 rfl ?_
  refine cf_iload_n E dX6_takesE_14 1 rfl rfl ?_
  refine cf_aload_n E dX6_takesE_15 0 rfl rfl ?_
  refine mget_28 E dX6_takesE_16 rfl ?_
  refine mast_24 E dX6_takesE_19 h rfl (fun s_3 h => ?_)
  refine cf_iconst E dX6_takesE_20 ic_1 rfl ?_
  refine cf_istore_n E dX6_takesE_21 h (fun x2_4 => [(2, .int x2_4), (0, .ref (mh g)), (1, .int x1)]) (Nat.le_of_ble_eq_true rfl) (fun _ => rfl) rfl (fun x2_4 h => ?_)
  exact CF.sub [1, 2, 0] rfl (wm_takesE_22 E hR hq N N x1 x2_4 s_3 h)
theorem gw_takesE : GoodIn lw_all (wsV RX6 306 RX6 yX6_takesE (ws_ yX6_takesE cX6_takesE 4 (some .boolean))) := lw_V q1824 q1826 qs50 q105 q1827
theorem hd_takesE : yX6_takesE.cls = RX6 ∧ yX6_takesE.cls ≠ "java/lang/invoke/MethodHandle" ∧ yX6_takesE.cls ≠ "java/lang/invoke/VarHandle" ∧ (parseMethodDescriptor yX6_takesE.desc).map (fun d => d.parameters.length) = some 1 := by decide +kernel
theorem mcl_takesE {p : Program} {l : Launch} {e : Env} {R : Room} {s : State} {m : MethodId} {args : Array Value} {below : List Frame} {meth : Method} {c : Code} {nL : Nat} {A : Nat → Prop} {g : MG} {σ : MS} {Q : State → Prop} {pc n : Nat} {lv : List (Nat × Value)} {st : List Value} {cc : ByteArray} {ρ : Type} {res : ρ} (E : EV p s m args c cc nL RX6) {N : Nat} {x1 : Int32} {kk : Int32 → MS → Option ρ} (hR : 5 ≤ R.frames ∧ 109 ≤ R.locals) (hcat : (st.map fun v => v.category).sum ≤ 8) (d : decode cc pc = .ok (.invokevirtual 306, 3)) (h : bnd (m_takesE N x1 σ) kk = some res) (hn : pc + 3 = n) (k : ∀ (v : Int32) (σ1 : MS), kk v σ1 = some res → CF p l e R s m args below meth c nL 0 0 (MB g A s σ1) Q n lv (.int v :: st)) : CF p l e R s m args below meth c nL 0 0 (MB g A s σ) Q pc lv (.int x1 :: .ref (mh g) :: st) :=
  mcall_i E [.int x1] (fun v σ1 ho => met_takesE l g N x1 σ ho) gw_takesE hd_takesE rfl rfl hR rfl rfl hcat d h hn k
set_option maxHeartbeats 4000000 in
theorem met_takesClause (l : Launch) (g : MG) (N : Nat) (x1 : Int32) (σ : MS) {v : Int32} {σ1 : MS} (h : m_takesClause N x1 σ = some (v, σ1)) : MetMi l g yX6_takesClause (ws_ yX6_takesClause cX6_takesClause 2 (some .boolean)) { frames := 5, cells := 0, slots := 0, locals := 109 } [.int x1] σ v σ1 := by
  refine met_mi (lv0 := [(0, .ref (mh g)), (1, .int x1)]) (by decide) rfl ⟨rfl, rfl⟩ (Nat.le_of_ble_eq_true rfl) rfl ?_
  intro p e s m below meth c A Q E hq
  have hR : 5 ≤ ({ frames := 5, cells := 0, slots := 0, locals := 109 } : Room).frames ∧ 109 ≤ ({ frames := 5, cells := 0, slots := 0, locals := 109 } : Room).locals := ⟨Nat.le_refl _, Nat.le_refl _⟩
  unfold m_takesClause at h
  refine cf_aload_n E dX6_takesClause_0 0 rfl rfl ?_
  refine cf_iload_n E dX6_takesClause_1 1 rfl rfl ?_
  refine mcl_takesHead E (rmle hR rfl rfl) (Nat.le_of_ble_eq_true rfl) dX6_takesClause_2 h rfl (fun v_2 s_1 h => ?_)
  refine cf_if_eq E dX6_takesClause_5 h rfl rfl (fun h => ?_) (fun h => ?_)
  · refine cf_iconst E dX6_takesClause_15 ic_0 rfl ?_
    exact mret_i dX6_takesClause_16 h nzb0 hq
  · refine cf_aload_n E dX6_takesClause_8 0 rfl rfl ?_
    refine mcl_takesNumber E (rmle hR rfl rfl) (Nat.le_of_ble_eq_true rfl) dX6_takesClause_9 h rfl (fun v_4 s_3 h => ?_)
    refine cf_if_ne E dX6_takesClause_12 h rfl rfl (fun h => ?_) (fun h => ?_)
    · refine cf_aload_n E dX6_takesClause_17 0 rfl rfl ?_
      refine mget_22 E dX6_takesClause_18 rfl ?_
      refine cf_iload_n E dX6_takesClause_21 1 rfl rfl ?_
      refine cf_aload_n E dX6_takesClause_22 0 rfl rfl ?_
      refine mget_18 E dX6_takesClause_23 rfl ?_
      refine mast_22 E dX6_takesClause_26 h rfl (fun s_5 h => ?_)
      refine cf_aload_n E dX6_takesClause_27 0 rfl rfl ?_
      refine mget_21 E dX6_takesClause_28 rfl ?_
      refine cf_iload_n E dX6_takesClause_31 1 rfl rfl ?_
      refine mald_21 E dX6_takesClause_32 h rfl (fun h => ?_)
      refine cf_iconst E dX6_takesClause_33 ic_2 rfl ?_
      refine cf_icmp_ne E dX6_takesClause_34 h rfl rfl (fun h => ?_) (fun h => ?_)
      · refine cf_aload_n E dX6_takesClause_39 0 rfl rfl ?_
        refine mget_21 E dX6_takesClause_40 rfl ?_
        refine cf_iload_n E dX6_takesClause_43 1 rfl rfl ?_
        refine mald_21 E dX6_takesClause_44 h rfl (fun h => ?_)
        refine cf_iconst E dX6_takesClause_45 ic_2 rfl ?_
        refine cf_icmp_ge E dX6_takesClause_46 h rfl rfl (fun h => ?_) (fun h => ?_)
        · refine cf_aload_n E dX6_takesClause_72 0 rfl rfl ?_
          refine cf_bipush E dX6_takesClause_73 bp_32 rfl ?_
          refine mcl_takes E (rmle hR rfl rfl) (Nat.le_of_ble_eq_true rfl) dX6_takesClause_75 h rfl (fun v_7 s_6 h => ?_)
          refine cf_if_eq E dX6_takesClause_78 h rfl rfl (fun h => ?_) (fun h => ?_)
          · refine cf_iconst E dX6_takesClause_88 ic_0 rfl ?_
            exact mret_i dX6_takesClause_89 h nzb0 hq
          · refine cf_aload_n E dX6_takesClause_81 0 rfl rfl ?_
            refine mcl_takesNumber E (rmle hR rfl rfl) (Nat.le_of_ble_eq_true rfl) dX6_takesClause_82 h rfl (fun v_9 s_8 h => ?_)
            refine cf_if_ne E dX6_takesClause_85 h rfl rfl (fun h => ?_) (fun h => ?_)
            · refine cf_aload_n E dX6_takesClause_90 0 rfl rfl ?_
              refine mget_23 E dX6_takesClause_91 rfl ?_
              refine cf_iload_n E dX6_takesClause_94 1 rfl rfl ?_
              refine cf_aload_n E dX6_takesClause_95 0 rfl rfl ?_
              refine mget_18 E dX6_takesClause_96 rfl ?_
              refine mast_23 E dX6_takesClause_99 h rfl (fun s_10 h => ?_)
              refine cf_iconst E dX6_takesClause_100 ic_1 rfl ?_
              exact mret_i dX6_takesClause_101 h nzb1 hq
            · refine cf_iconst E dX6_takesClause_88 ic_0 rfl ?_
              exact mret_i dX6_takesClause_89 h nzb0 hq
        · refine cf_aload_n E dX6_takesClause_49 0 rfl rfl ?_
          refine cf_bipush E dX6_takesClause_50 bp_32 rfl ?_
          refine mcl_takes E (rmle hR rfl rfl) (Nat.le_of_ble_eq_true rfl) dX6_takesClause_52 h rfl (fun v_12 s_11 h => ?_)
          refine cf_if_eq E dX6_takesClause_55 h rfl rfl (fun h => ?_) (fun h => ?_)
          · refine cf_iconst E dX6_takesClause_70 ic_0 rfl ?_
            exact mret_i dX6_takesClause_71 h nzb0 hq
          · refine cf_aload_n E dX6_takesClause_58 0 rfl rfl ?_
            refine cf_iload_n E dX6_takesClause_59 1 rfl rfl ?_
            refine mcl_takesE E (rmle hR rfl rfl) (Nat.le_of_ble_eq_true rfl) dX6_takesClause_60 h rfl (fun v_14 s_13 h => ?_)
            refine cf_if_eq E dX6_takesClause_63 h rfl rfl (fun h => ?_) (fun h => ?_)
            · refine cf_iconst E dX6_takesClause_70 ic_0 rfl ?_
              exact mret_i dX6_takesClause_71 h nzb0 hq
            · refine cf_iconst E dX6_takesClause_66 ic_1 rfl ?_
              refine cf_goto E dX6_takesClause_67 rfl ?_
              exact mret_i dX6_takesClause_71 h nzb1 hq
      · refine cf_iconst E dX6_takesClause_37 ic_1 rfl ?_
        exact mret_i dX6_takesClause_38 h nzb1 hq
    · refine cf_iconst E dX6_takesClause_15 ic_0 rfl ?_
      exact mret_i dX6_takesClause_16 h nzb0 hq
theorem gw_takesClause : GoodIn lw_all (wsV RX6 309 RX6 yX6_takesClause (ws_ yX6_takesClause cX6_takesClause 2 (some .boolean))) := lw_V q1796 q1798 qs43 q105 q1799
theorem hd_takesClause : yX6_takesClause.cls = RX6 ∧ yX6_takesClause.cls ≠ "java/lang/invoke/MethodHandle" ∧ yX6_takesClause.cls ≠ "java/lang/invoke/VarHandle" ∧ (parseMethodDescriptor yX6_takesClause.desc).map (fun d => d.parameters.length) = some 1 := by decide +kernel
theorem mcl_takesClause {p : Program} {l : Launch} {e : Env} {R : Room} {s : State} {m : MethodId} {args : Array Value} {below : List Frame} {meth : Method} {c : Code} {nL : Nat} {A : Nat → Prop} {g : MG} {σ : MS} {Q : State → Prop} {pc n : Nat} {lv : List (Nat × Value)} {st : List Value} {cc : ByteArray} {ρ : Type} {res : ρ} (E : EV p s m args c cc nL RX6) {N : Nat} {x1 : Int32} {kk : Int32 → MS → Option ρ} (hR : 6 ≤ R.frames ∧ 130 ≤ R.locals) (hcat : (st.map fun v => v.category).sum ≤ 8) (d : decode cc pc = .ok (.invokevirtual 309, 3)) (h : bnd (m_takesClause N x1 σ) kk = some res) (hn : pc + 3 = n) (k : ∀ (v : Int32) (σ1 : MS), kk v σ1 = some res → CF p l e R s m args below meth c nL 0 0 (MB g A s σ1) Q n lv (.int v :: st)) : CF p l e R s m args below meth c nL 0 0 (MB g A s σ) Q pc lv (.int x1 :: .ref (mh g) :: st) :=
  mcall_i E [.int x1] (fun v σ1 ho => met_takesClause l g N x1 σ ho) gw_takesClause hd_takesClause rfl rfl hR rfl rfl hcat d h hn k
set_option maxHeartbeats 4000000 in
theorem wm_goesText_15b {p : Program} {l : Launch} {e : Env} {R : Room} {s : State} {m : MethodId} {args : Array Value} {below : List Frame} {meth : Method} {c : Code} {A : Nat → Prop} {g : MG} {Q : State → Prop} (E : EV p s m args c cX6_goesText 3 RX6) (hR : 6 ≤ R.frames ∧ 130 ≤ R.locals) {res : Int32 × MS} (hq : RTi p l e R s m args below meth c cX6_goesText 3 A g .boolean Q res) (N : Nat)  {rec15 : Int32 → Int32 → MS → Option (Int32 × MS)} (ih15 : ∀ (x1 : Int32) (x2 : Int32) (σ : MS), rec15 x1 x2 σ = some res → CF p l e R s m args below meth c 3 0 0 (MB g A s σ) Q 15 [(0, .ref (mh g)), (1, .int x1), (2, .int x2)] []) (x1 : Int32) (x2 : Int32) (σ : MS) (h : m_goesText_15b N  rec15 x1 x2 σ = some res) : CF p l e R s m args below meth c 3 0 0 (MB g A s σ) Q 15 [(0, .ref (mh g)), (1, .int x1), (2, .int x2)] [] := by
  unfold m_goesText_15b at h
  refine cf_aload_n E dX6_goesText_15 0 rfl rfl ?_
  refine cf_bipush E dX6_goesText_16 bp_10 rfl ?_
  refine cf_iload_n E dX6_goesText_18 1 rfl rfl ?_
  refine cf_imul E dX6_goesText_19 rfl ?_
  refine cf_iload_n E dX6_goesText_20 2 rfl rfl ?_
  refine cf_iadd E dX6_goesText_21 rfl ?_
  refine mcl_takesClause E (rmle hR rfl rfl) (Nat.le_of_ble_eq_true rfl) dX6_goesText_22 h rfl (fun v_2 s_1 h => ?_)
  refine cf_if_ne E dX6_goesText_25 h rfl rfl (fun h => ?_) (fun h => ?_)
  · refine cf_iinc E dX6_goesText_30 ic_1 h 2 rfl (fun x2_3 => [(2, .int x2_3), (0, .ref (mh g)), (1, .int x1)]) (Nat.le_of_ble_eq_true rfl) (fun _ => rfl) rfl (fun x2_3 h => ?_)
    refine cf_aload_n E dX6_goesText_33 1 rfl rfl ?_
    refine mget_20 E dX6_goesText_34 rfl ?_
    refine cf_iload_n E dX6_goesText_37 2 rfl rfl ?_
    refine cf_iload_n E dX6_goesText_38 0 rfl rfl ?_
    refine mast_20 E dX6_goesText_39 h rfl (fun s_4 h => ?_)
    refine cf_aload_n E dX6_goesText_40 1 rfl rfl ?_
    refine mget_17 E dX6_goesText_41 rfl ?_
    refine cf_aload_n E dX6_goesText_44 1 rfl rfl ?_
    refine mget_16 E dX6_goesText_45 rfl ?_
    refine cf_icmp_ne E dX6_goesText_48 h rfl rfl (fun h => ?_) (fun h => ?_)
    · refine cf_iload_n E dX6_goesText_53 0 rfl rfl ?_
      refine cf_bipush E dX6_goesText_54 bp_10 rfl ?_
      refine cf_icmp_eq E dX6_goesText_56 h rfl rfl (fun h => ?_) (fun h => ?_)
      · refine cf_iconst E dX6_goesText_68 ic_0 rfl ?_
        exact mret_i dX6_goesText_69 h nzb0 hq
      · refine cf_aload_n E dX6_goesText_59 1 rfl rfl ?_
        refine cf_bipush E dX6_goesText_60 bp_59 rfl ?_
        refine mcl_takes E (rmle hR rfl rfl) (Nat.le_of_ble_eq_true rfl) dX6_goesText_62 h rfl (fun v_6 s_5 h => ?_)
        refine cf_if_ne E dX6_goesText_65 h rfl rfl (fun h => ?_) (fun h => ?_)
        · exact CF.sub [1, 2, 0] rfl (ih15 x1 x2_3 s_5 h)
        · refine cf_iconst E dX6_goesText_68 ic_0 rfl ?_
          exact mret_i dX6_goesText_69 h nzb0 hq
    · refine cf_iconst E dX6_goesText_51 ic_1 rfl ?_
      exact mret_i dX6_goesText_52 h nzb1 hq
  · refine cf_iconst E dX6_goesText_28 ic_0 rfl ?_
    exact mret_i dX6_goesText_29 h nzb0 hq
set_option maxHeartbeats 4000000 in
theorem wm_goesText_15 {p : Program} {l : Launch} {e : Env} {R : Room} {s : State} {m : MethodId} {args : Array Value} {below : List Frame} {meth : Method} {c : Code} {A : Nat → Prop} {g : MG} {Q : State → Prop} (E : EV p s m args c cX6_goesText 3 RX6) (hR : 6 ≤ R.frames ∧ 130 ≤ R.locals) {res : Int32 × MS} (hq : RTi p l e R s m args below meth c cX6_goesText 3 A g .boolean Q res) (N : Nat)  : ∀ (k : Nat) (x1 : Int32) (x2 : Int32) (σ : MS), m_goesText_15 N  k x1 x2 σ = some res → CF p l e R s m args below meth c 3 0 0 (MB g A s σ) Q 15 [(0, .ref (mh g)), (1, .int x1), (2, .int x2)] [] := by
  intro k
  induction k with
  | zero => intro x1 x2 σ h; have h : (none : Option (Int32 × MS)) = some res := h; cases h
  | succ k ih => intro x1 x2 σ h; exact wm_goesText_15b E hR hq N  ih x1 x2 σ h
set_option maxHeartbeats 4000000 in
theorem met_goesText (l : Launch) (g : MG) (N : Nat) (x1 : Int32) (σ : MS) {v : Int32} {σ1 : MS} (h : m_goesText N x1 σ = some (v, σ1)) : MetMi l g yX6_goesText (ws_ yX6_goesText cX6_goesText 3 (some .boolean)) { frames := 6, cells := 0, slots := 0, locals := 130 } [.int x1] σ v σ1 := by
  refine met_mi (lv0 := [(0, .ref (mh g)), (1, .int x1)]) (by decide) rfl ⟨rfl, rfl⟩ (Nat.le_of_ble_eq_true rfl) rfl ?_
  intro p e s m below meth c A Q E hq
  have hR : 6 ≤ ({ frames := 6, cells := 0, slots := 0, locals := 130 } : Room).frames ∧ 130 ≤ ({ frames := 6, cells := 0, slots := 0, locals := 130 } : Room).locals := ⟨Nat.le_refl _, Nat.le_refl _⟩
  unfold m_goesText at h
  refine cf_aload_n E dX6_goesText_0 0 rfl rfl ?_
  refine cf_iconst E dX6_goesText_1 ic_0 rfl ?_
  refine mput_17 E dX6_goesText_2 h rfl (fun s_1 h => ?_)
  refine cf_aload_n E dX6_goesText_5 0 rfl rfl ?_
  refine cf_bipush E dX6_goesText_6 bp_100 rfl ?_
  refine cf_iload_n E dX6_goesText_8 1 rfl rfl ?_
  refine cf_imul E dX6_goesText_9 rfl ?_
  refine mput_28 E dX6_goesText_10 h rfl (fun s_2 h => ?_)
  refine cf_iconst E dX6_goesText_13 ic_0 rfl ?_
  refine cf_istore_n E dX6_goesText_14 h (fun x2_3 => [(2, .int x2_3), (0, .ref (mh g)), (1, .int x1)]) (Nat.le_of_ble_eq_true rfl) (fun _ => rfl) rfl (fun x2_3 h => ?_)
  exact CF.sub [1, 2, 0] rfl (wm_goesText_15 E hR hq N N x1 x2_3 s_2 h)
theorem gw_goesText : GoodIn lw_all (wsV RX6 312 RX6 yX6_goesText (ws_ yX6_goesText cX6_goesText 3 (some .boolean))) := lw_V q1792 q1794 qs42 q105 q1795
theorem hd_goesText : yX6_goesText.cls = RX6 ∧ yX6_goesText.cls ≠ "java/lang/invoke/MethodHandle" ∧ yX6_goesText.cls ≠ "java/lang/invoke/VarHandle" ∧ (parseMethodDescriptor yX6_goesText.desc).map (fun d => d.parameters.length) = some 1 := by decide +kernel
theorem mcl_goesText {p : Program} {l : Launch} {e : Env} {R : Room} {s : State} {m : MethodId} {args : Array Value} {below : List Frame} {meth : Method} {c : Code} {nL : Nat} {A : Nat → Prop} {g : MG} {σ : MS} {Q : State → Prop} {pc n : Nat} {lv : List (Nat × Value)} {st : List Value} {cc : ByteArray} {ρ : Type} {res : ρ} (E : EV p s m args c cc nL RX6) {N : Nat} {x1 : Int32} {kk : Int32 → MS → Option ρ} (hR : 7 ≤ R.frames ∧ 152 ≤ R.locals) (hcat : (st.map fun v => v.category).sum ≤ 8) (d : decode cc pc = .ok (.invokevirtual 312, 3)) (h : bnd (m_goesText N x1 σ) kk = some res) (hn : pc + 3 = n) (k : ∀ (v : Int32) (σ1 : MS), kk v σ1 = some res → CF p l e R s m args below meth c nL 0 0 (MB g A s σ1) Q n lv (.int v :: st)) : CF p l e R s m args below meth c nL 0 0 (MB g A s σ) Q pc lv (.int x1 :: .ref (mh g) :: st) :=
  mcall_i E [.int x1] (fun v σ1 ho => met_goesText l g N x1 σ ho) gw_goesText hd_goesText rfl rfl hR rfl rfl hcat d h hn k
set_option maxHeartbeats 4000000 in
theorem met_town (l : Launch) (g : MG) (N : Nat)  (σ : MS) {v : Int32} {σ1 : MS} (h : m_town N  σ = some (v, σ1)) : MetMi l g yX6_town (ws_ yX6_town cX6_town 2 (some .int)) { frames := 7, cells := 0, slots := 0, locals := 152 } [] σ v σ1 := by
  refine met_mi (lv0 := [(0, .ref (mh g))]) (by decide) rfl ⟨rfl, rfl⟩ (Nat.le_of_ble_eq_true rfl) rfl ?_
  intro p e s m below meth c A Q E hq
  have hR : 7 ≤ ({ frames := 7, cells := 0, slots := 0, locals := 152 } : Room).frames ∧ 152 ≤ ({ frames := 7, cells := 0, slots := 0, locals := 152 } : Room).locals := ⟨Nat.le_refl _, Nat.le_refl _⟩
  unfold m_town at h
  refine cf_aload_n E dX6_town_0 0 rfl rfl ?_
  refine mget_14 E dX6_town_1 rfl ?_
  refine cf_bipush E dX6_town_4 bp_6 rfl ?_
  refine cf_icmp_ne E dX6_town_6 h rfl rfl (fun h => ?_) (fun h => ?_)
  · refine cf_aload_n E dX6_town_12 0 rfl rfl ?_
    refine cf_aload_n E dX6_town_13 0 rfl rfl ?_
    refine mget_14 E dX6_town_14 rfl ?_
    refine mcl_goesText E (rmle hR rfl rfl) (Nat.le_of_ble_eq_true rfl) dX6_town_17 h rfl (fun v_2 s_1 h => ?_)
    refine cf_istore_n E dX6_town_20 h (fun x1_3 => [(1, .int x1_3), (0, .ref (mh g))]) (Nat.le_of_ble_eq_true rfl) (fun _ => rfl) rfl (fun x1_3 h => ?_)
    refine cf_aload_n E dX6_town_21 1 rfl rfl ?_
    refine cf_iconst E dX6_town_22 ic_0 rfl ?_
    refine mput_16 E dX6_town_23 h rfl (fun s_4 h => ?_)
    refine cf_iload_n E dX6_town_26 0 rfl rfl ?_
    refine cf_if_ne E dX6_town_27 h rfl rfl (fun h => ?_) (fun h => ?_)
    · refine cf_aload_n E dX6_town_38 1 rfl rfl ?_
      refine cf_aload_n E dX6_town_39 1 rfl rfl ?_
      refine mget_14 E dX6_town_40 rfl ?_
      refine mput_15 E dX6_town_43 h rfl (fun s_5 h => ?_)
      refine cf_aload_n E dX6_town_46 1 rfl rfl ?_
      refine cf_dup E dX6_town_47 rfl rfl ?_
      refine mget_14 E dX6_town_48 rfl ?_
      refine cf_iconst E dX6_town_51 ic_1 rfl ?_
      refine cf_iadd E dX6_town_52 rfl ?_
      refine mput_14 E dX6_town_53 h rfl (fun s_6 h => ?_)
      refine cf_aload_n E dX6_town_56 1 rfl rfl ?_
      refine mget_15 E dX6_town_57 rfl ?_
      exact mret_i dX6_town_60 h rfl hq
    · refine cf_bipush E dX6_town_30 bp_m10 rfl ?_
      refine cf_aload_n E dX6_town_32 1 rfl rfl ?_
      refine mget_17 E dX6_town_33 rfl ?_
      refine cf_isub E dX6_town_36 rfl ?_
      exact mret_i dX6_town_37 h rfl hq
  · refine cf_bipush E dX6_town_9 bp_m4 rfl ?_
    exact mret_i dX6_town_11 h rfl hq

set_option maxHeartbeats 4000000 in
theorem met_begin (l : Launch) (g : MG) (N : Nat)  (σ : MS) {v : Int32} {σ1 : MS} (h : m_begin N  σ = some (v, σ1)) : MetMi l g yX6_begin (ws_ yX6_begin cX6_begin 1 (some .int)) { frames := 0, cells := 0, slots := 0, locals := 0 } [] σ v σ1 := by
  refine met_mi (lv0 := [(0, .ref (mh g))]) (by decide) rfl ⟨rfl, rfl⟩ (Nat.le_of_ble_eq_true rfl) rfl ?_
  intro p e s m below meth c A Q E hq
  have hR : 0 ≤ ({ frames := 0, cells := 0, slots := 0, locals := 0 } : Room).frames ∧ 0 ≤ ({ frames := 0, cells := 0, slots := 0, locals := 0 } : Room).locals := ⟨Nat.le_refl _, Nat.le_refl _⟩
  unfold m_begin at h
  refine cf_aload_n E dX6_begin_0 0 rfl rfl ?_
  refine mget_15 E dX6_begin_1 rfl ?_
  refine cf_if_ge E dX6_begin_4 h rfl rfl (fun h => ?_) (fun h => ?_)
  · refine cf_bipush E dX6_begin_11 bp_10 rfl ?_
    refine cf_aload_n E dX6_begin_13 0 rfl rfl ?_
    refine mget_15 E dX6_begin_14 rfl ?_
    refine cf_imul E dX6_begin_17 rfl ?_
    exact mret_i dX6_begin_18 h rfl hq
  · refine cf_iconst E dX6_begin_7 ic_0 rfl ?_
    refine cf_goto E dX6_begin_8 rfl ?_
    exact mret_i dX6_begin_18 h rfl hq
theorem gw_begin : GoodIn lw_all (wsV RX6 315 RX6 yX6_begin (ws_ yX6_begin cX6_begin 1 (some .int))) := lw_V q1860 q1862 qs58 q105 q1863
theorem hd_begin : yX6_begin.cls = RX6 ∧ yX6_begin.cls ≠ "java/lang/invoke/MethodHandle" ∧ yX6_begin.cls ≠ "java/lang/invoke/VarHandle" ∧ (parseMethodDescriptor yX6_begin.desc).map (fun d => d.parameters.length) = some 0 := by decide +kernel
theorem mcl_begin {p : Program} {l : Launch} {e : Env} {R : Room} {s : State} {m : MethodId} {args : Array Value} {below : List Frame} {meth : Method} {c : Code} {nL : Nat} {A : Nat → Prop} {g : MG} {σ : MS} {Q : State → Prop} {pc n : Nat} {lv : List (Nat × Value)} {st : List Value} {cc : ByteArray} {ρ : Type} {res : ρ} (E : EV p s m args c cc nL RX6) {N : Nat}  {kk : Int32 → MS → Option ρ} (hR : 1 ≤ R.frames ∧ 20 ≤ R.locals) (hcat : (st.map fun v => v.category).sum ≤ 8) (d : decode cc pc = .ok (.invokevirtual 315, 3)) (h : bnd (m_begin N  σ) kk = some res) (hn : pc + 3 = n) (k : ∀ (v : Int32) (σ1 : MS), kk v σ1 = some res → CF p l e R s m args below meth c nL 0 0 (MB g A s σ1) Q n lv (.int v :: st)) : CF p l e R s m args below meth c nL 0 0 (MB g A s σ) Q pc lv (.ref (mh g) :: st) :=
  mcall_i E [] (fun v σ1 ho => met_begin l g N  σ ho) gw_begin hd_begin rfl rfl hR rfl rfl hcat d h hn k
set_option maxHeartbeats 4000000 in
theorem met_behind (l : Launch) (g : MG) (N : Nat)  (σ : MS) {v : Int32} {σ1 : MS} (h : m_behind N  σ = some (v, σ1)) : MetMi l g yX6_behind (ws_ yX6_behind cX6_behind 1 (some .int)) { frames := 0, cells := 0, slots := 0, locals := 0 } [] σ v σ1 := by
  refine met_mi (lv0 := [(0, .ref (mh g))]) (by decide) rfl ⟨rfl, rfl⟩ (Nat.le_of_ble_eq_true rfl) rfl ?_
  intro p e s m below meth c A Q E hq
  have hR : 0 ≤ ({ frames := 0, cells := 0, slots := 0, locals := 0 } : Room).frames ∧ 0 ≤ ({ frames := 0, cells := 0, slots := 0, locals := 0 } : Room).locals := ⟨Nat.le_refl _, Nat.le_refl _⟩
  unfold m_behind at h
  refine cf_aload_n E dX6_behind_0 0 rfl rfl ?_
  refine mget_15 E dX6_behind_1 rfl ?_
  refine cf_if_ge E dX6_behind_4 h rfl rfl (fun h => ?_) (fun h => ?_)
  · refine cf_bipush E dX6_behind_11 bp_10 rfl ?_
    refine cf_aload_n E dX6_behind_13 0 rfl rfl ?_
    refine mget_15 E dX6_behind_14 rfl ?_
    refine cf_imul E dX6_behind_17 rfl ?_
    refine cf_aload_n E dX6_behind_18 0 rfl rfl ?_
    refine mget_20 E dX6_behind_19 rfl ?_
    refine cf_aload_n E dX6_behind_22 0 rfl rfl ?_
    refine mget_15 E dX6_behind_23 rfl ?_
    refine mald_20 E dX6_behind_26 h rfl (fun h => ?_)
    refine cf_iadd E dX6_behind_27 rfl ?_
    exact mret_i dX6_behind_28 h rfl hq
  · refine cf_iconst E dX6_behind_7 ic_0 rfl ?_
    refine cf_goto E dX6_behind_8 rfl ?_
    exact mret_i dX6_behind_28 h rfl hq
theorem gw_behind : GoodIn lw_all (wsV RX6 318 RX6 yX6_behind (ws_ yX6_behind cX6_behind 1 (some .int))) := lw_V q1864 q1866 qs59 q105 q1867
theorem hd_behind : yX6_behind.cls = RX6 ∧ yX6_behind.cls ≠ "java/lang/invoke/MethodHandle" ∧ yX6_behind.cls ≠ "java/lang/invoke/VarHandle" ∧ (parseMethodDescriptor yX6_behind.desc).map (fun d => d.parameters.length) = some 0 := by decide +kernel
theorem mcl_behind {p : Program} {l : Launch} {e : Env} {R : Room} {s : State} {m : MethodId} {args : Array Value} {below : List Frame} {meth : Method} {c : Code} {nL : Nat} {A : Nat → Prop} {g : MG} {σ : MS} {Q : State → Prop} {pc n : Nat} {lv : List (Nat × Value)} {st : List Value} {cc : ByteArray} {ρ : Type} {res : ρ} (E : EV p s m args c cc nL RX6) {N : Nat}  {kk : Int32 → MS → Option ρ} (hR : 1 ≤ R.frames ∧ 20 ≤ R.locals) (hcat : (st.map fun v => v.category).sum ≤ 8) (d : decode cc pc = .ok (.invokevirtual 318, 3)) (h : bnd (m_behind N  σ) kk = some res) (hn : pc + 3 = n) (k : ∀ (v : Int32) (σ1 : MS), kk v σ1 = some res → CF p l e R s m args below meth c nL 0 0 (MB g A s σ1) Q n lv (.int v :: st)) : CF p l e R s m args below meth c nL 0 0 (MB g A s σ) Q pc lv (.ref (mh g) :: st) :=
  mcall_i E [] (fun v σ1 ho => met_behind l g N  σ ho) gw_behind hd_behind rfl rfl hR rfl rfl hcat d h hn k
set_option maxHeartbeats 4000000 in
theorem met_factOf (l : Launch) (g : MG) (N : Nat) (x1 : Int32) (x2 : Int32) (x3 : Int32) (σ : MS) {v : Int32} {σ1 : MS} (h : m_factOf N x1 x2 x3 σ = some (v, σ1)) : MetMi l g yX6_factOf (ws_ yX6_factOf cX6_factOf 4 (some .int)) { frames := 0, cells := 0, slots := 0, locals := 0 } [.int x1, .int x2, .int x3] σ v σ1 := by
  refine met_mi (lv0 := [(0, .ref (mh g)), (1, .int x1), (2, .int x2), (3, .int x3)]) (by decide) rfl ⟨rfl, rfl⟩ (Nat.le_of_ble_eq_true rfl) rfl ?_
  intro p e s m below meth c A Q E hq
  have hR : 0 ≤ ({ frames := 0, cells := 0, slots := 0, locals := 0 } : Room).frames ∧ 0 ≤ ({ frames := 0, cells := 0, slots := 0, locals := 0 } : Room).locals := ⟨Nat.le_refl _, Nat.le_refl _⟩
  unfold m_factOf at h
  refine cf_iload_n E dX6_factOf_0 1 rfl rfl ?_
  by_cases hx_1 : x1 = (0 : Int32)
  · rw [if_pos hx_1] at h
    refine cf_tabIn E 0 dX6_factOf_1 (i32_eqZ hx_1 (by decide)) (by decide) (by decide) rfl rfl ?_
    refine cf_iload_n E dX6_factOf_36 2 rfl rfl ?_
    exact mret_i dX6_factOf_37 h rfl hq
  rw [if_neg hx_1] at h
  by_cases hx_2 : x1 = (1 : Int32)
  · rw [if_pos hx_2] at h
    refine cf_tabIn E 1 dX6_factOf_1 (i32_eqZ hx_2 (by decide)) (by decide) (by decide) rfl rfl ?_
    refine cf_iload_n E dX6_factOf_38 3 rfl rfl ?_
    exact mret_i dX6_factOf_39 h rfl hq
  rw [if_neg hx_2] at h
  by_cases hx_3 : x1 = (2 : Int32)
  · rw [if_pos hx_3] at h
    refine cf_tabIn E 2 dX6_factOf_1 (i32_eqZ hx_3 (by decide)) (by decide) (by decide) rfl rfl ?_
    refine cf_aload_n E dX6_factOf_40 0 rfl rfl ?_
    refine mget_6 E dX6_factOf_41 rfl ?_
    refine cf_iload_n E dX6_factOf_44 2 rfl rfl ?_
    refine mald_6 E dX6_factOf_45 h rfl (fun h => ?_)
    exact mret_i dX6_factOf_46 h rfl hq
  rw [if_neg hx_3] at h
  by_cases hx_4 : x1 = (3 : Int32)
  · rw [if_pos hx_4] at h
    refine cf_tabIn E 3 dX6_factOf_1 (i32_eqZ hx_4 (by decide)) (by decide) (by decide) rfl rfl ?_
    refine cf_aload_n E dX6_factOf_47 0 rfl rfl ?_
    refine mget_10 E dX6_factOf_48 rfl ?_
    refine cf_iload_n E dX6_factOf_51 2 rfl rfl ?_
    refine mald_10 E dX6_factOf_52 h rfl (fun h => ?_)
    exact mret_i dX6_factOf_53 h rfl hq
  rw [if_neg hx_4] at h
  by_cases hx_5 : x1 = (4 : Int32)
  · rw [if_pos hx_5] at h
    refine cf_tabIn E 4 dX6_factOf_1 (i32_eqZ hx_5 (by decide)) (by decide) (by decide) rfl rfl ?_
    refine cf_aload_n E dX6_factOf_54 0 rfl rfl ?_
    refine mget_11 E dX6_factOf_55 rfl ?_
    refine cf_iload_n E dX6_factOf_58 2 rfl rfl ?_
    refine mald_11 E dX6_factOf_59 h rfl (fun h => ?_)
    refine cf_bipush E dX6_factOf_60 bp_10 rfl ?_
    refine cf_iremL E dX6_factOf_62 (by decide) rfl ?_
    exact mret_i dX6_factOf_63 h rfl hq
  rw [if_neg hx_5] at h
  have hx_1 := i32_neZ (z := 0) hx_1 (by decide)
  have hx_2 := i32_neZ (z := 1) hx_2 (by decide)
  have hx_3 := i32_neZ (z := 2) hx_3 (by decide)
  have hx_4 := i32_neZ (z := 3) hx_4 (by decide)
  have hx_5 := i32_neZ (z := 4) hx_5 (by decide)
  refine cf_tabOut E dX6_factOf_1 (by omega) rfl ?_
  refine cf_aload_n E dX6_factOf_64 0 rfl rfl ?_
  refine mget_2 E dX6_factOf_65 rfl ?_
  refine cf_bipush E dX6_factOf_68 bp_7 rfl ?_
  refine cf_iremL E dX6_factOf_70 (by decide) rfl ?_
  exact mret_i dX6_factOf_71 h rfl hq
theorem gw_factOf : GoodIn lw_all (wsV RX6 321 RX6 yX6_factOf (ws_ yX6_factOf cX6_factOf 4 (some .int))) := lw_V q1872 q1874 qs61 q105 q1875
theorem hd_factOf : yX6_factOf.cls = RX6 ∧ yX6_factOf.cls ≠ "java/lang/invoke/MethodHandle" ∧ yX6_factOf.cls ≠ "java/lang/invoke/VarHandle" ∧ (parseMethodDescriptor yX6_factOf.desc).map (fun d => d.parameters.length) = some 3 := by decide +kernel
theorem mcl_factOf {p : Program} {l : Launch} {e : Env} {R : Room} {s : State} {m : MethodId} {args : Array Value} {below : List Frame} {meth : Method} {c : Code} {nL : Nat} {A : Nat → Prop} {g : MG} {σ : MS} {Q : State → Prop} {pc n : Nat} {lv : List (Nat × Value)} {st : List Value} {cc : ByteArray} {ρ : Type} {res : ρ} (E : EV p s m args c cc nL RX6) {N : Nat} {x1 : Int32} {x2 : Int32} {x3 : Int32} {kk : Int32 → MS → Option ρ} (hR : 1 ≤ R.frames ∧ 23 ≤ R.locals) (hcat : (st.map fun v => v.category).sum ≤ 8) (d : decode cc pc = .ok (.invokevirtual 321, 3)) (h : bnd (m_factOf N x1 x2 x3 σ) kk = some res) (hn : pc + 3 = n) (k : ∀ (v : Int32) (σ1 : MS), kk v σ1 = some res → CF p l e R s m args below meth c nL 0 0 (MB g A s σ1) Q n lv (.int v :: st)) : CF p l e R s m args below meth c nL 0 0 (MB g A s σ) Q pc lv (.int x3 :: .int x2 :: .int x1 :: .ref (mh g) :: st) :=
  mcall_i E [.int x1, .int x2, .int x3] (fun v σ1 ho => met_factOf l g N x1 x2 x3 σ ho) gw_factOf hd_factOf rfl rfl hR rfl rfl hcat d h hn k
set_option maxHeartbeats 4000000 in
theorem wm_holds_247 {p : Program} {l : Launch} {e : Env} {R : Room} {s : State} {m : MethodId} {args : Array Value} {below : List Frame} {meth : Method} {c : Code} {A : Nat → Prop} {g : MG} {Q : State → Prop} (E : EV p s m args c cX6_holds 9 RX6) (hR : 1 ≤ R.frames ∧ 23 ≤ R.locals) {res : Int32 × MS} (hq : RTi p l e R s m args below meth c cX6_holds 9 A g .boolean Q res) (N : Nat) {rec11 : Int32 → Int32 → Int32 → Int32 → Int32 → MS → Option (Int32 × MS)} (ih11 : ∀ (x1 : Int32) (x2 : Int32) (x3 : Int32) (x4 : Int32) (x5 : Int32) (σ : MS), rec11 x1 x2 x3 x4 x5 σ = some res → CF p l e R s m args below meth c 9 0 0 (MB g A s σ) Q 11 [(0, .ref (mh g)), (1, .int x1), (2, .int x2), (3, .int x3), (4, .int x4), (5, .int x5)] []) (x1 : Int32) (x2 : Int32) (x3 : Int32) (x4 : Int32) (x5 : Int32) (σ : MS) (h : m_holds_247 N rec11 x1 x2 x3 x4 x5 σ = some res) : CF p l e R s m args below meth c 9 0 0 (MB g A s σ) Q 247 [(0, .ref (mh g)), (1, .int x1), (2, .int x2), (3, .int x3), (4, .int x4), (5, .int x5)] [] := by
  unfold m_holds_247 at h
  refine cf_iinc E dX6_holds_247 ic_1 h 5 rfl (fun x5_1 => [(5, .int x5_1), (0, .ref (mh g)), (1, .int x1), (2, .int x2), (3, .int x3), (4, .int x4)]) (Nat.le_of_ble_eq_true rfl) (fun _ => rfl) rfl (fun x5_1 h => ?_)
  refine cf_goto E dX6_holds_250 rfl ?_
  exact CF.sub [1, 2, 3, 4, 5, 0] rfl (ih11 x1 x2 x3 x4 x5_1 σ h)
set_option maxHeartbeats 4000000 in
theorem wm_holds_243 {p : Program} {l : Launch} {e : Env} {R : Room} {s : State} {m : MethodId} {args : Array Value} {below : List Frame} {meth : Method} {c : Code} {A : Nat → Prop} {g : MG} {Q : State → Prop} (E : EV p s m args c cX6_holds 9 RX6) (hR : 1 ≤ R.frames ∧ 23 ≤ R.locals) {res : Int32 × MS} (hq : RTi p l e R s m args below meth c cX6_holds 9 A g .boolean Q res) (N : Nat) {rec11 : Int32 → Int32 → Int32 → Int32 → Int32 → MS → Option (Int32 × MS)} (ih11 : ∀ (x1 : Int32) (x2 : Int32) (x3 : Int32) (x4 : Int32) (x5 : Int32) (σ : MS), rec11 x1 x2 x3 x4 x5 σ = some res → CF p l e R s m args below meth c 9 0 0 (MB g A s σ) Q 11 [(0, .ref (mh g)), (1, .int x1), (2, .int x2), (3, .int x3), (4, .int x4), (5, .int x5)] []) (x1 : Int32) (x2 : Int32) (x3 : Int32) (x4 : Int32) (x5 : Int32) (z0 : Int32) (z1 : Int32) (σ : MS) (h : m_holds_243 N rec11 x1 x2 x3 x4 x5 z0 z1 σ = some res) : CF p l e R s m args below meth c 9 0 0 (MB g A s σ) Q 243 [(0, .ref (mh g)), (1, .int x1), (2, .int x2), (3, .int x3), (4, .int x4), (5, .int x5)] [.int z0, .int z1, .ref (ma g 32)] := by
  unfold m_holds_243 at h
  refine mast_32 E dX6_holds_243 h rfl (fun s_1 h => ?_)
  refine cf_iinc E dX6_holds_244 ic_1 h 4 rfl (fun x4_2 => [(4, .int x4_2), (0, .ref (mh g)), (1, .int x1), (2, .int x2), (3, .int x3), (5, .int x5)]) (Nat.le_of_ble_eq_true rfl) (fun _ => rfl) rfl (fun x4_2 h => ?_)
  exact CF.sub [1, 2, 3, 4, 0, 5] rfl (wm_holds_247 E hR hq N ih11 x1 x2 x3 x4_2 x5 s_1 h)
set_option maxHeartbeats 4000000 in
theorem wm_holds_147 {p : Program} {l : Launch} {e : Env} {R : Room} {s : State} {m : MethodId} {args : Array Value} {below : List Frame} {meth : Method} {c : Code} {A : Nat → Prop} {g : MG} {Q : State → Prop} (E : EV p s m args c cX6_holds 9 RX6) (hR : 1 ≤ R.frames ∧ 23 ≤ R.locals) {res : Int32 × MS} (hq : RTi p l e R s m args below meth c cX6_holds 9 A g .boolean Q res) (N : Nat) {rec11 : Int32 → Int32 → Int32 → Int32 → Int32 → MS → Option (Int32 × MS)} (ih11 : ∀ (x1 : Int32) (x2 : Int32) (x3 : Int32) (x4 : Int32) (x5 : Int32) (σ : MS), rec11 x1 x2 x3 x4 x5 σ = some res → CF p l e R s m args below meth c 9 0 0 (MB g A s σ) Q 11 [(0, .ref (mh g)), (1, .int x1), (2, .int x2), (3, .int x3), (4, .int x4), (5, .int x5)] []) (x1 : Int32) (x2 : Int32) (x3 : Int32) (x4 : Int32) (x5 : Int32) (z0 : Int32) (z1 : Int32) (σ : MS) (h : m_holds_147 N rec11 x1 x2 x3 x4 x5 z0 z1 σ = some res) : CF p l e R s m args below meth c 9 0 0 (MB g A s σ) Q 147 [(0, .ref (mh g)), (1, .int x1), (2, .int x2), (3, .int x3), (4, .int x4), (5, .int x5)] [.int z0, .int z1, .ref (ma g 32)] := by
  unfold m_holds_147 at h
  refine mast_32 E dX6_holds_147 h rfl (fun s_1 h => ?_)
  refine cf_goto E dX6_holds_148 rfl ?_
  exact CF.sub [0, 1, 2, 3, 4, 5] rfl (wm_holds_247 E hR hq N ih11 x1 x2 x3 x4 x5 s_1 h)
set_option maxHeartbeats 4000000 in
theorem wm_holds_142 {p : Program} {l : Launch} {e : Env} {R : Room} {s : State} {m : MethodId} {args : Array Value} {below : List Frame} {meth : Method} {c : Code} {A : Nat → Prop} {g : MG} {Q : State → Prop} (E : EV p s m args c cX6_holds 9 RX6) (hR : 1 ≤ R.frames ∧ 23 ≤ R.locals) {res : Int32 × MS} (hq : RTi p l e R s m args below meth c cX6_holds 9 A g .boolean Q res) (N : Nat) {rec11 : Int32 → Int32 → Int32 → Int32 → Int32 → MS → Option (Int32 × MS)} (ih11 : ∀ (x1 : Int32) (x2 : Int32) (x3 : Int32) (x4 : Int32) (x5 : Int32) (σ : MS), rec11 x1 x2 x3 x4 x5 σ = some res → CF p l e R s m args below meth c 9 0 0 (MB g A s σ) Q 11 [(0, .ref (mh g)), (1, .int x1), (2, .int x2), (3, .int x3), (4, .int x4), (5, .int x5)] []) (x1 : Int32) (x2 : Int32) (x3 : Int32) (x4 : Int32) (x5 : Int32) (z0 : Int32) (σ : MS) (h : m_holds_142 N rec11 x1 x2 x3 x4 x5 z0 σ = some res) : CF p l e R s m args below meth c 9 0 0 (MB g A s σ) Q 142 [(0, .ref (mh g)), (1, .int x1), (2, .int x2), (3, .int x3), (4, .int x4), (5, .int x5)] [.int z0, .ref (ma g 32)] := by
  unfold m_holds_142 at h
  refine cf_iconst E dX6_holds_142 ic_1 rfl ?_
  refine cf_goto E dX6_holds_143 rfl ?_
  exact CF.sub [0, 1, 2, 3, 4, 5] rfl (wm_holds_147 E hR hq N ih11 x1 x2 x3 x4 x5 (1 : Int32) z0 σ h)
set_option maxHeartbeats 4000000 in
theorem wm_holds_116 {p : Program} {l : Launch} {e : Env} {R : Room} {s : State} {m : MethodId} {args : Array Value} {below : List Frame} {meth : Method} {c : Code} {A : Nat → Prop} {g : MG} {Q : State → Prop} (E : EV p s m args c cX6_holds 9 RX6) (hR : 1 ≤ R.frames ∧ 23 ≤ R.locals) {res : Int32 × MS} (hq : RTi p l e R s m args below meth c cX6_holds 9 A g .boolean Q res) (N : Nat) {rec11 : Int32 → Int32 → Int32 → Int32 → Int32 → MS → Option (Int32 × MS)} (ih11 : ∀ (x1 : Int32) (x2 : Int32) (x3 : Int32) (x4 : Int32) (x5 : Int32) (σ : MS), rec11 x1 x2 x3 x4 x5 σ = some res → CF p l e R s m args below meth c 9 0 0 (MB g A s σ) Q 11 [(0, .ref (mh g)), (1, .int x1), (2, .int x2), (3, .int x3), (4, .int x4), (5, .int x5)] []) (x1 : Int32) (x2 : Int32) (x3 : Int32) (x4 : Int32) (x5 : Int32) (z0 : Int32) (σ : MS) (h : m_holds_116 N rec11 x1 x2 x3 x4 x5 z0 σ = some res) : CF p l e R s m args below meth c 9 0 0 (MB g A s σ) Q 116 [(0, .ref (mh g)), (1, .int x1), (2, .int x2), (3, .int x3), (4, .int x4), (5, .int x5)] [.int z0, .ref (ma g 32)] := by
  unfold m_holds_116 at h
  refine cf_iconst E dX6_holds_116 ic_0 rfl ?_
  refine cf_goto E dX6_holds_117 rfl ?_
  exact CF.sub [0, 1, 2, 3, 4, 5] rfl (wm_holds_147 E hR hq N ih11 x1 x2 x3 x4 x5 (0 : Int32) z0 σ h)
set_option maxHeartbeats 4000000 in
theorem wm_holds_63 {p : Program} {l : Launch} {e : Env} {R : Room} {s : State} {m : MethodId} {args : Array Value} {below : List Frame} {meth : Method} {c : Code} {A : Nat → Prop} {g : MG} {Q : State → Prop} (E : EV p s m args c cX6_holds 9 RX6) (hR : 1 ≤ R.frames ∧ 23 ≤ R.locals) {res : Int32 × MS} (hq : RTi p l e R s m args below meth c cX6_holds 9 A g .boolean Q res) (N : Nat) {rec11 : Int32 → Int32 → Int32 → Int32 → Int32 → MS → Option (Int32 × MS)} (ih11 : ∀ (x1 : Int32) (x2 : Int32) (x3 : Int32) (x4 : Int32) (x5 : Int32) (σ : MS), rec11 x1 x2 x3 x4 x5 σ = some res → CF p l e R s m args below meth c 9 0 0 (MB g A s σ) Q 11 [(0, .ref (mh g)), (1, .int x1), (2, .int x2), (3, .int x3), (4, .int x4), (5, .int x5)] []) (x1 : Int32) (x2 : Int32) (x3 : Int32) (x4 : Int32) (x5 : Int32) (z0 : Int32) (z1 : Int32) (σ : MS) (h : m_holds_63 N rec11 x1 x2 x3 x4 x5 z0 z1 σ = some res) : CF p l e R s m args below meth c 9 0 0 (MB g A s σ) Q 63 [(0, .ref (mh g)), (1, .int x1), (2, .int x2), (3, .int x3), (4, .int x4), (5, .int x5)] [.int z0, .int z1, .ref (ma g 32)] := by
  unfold m_holds_63 at h
  refine mast_32 E dX6_holds_63 h rfl (fun s_1 h => ?_)
  refine cf_goto E dX6_holds_64 rfl ?_
  exact CF.sub [0, 1, 2, 3, 4, 5] rfl (wm_holds_247 E hR hq N ih11 x1 x2 x3 x4 x5 s_1 h)
set_option maxHeartbeats 4000000 in
theorem wm_holds_11b {p : Program} {l : Launch} {e : Env} {R : Room} {s : State} {m : MethodId} {args : Array Value} {below : List Frame} {meth : Method} {c : Code} {A : Nat → Prop} {g : MG} {Q : State → Prop} (E : EV p s m args c cX6_holds 9 RX6) (hR : 1 ≤ R.frames ∧ 23 ≤ R.locals) {res : Int32 × MS} (hq : RTi p l e R s m args below meth c cX6_holds 9 A g .boolean Q res) (N : Nat)  {rec11 : Int32 → Int32 → Int32 → Int32 → Int32 → MS → Option (Int32 × MS)} (ih11 : ∀ (x1 : Int32) (x2 : Int32) (x3 : Int32) (x4 : Int32) (x5 : Int32) (σ : MS), rec11 x1 x2 x3 x4 x5 σ = some res → CF p l e R s m args below meth c 9 0 0 (MB g A s σ) Q 11 [(0, .ref (mh g)), (1, .int x1), (2, .int x2), (3, .int x3), (4, .int x4), (5, .int x5)] []) (x1 : Int32) (x2 : Int32) (x3 : Int32) (x4 : Int32) (x5 : Int32) (σ : MS) (h : m_holds_11b N  rec11 x1 x2 x3 x4 x5 σ = some res) : CF p l e R s m args below meth c 9 0 0 (MB g A s σ) Q 11 [(0, .ref (mh g)), (1, .int x1), (2, .int x2), (3, .int x3), (4, .int x4), (5, .int x5)] [] := by
  unfold m_holds_11b at h
  refine cf_iload E dX6_holds_11 5 rfl rfl ?_
  refine cf_aload_n E dX6_holds_13 0 rfl rfl ?_
  refine mget_25 E dX6_holds_14 rfl ?_
  refine cf_iload_n E dX6_holds_17 1 rfl rfl ?_
  refine mald_25 E dX6_holds_18 h rfl (fun h => ?_)
  refine cf_icmp_ge E dX6_holds_19 h rfl rfl (fun h => ?_) (fun h => ?_)
  · refine cf_aload_n E dX6_holds_253 0 rfl rfl ?_
    refine mget_32 E dX6_holds_254 rfl ?_
    refine cf_iconst E dX6_holds_257 ic_0 rfl ?_
    refine mald_32 E dX6_holds_258 h rfl (fun h => ?_)
    exact mret_z dX6_holds_259 h hq
  · refine cf_aload_n E dX6_holds_22 0 rfl rfl ?_
    refine mget_26 E dX6_holds_23 rfl ?_
    refine cf_iload E dX6_holds_26 5 rfl rfl ?_
    refine mald_26 E dX6_holds_28 h rfl (fun h => ?_)
    refine cf_istore E dX6_holds_29 h (fun x6_1 => [(6, .int x6_1), (0, .ref (mh g)), (1, .int x1), (2, .int x2), (3, .int x3), (4, .int x4), (5, .int x5)]) (Nat.le_of_ble_eq_true rfl) (fun _ => rfl) rfl (fun x6_1 h => ?_)
    refine cf_iload E dX6_holds_31 0 rfl rfl ?_
    refine cf_bipush E dX6_holds_33 bp_m33 rfl ?_
    refine cf_icmp_ne E dX6_holds_35 h rfl rfl (fun h => ?_) (fun h => ?_)
    · refine cf_iload E dX6_holds_67 0 rfl rfl ?_
      refine cf_if_ge E dX6_holds_69 h rfl rfl (fun h => ?_) (fun h => ?_)
      · refine cf_aload_n E dX6_holds_151 1 rfl rfl ?_
        refine cf_iload E dX6_holds_152 0 rfl rfl ?_
        refine cf_sipush E dX6_holds_154 sp_1000 rfl ?_
        refine cf_idivL E dX6_holds_157 (by decide) rfl ?_
        refine cf_iload_n E dX6_holds_158 3 rfl rfl ?_
        refine cf_iload_n E dX6_holds_159 4 rfl rfl ?_
        refine mcl_factOf E (rmle hR rfl rfl) (Nat.le_of_ble_eq_true rfl) dX6_holds_160 h rfl (fun v_3 s_2 h => ?_)
        refine cf_istore E dX6_holds_163 h (fun x7_4 => [(7, .int x7_4), (6, .int x6_1), (0, .ref (mh g)), (1, .int x1), (2, .int x2), (3, .int x3), (4, .int x4), (5, .int x5)]) (Nat.le_of_ble_eq_true rfl) (fun _ => rfl) rfl (fun x7_4 h => ?_)
        refine cf_iload E dX6_holds_165 1 rfl rfl ?_
        refine cf_bipush E dX6_holds_167 bp_100 rfl ?_
        refine cf_idivL E dX6_holds_169 (by decide) rfl ?_
        refine cf_bipush E dX6_holds_170 bp_10 rfl ?_
        refine cf_iremL E dX6_holds_172 (by decide) rfl ?_
        refine cf_istore E dX6_holds_173 h (fun x8_5 => [(8, .int x8_5), (7, .int x7_4), (6, .int x6_1), (0, .ref (mh g)), (1, .int x1), (2, .int x2), (3, .int x3), (4, .int x4), (5, .int x5)]) (Nat.le_of_ble_eq_true rfl) (fun _ => rfl) rfl (fun x8_5 h => ?_)
        refine cf_aload_n E dX6_holds_175 3 rfl rfl ?_
        refine mget_32 E dX6_holds_176 rfl ?_
        refine cf_iload E dX6_holds_179 7 rfl rfl ?_
        refine cf_iload E dX6_holds_181 0 rfl rfl ?_
        refine cf_if_ne E dX6_holds_183 h rfl rfl (fun h => ?_) (fun h => ?_)
        · refine cf_iload E dX6_holds_204 0 rfl rfl ?_
          refine cf_iconst E dX6_holds_206 ic_1 rfl ?_
          refine cf_icmp_ne E dX6_holds_207 h rfl rfl (fun h => ?_) (fun h => ?_)
          · refine cf_iload E dX6_holds_228 1 rfl rfl ?_
            refine cf_iload E dX6_holds_230 2 rfl rfl ?_
            refine cf_bipush E dX6_holds_232 bp_100 rfl ?_
            refine cf_iremL E dX6_holds_234 (by decide) rfl ?_
            refine cf_icmp_le E dX6_holds_235 h rfl rfl (fun h => ?_) (fun h => ?_)
            · refine cf_iconst E dX6_holds_242 ic_0 rfl ?_
              exact CF.sub [3, 4, 5, 6, 7, 8] rfl (wm_holds_243 E hR hq N ih11 x1 x2 x3 x4 x5 (0 : Int32) x4 s_2 h)
            · refine cf_iconst E dX6_holds_238 ic_1 rfl ?_
              refine cf_goto E dX6_holds_239 rfl ?_
              exact CF.sub [3, 4, 5, 6, 7, 8] rfl (wm_holds_243 E hR hq N ih11 x1 x2 x3 x4 x5 (1 : Int32) x4 s_2 h)
          · refine cf_iload E dX6_holds_210 1 rfl rfl ?_
            refine cf_iload E dX6_holds_212 2 rfl rfl ?_
            refine cf_bipush E dX6_holds_214 bp_100 rfl ?_
            refine cf_iremL E dX6_holds_216 (by decide) rfl ?_
            refine cf_icmp_ne E dX6_holds_217 h rfl rfl (fun h => ?_) (fun h => ?_)
            · refine cf_iconst E dX6_holds_224 ic_0 rfl ?_
              refine cf_goto E dX6_holds_225 rfl ?_
              exact CF.sub [3, 4, 5, 6, 7, 8] rfl (wm_holds_243 E hR hq N ih11 x1 x2 x3 x4 x5 (0 : Int32) x4 s_2 h)
            · refine cf_iconst E dX6_holds_220 ic_1 rfl ?_
              refine cf_goto E dX6_holds_221 rfl ?_
              exact CF.sub [3, 4, 5, 6, 7, 8] rfl (wm_holds_243 E hR hq N ih11 x1 x2 x3 x4 x5 (1 : Int32) x4 s_2 h)
        · refine cf_iload E dX6_holds_186 1 rfl rfl ?_
          refine cf_iload E dX6_holds_188 2 rfl rfl ?_
          refine cf_bipush E dX6_holds_190 bp_100 rfl ?_
          refine cf_iremL E dX6_holds_192 (by decide) rfl ?_
          refine cf_icmp_ge E dX6_holds_193 h rfl rfl (fun h => ?_) (fun h => ?_)
          · refine cf_iconst E dX6_holds_200 ic_0 rfl ?_
            refine cf_goto E dX6_holds_201 rfl ?_
            exact CF.sub [3, 4, 5, 6, 7, 8] rfl (wm_holds_243 E hR hq N ih11 x1 x2 x3 x4 x5 (0 : Int32) x4 s_2 h)
          · refine cf_iconst E dX6_holds_196 ic_1 rfl ?_
            refine cf_goto E dX6_holds_197 rfl ?_
            exact CF.sub [3, 4, 5, 6, 7, 8] rfl (wm_holds_243 E hR hq N ih11 x1 x2 x3 x4 x5 (1 : Int32) x4 s_2 h)
      · refine cf_iinc E dX6_holds_72 ic_m1 h 5 rfl (fun x4_6 => [(4, .int x4_6), (6, .int x6_1), (0, .ref (mh g)), (1, .int x1), (2, .int x2), (3, .int x3), (5, .int x5)]) (Nat.le_of_ble_eq_true rfl) (fun _ => rfl) rfl (fun x4_6 h => ?_)
        refine cf_aload_n E dX6_holds_75 2 rfl rfl ?_
        refine mget_32 E dX6_holds_76 rfl ?_
        refine cf_iload E dX6_holds_79 0 rfl rfl ?_
        refine cf_iconst E dX6_holds_81 ic_1 rfl ?_
        refine cf_isub E dX6_holds_82 rfl ?_
        refine cf_iload E dX6_holds_83 1 rfl rfl ?_
        refine cf_bipush E dX6_holds_85 bp_m38 rfl ?_
        refine cf_icmp_ne E dX6_holds_87 h rfl rfl (fun h => ?_) (fun h => ?_)
        · refine cf_aload_n E dX6_holds_120 2 rfl rfl ?_
          refine mget_32 E dX6_holds_121 rfl ?_
          refine cf_iload E dX6_holds_124 0 rfl rfl ?_
          refine cf_iconst E dX6_holds_126 ic_1 rfl ?_
          refine cf_isub E dX6_holds_127 rfl ?_
          refine mald_32 E dX6_holds_128 h rfl (fun h => ?_)
          refine cf_if_ne E dX6_holds_129 h rfl rfl (fun h => ?_) (fun h => ?_)
          · exact CF.sub [2, 3, 4, 5, 0, 6] rfl (wm_holds_142 E hR hq N ih11 x1 x2 x3 x4_6 x5 (x4_6 - (1 : Int32)) σ h)
          · refine cf_aload_n E dX6_holds_132 2 rfl rfl ?_
            refine mget_32 E dX6_holds_133 rfl ?_
            refine cf_iload E dX6_holds_136 0 rfl rfl ?_
            refine mald_32 E dX6_holds_138 h rfl (fun h => ?_)
            refine cf_if_eq E dX6_holds_139 h rfl rfl (fun h => ?_) (fun h => ?_)
            · refine cf_iconst E dX6_holds_146 ic_0 rfl ?_
              exact CF.sub [2, 3, 4, 5, 0, 6] rfl (wm_holds_147 E hR hq N ih11 x1 x2 x3 x4_6 x5 (0 : Int32) (x4_6 - (1 : Int32)) σ h)
            · exact CF.sub [2, 3, 4, 5, 0, 6] rfl (wm_holds_142 E hR hq N ih11 x1 x2 x3 x4_6 x5 (x4_6 - (1 : Int32)) σ h)
        · refine cf_aload_n E dX6_holds_90 2 rfl rfl ?_
          refine mget_32 E dX6_holds_91 rfl ?_
          refine cf_iload E dX6_holds_94 0 rfl rfl ?_
          refine cf_iconst E dX6_holds_96 ic_1 rfl ?_
          refine cf_isub E dX6_holds_97 rfl ?_
          refine mald_32 E dX6_holds_98 h rfl (fun h => ?_)
          refine cf_if_eq E dX6_holds_99 h rfl rfl (fun h => ?_) (fun h => ?_)
          · exact CF.sub [2, 3, 4, 5, 0, 6] rfl (wm_holds_116 E hR hq N ih11 x1 x2 x3 x4_6 x5 (x4_6 - (1 : Int32)) σ h)
          · refine cf_aload_n E dX6_holds_102 2 rfl rfl ?_
            refine mget_32 E dX6_holds_103 rfl ?_
            refine cf_iload E dX6_holds_106 0 rfl rfl ?_
            refine mald_32 E dX6_holds_108 h rfl (fun h => ?_)
            refine cf_if_eq E dX6_holds_109 h rfl rfl (fun h => ?_) (fun h => ?_)
            · exact CF.sub [2, 3, 4, 5, 0, 6] rfl (wm_holds_116 E hR hq N ih11 x1 x2 x3 x4_6 x5 (x4_6 - (1 : Int32)) σ h)
            · refine cf_iconst E dX6_holds_112 ic_1 rfl ?_
              refine cf_goto E dX6_holds_113 rfl ?_
              exact CF.sub [2, 3, 4, 5, 0, 6] rfl (wm_holds_147 E hR hq N ih11 x1 x2 x3 x4_6 x5 (1 : Int32) (x4_6 - (1 : Int32)) σ h)
    · refine cf_aload_n E dX6_holds_38 1 rfl rfl ?_
      refine mget_32 E dX6_holds_39 rfl ?_
      refine cf_iload E dX6_holds_42 5 rfl rfl ?_
      refine cf_iconst E dX6_holds_44 ic_1 rfl ?_
      refine cf_isub E dX6_holds_45 rfl ?_
      refine cf_aload_n E dX6_holds_46 1 rfl rfl ?_
      refine mget_32 E dX6_holds_47 rfl ?_
      refine cf_iload E dX6_holds_50 5 rfl rfl ?_
      refine cf_iconst E dX6_holds_52 ic_1 rfl ?_
      refine cf_isub E dX6_holds_53 rfl ?_
      refine mald_32 E dX6_holds_54 h rfl (fun h => ?_)
      refine cf_if_ne E dX6_holds_55 h rfl rfl (fun h => ?_) (fun h => ?_)
      · refine cf_iconst E dX6_holds_62 ic_0 rfl ?_
        exact CF.sub [1, 2, 3, 4, 5, 6] rfl (wm_holds_63 E hR hq N ih11 x1 x2 x3 x4 x5 (0 : Int32) (x4 - (1 : Int32)) σ h)
      · refine cf_iconst E dX6_holds_58 ic_1 rfl ?_
        refine cf_goto E dX6_holds_59 rfl ?_
        exact CF.sub [1, 2, 3, 4, 5, 6] rfl (wm_holds_63 E hR hq N ih11 x1 x2 x3 x4 x5 (1 : Int32) (x4 - (1 : Int32)) σ h)
set_option maxHeartbeats 4000000 in
theorem wm_holds_11 {p : Program} {l : Launch} {e : Env} {R : Room} {s : State} {m : MethodId} {args : Array Value} {below : List Frame} {meth : Method} {c : Code} {A : Nat → Prop} {g : MG} {Q : State → Prop} (E : EV p s m args c cX6_holds 9 RX6) (hR : 1 ≤ R.frames ∧ 23 ≤ R.locals) {res : Int32 × MS} (hq : RTi p l e R s m args below meth c cX6_holds 9 A g .boolean Q res) (N : Nat)  : ∀ (k : Nat) (x1 : Int32) (x2 : Int32) (x3 : Int32) (x4 : Int32) (x5 : Int32) (σ : MS), m_holds_11 N  k x1 x2 x3 x4 x5 σ = some res → CF p l e R s m args below meth c 9 0 0 (MB g A s σ) Q 11 [(0, .ref (mh g)), (1, .int x1), (2, .int x2), (3, .int x3), (4, .int x4), (5, .int x5)] [] := by
  intro k
  induction k with
  | zero => intro x1 x2 x3 x4 x5 σ h; have h : (none : Option (Int32 × MS)) = some res := h; cases h
  | succ k ih => intro x1 x2 x3 x4 x5 σ h; exact wm_holds_11b E hR hq N  ih x1 x2 x3 x4 x5 σ h
set_option maxHeartbeats 4000000 in
theorem met_holds (l : Launch) (g : MG) (N : Nat) (x1 : Int32) (x2 : Int32) (x3 : Int32) (σ : MS) {v : Int32} {σ1 : MS} (h : m_holds N x1 x2 x3 σ = some (v, σ1)) : MetMi l g yX6_holds (ws_ yX6_holds cX6_holds 9 (some .boolean)) { frames := 1, cells := 0, slots := 0, locals := 23 } [.int x1, .int x2, .int x3] σ v σ1 := by
  refine met_mi (lv0 := [(0, .ref (mh g)), (1, .int x1), (2, .int x2), (3, .int x3)]) (by decide) rfl ⟨rfl, rfl⟩ (Nat.le_of_ble_eq_true rfl) rfl ?_
  intro p e s m below meth c A Q E hq
  have hR : 1 ≤ ({ frames := 1, cells := 0, slots := 0, locals := 23 } : Room).frames ∧ 23 ≤ ({ frames := 1, cells := 0, slots := 0, locals := 23 } : Room).locals := ⟨Nat.le_refl _, Nat.le_refl _⟩
  unfold m_holds at h
  refine cf_iconst E dX6_holds_0 ic_0 rfl ?_
  refine cf_istore E dX6_holds_1 h (fun x4_1 => [(4, .int x4_1), (0, .ref (mh g)), (1, .int x1), (2, .int x2), (3, .int x3)]) (Nat.le_of_ble_eq_true rfl) (fun _ => rfl) rfl (fun x4_1 h => ?_)
  refine cf_aload_n E dX6_holds_3 1 rfl rfl ?_
  refine mget_24 E dX6_holds_4 rfl ?_
  refine cf_iload_n E dX6_holds_7 2 rfl rfl ?_
  refine mald_24 E dX6_holds_8 h rfl (fun h => ?_)
  refine cf_istore E dX6_holds_9 h (fun x5_2 => [(5, .int x5_2), (4, .int x4_1), (0, .ref (mh g)), (1, .int x1), (2, .int x2), (3, .int x3)]) (Nat.le_of_ble_eq_true rfl) (fun _ => rfl) rfl (fun x5_2 h => ?_)
  exact CF.sub [2, 3, 4, 5, 1, 0] rfl (wm_holds_11 E hR hq N N x1 x2 x3 x4_1 x5_2 σ h)
theorem gw_holds : GoodIn lw_all (wsV RX6 325 RX6 yX6_holds (ws_ yX6_holds cX6_holds 9 (some .boolean))) := lw_V q1868 q1870 qs60 q105 q1871
theorem hd_holds : yX6_holds.cls = RX6 ∧ yX6_holds.cls ≠ "java/lang/invoke/MethodHandle" ∧ yX6_holds.cls ≠ "java/lang/invoke/VarHandle" ∧ (parseMethodDescriptor yX6_holds.desc).map (fun d => d.parameters.length) = some 3 := by decide +kernel
theorem mcl_holds {p : Program} {l : Launch} {e : Env} {R : Room} {s : State} {m : MethodId} {args : Array Value} {below : List Frame} {meth : Method} {c : Code} {nL : Nat} {A : Nat → Prop} {g : MG} {σ : MS} {Q : State → Prop} {pc n : Nat} {lv : List (Nat × Value)} {st : List Value} {cc : ByteArray} {ρ : Type} {res : ρ} (E : EV p s m args c cc nL RX6) {N : Nat} {x1 : Int32} {x2 : Int32} {x3 : Int32} {kk : Int32 → MS → Option ρ} (hR : 2 ≤ R.frames ∧ 51 ≤ R.locals) (hcat : (st.map fun v => v.category).sum ≤ 8) (d : decode cc pc = .ok (.invokevirtual 325, 3)) (h : bnd (m_holds N x1 x2 x3 σ) kk = some res) (hn : pc + 3 = n) (k : ∀ (v : Int32) (σ1 : MS), kk v σ1 = some res → CF p l e R s m args below meth c nL 0 0 (MB g A s σ1) Q n lv (.int v :: st)) : CF p l e R s m args below meth c nL 0 0 (MB g A s σ) Q pc lv (.int x3 :: .int x2 :: .int x1 :: .ref (mh g) :: st) :=
  mcall_i E [.int x1, .int x2, .int x3] (fun v σ1 ho => met_holds l g N x1 x2 x3 σ ho) gw_holds hd_holds rfl rfl hR rfl rfl hcat d h hn k
set_option maxHeartbeats 4000000 in
theorem wm_fits_73 {p : Program} {l : Launch} {e : Env} {R : Room} {s : State} {m : MethodId} {args : Array Value} {below : List Frame} {meth : Method} {c : Code} {A : Nat → Prop} {g : MG} {Q : State → Prop} (E : EV p s m args c cX6_fits 5 RX6) (hR : 2 ≤ R.frames ∧ 51 ≤ R.locals) {res : Int32 × MS} (hq : RTi p l e R s m args below meth c cX6_fits 5 A g .int Q res) (N : Nat) {rec8 : Int32 → Int32 → Int32 → Int32 → MS → Option (Int32 × MS)} (ih8 : ∀ (x1 : Int32) (x2 : Int32) (x3 : Int32) (x4 : Int32) (σ : MS), rec8 x1 x2 x3 x4 σ = some res → CF p l e R s m args below meth c 5 0 0 (MB g A s σ) Q 8 [(0, .ref (mh g)), (1, .int x1), (2, .int x2), (3, .int x3), (4, .int x4)] []) (x1 : Int32) (x2 : Int32) (x3 : Int32) (x4 : Int32) (σ : MS) (h : m_fits_73 N rec8 x1 x2 x3 x4 σ = some res) : CF p l e R s m args below meth c 5 0 0 (MB g A s σ) Q 73 [(0, .ref (mh g)), (1, .int x1), (2, .int x2), (3, .int x3), (4, .int x4)] [] := by
  unfold m_fits_73 at h
  refine cf_iinc E dX6_fits_73 ic_1 h 4 rfl (fun x4_1 => [(4, .int x4_1), (0, .ref (mh g)), (1, .int x1), (2, .int x2), (3, .int x3)]) (Nat.le_of_ble_eq_true rfl) (fun _ => rfl) rfl (fun x4_1 h => ?_)
  refine cf_goto E dX6_fits_76 rfl ?_
  exact CF.sub [1, 2, 3, 4, 0] rfl (ih8 x1 x2 x3 x4_1 σ h)
set_option maxHeartbeats 4000000 in
theorem wm_fits_71 {p : Program} {l : Launch} {e : Env} {R : Room} {s : State} {m : MethodId} {args : Array Value} {below : List Frame} {meth : Method} {c : Code} {A : Nat → Prop} {g : MG} {Q : State → Prop} (E : EV p s m args c cX6_fits 5 RX6) (hR : 2 ≤ R.frames ∧ 51 ≤ R.locals) {res : Int32 × MS} (hq : RTi p l e R s m args below meth c cX6_fits 5 A g .int Q res) (N : Nat) {rec8 : Int32 → Int32 → Int32 → Int32 → MS → Option (Int32 × MS)} (ih8 : ∀ (x1 : Int32) (x2 : Int32) (x3 : Int32) (x4 : Int32) (σ : MS), rec8 x1 x2 x3 x4 σ = some res → CF p l e R s m args below meth c 5 0 0 (MB g A s σ) Q 8 [(0, .ref (mh g)), (1, .int x1), (2, .int x2), (3, .int x3), (4, .int x4)] []) (x1 : Int32) (x2 : Int32) (x4 : Int32) (z0 : Int32) (z1 : Int32) (σ : MS) (h : m_fits_71 N rec8 x1 x2 x4 z0 z1 σ = some res) : CF p l e R s m args below meth c 5 0 0 (MB g A s σ) Q 71 [(0, .ref (mh g)), (1, .int x1), (2, .int x2), (4, .int x4)] [.int z0, .int z1] := by
  unfold m_fits_71 at h
  refine cf_iadd E dX6_fits_71 rfl ?_
  refine cf_istore_n E dX6_fits_72 h (fun x3_1 => [(3, .int x3_1), (0, .ref (mh g)), (1, .int x1), (2, .int x2), (4, .int x4)]) (Nat.le_of_ble_eq_true rfl) (fun _ => rfl) rfl (fun x3_1 h => ?_)
  exact CF.sub [1, 2, 3, 0, 4] rfl (wm_fits_73 E hR hq N ih8 x1 x2 x3_1 x4 σ h)
set_option maxHeartbeats 4000000 in
theorem wm_fits_8b {p : Program} {l : Launch} {e : Env} {R : Room} {s : State} {m : MethodId} {args : Array Value} {below : List Frame} {meth : Method} {c : Code} {A : Nat → Prop} {g : MG} {Q : State → Prop} (E : EV p s m args c cX6_fits 5 RX6) (hR : 2 ≤ R.frames ∧ 51 ≤ R.locals) {res : Int32 × MS} (hq : RTi p l e R s m args below meth c cX6_fits 5 A g .int Q res) (N : Nat)  {rec8 : Int32 → Int32 → Int32 → Int32 → MS → Option (Int32 × MS)} (ih8 : ∀ (x1 : Int32) (x2 : Int32) (x3 : Int32) (x4 : Int32) (σ : MS), rec8 x1 x2 x3 x4 σ = some res → CF p l e R s m args below meth c 5 0 0 (MB g A s σ) Q 8 [(0, .ref (mh g)), (1, .int x1), (2, .int x2), (3, .int x3), (4, .int x4)] []) (x1 : Int32) (x2 : Int32) (x3 : Int32) (x4 : Int32) (σ : MS) (h : m_fits_8b N  rec8 x1 x2 x3 x4 σ = some res) : CF p l e R s m args below meth c 5 0 0 (MB g A s σ) Q 8 [(0, .ref (mh g)), (1, .int x1), (2, .int x2), (3, .int x3), (4, .int x4)] [] := by
  unfold m_fits_8b at h
  refine cf_iload E dX6_fits_8 4 rfl rfl ?_
  refine cf_aload_n E dX6_fits_10 0 rfl rfl ?_
  refine mcl_behind E (rmle hR rfl rfl) (Nat.le_of_ble_eq_true rfl) dX6_fits_11 h rfl (fun v_2 s_1 h => ?_)
  refine cf_icmp_ge E dX6_fits_14 h rfl rfl (fun h => ?_) (fun h => ?_)
  · refine cf_iload_n E dX6_fits_79 3 rfl rfl ?_
    exact mret_i dX6_fits_80 h rfl hq
  · refine cf_aload_n E dX6_fits_17 0 rfl rfl ?_
    refine mget_21 E dX6_fits_18 rfl ?_
    refine cf_iload E dX6_fits_21 4 rfl rfl ?_
    refine mald_21 E dX6_fits_23 h rfl (fun h => ?_)
    refine cf_iconst E dX6_fits_24 ic_1 rfl ?_
    refine cf_icmp_gt E dX6_fits_25 h rfl rfl (fun h => ?_) (fun h => ?_)
    · exact CF.sub [0, 1, 2, 3, 4] rfl (wm_fits_73 E hR hq N ih8 x1 x2 x3 x4 s_1 h)
    · refine cf_aload_n E dX6_fits_28 0 rfl rfl ?_
      refine cf_iload E dX6_fits_29 4 rfl rfl ?_
      refine cf_iload_n E dX6_fits_31 1 rfl rfl ?_
      refine cf_iload_n E dX6_fits_32 2 rfl rfl ?_
      refine mcl_holds E (rmle hR rfl rfl) (Nat.le_of_ble_eq_true rfl) dX6_fits_33 h rfl (fun v_4 s_3 h => ?_)
      refine cf_if_ne E dX6_fits_36 h rfl rfl (fun h => ?_) (fun h => ?_)
      · refine cf_iload_n E dX6_fits_42 3 rfl rfl ?_
        refine cf_aload_n E dX6_fits_43 0 rfl rfl ?_
        refine mget_21 E dX6_fits_44 rfl ?_
        refine cf_iload E dX6_fits_47 4 rfl rfl ?_
        refine mald_21 E dX6_fits_49 h rfl (fun h => ?_)
        refine cf_if_ne E dX6_fits_50 h rfl rfl (fun h => ?_) (fun h => ?_)
        · refine cf_aload_n E dX6_fits_63 0 rfl rfl ?_
          refine mget_22 E dX6_fits_64 rfl ?_
          refine cf_iload E dX6_fits_67 4 rfl rfl ?_
          refine mald_22 E dX6_fits_69 h rfl (fun h => ?_)
          refine cf_ineg E dX6_fits_70 rfl ?_
          exact CF.sub [0, 1, 2, 4] rfl (wm_fits_71 E hR hq N ih8 x1 x2 x4 (-(gR s_3 22 x4.toNatClampNeg)) x3 s_3 h)
        · refine cf_aload_n E dX6_fits_53 0 rfl rfl ?_
          refine mget_22 E dX6_fits_54 rfl ?_
          refine cf_iload E dX6_fits_57 4 rfl rfl ?_
          refine mald_22 E dX6_fits_59 h rfl (fun h => ?_)
          refine cf_goto E dX6_fits_60 rfl ?_
          exact CF.sub [0, 1, 2, 4] rfl (wm_fits_71 E hR hq N ih8 x1 x2 x4 (gR s_3 22 x4.toNatClampNeg) x3 s_3 h)
      · refine cf_goto E dX6_fits_39 rfl ?_
        exact CF.sub [0, 1, 2, 3, 4] rfl (wm_fits_73 E hR hq N ih8 x1 x2 x3 x4 s_3 h)
set_option maxHeartbeats 4000000 in
theorem wm_fits_8 {p : Program} {l : Launch} {e : Env} {R : Room} {s : State} {m : MethodId} {args : Array Value} {below : List Frame} {meth : Method} {c : Code} {A : Nat → Prop} {g : MG} {Q : State → Prop} (E : EV p s m args c cX6_fits 5 RX6) (hR : 2 ≤ R.frames ∧ 51 ≤ R.locals) {res : Int32 × MS} (hq : RTi p l e R s m args below meth c cX6_fits 5 A g .int Q res) (N : Nat)  : ∀ (k : Nat) (x1 : Int32) (x2 : Int32) (x3 : Int32) (x4 : Int32) (σ : MS), m_fits_8 N  k x1 x2 x3 x4 σ = some res → CF p l e R s m args below meth c 5 0 0 (MB g A s σ) Q 8 [(0, .ref (mh g)), (1, .int x1), (2, .int x2), (3, .int x3), (4, .int x4)] [] := by
  intro k
  induction k with
  | zero => intro x1 x2 x3 x4 σ h; have h : (none : Option (Int32 × MS)) = some res := h; cases h
  | succ k ih => intro x1 x2 x3 x4 σ h; exact wm_fits_8b E hR hq N  ih x1 x2 x3 x4 σ h
set_option maxHeartbeats 4000000 in
theorem met_fits (l : Launch) (g : MG) (N : Nat) (x1 : Int32) (x2 : Int32) (σ : MS) {v : Int32} {σ1 : MS} (h : m_fits N x1 x2 σ = some (v, σ1)) : MetMi l g yX6_fits (ws_ yX6_fits cX6_fits 5 (some .int)) { frames := 2, cells := 0, slots := 0, locals := 51 } [.int x1, .int x2] σ v σ1 := by
  refine met_mi (lv0 := [(0, .ref (mh g)), (1, .int x1), (2, .int x2)]) (by decide) rfl ⟨rfl, rfl⟩ (Nat.le_of_ble_eq_true rfl) rfl ?_
  intro p e s m below meth c A Q E hq
  have hR : 2 ≤ ({ frames := 2, cells := 0, slots := 0, locals := 51 } : Room).frames ∧ 51 ≤ ({ frames := 2, cells := 0, slots := 0, locals := 51 } : Room).locals := ⟨Nat.le_refl _, Nat.le_refl _⟩
  unfold m_fits at h
  refine cf_iconst E dX6_fits_0 ic_0 rfl ?_
  refine cf_istore_n E dX6_fits_1 h (fun x3_1 => [(3, .int x3_1), (0, .ref (mh g)), (1, .int x1), (2, .int x2)]) (Nat.le_of_ble_eq_true rfl) (fun _ => rfl) rfl (fun x3_1 h => ?_)
  refine cf_aload_n E dX6_fits_2 1 rfl rfl ?_
  refine mcl_begin E (rmle hR rfl rfl) (Nat.le_of_ble_eq_true rfl) dX6_fits_3 h rfl (fun v_3 s_2 h => ?_)
  refine cf_istore E dX6_fits_6 h (fun x4_4 => [(4, .int x4_4), (3, .int x3_1), (0, .ref (mh g)), (1, .int x1), (2, .int x2)]) (Nat.le_of_ble_eq_true rfl) (fun _ => rfl) rfl (fun x4_4 h => ?_)
  exact CF.sub [2, 3, 4, 1, 0] rfl (wm_fits_8 E hR hq N N x1 x2 x3_1 x4_4 s_2 h)
theorem gw_fits : GoodIn lw_all (wsV RX6 328 RX6 yX6_fits (ws_ yX6_fits cX6_fits 5 (some .int))) := lw_V q1856 q1858 qs57 q105 q1859
theorem hd_fits : yX6_fits.cls = RX6 ∧ yX6_fits.cls ≠ "java/lang/invoke/MethodHandle" ∧ yX6_fits.cls ≠ "java/lang/invoke/VarHandle" ∧ (parseMethodDescriptor yX6_fits.desc).map (fun d => d.parameters.length) = some 2 := by decide +kernel
theorem mcl_fits {p : Program} {l : Launch} {e : Env} {R : Room} {s : State} {m : MethodId} {args : Array Value} {below : List Frame} {meth : Method} {c : Code} {nL : Nat} {A : Nat → Prop} {g : MG} {σ : MS} {Q : State → Prop} {pc n : Nat} {lv : List (Nat × Value)} {st : List Value} {cc : ByteArray} {ρ : Type} {res : ρ} (E : EV p s m args c cc nL RX6) {N : Nat} {x1 : Int32} {x2 : Int32} {kk : Int32 → MS → Option ρ} (hR : 3 ≤ R.frames ∧ 75 ≤ R.locals) (hcat : (st.map fun v => v.category).sum ≤ 8) (d : decode cc pc = .ok (.invokevirtual 328, 3)) (h : bnd (m_fits N x1 x2 σ) kk = some res) (hn : pc + 3 = n) (k : ∀ (v : Int32) (σ1 : MS), kk v σ1 = some res → CF p l e R s m args below meth c nL 0 0 (MB g A s σ1) Q n lv (.int v :: st)) : CF p l e R s m args below meth c nL 0 0 (MB g A s σ) Q pc lv (.int x2 :: .int x1 :: .ref (mh g) :: st) :=
  mcall_i E [.int x1, .int x2] (fun v σ1 ho => met_fits l g N x1 x2 σ ho) gw_fits hd_fits rfl rfl hR rfl rfl hcat d h hn k
set_option maxHeartbeats 4000000 in
theorem met_most (l : Launch) (g : MG) (N : Nat) (x1 : Int32) (x2 : Int32) (σ : MS) {v : Int32} {σ1 : MS} (h : m_most N x1 x2 σ = some (v, σ1)) : MetMi l g yX6_most (ws_ yX6_most cX6_most 3 (some .int)) { frames := 0, cells := 0, slots := 0, locals := 0 } [.int x1, .int x2] σ v σ1 := by
  refine met_mi (lv0 := [(0, .ref (mh g)), (1, .int x1), (2, .int x2)]) (by decide) rfl ⟨rfl, rfl⟩ (Nat.le_of_ble_eq_true rfl) rfl ?_
  intro p e s m below meth c A Q E hq
  have hR : 0 ≤ ({ frames := 0, cells := 0, slots := 0, locals := 0 } : Room).frames ∧ 0 ≤ ({ frames := 0, cells := 0, slots := 0, locals := 0 } : Room).locals := ⟨Nat.le_refl _, Nat.le_refl _⟩
  unfold m_most at h
  refine cf_iload_n E dX6_most_0 1 rfl rfl ?_
  refine cf_iload_n E dX6_most_1 2 rfl rfl ?_
  refine cf_icmp_le E dX6_most_2 h rfl rfl (fun h => ?_) (fun h => ?_)
  · refine cf_iload_n E dX6_most_9 2 rfl rfl ?_
    exact mret_i dX6_most_10 h rfl hq
  · refine cf_iload_n E dX6_most_5 1 rfl rfl ?_
    refine cf_goto E dX6_most_6 rfl ?_
    exact mret_i dX6_most_10 h rfl hq
theorem gw_most : GoodIn lw_all (wsV RX6 332 RX6 yX6_most (ws_ yX6_most cX6_most 3 (some .int))) := lw_V q1876 q1878 qs62 q105 q1879
theorem hd_most : yX6_most.cls = RX6 ∧ yX6_most.cls ≠ "java/lang/invoke/MethodHandle" ∧ yX6_most.cls ≠ "java/lang/invoke/VarHandle" ∧ (parseMethodDescriptor yX6_most.desc).map (fun d => d.parameters.length) = some 2 := by decide +kernel
theorem mcl_most {p : Program} {l : Launch} {e : Env} {R : Room} {s : State} {m : MethodId} {args : Array Value} {below : List Frame} {meth : Method} {c : Code} {nL : Nat} {A : Nat → Prop} {g : MG} {σ : MS} {Q : State → Prop} {pc n : Nat} {lv : List (Nat × Value)} {st : List Value} {cc : ByteArray} {ρ : Type} {res : ρ} (E : EV p s m args c cc nL RX6) {N : Nat} {x1 : Int32} {x2 : Int32} {kk : Int32 → MS → Option ρ} (hR : 1 ≤ R.frames ∧ 22 ≤ R.locals) (hcat : (st.map fun v => v.category).sum ≤ 8) (d : decode cc pc = .ok (.invokevirtual 332, 3)) (h : bnd (m_most N x1 x2 σ) kk = some res) (hn : pc + 3 = n) (k : ∀ (v : Int32) (σ1 : MS), kk v σ1 = some res → CF p l e R s m args below meth c nL 0 0 (MB g A s σ1) Q n lv (.int v :: st)) : CF p l e R s m args below meth c nL 0 0 (MB g A s σ) Q pc lv (.int x2 :: .int x1 :: .ref (mh g) :: st) :=
  mcall_i E [.int x1, .int x2] (fun v σ1 ho => met_most l g N x1 x2 σ ho) gw_most hd_most rfl rfl hR rfl rfl hcat d h hn k
set_option maxHeartbeats 4000000 in
theorem met_apart (l : Launch) (g : MG) (N : Nat) (x1 : Int32) (x2 : Int32) (σ : MS) {v : Int32} {σ1 : MS} (h : m_apart N x1 x2 σ = some (v, σ1)) : MetMi l g yX6_apart (ws_ yX6_apart cX6_apart 3 (some .int)) { frames := 0, cells := 0, slots := 0, locals := 0 } [.int x1, .int x2] σ v σ1 := by
  refine met_mi (lv0 := [(0, .ref (mh g)), (1, .int x1), (2, .int x2)]) (by decide) rfl ⟨rfl, rfl⟩ (Nat.le_of_ble_eq_true rfl) rfl ?_
  intro p e s m below meth c A Q E hq
  have hR : 0 ≤ ({ frames := 0, cells := 0, slots := 0, locals := 0 } : Room).frames ∧ 0 ≤ ({ frames := 0, cells := 0, slots := 0, locals := 0 } : Room).locals := ⟨Nat.le_refl _, Nat.le_refl _⟩
  unfold m_apart at h
  refine cf_aload_n E dX6_apart_0 0 rfl rfl ?_
  refine mget_8 E dX6_apart_1 rfl ?_
  refine cf_iload_n E dX6_apart_4 1 rfl rfl ?_
  refine mald_8 E dX6_apart_5 h rfl (fun h => ?_)
  refine cf_aload_n E dX6_apart_6 0 rfl rfl ?_
  refine mget_3 E dX6_apart_7 rfl ?_
  refine cf_iload_n E dX6_apart_10 2 rfl rfl ?_
  refine mald_3 E dX6_apart_11 h rfl (fun h => ?_)
  refine cf_icmp_ge E dX6_apart_12 h rfl rfl (fun h => ?_) (fun h => ?_)
  · refine cf_aload_n E dX6_apart_31 0 rfl rfl ?_
    refine mget_8 E dX6_apart_32 rfl ?_
    refine cf_iload_n E dX6_apart_35 1 rfl rfl ?_
    refine mald_8 E dX6_apart_36 h rfl (fun h => ?_)
    refine cf_aload_n E dX6_apart_37 0 rfl rfl ?_
    refine mget_3 E dX6_apart_38 rfl ?_
    refine cf_iload_n E dX6_apart_41 2 rfl rfl ?_
    refine mald_3 E dX6_apart_42 h rfl (fun h => ?_)
    refine cf_isub E dX6_apart_43 rfl ?_
    exact mret_i dX6_apart_44 h rfl hq
  · refine cf_aload_n E dX6_apart_15 0 rfl rfl ?_
    refine mget_3 E dX6_apart_16 rfl ?_
    refine cf_iload_n E dX6_apart_19 2 rfl rfl ?_
    refine mald_3 E dX6_apart_20 h rfl (fun h => ?_)
    refine cf_aload_n E dX6_apart_21 0 rfl rfl ?_
    refine mget_8 E dX6_apart_22 rfl ?_
    refine cf_iload_n E dX6_apart_25 1 rfl rfl ?_
    refine mald_8 E dX6_apart_26 h rfl (fun h => ?_)
    refine cf_isub E dX6_apart_27 rfl ?_
    refine cf_goto E dX6_apart_28 rfl ?_
    exact mret_i dX6_apart_44 h rfl hq
theorem gw_apart : GoodIn lw_all (wsV RX6 335 RX6 yX6_apart (ws_ yX6_apart cX6_apart 3 (some .int))) := lw_V q1880 q1882 qs63 q105 q1883
theorem hd_apart : yX6_apart.cls = RX6 ∧ yX6_apart.cls ≠ "java/lang/invoke/MethodHandle" ∧ yX6_apart.cls ≠ "java/lang/invoke/VarHandle" ∧ (parseMethodDescriptor yX6_apart.desc).map (fun d => d.parameters.length) = some 2 := by decide +kernel
theorem mcl_apart {p : Program} {l : Launch} {e : Env} {R : Room} {s : State} {m : MethodId} {args : Array Value} {below : List Frame} {meth : Method} {c : Code} {nL : Nat} {A : Nat → Prop} {g : MG} {σ : MS} {Q : State → Prop} {pc n : Nat} {lv : List (Nat × Value)} {st : List Value} {cc : ByteArray} {ρ : Type} {res : ρ} (E : EV p s m args c cc nL RX6) {N : Nat} {x1 : Int32} {x2 : Int32} {kk : Int32 → MS → Option ρ} (hR : 1 ≤ R.frames ∧ 22 ≤ R.locals) (hcat : (st.map fun v => v.category).sum ≤ 8) (d : decode cc pc = .ok (.invokevirtual 335, 3)) (h : bnd (m_apart N x1 x2 σ) kk = some res) (hn : pc + 3 = n) (k : ∀ (v : Int32) (σ1 : MS), kk v σ1 = some res → CF p l e R s m args below meth c nL 0 0 (MB g A s σ1) Q n lv (.int v :: st)) : CF p l e R s m args below meth c nL 0 0 (MB g A s σ) Q pc lv (.int x2 :: .int x1 :: .ref (mh g) :: st) :=
  mcall_i E [.int x1, .int x2] (fun v σ1 ho => met_apart l g N x1 x2 σ ho) gw_apart hd_apart rfl rfl hR rfl rfl hcat d h hn k
