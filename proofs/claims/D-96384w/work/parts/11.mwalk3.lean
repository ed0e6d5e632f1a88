/-! walks 70-103 -/
set_option maxRecDepth 100000
set_option maxHeartbeats 4000000 in
theorem wm_swap_74 {p : Program} {l : Launch} {e : Env} {R : Room} {s : State} {m : MethodId} {args : Array Value} {below : List Frame} {meth : Method} {c : Code} {A : Nat → Prop} {g : MG} {Q : State → Prop} (E : EV p s m args c cX6_swap 6 RX6) (hR : 5 ≤ R.frames ∧ 121 ≤ R.locals) {res : Int32 × MS} (hq : RTi p l e R s m args below meth c cX6_swap 6 A g .int Q res) (N : Nat) {rec11 : Int32 → Int32 → Int32 → MS → Option (Int32 × MS)} (ih11 : ∀ (x1 : Int32) (x2 : Int32) (x3 : Int32) (σ : MS), rec11 x1 x2 x3 σ = some res → CF p l e R s m args below meth c 6 0 0 (MB g A s σ) Q 11 [(0, .ref (mh g)), (1, .int x1), (2, .int x2), (3, .int x3)] []) {rec24 : Int32 → Int32 → Int32 → Int32 → MS → Option (Int32 × MS)} (ih24 : ∀ (x1 : Int32) (x2 : Int32) (x3 : Int32) (x4 : Int32) (σ : MS), rec24 x1 x2 x3 x4 σ = some res → CF p l e R s m args below meth c 6 0 0 (MB g A s σ) Q 24 [(0, .ref (mh g)), (1, .int x1), (2, .int x2), (3, .int x3), (4, .int x4)] []) (x1 : Int32) (x2 : Int32) (x3 : Int32) (x4 : Int32) (σ : MS) (h : m_swap_74 N rec11 rec24 x1 x2 x3 x4 σ = some res) : CF p l e R s m args below meth c 6 0 0 (MB g A s σ) Q 74 [(0, .ref (mh g)), (1, .int x1), (2, .int x2), (3, .int x3), (4, .int x4)] [] := by
  unfold m_swap_74 at h
  refine cf_iinc E dX6_swap_74 ic_1 h 4 rfl (fun x4_1 => [(4, .int x4_1), (0, .ref (mh g)), (1, .int x1), (2, .int x2), (3, .int x3)]) (Nat.le_of_ble_eq_true rfl) (fun _ => rfl) rfl (fun x4_1 h => ?_)
  refine cf_goto E dX6_swap_77 rfl ?_
  exact CF.sub [1, 2, 3, 4, 0] rfl (ih24 x1 x2 x3 x4_1 σ h)
set_option maxHeartbeats 4000000 in
theorem wm_swap_24b {p : Program} {l : Launch} {e : Env} {R : Room} {s : State} {m : MethodId} {args : Array Value} {below : List Frame} {meth : Method} {c : Code} {A : Nat → Prop} {g : MG} {Q : State → Prop} (E : EV p s m args c cX6_swap 6 RX6) (hR : 5 ≤ R.frames ∧ 121 ≤ R.locals) {res : Int32 × MS} (hq : RTi p l e R s m args below meth c cX6_swap 6 A g .int Q res) (N : Nat) {rec11 : Int32 → Int32 → Int32 → MS → Option (Int32 × MS)} (ih11 : ∀ (x1 : Int32) (x2 : Int32) (x3 : Int32) (σ : MS), rec11 x1 x2 x3 σ = some res → CF p l e R s m args below meth c 6 0 0 (MB g A s σ) Q 11 [(0, .ref (mh g)), (1, .int x1), (2, .int x2), (3, .int x3)] []) {rec24 : Int32 → Int32 → Int32 → Int32 → MS → Option (Int32 × MS)} (ih24 : ∀ (x1 : Int32) (x2 : Int32) (x3 : Int32) (x4 : Int32) (σ : MS), rec24 x1 x2 x3 x4 σ = some res → CF p l e R s m args below meth c 6 0 0 (MB g A s σ) Q 24 [(0, .ref (mh g)), (1, .int x1), (2, .int x2), (3, .int x3), (4, .int x4)] []) (x1 : Int32) (x2 : Int32) (x3 : Int32) (x4 : Int32) (σ : MS) (h : m_swap_24b N rec11 rec24 x1 x2 x3 x4 σ = some res) : CF p l e R s m args below meth c 6 0 0 (MB g A s σ) Q 24 [(0, .ref (mh g)), (1, .int x1), (2, .int x2), (3, .int x3), (4, .int x4)] [] := by
  unfold m_swap_24b at h
  refine cf_iload E dX6_swap_24 4 rfl rfl ?_
  refine cf_aload_n E dX6_swap_26 0 rfl rfl ?_
  refine mget_0 E dX6_swap_27 rfl ?_
  refine cf_icmp_ge E dX6_swap_30 h rfl rfl (fun h => ?_) (fun h => ?_)
  · refine cf_iinc E dX6_swap_80 ic_1 h 3 rfl (fun x3_1 => [(3, .int x3_1), (0, .ref (mh g)), (1, .int x1), (2, .int x2), (4, .int x4)]) (Nat.le_of_ble_eq_true rfl) (fun _ => rfl) rfl (fun x3_1 h => ?_)
    refine cf_goto E dX6_swap_83 rfl ?_
    exact CF.sub [1, 2, 3, 0] rfl (ih11 x1 x2 x3_1 σ h)
  · refine cf_aload_n E dX6_swap_33 0 rfl rfl ?_
    refine cf_iload_n E dX6_swap_34 3 rfl rfl ?_
    refine cf_iload E dX6_swap_35 4 rfl rfl ?_
    refine mcl_swaps E (rmle hR rfl rfl) (Nat.le_of_ble_eq_true rfl) dX6_swap_37 h rfl (fun s_2 h => ?_)
    refine cf_aload_n E dX6_swap_40 0 rfl rfl ?_
    refine cf_iconst E dX6_swap_41 ic_m1 rfl ?_
    refine mcl_todayOf E (rmle hR rfl rfl) (Nat.le_of_ble_eq_true rfl) dX6_swap_42 h rfl (fun v_4 s_3 h => ?_)
    refine cf_istore E dX6_swap_45 h (fun x5_5 => [(5, .int x5_5), (0, .ref (mh g)), (1, .int x1), (2, .int x2), (3, .int x3), (4, .int x4)]) (Nat.le_of_ble_eq_true rfl) (fun _ => rfl) rfl (fun x5_5 h => ?_)
    refine cf_aload_n E dX6_swap_47 1 rfl rfl ?_
    refine cf_iload_n E dX6_swap_48 4 rfl rfl ?_
    refine cf_iload E dX6_swap_49 5 rfl rfl ?_
    refine mcl_swaps E (rmle hR rfl rfl) (Nat.le_of_ble_eq_true rfl) dX6_swap_51 h rfl (fun s_6 h => ?_)
    refine cf_iload E dX6_swap_54 0 rfl rfl ?_
    refine cf_iload_n E dX6_swap_56 2 rfl rfl ?_
    refine cf_icmp_gt E dX6_swap_57 h rfl rfl (fun h => ?_) (fun h => ?_)
    · refine cf_bipush E dX6_swap_63 bp_10 rfl ?_
      refine cf_iload_n E dX6_swap_65 4 rfl rfl ?_
      refine cf_imul E dX6_swap_66 rfl ?_
      refine cf_iload E dX6_swap_67 5 rfl rfl ?_
      refine cf_iadd E dX6_swap_69 rfl ?_
      refine cf_istore_n E dX6_swap_70 h (fun x2_7 => [(2, .int x2_7), (5, .int x5_5), (0, .ref (mh g)), (1, .int x1), (3, .int x3), (4, .int x4)]) (Nat.le_of_ble_eq_true rfl) (fun _ => rfl) rfl (fun x2_7 h => ?_)
      refine cf_iload E dX6_swap_71 1 rfl rfl ?_
      refine cf_istore_n E dX6_swap_73 h (fun x1_8 => [(1, .int x1_8), (2, .int x2_7), (5, .int x5_5), (0, .ref (mh g)), (3, .int x3), (4, .int x4)]) (Nat.le_of_ble_eq_true rfl) (fun _ => rfl) rfl (fun x1_8 h => ?_)
      exact CF.sub [3, 0, 1, 4, 5] rfl (wm_swap_74 E hR hq N ih11 ih24 x1_8 x2_7 x3 x4 s_6 h)
    · refine cf_goto E dX6_swap_60 rfl ?_
      exact CF.sub [1, 2, 3, 4, 5] rfl (wm_swap_74 E hR hq N ih11 ih24 x1 x2 x3 x4 s_6 h)
set_option maxHeartbeats 4000000 in
theorem wm_swap_24 {p : Program} {l : Launch} {e : Env} {R : Room} {s : State} {m : MethodId} {args : Array Value} {below : List Frame} {meth : Method} {c : Code} {A : Nat → Prop} {g : MG} {Q : State → Prop} (E : EV p s m args c cX6_swap 6 RX6) (hR : 5 ≤ R.frames ∧ 121 ≤ R.locals) {res : Int32 × MS} (hq : RTi p l e R s m args below meth c cX6_swap 6 A g .int Q res) (N : Nat) {rec11 : Int32 → Int32 → Int32 → MS → Option (Int32 × MS)} (ih11 : ∀ (x1 : Int32) (x2 : Int32) (x3 : Int32) (σ : MS), rec11 x1 x2 x3 σ = some res → CF p l e R s m args below meth c 6 0 0 (MB g A s σ) Q 11 [(0, .ref (mh g)), (1, .int x1), (2, .int x2), (3, .int x3)] []) : ∀ (k : Nat) (x1 : Int32) (x2 : Int32) (x3 : Int32) (x4 : Int32) (σ : MS), m_swap_24 N rec11 k x1 x2 x3 x4 σ = some res → CF p l e R s m args below meth c 6 0 0 (MB g A s σ) Q 24 [(0, .ref (mh g)), (1, .int x1), (2, .int x2), (3, .int x3), (4, .int x4)] [] := by
  intro k
  induction k with
  | zero => intro x1 x2 x3 x4 σ h; have h : (none : Option (Int32 × MS)) = some res := h; cases h
  | succ k ih => intro x1 x2 x3 x4 σ h; exact wm_swap_24b E hR hq N ih11 ih x1 x2 x3 x4 σ h
set_option maxHeartbeats 4000000 in
theorem wm_swap_11b {p : Program} {l : Launch} {e : Env} {R : Room} {s : State} {m : MethodId} {args : Array Value} {below : List Frame} {meth : Method} {c : Code} {A : Nat → Prop} {g : MG} {Q : State → Prop} (E : EV p s m args c cX6_swap 6 RX6) (hR : 5 ≤ R.frames ∧ 121 ≤ R.locals) {res : Int32 × MS} (hq : RTi p l e R s m args below meth c cX6_swap 6 A g .int Q res) (N : Nat)  {rec11 : Int32 → Int32 → Int32 → MS → Option (Int32 × MS)} (ih11 : ∀ (x1 : Int32) (x2 : Int32) (x3 : Int32) (σ : MS), rec11 x1 x2 x3 σ = some res → CF p l e R s m args below meth c 6 0 0 (MB g A s σ) Q 11 [(0, .ref (mh g)), (1, .int x1), (2, .int x2), (3, .int x3)] []) (x1 : Int32) (x2 : Int32) (x3 : Int32) (σ : MS) (h : m_swap_11b N  rec11 x1 x2 x3 σ = some res) : CF p l e R s m args below meth c 6 0 0 (MB g A s σ) Q 11 [(0, .ref (mh g)), (1, .int x1), (2, .int x2), (3, .int x3)] [] := by
  unfold m_swap_11b at h
  refine cf_iload_n E dX6_swap_11 3 rfl rfl ?_
  refine cf_aload_n E dX6_swap_12 0 rfl rfl ?_
  refine mget_0 E dX6_swap_13 rfl ?_
  refine cf_icmp_ge E dX6_swap_16 h rfl rfl (fun h => ?_) (fun h => ?_)
  · refine cf_iload_n E dX6_swap_86 2 rfl rfl ?_
    exact mret_i dX6_swap_87 h rfl hq
  · refine cf_iload_n E dX6_swap_19 3 rfl rfl ?_
    refine cf_iconst E dX6_swap_20 ic_1 rfl ?_
    refine cf_iadd E dX6_swap_21 rfl ?_
    refine cf_istore E dX6_swap_22 h (fun x4_1 => [(4, .int x4_1), (0, .ref (mh g)), (1, .int x1), (2, .int x2), (3, .int x3)]) (Nat.le_of_ble_eq_true rfl) (fun _ => rfl) rfl (fun x4_1 h => ?_)
    exact CF.sub [1, 2, 3, 4, 0] rfl (wm_swap_24 E hR hq N ih11 N x1 x2 x3 x4_1 σ h)
set_option maxHeartbeats 4000000 in
theorem wm_swap_11 {p : Program} {l : Launch} {e : Env} {R : Room} {s : State} {m : MethodId} {args : Array Value} {below : List Frame} {meth : Method} {c : Code} {A : Nat → Prop} {g : MG} {Q : State → Prop} (E : EV p s m args c cX6_swap 6 RX6) (hR : 5 ≤ R.frames ∧ 121 ≤ R.locals) {res : Int32 × MS} (hq : RTi p l e R s m args below meth c cX6_swap 6 A g .int Q res) (N : Nat)  : ∀ (k : Nat) (x1 : Int32) (x2 : Int32) (x3 : Int32) (σ : MS), m_swap_11 N  k x1 x2 x3 σ = some res → CF p l e R s m args below meth c 6 0 0 (MB g A s σ) Q 11 [(0, .ref (mh g)), (1, .int x1), (2, .int x2), (3, .int x3)] [] := by
  intro k
  induction k with
  | zero => intro x1 x2 x3 σ h; have h : (none : Option (Int32 × MS)) = some res := h; cases h
  | succ k ih => intro x1 x2 x3 σ h; exact wm_swap_11b E hR hq N  ih x1 x2 x3 σ h
set_option maxHeartbeats 4000000 in
theorem met_swap (l : Launch) (g : MG) (N : Nat)  (σ : MS) {v : Int32} {σ1 : MS} (h : m_swap N  σ = some (v, σ1)) : MetMi l g yX6_swap (ws_ yX6_swap cX6_swap 6 (some .int)) { frames := 5, cells := 0, slots := 0, locals := 121 } [] σ v σ1 := by
  refine met_mi (lv0 := [(0, .ref (mh g))]) (by decide) rfl ⟨rfl, rfl⟩ (Nat.le_of_ble_eq_true rfl) rfl ?_
  intro p e s m below meth c A Q E hq
  have hR : 5 ≤ ({ frames := 5, cells := 0, slots := 0, locals := 121 } : Room).frames ∧ 121 ≤ ({ frames := 5, cells := 0, slots := 0, locals := 121 } : Room).locals := ⟨Nat.le_refl _, Nat.le_refl _⟩
  unfold m_swap at h
  refine cf_aload_n E dX6_swap_0 0 rfl rfl ?_
  refine cf_iconst E dX6_swap_1 ic_m1 rfl ?_
  refine mcl_todayOf E (rmle hR rfl rfl) (Nat.le_of_ble_eq_true rfl) dX6_swap_2 h rfl (fun v_2 s_1 h => ?_)
  refine cf_istore_n E dX6_swap_5 h (fun x1_3 => [(1, .int x1_3), (0, .ref (mh g))]) (Nat.le_of_ble_eq_true rfl) (fun _ => rfl) rfl (fun x1_3 h => ?_)
  refine cf_bipush E dX6_swap_6 bp_m5 rfl ?_
  refine cf_istore_n E dX6_swap_8 h (fun x2_4 => [(2, .int x2_4), (1, .int x1_3), (0, .ref (mh g))]) (Nat.le_of_ble_eq_true rfl) (fun _ => rfl) rfl (fun x2_4 h => ?_)
  refine cf_iconst E dX6_swap_9 ic_0 rfl ?_
  refine cf_istore_n E dX6_swap_10 h (fun x3_5 => [(3, .int x3_5), (2, .int x2_4), (1, .int x1_3), (0, .ref (mh g))]) (Nat.le_of_ble_eq_true rfl) (fun _ => rfl) rfl (fun x3_5 h => ?_)
  exact CF.sub [3, 2, 1, 0] rfl (wm_swap_11 E hR hq N N x1_3 x2_4 x3_5 s_1 h)

set_option maxHeartbeats 4000000 in
theorem met_quarrel (l : Launch) (g : MG) (N : Nat) (x1 : Int32) (x2 : Int32) (x3 : Int32) (σ : MS) {v : Int32} {σ1 : MS} (h : m_quarrel N x1 x2 x3 σ = some (v, σ1)) : MetMi l g yX6_quarrel (ws_ yX6_quarrel cX6_quarrel 4 (some .int)) { frames := 4, cells := 0, slots := 0, locals := 98 } [.int x1, .int x2, .int x3] σ v σ1 := by
  refine met_mi (lv0 := [(0, .ref (mh g)), (1, .int x1), (2, .int x2), (3, .int x3)]) (by decide) rfl ⟨rfl, rfl⟩ (Nat.le_of_ble_eq_true rfl) rfl ?_
  intro p e s m below meth c A Q E hq
  have hR : 4 ≤ ({ frames := 4, cells := 0, slots := 0, locals := 98 } : Room).frames ∧ 98 ≤ ({ frames := 4, cells := 0, slots := 0, locals := 98 } : Room).locals := ⟨Nat.le_refl _, Nat.le_refl _⟩
  unfold m_quarrel at h
  refine cf_aload_n E dX6_quarrel_0 0 rfl rfl ?_
  refine cf_iload_n E dX6_quarrel_1 1 rfl rfl ?_
  refine mcl_isHat E (rmle hR rfl rfl) (Nat.le_of_ble_eq_true rfl) dX6_quarrel_2 h rfl (fun v_2 s_1 h => ?_)
  refine cf_if_eq E dX6_quarrel_5 h rfl rfl (fun h => ?_) (fun h => ?_)
  · refine cf_sipush E dX6_quarrel_24 sp_m10001 rfl ?_
    exact mret_i dX6_quarrel_27 h rfl hq
  · refine cf_aload_n E dX6_quarrel_8 0 rfl rfl ?_
    refine cf_iload_n E dX6_quarrel_9 2 rfl rfl ?_
    refine mcl_isHat E (rmle hR rfl rfl) (Nat.le_of_ble_eq_true rfl) dX6_quarrel_10 h rfl (fun v_4 s_3 h => ?_)
    refine cf_if_eq E dX6_quarrel_13 h rfl rfl (fun h => ?_) (fun h => ?_)
    · refine cf_sipush E dX6_quarrel_24 sp_m10001 rfl ?_
      exact mret_i dX6_quarrel_27 h rfl hq
    · refine cf_aload_n E dX6_quarrel_16 0 rfl rfl ?_
      refine cf_iload_n E dX6_quarrel_17 3 rfl rfl ?_
      refine mcl_isHead E (rmle hR rfl rfl) (Nat.le_of_ble_eq_true rfl) dX6_quarrel_18 h rfl (fun v_6 s_5 h => ?_)
      refine cf_if_ne E dX6_quarrel_21 h rfl rfl (fun h => ?_) (fun h => ?_)
      · refine cf_iload_n E dX6_quarrel_28 1 rfl rfl ?_
        refine cf_iload_n E dX6_quarrel_29 2 rfl rfl ?_
        refine cf_icmp_ne E dX6_quarrel_30 h rfl rfl (fun h => ?_) (fun h => ?_)
        · refine cf_aload_n E dX6_quarrel_39 0 rfl rfl ?_
          refine cf_iload_n E dX6_quarrel_40 1 rfl rfl ?_
          refine cf_iload_n E dX6_quarrel_41 3 rfl rfl ?_
          refine mcl_deed E (rmle hR rfl rfl) (Nat.le_of_ble_eq_true rfl) dX6_quarrel_42 h rfl (fun v_8 s_7 h => ?_)
          refine cf_aload_n E dX6_quarrel_45 0 rfl rfl ?_
          refine cf_iload_n E dX6_quarrel_46 2 rfl rfl ?_
          refine cf_iload_n E dX6_quarrel_47 3 rfl rfl ?_
          refine mcl_deed E (rmle hR rfl rfl) (Nat.le_of_ble_eq_true rfl) dX6_quarrel_48 h rfl (fun v_10 s_9 h => ?_)
          refine cf_isub E dX6_quarrel_51 rfl ?_
          exact mret_i dX6_quarrel_52 h rfl hq
        · refine cf_sipush E dX6_quarrel_33 sp_m10002 rfl ?_
          refine cf_goto E dX6_quarrel_36 rfl ?_
          exact mret_i dX6_quarrel_52 h rfl hq
      · refine cf_sipush E dX6_quarrel_24 sp_m10001 rfl ?_
        exact mret_i dX6_quarrel_27 h rfl hq

set_option maxHeartbeats 4000000 in
theorem wm_how_72 {p : Program} {l : Launch} {e : Env} {R : Room} {s : State} {m : MethodId} {args : Array Value} {below : List Frame} {meth : Method} {c : Code} {A : Nat → Prop} {g : MG} {Q : State → Prop} (E : EV p s m args c cX6_how 5 RX6) (hR : 1 ≤ R.frames ∧ 23 ≤ R.locals) {res : Int32 × MS} (hq : RTi p l e R s m args below meth c cX6_how 5 A g .int Q res) (N : Nat) {rec19 : Int32 → Int32 → Int32 → Int32 → MS → Option (Int32 × MS)} (ih19 : ∀ (x1 : Int32) (x2 : Int32) (x3 : Int32) (x4 : Int32) (σ : MS), rec19 x1 x2 x3 x4 σ = some res → CF p l e R s m args below meth c 5 0 0 (MB g A s σ) Q 19 [(0, .ref (mh g)), (1, .int x1), (2, .int x2), (3, .int x3), (4, .int x4)] []) (x1 : Int32) (x2 : Int32) (x3 : Int32) (x4 : Int32) (σ : MS) (h : m_how_72 N rec19 x1 x2 x3 x4 σ = some res) : CF p l e R s m args below meth c 5 0 0 (MB g A s σ) Q 72 [(0, .ref (mh g)), (1, .int x1), (2, .int x2), (3, .int x3), (4, .int x4)] [] := by
  unfold m_how_72 at h
  refine cf_iinc E dX6_how_72 ic_1 h 4 rfl (fun x4_1 => [(4, .int x4_1), (0, .ref (mh g)), (1, .int x1), (2, .int x2), (3, .int x3)]) (Nat.le_of_ble_eq_true rfl) (fun _ => rfl) rfl (fun x4_1 h => ?_)
  refine cf_goto E dX6_how_75 rfl ?_
  exact CF.sub [1, 2, 3, 4, 0] rfl (ih19 x1 x2 x3 x4_1 σ h)
set_option maxHeartbeats 4000000 in
theorem wm_how_70 {p : Program} {l : Launch} {e : Env} {R : Room} {s : State} {m : MethodId} {args : Array Value} {below : List Frame} {meth : Method} {c : Code} {A : Nat → Prop} {g : MG} {Q : State → Prop} (E : EV p s m args c cX6_how 5 RX6) (hR : 1 ≤ R.frames ∧ 23 ≤ R.locals) {res : Int32 × MS} (hq : RTi p l e R s m args below meth c cX6_how 5 A g .int Q res) (N : Nat) {rec19 : Int32 → Int32 → Int32 → Int32 → MS → Option (Int32 × MS)} (ih19 : ∀ (x1 : Int32) (x2 : Int32) (x3 : Int32) (x4 : Int32) (σ : MS), rec19 x1 x2 x3 x4 σ = some res → CF p l e R s m args below meth c 5 0 0 (MB g A s σ) Q 19 [(0, .ref (mh g)), (1, .int x1), (2, .int x2), (3, .int x3), (4, .int x4)] []) (x1 : Int32) (x3 : Int32) (x4 : Int32) (z0 : Int32) (z1 : Int32) (σ : MS) (h : m_how_70 N rec19 x1 x3 x4 z0 z1 σ = some res) : CF p l e R s m args below meth c 5 0 0 (MB g A s σ) Q 70 [(0, .ref (mh g)), (1, .int x1), (3, .int x3), (4, .int x4)] [.int z0, .int z1] := by
  unfold m_how_70 at h
  refine cf_iadd E dX6_how_70 rfl ?_
  refine cf_istore_n E dX6_how_71 h (fun x2_1 => [(2, .int x2_1), (0, .ref (mh g)), (1, .int x1), (3, .int x3), (4, .int x4)]) (Nat.le_of_ble_eq_true rfl) (fun _ => rfl) rfl (fun x2_1 h => ?_)
  exact CF.sub [1, 2, 0, 3, 4] rfl (wm_how_72 E hR hq N ih19 x1 x2_1 x3 x4 σ h)
set_option maxHeartbeats 4000000 in
theorem wm_how_19b {p : Program} {l : Launch} {e : Env} {R : Room} {s : State} {m : MethodId} {args : Array Value} {below : List Frame} {meth : Method} {c : Code} {A : Nat → Prop} {g : MG} {Q : State → Prop} (E : EV p s m args c cX6_how 5 RX6) (hR : 1 ≤ R.frames ∧ 23 ≤ R.locals) {res : Int32 × MS} (hq : RTi p l e R s m args below meth c cX6_how 5 A g .int Q res) (N : Nat)  {rec19 : Int32 → Int32 → Int32 → Int32 → MS → Option (Int32 × MS)} (ih19 : ∀ (x1 : Int32) (x2 : Int32) (x3 : Int32) (x4 : Int32) (σ : MS), rec19 x1 x2 x3 x4 σ = some res → CF p l e R s m args below meth c 5 0 0 (MB g A s σ) Q 19 [(0, .ref (mh g)), (1, .int x1), (2, .int x2), (3, .int x3), (4, .int x4)] []) (x1 : Int32) (x2 : Int32) (x3 : Int32) (x4 : Int32) (σ : MS) (h : m_how_19b N  rec19 x1 x2 x3 x4 σ = some res) : CF p l e R s m args below meth c 5 0 0 (MB g A s σ) Q 19 [(0, .ref (mh g)), (1, .int x1), (2, .int x2), (3, .int x3), (4, .int x4)] [] := by
  unfold m_how_19b at h
  refine cf_iload E dX6_how_19 4 rfl rfl ?_
  refine cf_aload_n E dX6_how_21 0 rfl rfl ?_
  refine mget_0 E dX6_how_22 rfl ?_
  refine cf_icmp_ge E dX6_how_25 h rfl rfl (fun h => ?_) (fun h => ?_)
  · refine cf_iload_n E dX6_how_78 1 rfl rfl ?_
    refine cf_if_ne E dX6_how_79 h rfl rfl (fun h => ?_) (fun h => ?_)
    · refine cf_iload_n E dX6_how_86 3 rfl rfl ?_
      exact mret_i dX6_how_87 h rfl hq
    · refine cf_iload_n E dX6_how_82 2 rfl rfl ?_
      refine cf_goto E dX6_how_83 rfl ?_
      exact mret_i dX6_how_87 h rfl hq
  · refine cf_aload_n E dX6_how_28 0 rfl rfl ?_
    refine mget_5 E dX6_how_29 rfl ?_
    refine cf_iload E dX6_how_32 4 rfl rfl ?_
    refine mald_5 E dX6_how_34 h rfl (fun h => ?_)
    refine cf_if_ge E dX6_how_35 h rfl rfl (fun h => ?_) (fun h => ?_)
    · refine cf_iload_n E dX6_how_48 2 rfl rfl ?_
      refine cf_aload_n E dX6_how_49 0 rfl rfl ?_
      refine cf_aload_n E dX6_how_50 0 rfl rfl ?_
      refine mget_5 E dX6_how_51 rfl ?_
      refine cf_iload E dX6_how_54 4 rfl rfl ?_
      refine mald_5 E dX6_how_56 h rfl (fun h => ?_)
      refine cf_iload E dX6_how_57 4 rfl rfl ?_
      refine mcl_apart E (rmle hR rfl rfl) (Nat.le_of_ble_eq_true rfl) dX6_how_59 h rfl (fun v_2 s_1 h => ?_)
      refine cf_if_le E dX6_how_62 h rfl rfl (fun h => ?_) (fun h => ?_)
      · refine cf_iconst E dX6_how_69 ic_0 rfl ?_
        exact CF.sub [0, 1, 3, 4] rfl (wm_how_70 E hR hq N ih19 x1 x3 x4 (0 : Int32) x2 s_1 h)
      · refine cf_iconst E dX6_how_65 ic_1 rfl ?_
        refine cf_goto E dX6_how_66 rfl ?_
        exact CF.sub [0, 1, 3, 4] rfl (wm_how_70 E hR hq N ih19 x1 x3 x4 (1 : Int32) x2 s_1 h)
    · refine cf_iload_n E dX6_how_38 3 rfl rfl ?_
      refine cf_iconst E dX6_how_39 ic_1 rfl ?_
      refine cf_iload E dX6_how_40 4 rfl rfl ?_
      refine cf_ishl E dX6_how_42 rfl ?_
      refine cf_ior E dX6_how_43 rfl ?_
      refine cf_istore_n E dX6_how_44 h (fun x3_3 => [(3, .int x3_3), (0, .ref (mh g)), (1, .int x1), (2, .int x2), (4, .int x4)]) (Nat.le_of_ble_eq_true rfl) (fun _ => rfl) rfl (fun x3_3 h => ?_)
      refine cf_goto E dX6_how_45 rfl ?_
      exact CF.sub [1, 2, 3, 0, 4] rfl (wm_how_72 E hR hq N ih19 x1 x2 x3_3 x4 σ h)
set_option maxHeartbeats 4000000 in
theorem wm_how_19 {p : Program} {l : Launch} {e : Env} {R : Room} {s : State} {m : MethodId} {args : Array Value} {below : List Frame} {meth : Method} {c : Code} {A : Nat → Prop} {g : MG} {Q : State → Prop} (E : EV p s m args c cX6_how 5 RX6) (hR : 1 ≤ R.frames ∧ 23 ≤ R.locals) {res : Int32 × MS} (hq : RTi p l e R s m args below meth c cX6_how 5 A g .int Q res) (N : Nat)  : ∀ (k : Nat) (x1 : Int32) (x2 : Int32) (x3 : Int32) (x4 : Int32) (σ : MS), m_how_19 N  k x1 x2 x3 x4 σ = some res → CF p l e R s m args below meth c 5 0 0 (MB g A s σ) Q 19 [(0, .ref (mh g)), (1, .int x1), (2, .int x2), (3, .int x3), (4, .int x4)] [] := by
  intro k
  induction k with
  | zero => intro x1 x2 x3 x4 σ h; have h : (none : Option (Int32 × MS)) = some res := h; cases h
  | succ k ih => intro x1 x2 x3 x4 σ h; exact wm_how_19b E hR hq N  ih x1 x2 x3 x4 σ h
set_option maxHeartbeats 4000000 in
theorem met_how (l : Launch) (g : MG) (N : Nat) (x1 : Int32) (σ : MS) {v : Int32} {σ1 : MS} (h : m_how N x1 σ = some (v, σ1)) : MetMi l g yX6_how (ws_ yX6_how cX6_how 5 (some .int)) { frames := 1, cells := 0, slots := 0, locals := 23 } [.int x1] σ v σ1 := by
  refine met_mi (lv0 := [(0, .ref (mh g)), (1, .int x1)]) (by decide) rfl ⟨rfl, rfl⟩ (Nat.le_of_ble_eq_true rfl) rfl ?_
  intro p e s m below meth c A Q E hq
  have hR : 1 ≤ ({ frames := 1, cells := 0, slots := 0, locals := 23 } : Room).frames ∧ 23 ≤ ({ frames := 1, cells := 0, slots := 0, locals := 23 } : Room).locals := ⟨Nat.le_refl _, Nat.le_refl _⟩
  unfold m_how at h
  refine cf_aload_n E dX6_how_0 0 rfl rfl ?_
  refine cf_iload_n E dX6_how_1 1 rfl rfl ?_
  refine cf_iconst E dX6_how_2 ic_0 rfl ?_
  refine cf_iconst E dX6_how_3 ic_1 rfl ?_
  refine mcl_in E (rmle hR rfl rfl) (Nat.le_of_ble_eq_true rfl) dX6_how_4 h rfl (fun v_2 s_1 h => ?_)
  refine cf_if_ne E dX6_how_7 h rfl rfl (fun h => ?_) (fun h => ?_)
  · refine cf_iconst E dX6_how_12 ic_0 rfl ?_
    refine cf_istore_n E dX6_how_13 h (fun x2_3 => [(2, .int x2_3), (0, .ref (mh g)), (1, .int x1)]) (Nat.le_of_ble_eq_true rfl) (fun _ => rfl) rfl (fun x2_3 h => ?_)
    refine cf_iconst E dX6_how_14 ic_0 rfl ?_
    refine cf_istore_n E dX6_how_15 h (fun x3_4 => [(3, .int x3_4), (2, .int x2_3), (0, .ref (mh g)), (1, .int x1)]) (Nat.le_of_ble_eq_true rfl) (fun _ => rfl) rfl (fun x3_4 h => ?_)
    refine cf_iconst E dX6_how_16 ic_0 rfl ?_
    refine cf_istore E dX6_how_17 h (fun x4_5 => [(4, .int x4_5), (3, .int x3_4), (2, .int x2_3), (0, .ref (mh g)), (1, .int x1)]) (Nat.le_of_ble_eq_true rfl) (fun _ => rfl) rfl (fun x4_5 h => ?_)
    exact CF.sub [3, 4, 2, 1, 0] rfl (wm_how_19 E hR hq N N x1 x2_3 x3_4 x4_5 s_1 h)
  · refine cf_iconst E dX6_how_10 ic_m1 rfl ?_
    exact mret_i dX6_how_11 h rfl hq

set_option maxHeartbeats 4000000 in
theorem met_see (l : Launch) (g : MG) (N : Nat) (x1 : Int32) (x2 : Int32) (σ : MS) {v : Int32} {σ1 : MS} (h : m_see N x1 x2 σ = some (v, σ1)) : MetMi l g yX6_see (ws_ yX6_see cX6_see 3 (some .int)) { frames := 2, cells := 0, slots := 0, locals := 44 } [.int x1, .int x2] σ v σ1 := by
  refine met_mi (lv0 := [(0, .ref (mh g)), (1, .int x1), (2, .int x2)]) (by decide) rfl ⟨rfl, rfl⟩ (Nat.le_of_ble_eq_true rfl) rfl ?_
  intro p e s m below meth c A Q E hq
  have hR : 2 ≤ ({ frames := 2, cells := 0, slots := 0, locals := 44 } : Room).frames ∧ 44 ≤ ({ frames := 2, cells := 0, slots := 0, locals := 44 } : Room).locals := ⟨Nat.le_refl _, Nat.le_refl _⟩
  unfold m_see at h
  refine cf_iload_n E dX6_see_0 1 rfl rfl ?_
  refine cf_iconst E dX6_see_1 ic_m1 rfl ?_
  refine cf_icmp_ne E dX6_see_2 h rfl rfl (fun h => ?_) (fun h => ?_)
  · refine cf_aload_n E dX6_see_12 0 rfl rfl ?_
    refine cf_iload_n E dX6_see_13 1 rfl rfl ?_
    refine mcl_isHat E (rmle hR rfl rfl) (Nat.le_of_ble_eq_true rfl) dX6_see_14 h rfl (fun v_2 s_1 h => ?_)
    refine cf_if_ne E dX6_see_17 h rfl rfl (fun h => ?_) (fun h => ?_)
    · refine cf_aload_n E dX6_see_22 0 rfl rfl ?_
      refine cf_iload_n E dX6_see_23 2 rfl rfl ?_
      refine cf_iconst E dX6_see_24 ic_0 rfl ?_
      refine cf_sipush E dX6_see_25 sp_999 rfl ?_
      refine mcl_in E (rmle hR rfl rfl) (Nat.le_of_ble_eq_true rfl) dX6_see_28 h rfl (fun v_4 s_3 h => ?_)
      refine cf_if_ne E dX6_see_31 h rfl rfl (fun h => ?_) (fun h => ?_)
      · refine cf_aload_n E dX6_see_37 0 rfl rfl ?_
        refine mget_43 E dX6_see_38 rfl ?_
        refine cf_bipush E dX6_see_41 bp_6 rfl ?_
        refine cf_icmp_ne E dX6_see_43 h rfl rfl (fun h => ?_) (fun h => ?_)
        · refine cf_aload_n E dX6_see_49 0 rfl rfl ?_
          refine mget_44 E dX6_see_50 rfl ?_
          refine cf_aload_n E dX6_see_53 0 rfl rfl ?_
          refine mget_43 E dX6_see_54 rfl ?_
          refine cf_iload_n E dX6_see_57 1 rfl rfl ?_
          refine mast_44 E dX6_see_58 h rfl (fun s_5 h => ?_)
          refine cf_aload_n E dX6_see_59 0 rfl rfl ?_
          refine mget_45 E dX6_see_60 rfl ?_
          refine cf_aload_n E dX6_see_63 0 rfl rfl ?_
          refine mget_43 E dX6_see_64 rfl ?_
          refine cf_iload_n E dX6_see_67 2 rfl rfl ?_
          refine mast_45 E dX6_see_68 h rfl (fun s_6 h => ?_)
          refine cf_aload_n E dX6_see_69 0 rfl rfl ?_
          refine cf_dup E dX6_see_70 rfl rfl ?_
          refine mget_43 E dX6_see_71 rfl ?_
          refine cf_iconst E dX6_see_74 ic_1 rfl ?_
          refine cf_iadd E dX6_see_75 rfl ?_
          refine mput_43 E dX6_see_76 h rfl (fun s_7 h => ?_)
          refine cf_aload_n E dX6_see_79 0 rfl rfl ?_
          refine mget_43 E dX6_see_80 rfl ?_
          exact mret_i dX6_see_83 h rfl hq
        · refine cf_bipush E dX6_see_46 bp_m4 rfl ?_
          exact mret_i dX6_see_48 h rfl hq
      · refine cf_bipush E dX6_see_34 bp_m2 rfl ?_
        exact mret_i dX6_see_36 h rfl hq
    · refine cf_iconst E dX6_see_20 ic_m1 rfl ?_
      exact mret_i dX6_see_21 h rfl hq
  · refine cf_aload_n E dX6_see_5 0 rfl rfl ?_
    refine cf_iconst E dX6_see_6 ic_0 rfl ?_
    refine mput_43 E dX6_see_7 h rfl (fun s_8 h => ?_)
    refine cf_iconst E dX6_see_10 ic_0 rfl ?_
    exact mret_i dX6_see_11 h rfl hq

set_option maxHeartbeats 4000000 in
theorem wm_woreOn_89 {p : Program} {l : Launch} {e : Env} {R : Room} {s : State} {m : MethodId} {args : Array Value} {below : List Frame} {meth : Method} {c : Code} {A : Nat → Prop} {g : MG} {Q : State → Prop} (E : EV p s m args c cX6_woreOn 7 RX6) (hR : 4 ≤ R.frames ∧ 98 ≤ R.locals) {res : Int32 × MS} (hq : RTi p l e R s m args below meth c cX6_woreOn 7 A g .int Q res) (N : Nat) {rec4 : Int32 → Int32 → Int32 → MS → Option (Int32 × MS)} (ih4 : ∀ (x1 : Int32) (x2 : Int32) (x3 : Int32) (σ : MS), rec4 x1 x2 x3 σ = some res → CF p l e R s m args below meth c 7 0 0 (MB g A s σ) Q 4 [(0, .ref (mh g)), (1, .int x1), (2, .int x2), (3, .int x3)] []) (x1 : Int32) (x3 : Int32) (z0 : Int32) (z1 : Int32) (σ : MS) (h : m_woreOn_89 N rec4 x1 x3 z0 z1 σ = some res) : CF p l e R s m args below meth c 7 0 0 (MB g A s σ) Q 89 [(0, .ref (mh g)), (1, .int x1), (3, .int x3)] [.int z0, .int z1] := by
  unfold m_woreOn_89 at h
  refine cf_ior E dX6_woreOn_89 rfl ?_
  refine cf_istore_n E dX6_woreOn_90 h (fun x2_1 => [(2, .int x2_1), (0, .ref (mh g)), (1, .int x1), (3, .int x3)]) (Nat.le_of_ble_eq_true rfl) (fun _ => rfl) rfl (fun x2_1 h => ?_)
  refine cf_iinc E dX6_woreOn_91 ic_1 h 3 rfl (fun x3_2 => [(3, .int x3_2), (2, .int x2_1), (0, .ref (mh g)), (1, .int x1)]) (Nat.le_of_ble_eq_true rfl) (fun _ => rfl) rfl (fun x3_2 h => ?_)
  refine cf_goto E dX6_woreOn_94 rfl ?_
  exact CF.sub [2, 3, 1, 0] rfl (ih4 x1 x2_1 x3_2 σ h)
set_option maxHeartbeats 4000000 in
theorem wm_woreOn_68 {p : Program} {l : Launch} {e : Env} {R : Room} {s : State} {m : MethodId} {args : Array Value} {below : List Frame} {meth : Method} {c : Code} {A : Nat → Prop} {g : MG} {Q : State → Prop} (E : EV p s m args c cX6_woreOn 7 RX6) (hR : 4 ≤ R.frames ∧ 98 ≤ R.locals) {res : Int32 × MS} (hq : RTi p l e R s m args below meth c cX6_woreOn 7 A g .int Q res) (N : Nat) {rec4 : Int32 → Int32 → Int32 → MS → Option (Int32 × MS)} (ih4 : ∀ (x1 : Int32) (x2 : Int32) (x3 : Int32) (σ : MS), rec4 x1 x2 x3 σ = some res → CF p l e R s m args below meth c 7 0 0 (MB g A s σ) Q 4 [(0, .ref (mh g)), (1, .int x1), (2, .int x2), (3, .int x3)] []) {rec26 : Int32 → Int32 → Int32 → Int32 → Int32 → Int32 → MS → Option (Int32 × MS)} (ih26 : ∀ (x1 : Int32) (x2 : Int32) (x3 : Int32) (x4 : Int32) (x5 : Int32) (x6 : Int32) (σ : MS), rec26 x1 x2 x3 x4 x5 x6 σ = some res → CF p l e R s m args below meth c 7 0 0 (MB g A s σ) Q 26 [(0, .ref (mh g)), (1, .int x1), (2, .int x2), (3, .int x3), (4, .int x4), (5, .int x5), (6, .int x6)] []) (x1 : Int32) (x2 : Int32) (x3 : Int32) (x4 : Int32) (x6 : Int32) (z0 : Int32) (σ : MS) (h : m_woreOn_68 N rec4 rec26 x1 x2 x3 x4 x6 z0 σ = some res) : CF p l e R s m args below meth c 7 0 0 (MB g A s σ) Q 68 [(0, .ref (mh g)), (1, .int x1), (2, .int x2), (3, .int x3), (4, .int x4), (6, .int x6)] [.int z0] := by
  unfold m_woreOn_68 at h
  refine cf_istore E dX6_woreOn_68 h (fun x5_1 => [(5, .int x5_1), (0, .ref (mh g)), (1, .int x1), (2, .int x2), (3, .int x3), (4, .int x4), (6, .int x6)]) (Nat.le_of_ble_eq_true rfl) (fun _ => rfl) rfl (fun x5_1 h => ?_)
  refine cf_iinc E dX6_woreOn_70 ic_1 h 6 rfl (fun x6_2 => [(6, .int x6_2), (5, .int x5_1), (0, .ref (mh g)), (1, .int x1), (2, .int x2), (3, .int x3), (4, .int x4)]) (Nat.le_of_ble_eq_true rfl) (fun _ => rfl) rfl (fun x6_2 h => ?_)
  refine cf_goto E dX6_woreOn_73 rfl ?_
  exact CF.sub [2, 3, 4, 5, 6, 1, 0] rfl (ih26 x1 x2 x3 x4 x5_1 x6_2 σ h)
set_option maxHeartbeats 4000000 in
theorem wm_woreOn_67 {p : Program} {l : Launch} {e : Env} {R : Room} {s : State} {m : MethodId} {args : Array Value} {below : List Frame} {meth : Method} {c : Code} {A : Nat → Prop} {g : MG} {Q : State → Prop} (E : EV p s m args c cX6_woreOn 7 RX6) (hR : 4 ≤ R.frames ∧ 98 ≤ R.locals) {res : Int32 × MS} (hq : RTi p l e R s m args below meth c cX6_woreOn 7 A g .int Q res) (N : Nat) {rec4 : Int32 → Int32 → Int32 → MS → Option (Int32 × MS)} (ih4 : ∀ (x1 : Int32) (x2 : Int32) (x3 : Int32) (σ : MS), rec4 x1 x2 x3 σ = some res → CF p l e R s m args below meth c 7 0 0 (MB g A s σ) Q 4 [(0, .ref (mh g)), (1, .int x1), (2, .int x2), (3, .int x3)] []) {rec26 : Int32 → Int32 → Int32 → Int32 → Int32 → Int32 → MS → Option (Int32 × MS)} (ih26 : ∀ (x1 : Int32) (x2 : Int32) (x3 : Int32) (x4 : Int32) (x5 : Int32) (x6 : Int32) (σ : MS), rec26 x1 x2 x3 x4 x5 x6 σ = some res → CF p l e R s m args below meth c 7 0 0 (MB g A s σ) Q 26 [(0, .ref (mh g)), (1, .int x1), (2, .int x2), (3, .int x3), (4, .int x4), (5, .int x5), (6, .int x6)] []) (x1 : Int32) (x2 : Int32) (x3 : Int32) (x4 : Int32) (x6 : Int32) (σ : MS) (h : m_woreOn_67 N rec4 rec26 x1 x2 x3 x4 x6 σ = some res) : CF p l e R s m args below meth c 7 0 0 (MB g A s σ) Q 67 [(0, .ref (mh g)), (1, .int x1), (2, .int x2), (3, .int x3), (4, .int x4), (6, .int x6)] [] := by
  unfold m_woreOn_67 at h
  refine cf_iconst E dX6_woreOn_67 ic_0 rfl ?_
  exact CF.sub [0, 1, 2, 3, 4, 5] rfl (wm_woreOn_68 E hR hq N ih4 ih26 x1 x2 x3 x4 x6 (0 : Int32) σ h)
set_option maxHeartbeats 4000000 in
theorem wm_woreOn_63 {p : Program} {l : Launch} {e : Env} {R : Room} {s : State} {m : MethodId} {args : Array Value} {below : List Frame} {meth : Method} {c : Code} {A : Nat → Prop} {g : MG} {Q : State → Prop} (E : EV p s m args c cX6_woreOn 7 RX6) (hR : 4 ≤ R.frames ∧ 98 ≤ R.locals) {res : Int32 × MS} (hq : RTi p l e R s m args below meth c cX6_woreOn 7 A g .int Q res) (N : Nat) {rec4 : Int32 → Int32 → Int32 → MS → Option (Int32 × MS)} (ih4 : ∀ (x1 : Int32) (x2 : Int32) (x3 : Int32) (σ : MS), rec4 x1 x2 x3 σ = some res → CF p l e R s m args below meth c 7 0 0 (MB g A s σ) Q 4 [(0, .ref (mh g)), (1, .int x1), (2, .int x2), (3, .int x3)] []) {rec26 : Int32 → Int32 → Int32 → Int32 → Int32 → Int32 → MS → Option (Int32 × MS)} (ih26 : ∀ (x1 : Int32) (x2 : Int32) (x3 : Int32) (x4 : Int32) (x5 : Int32) (x6 : Int32) (σ : MS), rec26 x1 x2 x3 x4 x5 x6 σ = some res → CF p l e R s m args below meth c 7 0 0 (MB g A s σ) Q 26 [(0, .ref (mh g)), (1, .int x1), (2, .int x2), (3, .int x3), (4, .int x4), (5, .int x5), (6, .int x6)] []) (x1 : Int32) (x2 : Int32) (x3 : Int32) (x4 : Int32) (x6 : Int32) (σ : MS) (h : m_woreOn_63 N rec4 rec26 x1 x2 x3 x4 x6 σ = some res) : CF p l e R s m args below meth c 7 0 0 (MB g A s σ) Q 63 [(0, .ref (mh g)), (1, .int x1), (2, .int x2), (3, .int x3), (4, .int x4), (6, .int x6)] [] := by
  unfold m_woreOn_63 at h
  refine cf_iconst E dX6_woreOn_63 ic_1 rfl ?_
  refine cf_goto E dX6_woreOn_64 rfl ?_
  exact CF.sub [0, 1, 2, 3, 4, 5] rfl (wm_woreOn_68 E hR hq N ih4 ih26 x1 x2 x3 x4 x6 (1 : Int32) σ h)
set_option maxHeartbeats 4000000 in
theorem wm_woreOn_26b {p : Program} {l : Launch} {e : Env} {R : Room} {s : State} {m : MethodId} {args : Array Value} {below : List Frame} {meth : Method} {c : Code} {A : Nat → Prop} {g : MG} {Q : State → Prop} (E : EV p s m args c cX6_woreOn 7 RX6) (hR : 4 ≤ R.frames ∧ 98 ≤ R.locals) {res : Int32 × MS} (hq : RTi p l e R s m args below meth c cX6_woreOn 7 A g .int Q res) (N : Nat) {rec4 : Int32 → Int32 → Int32 → MS → Option (Int32 × MS)} (ih4 : ∀ (x1 : Int32) (x2 : Int32) (x3 : Int32) (σ : MS), rec4 x1 x2 x3 σ = some res → CF p l e R s m args below meth c 7 0 0 (MB g A s σ) Q 4 [(0, .ref (mh g)), (1, .int x1), (2, .int x2), (3, .int x3)] []) {rec26 : Int32 → Int32 → Int32 → Int32 → Int32 → Int32 → MS → Option (Int32 × MS)} (ih26 : ∀ (x1 : Int32) (x2 : Int32) (x3 : Int32) (x4 : Int32) (x5 : Int32) (x6 : Int32) (σ : MS), rec26 x1 x2 x3 x4 x5 x6 σ = some res → CF p l e R s m args below meth c 7 0 0 (MB g A s σ) Q 26 [(0, .ref (mh g)), (1, .int x1), (2, .int x2), (3, .int x3), (4, .int x4), (5, .int x5), (6, .int x6)] []) (x1 : Int32) (x2 : Int32) (x3 : Int32) (x4 : Int32) (x5 : Int32) (x6 : Int32) (σ : MS) (h : m_woreOn_26b N rec4 rec26 x1 x2 x3 x4 x5 x6 σ = some res) : CF p l e R s m args below meth c 7 0 0 (MB g A s σ) Q 26 [(0, .ref (mh g)), (1, .int x1), (2, .int x2), (3, .int x3), (4, .int x4), (5, .int x5), (6, .int x6)] [] := by
  unfold m_woreOn_26b at h
  refine cf_iload E dX6_woreOn_26 6 rfl rfl ?_
  refine cf_aload_n E dX6_woreOn_28 0 rfl rfl ?_
  refine mget_43 E dX6_woreOn_29 rfl ?_
  refine cf_icmp_ge E dX6_woreOn_32 h rfl rfl (fun h => ?_) (fun h => ?_)
  · refine cf_iload_n E dX6_woreOn_76 2 rfl rfl ?_
    refine cf_iload E dX6_woreOn_77 5 rfl rfl ?_
    refine cf_if_eq E dX6_woreOn_79 h rfl rfl (fun h => ?_) (fun h => ?_)
    · refine cf_iconst E dX6_woreOn_88 ic_0 rfl ?_
      exact CF.sub [0, 1, 3] rfl (wm_woreOn_89 E hR hq N ih4 x1 x3 (0 : Int32) x2 σ h)
    · refine cf_iconst E dX6_woreOn_82 ic_1 rfl ?_
      refine cf_iload_n E dX6_woreOn_83 3 rfl rfl ?_
      refine cf_ishl E dX6_woreOn_84 rfl ?_
      refine cf_goto E dX6_woreOn_85 rfl ?_
      exact CF.sub [0, 1, 3] rfl (wm_woreOn_89 E hR hq N ih4 x1 x3 ((1 : Int32) <<< (x3 &&& 31)) x2 σ h)
  · refine cf_iload E dX6_woreOn_35 5 rfl rfl ?_
    refine cf_if_eq E dX6_woreOn_37 h rfl rfl (fun h => ?_) (fun h => ?_)
    · exact CF.sub [0, 1, 2, 3, 4, 6] rfl (wm_woreOn_67 E hR hq N ih4 ih26 x1 x2 x3 x4 x6 σ h)
    · refine cf_aload_n E dX6_woreOn_40 0 rfl rfl ?_
      refine mget_44 E dX6_woreOn_41 rfl ?_
      refine cf_iload E dX6_woreOn_44 6 rfl rfl ?_
      refine mald_44 E dX6_woreOn_46 h rfl (fun h => ?_)
      refine cf_iload_n E dX6_woreOn_47 1 rfl rfl ?_
      refine cf_icmp_ne E dX6_woreOn_48 h rfl rfl (fun h => ?_) (fun h => ?_)
      · exact CF.sub [0, 1, 2, 3, 4, 6] rfl (wm_woreOn_63 E hR hq N ih4 ih26 x1 x2 x3 x4 x6 σ h)
      · refine cf_aload_n E dX6_woreOn_51 0 rfl rfl ?_
        refine mget_45 E dX6_woreOn_52 rfl ?_
        refine cf_iload E dX6_woreOn_55 6 rfl rfl ?_
        refine mald_45 E dX6_woreOn_57 h rfl (fun h => ?_)
        refine cf_iload E dX6_woreOn_58 4 rfl rfl ?_
        refine cf_icmp_ne E dX6_woreOn_60 h rfl rfl (fun h => ?_) (fun h => ?_)
        · exact CF.sub [0, 1, 2, 3, 4, 6] rfl (wm_woreOn_67 E hR hq N ih4 ih26 x1 x2 x3 x4 x6 σ h)
        · exact CF.sub [0, 1, 2, 3, 4, 6] rfl (wm_woreOn_63 E hR hq N ih4 ih26 x1 x2 x3 x4 x6 σ h)
set_option maxHeartbeats 4000000 in
theorem wm_woreOn_26 {p : Program} {l : Launch} {e : Env} {R : Room} {s : State} {m : MethodId} {args : Array Value} {below : List Frame} {meth : Method} {c : Code} {A : Nat → Prop} {g : MG} {Q : State → Prop} (E : EV p s m args c cX6_woreOn 7 RX6) (hR : 4 ≤ R.frames ∧ 98 ≤ R.locals) {res : Int32 × MS} (hq : RTi p l e R s m args below meth c cX6_woreOn 7 A g .int Q res) (N : Nat) {rec4 : Int32 → Int32 → Int32 → MS → Option (Int32 × MS)} (ih4 : ∀ (x1 : Int32) (x2 : Int32) (x3 : Int32) (σ : MS), rec4 x1 x2 x3 σ = some res → CF p l e R s m args below meth c 7 0 0 (MB g A s σ) Q 4 [(0, .ref (mh g)), (1, .int x1), (2, .int x2), (3, .int x3)] []) : ∀ (k : Nat) (x1 : Int32) (x2 : Int32) (x3 : Int32) (x4 : Int32) (x5 : Int32) (x6 : Int32) (σ : MS), m_woreOn_26 N rec4 k x1 x2 x3 x4 x5 x6 σ = some res → CF p l e R s m args below meth c 7 0 0 (MB g A s σ) Q 26 [(0, .ref (mh g)), (1, .int x1), (2, .int x2), (3, .int x3), (4, .int x4), (5, .int x5), (6, .int x6)] [] := by
  intro k
  induction k with
  | zero => intro x1 x2 x3 x4 x5 x6 σ h; have h : (none : Option (Int32 × MS)) = some res := h; cases h
  | succ k ih => intro x1 x2 x3 x4 x5 x6 σ h; exact wm_woreOn_26b E hR hq N ih4 ih x1 x2 x3 x4 x5 x6 σ h
set_option maxHeartbeats 4000000 in
theorem wm_woreOn_4b {p : Program} {l : Launch} {e : Env} {R : Room} {s : State} {m : MethodId} {args : Array Value} {below : List Frame} {meth : Method} {c : Code} {A : Nat → Prop} {g : MG} {Q : State → Prop} (E : EV p s m args c cX6_woreOn 7 RX6) (hR : 4 ≤ R.frames ∧ 98 ≤ R.locals) {res : Int32 × MS} (hq : RTi p l e R s m args below meth c cX6_woreOn 7 A g .int Q res) (N : Nat)  {rec4 : Int32 → Int32 → Int32 → MS → Option (Int32 × MS)} (ih4 : ∀ (x1 : Int32) (x2 : Int32) (x3 : Int32) (σ : MS), rec4 x1 x2 x3 σ = some res → CF p l e R s m args below meth c 7 0 0 (MB g A s σ) Q 4 [(0, .ref (mh g)), (1, .int x1), (2, .int x2), (3, .int x3)] []) (x1 : Int32) (x2 : Int32) (x3 : Int32) (σ : MS) (h : m_woreOn_4b N  rec4 x1 x2 x3 σ = some res) : CF p l e R s m args below meth c 7 0 0 (MB g A s σ) Q 4 [(0, .ref (mh g)), (1, .int x1), (2, .int x2), (3, .int x3)] [] := by
  unfold m_woreOn_4b at h
  refine cf_iload_n E dX6_woreOn_4 3 rfl rfl ?_
  refine cf_aload_n E dX6_woreOn_5 0 rfl rfl ?_
  refine mget_0 E dX6_woreOn_6 rfl ?_
  refine cf_icmp_ge E dX6_woreOn_9 h rfl rfl (fun h => ?_) (fun h => ?_)
  · refine cf_iload_n E dX6_woreOn_97 2 rfl rfl ?_
    exact mret_i dX6_woreOn_98 h rfl hq
  · refine cf_aload_n E dX6_woreOn_12 0 rfl rfl ?_
    refine cf_iload_n E dX6_woreOn_13 1 rfl rfl ?_
    refine cf_iload_n E dX6_woreOn_14 3 rfl rfl ?_
    refine mcl_deed E (rmle hR rfl rfl) (Nat.le_of_ble_eq_true rfl) dX6_woreOn_15 h rfl (fun v_2 s_1 h => ?_)
    refine cf_istore E dX6_woreOn_18 h (fun x4_3 => [(4, .int x4_3), (0, .ref (mh g)), (1, .int x1), (2, .int x2), (3, .int x3)]) (Nat.le_of_ble_eq_true rfl) (fun _ => rfl) rfl (fun x4_3 h => ?_)
    refine cf_iconst E dX6_woreOn_20 ic_1 rfl ?_
    refine cf_istore E dX6_woreOn_21 h (fun x5_4 => [(5, .int x5_4), (4, .int x4_3), (0, .ref (mh g)), (1, .int x1), (2, .int x2), (3, .int x3)]) (Nat.le_of_ble_eq_true rfl) (fun _ => rfl) rfl (fun x5_4 h => ?_)
    refine cf_iconst E dX6_woreOn_23 ic_0 rfl ?_
    refine cf_istore E dX6_woreOn_24 h (fun x6_5 => [(6, .int x6_5), (5, .int x5_4), (4, .int x4_3), (0, .ref (mh g)), (1, .int x1), (2, .int x2), (3, .int x3)]) (Nat.le_of_ble_eq_true rfl) (fun _ => rfl) rfl (fun x6_5 h => ?_)
    exact CF.sub [3, 4, 5, 6, 2, 1, 0] rfl (wm_woreOn_26 E hR hq N ih4 N x1 x2 x3 x4_3 x5_4 x6_5 s_1 h)
set_option maxHeartbeats 4000000 in
theorem wm_woreOn_4 {p : Program} {l : Launch} {e : Env} {R : Room} {s : State} {m : MethodId} {args : Array Value} {below : List Frame} {meth : Method} {c : Code} {A : Nat → Prop} {g : MG} {Q : State → Prop} (E : EV p s m args c cX6_woreOn 7 RX6) (hR : 4 ≤ R.frames ∧ 98 ≤ R.locals) {res : Int32 × MS} (hq : RTi p l e R s m args below meth c cX6_woreOn 7 A g .int Q res) (N : Nat)  : ∀ (k : Nat) (x1 : Int32) (x2 : Int32) (x3 : Int32) (σ : MS), m_woreOn_4 N  k x1 x2 x3 σ = some res → CF p l e R s m args below meth c 7 0 0 (MB g A s σ) Q 4 [(0, .ref (mh g)), (1, .int x1), (2, .int x2), (3, .int x3)] [] := by
  intro k
  induction k with
  | zero => intro x1 x2 x3 σ h; have h : (none : Option (Int32 × MS)) = some res := h; cases h
  | succ k ih => intro x1 x2 x3 σ h; exact wm_woreOn_4b E hR hq N  ih x1 x2 x3 σ h
set_option maxHeartbeats 4000000 in
theorem met_woreOn (l : Launch) (g : MG) (N : Nat) (x1 : Int32) (σ : MS) {v : Int32} {σ1 : MS} (h : m_woreOn N x1 σ = some (v, σ1)) : MetMi l g yX6_woreOn (ws_ yX6_woreOn cX6_woreOn 7 (some .int)) { frames := 4, cells := 0, slots := 0, locals := 98 } [.int x1] σ v σ1 := by
  refine met_mi (lv0 := [(0, .ref (mh g)), (1, .int x1)]) (by decide) rfl ⟨rfl, rfl⟩ (Nat.le_of_ble_eq_true rfl) rfl ?_
  intro p e s m below meth c A Q E hq
  have hR : 4 ≤ ({ frames := 4, cells := 0, slots := 0, locals := 98 } : Room).frames ∧ 98 ≤ ({ frames := 4, cells := 0, slots := 0, locals := 98 } : Room).locals := ⟨Nat.le_refl _, Nat.le_refl _⟩
  unfold m_woreOn at h
  refine cf_iconst E dX6_woreOn_0 ic_0 rfl ?_
  refine cf_istore_n E dX6_woreOn_1 h (fun x2_1 => [(2, .int x2_1), (0, .ref (mh g)), (1, .int x1)]) (Nat.le_of_ble_eq_true rfl) (fun _ => rfl) rfl (fun x2_1 h => ?_)
  refine cf_iconst E dX6_woreOn_2 ic_0 rfl ?_
  refine cf_istore_n E dX6_woreOn_3 h (fun x3_2 => [(3, .int x3_2), (2, .int x2_1), (0, .ref (mh g)), (1, .int x1)]) (Nat.le_of_ble_eq_true rfl) (fun _ => rfl) rfl (fun x3_2 h => ?_)
  exact CF.sub [2, 3, 1, 0] rfl (wm_woreOn_4 E hR hq N N x1 x2_1 x3_2 σ h)
theorem gw_woreOn : GoodIn lw_all (wsV RX6 398 RX6 yX6_woreOn (ws_ yX6_woreOn cX6_woreOn 7 (some .int))) := lw_V q2038 q2040 qs82 q105 q2041
theorem hd_woreOn : yX6_woreOn.cls = RX6 ∧ yX6_woreOn.cls ≠ "java/lang/invoke/MethodHandle" ∧ yX6_woreOn.cls ≠ "java/lang/invoke/VarHandle" ∧ (parseMethodDescriptor yX6_woreOn.desc).map (fun d => d.parameters.length) = some 1 := by decide +kernel
theorem mcl_woreOn {p : Program} {l : Launch} {e : Env} {R : Room} {s : State} {m : MethodId} {args : Array Value} {below : List Frame} {meth : Method} {c : Code} {nL : Nat} {A : Nat → Prop} {g : MG} {σ : MS} {Q : State → Prop} {pc n : Nat} {lv : List (Nat × Value)} {st : List Value} {cc : ByteArray} {ρ : Type} {res : ρ} (E : EV p s m args c cc nL RX6) {N : Nat} {x1 : Int32} {kk : Int32 → MS → Option ρ} (hR : 5 ≤ R.frames ∧ 124 ≤ R.locals) (hcat : (st.map fun v => v.category).sum ≤ 8) (d : decode cc pc = .ok (.invokevirtual 398, 3)) (h : bnd (m_woreOn N x1 σ) kk = some res) (hn : pc + 3 = n) (k : ∀ (v : Int32) (σ1 : MS), kk v σ1 = some res → CF p l e R s m args below meth c nL 0 0 (MB g A s σ1) Q n lv (.int v :: st)) : CF p l e R s m args below meth c nL 0 0 (MB g A s σ) Q pc lv (.int x1 :: .ref (mh g) :: st) :=
  mcall_i E [.int x1] (fun v σ1 ho => met_woreOn l g N x1 σ ho) gw_woreOn hd_woreOn rfl rfl hR rfl rfl hcat d h hn k
set_option maxHeartbeats 4000000 in
theorem met_wore (l : Launch) (g : MG) (N : Nat) (x1 : Int32) (σ : MS) {v : Int32} {σ1 : MS} (h : m_wore N x1 σ = some (v, σ1)) : MetMi l g yX6_wore (ws_ yX6_wore cX6_wore 2 (some .int)) { frames := 5, cells := 0, slots := 0, locals := 124 } [.int x1] σ v σ1 := by
  refine met_mi (lv0 := [(0, .ref (mh g)), (1, .int x1)]) (by decide) rfl ⟨rfl, rfl⟩ (Nat.le_of_ble_eq_true rfl) rfl ?_
  intro p e s m below meth c A Q E hq
  have hR : 5 ≤ ({ frames := 5, cells := 0, slots := 0, locals := 124 } : Room).frames ∧ 124 ≤ ({ frames := 5, cells := 0, slots := 0, locals := 124 } : Room).locals := ⟨Nat.le_refl _, Nat.le_refl _⟩
  unfold m_wore at h
  refine cf_aload_n E dX6_wore_0 0 rfl rfl ?_
  refine cf_iload_n E dX6_wore_1 1 rfl rfl ?_
  refine mcl_isHat E (rmle hR rfl rfl) (Nat.le_of_ble_eq_true rfl) dX6_wore_2 h rfl (fun v_2 s_1 h => ?_)
  refine cf_if_eq E dX6_wore_5 h rfl rfl (fun h => ?_) (fun h => ?_)
  · refine cf_iconst E dX6_wore_16 ic_m1 rfl ?_
    exact mret_i dX6_wore_17 h rfl hq
  · refine cf_aload_n E dX6_wore_8 0 rfl rfl ?_
    refine cf_iload_n E dX6_wore_9 1 rfl rfl ?_
    refine mcl_woreOn E (rmle hR rfl rfl) (Nat.le_of_ble_eq_true rfl) dX6_wore_10 h rfl (fun v_4 s_3 h => ?_)
    refine cf_goto E dX6_wore_13 rfl ?_
    exact mret_i dX6_wore_17 h rfl hq

set_option maxHeartbeats 4000000 in
theorem wm_who_189b {p : Program} {l : Launch} {e : Env} {R : Room} {s : State} {m : MethodId} {args : Array Value} {below : List Frame} {meth : Method} {c : Code} {A : Nat → Prop} {g : MG} {Q : State → Prop} (E : EV p s m args c cX6_who 7 RX6) (hR : 5 ≤ R.frames ∧ 124 ≤ R.locals) {res : Int32 × MS} (hq : RTi p l e R s m args below meth c cX6_who 7 A g .int Q res) (N : Nat)  {rec189 : Int32 → Int32 → MS → Option (Int32 × MS)} (ih189 : ∀ (x1 : Int32) (x2 : Int32) (σ : MS), rec189 x1 x2 σ = some res → CF p l e R s m args below meth c 7 0 0 (MB g A s σ) Q 189 [(0, .ref (mh g)), (1, .int x1), (2, .int x2)] []) (x1 : Int32) (x2 : Int32) (σ : MS) (h : m_who_189b N  rec189 x1 x2 σ = some res) : CF p l e R s m args below meth c 7 0 0 (MB g A s σ) Q 189 [(0, .ref (mh g)), (1, .int x1), (2, .int x2)] [] := by
  unfold m_who_189b at h
  refine cf_iload_n E dX6_who_189 2 rfl rfl ?_
  refine cf_bipush E dX6_who_190 bp_64 rfl ?_
  refine cf_icmp_ge E dX6_who_192 h rfl rfl (fun h => ?_) (fun h => ?_)
  · refine cf_iload_n E dX6_who_210 1 rfl rfl ?_
    exact mret_i dX6_who_211 h rfl hq
  · refine cf_iload_n E dX6_who_195 1 rfl rfl ?_
    refine cf_aload_n E dX6_who_196 0 rfl rfl ?_
    refine mget_46 E dX6_who_197 rfl ?_
    refine cf_iload_n E dX6_who_200 2 rfl rfl ?_
    refine mald_46 E dX6_who_201 h rfl (fun h => ?_)
    refine cf_iadd E dX6_who_202 rfl ?_
    refine cf_istore_n E dX6_who_203 h (fun x1_1 => [(1, .int x1_1), (0, .ref (mh g)), (2, .int x2)]) (Nat.le_of_ble_eq_true rfl) (fun _ => rfl) rfl (fun x1_1 h => ?_)
    refine cf_iinc E dX6_who_204 ic_1 h 2 rfl (fun x2_2 => [(2, .int x2_2), (1, .int x1_1), (0, .ref (mh g))]) (Nat.le_of_ble_eq_true rfl) (fun _ => rfl) rfl (fun x2_2 h => ?_)
    refine cf_goto E dX6_who_207 rfl ?_
    exact CF.sub [2, 1, 0] rfl (ih189 x1_1 x2_2 σ h)
set_option maxHeartbeats 4000000 in
theorem wm_who_189 {p : Program} {l : Launch} {e : Env} {R : Room} {s : State} {m : MethodId} {args : Array Value} {below : List Frame} {meth : Method} {c : Code} {A : Nat → Prop} {g : MG} {Q : State → Prop} (E : EV p s m args c cX6_who 7 RX6) (hR : 5 ≤ R.frames ∧ 124 ≤ R.locals) {res : Int32 × MS} (hq : RTi p l e R s m args below meth c cX6_who 7 A g .int Q res) (N : Nat)  : ∀ (k : Nat) (x1 : Int32) (x2 : Int32) (σ : MS), m_who_189 N  k x1 x2 σ = some res → CF p l e R s m args below meth c 7 0 0 (MB g A s σ) Q 189 [(0, .ref (mh g)), (1, .int x1), (2, .int x2)] [] := by
  intro k
  induction k with
  | zero => intro x1 x2 σ h; have h : (none : Option (Int32 × MS)) = some res := h; cases h
  | succ k ih => intro x1 x2 σ h; exact wm_who_189b E hR hq N  ih x1 x2 σ h
set_option maxHeartbeats 4000000 in
theorem wm_who_179 {p : Program} {l : Launch} {e : Env} {R : Room} {s : State} {m : MethodId} {args : Array Value} {below : List Frame} {meth : Method} {c : Code} {A : Nat → Prop} {g : MG} {Q : State → Prop} (E : EV p s m args c cX6_who 7 RX6) (hR : 5 ≤ R.frames ∧ 124 ≤ R.locals) {res : Int32 × MS} (hq : RTi p l e R s m args below meth c cX6_who 7 A g .int Q res) (N : Nat) {rec31 : Int32 → MS → Option (Int32 × MS)} (ih31 : ∀ (x1 : Int32) (σ : MS), rec31 x1 σ = some res → CF p l e R s m args below meth c 7 0 0 (MB g A s σ) Q 31 [(0, .ref (mh g)), (1, .int x1)] []) (x1 : Int32) (σ : MS) (h : m_who_179 N rec31 x1 σ = some res) : CF p l e R s m args below meth c 7 0 0 (MB g A s σ) Q 179 [(0, .ref (mh g)), (1, .int x1)] [] := by
  unfold m_who_179 at h
  refine cf_iinc E dX6_who_179 ic_1 h 1 rfl (fun x1_1 => [(1, .int x1_1), (0, .ref (mh g))]) (Nat.le_of_ble_eq_true rfl) (fun _ => rfl) rfl (fun x1_1 h => ?_)
  refine cf_goto E dX6_who_182 rfl ?_
  exact CF.sub [1, 0] rfl (ih31 x1_1 σ h)
set_option maxHeartbeats 4000000 in
theorem wm_who_155 {p : Program} {l : Launch} {e : Env} {R : Room} {s : State} {m : MethodId} {args : Array Value} {below : List Frame} {meth : Method} {c : Code} {A : Nat → Prop} {g : MG} {Q : State → Prop} (E : EV p s m args c cX6_who 7 RX6) (hR : 5 ≤ R.frames ∧ 124 ≤ R.locals) {res : Int32 × MS} (hq : RTi p l e R s m args below meth c cX6_who 7 A g .int Q res) (N : Nat) {rec31 : Int32 → MS → Option (Int32 × MS)} (ih31 : ∀ (x1 : Int32) (σ : MS), rec31 x1 σ = some res → CF p l e R s m args below meth c 7 0 0 (MB g A s σ) Q 31 [(0, .ref (mh g)), (1, .int x1)] []) {rec94 : Int32 → Int32 → Int32 → MS → Option (Int32 × MS)} (ih94 : ∀ (x1 : Int32) (x3 : Int32) (x4 : Int32) (σ : MS), rec94 x1 x3 x4 σ = some res → CF p l e R s m args below meth c 7 0 0 (MB g A s σ) Q 94 [(0, .ref (mh g)), (1, .int x1), (3, .int x3), (4, .int x4)] []) {rec105 : Int32 → Int32 → Int32 → Int32 → Int32 → MS → Option (Int32 × MS)} (ih105 : ∀ (x1 : Int32) (x3 : Int32) (x4 : Int32) (x5 : Int32) (x6 : Int32) (σ : MS), rec105 x1 x3 x4 x5 x6 σ = some res → CF p l e R s m args below meth c 7 0 0 (MB g A s σ) Q 105 [(0, .ref (mh g)), (1, .int x1), (3, .int x3), (4, .int x4), (5, .int x5), (6, .int x6)] []) (x1 : Int32) (x3 : Int32) (x4 : Int32) (x6 : Int32) (z0 : Int32) (z1 : Int32) (σ : MS) (h : m_who_155 N rec31 rec94 rec105 x1 x3 x4 x6 z0 z1 σ = some res) : CF p l e R s m args below meth c 7 0 0 (MB g A s σ) Q 155 [(0, .ref (mh g)), (1, .int x1), (3, .int x3), (4, .int x4), (6, .int x6)] [.int z0, .int z1] := by
  unfold m_who_155 at h
  refine cf_iadd E dX6_who_155 rfl ?_
  refine cf_istore E dX6_who_156 h (fun x5_1 => [(5, .int x5_1), (0, .ref (mh g)), (1, .int x1), (3, .int x3), (4, .int x4), (6, .int x6)]) (Nat.le_of_ble_eq_true rfl) (fun _ => rfl) rfl (fun x5_1 h => ?_)
  refine cf_iinc E dX6_who_158 ic_1 h 5 rfl (fun x6_2 => [(6, .int x6_2), (5, .int x5_1), (0, .ref (mh g)), (1, .int x1), (3, .int x3), (4, .int x4)]) (Nat.le_of_ble_eq_true rfl) (fun _ => rfl) rfl (fun x6_2 h => ?_)
  refine cf_goto E dX6_who_161 rfl ?_
  exact CF.sub [2, 3, 4, 5, 1, 0] rfl (ih105 x1 x3 x4 x5_1 x6_2 σ h)
set_option maxHeartbeats 4000000 in
theorem wm_who_154 {p : Program} {l : Launch} {e : Env} {R : Room} {s : State} {m : MethodId} {args : Array Value} {below : List Frame} {meth : Method} {c : Code} {A : Nat → Prop} {g : MG} {Q : State → Prop} (E : EV p s m args c cX6_who 7 RX6) (hR : 5 ≤ R.frames ∧ 124 ≤ R.locals) {res : Int32 × MS} (hq : RTi p l e R s m args below meth c cX6_who 7 A g .int Q res) (N : Nat) {rec31 : Int32 → MS → Option (Int32 × MS)} (ih31 : ∀ (x1 : Int32) (σ : MS), rec31 x1 σ = some res → CF p l e R s m args below meth c 7 0 0 (MB g A s σ) Q 31 [(0, .ref (mh g)), (1, .int x1)] []) {rec94 : Int32 → Int32 → Int32 → MS → Option (Int32 × MS)} (ih94 : ∀ (x1 : Int32) (x3 : Int32) (x4 : Int32) (σ : MS), rec94 x1 x3 x4 σ = some res → CF p l e R s m args below meth c 7 0 0 (MB g A s σ) Q 94 [(0, .ref (mh g)), (1, .int x1), (3, .int x3), (4, .int x4)] []) {rec105 : Int32 → Int32 → Int32 → Int32 → Int32 → MS → Option (Int32 × MS)} (ih105 : ∀ (x1 : Int32) (x3 : Int32) (x4 : Int32) (x5 : Int32) (x6 : Int32) (σ : MS), rec105 x1 x3 x4 x5 x6 σ = some res → CF p l e R s m args below meth c 7 0 0 (MB g A s σ) Q 105 [(0, .ref (mh g)), (1, .int x1), (3, .int x3), (4, .int x4), (5, .int x5), (6, .int x6)] []) (x1 : Int32) (x3 : Int32) (x4 : Int32) (x6 : Int32) (z0 : Int32) (σ : MS) (h : m_who_154 N rec31 rec94 rec105 x1 x3 x4 x6 z0 σ = some res) : CF p l e R s m args below meth c 7 0 0 (MB g A s σ) Q 154 [(0, .ref (mh g)), (1, .int x1), (3, .int x3), (4, .int x4), (6, .int x6)] [.int z0] := by
  unfold m_who_154 at h
  refine cf_iconst E dX6_who_154 ic_0 rfl ?_
  exact CF.sub [0, 1, 2, 3, 4] rfl (wm_who_155 E hR hq N ih31 ih94 ih105 x1 x3 x4 x6 (0 : Int32) z0 σ h)
set_option maxHeartbeats 4000000 in
theorem wm_who_105b {p : Program} {l : Launch} {e : Env} {R : Room} {s : State} {m : MethodId} {args : Array Value} {below : List Frame} {meth : Method} {c : Code} {A : Nat → Prop} {g : MG} {Q : State → Prop} (E : EV p s m args c cX6_who 7 RX6) (hR : 5 ≤ R.frames ∧ 124 ≤ R.locals) {res : Int32 × MS} (hq : RTi p l e R s m args below meth c cX6_who 7 A g .int Q res) (N : Nat) {rec31 : Int32 → MS → Option (Int32 × MS)} (ih31 : ∀ (x1 : Int32) (σ : MS), rec31 x1 σ = some res → CF p l e R s m args below meth c 7 0 0 (MB g A s σ) Q 31 [(0, .ref (mh g)), (1, .int x1)] []) {rec94 : Int32 → Int32 → Int32 → MS → Option (Int32 × MS)} (ih94 : ∀ (x1 : Int32) (x3 : Int32) (x4 : Int32) (σ : MS), rec94 x1 x3 x4 σ = some res → CF p l e R s m args below meth c 7 0 0 (MB g A s σ) Q 94 [(0, .ref (mh g)), (1, .int x1), (3, .int x3), (4, .int x4)] []) {rec105 : Int32 → Int32 → Int32 → Int32 → Int32 → MS → Option (Int32 × MS)} (ih105 : ∀ (x1 : Int32) (x3 : Int32) (x4 : Int32) (x5 : Int32) (x6 : Int32) (σ : MS), rec105 x1 x3 x4 x5 x6 σ = some res → CF p l e R s m args below meth c 7 0 0 (MB g A s σ) Q 105 [(0, .ref (mh g)), (1, .int x1), (3, .int x3), (4, .int x4), (5, .int x5), (6, .int x6)] []) (x1 : Int32) (x3 : Int32) (x4 : Int32) (x5 : Int32) (x6 : Int32) (σ : MS) (h : m_who_105b N rec31 rec94 rec105 x1 x3 x4 x5 x6 σ = some res) : CF p l e R s m args below meth c 7 0 0 (MB g A s σ) Q 105 [(0, .ref (mh g)), (1, .int x1), (3, .int x3), (4, .int x4), (5, .int x5), (6, .int x6)] [] := by
  unfold m_who_105b at h
  refine cf_iload E dX6_who_105 5 rfl rfl ?_
  refine cf_aload_n E dX6_who_107 0 rfl rfl ?_
  refine mget_0 E dX6_who_108 rfl ?_
  refine cf_icmp_ge E dX6_who_111 h rfl rfl (fun h => ?_) (fun h => ?_)
  · refine cf_aload_n E dX6_who_164 0 rfl rfl ?_
    refine mget_46 E dX6_who_165 rfl ?_
    refine cf_iload E dX6_who_168 3 rfl rfl ?_
    refine cf_iload E dX6_who_170 4 rfl rfl ?_
    refine mast_46 E dX6_who_172 h rfl (fun s_1 h => ?_)
    refine cf_iinc E dX6_who_173 ic_m1 h 3 rfl (fun x4_2 => [(4, .int x4_2), (0, .ref (mh g)), (1, .int x1), (3, .int x3), (5, .int x5), (6, .int x6)]) (Nat.le_of_ble_eq_true rfl) (fun _ => rfl) rfl (fun x4_2 h => ?_)
    refine cf_goto E dX6_who_176 rfl ?_
    exact CF.sub [1, 2, 3, 0] rfl (ih94 x1 x3 x4_2 s_1 h)
  · refine cf_iload E dX6_who_114 4 rfl rfl ?_
    refine cf_aload_n E dX6_who_116 0 rfl rfl ?_
    refine cf_iload E dX6_who_117 3 rfl rfl ?_
    refine cf_iload E dX6_who_119 5 rfl rfl ?_
    refine mcl_has E (rmle hR rfl rfl) (Nat.le_of_ble_eq_true rfl) dX6_who_121 h rfl (fun v_4 s_3 h => ?_)
    refine cf_if_eq E dX6_who_124 h rfl rfl (fun h => ?_) (fun h => ?_)
    · exact CF.sub [0, 1, 2, 3, 5] rfl (wm_who_154 E hR hq N ih31 ih94 ih105 x1 x3 x4 x6 x5 s_3 h)
    · refine cf_aload_n E dX6_who_127 0 rfl rfl ?_
      refine cf_iload_n E dX6_who_128 2 rfl rfl ?_
      refine cf_iload E dX6_who_129 5 rfl rfl ?_
      refine mcl_has E (rmle hR rfl rfl) (Nat.le_of_ble_eq_true rfl) dX6_who_131 h rfl (fun v_6 s_5 h => ?_)
      refine cf_if_eq E dX6_who_134 h rfl rfl (fun h => ?_) (fun h => ?_)
      · exact CF.sub [0, 1, 2, 3, 5] rfl (wm_who_154 E hR hq N ih31 ih94 ih105 x1 x3 x4 x6 x5 s_5 h)
      · refine cf_aload_n E dX6_who_137 0 rfl rfl ?_
        refine mget_46 E dX6_who_138 rfl ?_
        refine cf_iload E dX6_who_141 3 rfl rfl ?_
        refine cf_iconst E dX6_who_143 ic_1 rfl ?_
        refine cf_iload E dX6_who_144 5 rfl rfl ?_
        refine cf_ishl E dX6_who_146 rfl ?_
        refine cf_iconst E dX6_who_147 ic_m1 rfl ?_
        refine cf_ixor E dX6_who_148 rfl ?_
        refine cf_iand E dX6_who_149 rfl ?_
        refine mald_46 E dX6_who_150 h rfl (fun h => ?_)
        refine cf_goto E dX6_who_151 rfl ?_
        exact CF.sub [0, 1, 2, 3, 5] rfl (wm_who_155 E hR hq N ih31 ih94 ih105 x1 x3 x4 x6 (gR s_5 46 (x4 &&& (((1 : Int32) <<< (x6 &&& 31)) ^^^ (-1 : Int32))).toNatClampNeg) x5 s_5 h)
set_option maxHeartbeats 4000000 in
theorem wm_who_105 {p : Program} {l : Launch} {e : Env} {R : Room} {s : State} {m : MethodId} {args : Array Value} {below : List Frame} {meth : Method} {c : Code} {A : Nat → Prop} {g : MG} {Q : State → Prop} (E : EV p s m args c cX6_who 7 RX6) (hR : 5 ≤ R.frames ∧ 124 ≤ R.locals) {res : Int32 × MS} (hq : RTi p l e R s m args below meth c cX6_who 7 A g .int Q res) (N : Nat) {rec31 : Int32 → MS → Option (Int32 × MS)} (ih31 : ∀ (x1 : Int32) (σ : MS), rec31 x1 σ = some res → CF p l e R s m args below meth c 7 0 0 (MB g A s σ) Q 31 [(0, .ref (mh g)), (1, .int x1)] []) {rec94 : Int32 → Int32 → Int32 → MS → Option (Int32 × MS)} (ih94 : ∀ (x1 : Int32) (x3 : Int32) (x4 : Int32) (σ : MS), rec94 x1 x3 x4 σ = some res → CF p l e R s m args below meth c 7 0 0 (MB g A s σ) Q 94 [(0, .ref (mh g)), (1, .int x1), (3, .int x3), (4, .int x4)] []) : ∀ (k : Nat) (x1 : Int32) (x3 : Int32) (x4 : Int32) (x5 : Int32) (x6 : Int32) (σ : MS), m_who_105 N rec31 rec94 k x1 x3 x4 x5 x6 σ = some res → CF p l e R s m args below meth c 7 0 0 (MB g A s σ) Q 105 [(0, .ref (mh g)), (1, .int x1), (3, .int x3), (4, .int x4), (5, .int x5), (6, .int x6)] [] := by
  intro k
  induction k with
  | zero => intro x1 x3 x4 x5 x6 σ h; have h : (none : Option (Int32 × MS)) = some res := h; cases h
  | succ k ih => intro x1 x3 x4 x5 x6 σ h; exact wm_who_105b E hR hq N ih31 ih94 ih x1 x3 x4 x5 x6 σ h
set_option maxHeartbeats 4000000 in
theorem wm_who_94b {p : Program} {l : Launch} {e : Env} {R : Room} {s : State} {m : MethodId} {args : Array Value} {below : List Frame} {meth : Method} {c : Code} {A : Nat → Prop} {g : MG} {Q : State → Prop} (E : EV p s m args c cX6_who 7 RX6) (hR : 5 ≤ R.frames ∧ 124 ≤ R.locals) {res : Int32 × MS} (hq : RTi p l e R s m args below meth c cX6_who 7 A g .int Q res) (N : Nat) {rec31 : Int32 → MS → Option (Int32 × MS)} (ih31 : ∀ (x1 : Int32) (σ : MS), rec31 x1 σ = some res → CF p l e R s m args below meth c 7 0 0 (MB g A s σ) Q 31 [(0, .ref (mh g)), (1, .int x1)] []) {rec94 : Int32 → Int32 → Int32 → MS → Option (Int32 × MS)} (ih94 : ∀ (x1 : Int32) (x3 : Int32) (x4 : Int32) (σ : MS), rec94 x1 x3 x4 σ = some res → CF p l e R s m args below meth c 7 0 0 (MB g A s σ) Q 94 [(0, .ref (mh g)), (1, .int x1), (3, .int x3), (4, .int x4)] []) (x1 : Int32) (x3 : Int32) (x4 : Int32) (σ : MS) (h : m_who_94b N rec31 rec94 x1 x3 x4 σ = some res) : CF p l e R s m args below meth c 7 0 0 (MB g A s σ) Q 94 [(0, .ref (mh g)), (1, .int x1), (3, .int x3), (4, .int x4)] [] := by
  unfold m_who_94b at h
  refine cf_iload E dX6_who_94 3 rfl rfl ?_
  refine cf_if_lt E dX6_who_96 h rfl rfl (fun h => ?_) (fun h => ?_)
  · exact CF.sub [0, 1] rfl (wm_who_179 E hR hq N ih31 x1 σ h)
  · refine cf_iconst E dX6_who_99 ic_0 rfl ?_
    refine cf_istore E dX6_who_100 h (fun x5_1 => [(5, .int x5_1), (0, .ref (mh g)), (1, .int x1), (3, .int x3), (4, .int x4)]) (Nat.le_of_ble_eq_true rfl) (fun _ => rfl) rfl (fun x5_1 h => ?_)
    refine cf_iconst E dX6_who_102 ic_0 rfl ?_
    refine cf_istore E dX6_who_103 h (fun x6_2 => [(6, .int x6_2), (5, .int x5_1), (0, .ref (mh g)), (1, .int x1), (3, .int x3), (4, .int x4)]) (Nat.le_of_ble_eq_true rfl) (fun _ => rfl) rfl (fun x6_2 h => ?_)
    exact CF.sub [2, 3, 4, 5, 1, 0] rfl (wm_who_105 E hR hq N ih31 ih94 N x1 x3 x4 x5_1 x6_2 σ h)
set_option maxHeartbeats 4000000 in
theorem wm_who_94 {p : Program} {l : Launch} {e : Env} {R : Room} {s : State} {m : MethodId} {args : Array Value} {below : List Frame} {meth : Method} {c : Code} {A : Nat → Prop} {g : MG} {Q : State → Prop} (E : EV p s m args c cX6_who 7 RX6) (hR : 5 ≤ R.frames ∧ 124 ≤ R.locals) {res : Int32 × MS} (hq : RTi p l e R s m args below meth c cX6_who 7 A g .int Q res) (N : Nat) {rec31 : Int32 → MS → Option (Int32 × MS)} (ih31 : ∀ (x1 : Int32) (σ : MS), rec31 x1 σ = some res → CF p l e R s m args below meth c 7 0 0 (MB g A s σ) Q 31 [(0, .ref (mh g)), (1, .int x1)] []) : ∀ (k : Nat) (x1 : Int32) (x3 : Int32) (x4 : Int32) (σ : MS), m_who_94 N rec31 k x1 x3 x4 σ = some res → CF p l e R s m args below meth c 7 0 0 (MB g A s σ) Q 94 [(0, .ref (mh g)), (1, .int x1), (3, .int x3), (4, .int x4)] [] := by
  intro k
  induction k with
  | zero => intro x1 x3 x4 σ h; have h : (none : Option (Int32 × MS)) = some res := h; cases h
  | succ k ih => intro x1 x3 x4 σ h; exact wm_who_94b E hR hq N ih31 ih x1 x3 x4 σ h
set_option maxHeartbeats 4000000 in
theorem wm_who_70 {p : Program} {l : Launch} {e : Env} {R : Room} {s : State} {m : MethodId} {args : Array Value} {below : List Frame} {meth : Method} {c : Code} {A : Nat → Prop} {g : MG} {Q : State → Prop} (E : EV p s m args c cX6_who 7 RX6) (hR : 5 ≤ R.frames ∧ 124 ≤ R.locals) {res : Int32 × MS} (hq : RTi p l e R s m args below meth c cX6_who 7 A g .int Q res) (N : Nat) {rec31 : Int32 → MS → Option (Int32 × MS)} (ih31 : ∀ (x1 : Int32) (σ : MS), rec31 x1 σ = some res → CF p l e R s m args below meth c 7 0 0 (MB g A s σ) Q 31 [(0, .ref (mh g)), (1, .int x1)] []) {rec43 : Int32 → Int32 → Int32 → MS → Option (Int32 × MS)} (ih43 : ∀ (x1 : Int32) (x2 : Int32) (x3 : Int32) (σ : MS), rec43 x1 x2 x3 σ = some res → CF p l e R s m args below meth c 7 0 0 (MB g A s σ) Q 43 [(0, .ref (mh g)), (1, .int x1), (2, .int x2), (3, .int x3)] []) (x1 : Int32) (x3 : Int32) (z0 : Int32) (σ : MS) (h : m_who_70 N rec31 rec43 x1 x3 z0 σ = some res) : CF p l e R s m args below meth c 7 0 0 (MB g A s σ) Q 70 [(0, .ref (mh g)), (1, .int x1), (3, .int x3)] [.int z0] := by
  unfold m_who_70 at h
  refine cf_istore_n E dX6_who_70 h (fun x2_1 => [(2, .int x2_1), (0, .ref (mh g)), (1, .int x1), (3, .int x3)]) (Nat.le_of_ble_eq_true rfl) (fun _ => rfl) rfl (fun x2_1 h => ?_)
  refine cf_iinc E dX6_who_71 ic_1 h 3 rfl (fun x3_2 => [(3, .int x3_2), (2, .int x2_1), (0, .ref (mh g)), (1, .int x1)]) (Nat.le_of_ble_eq_true rfl) (fun _ => rfl) rfl (fun x3_2 h => ?_)
  refine cf_goto E dX6_who_74 rfl ?_
  exact CF.sub [2, 3, 1, 0] rfl (ih43 x1 x2_1 x3_2 σ h)
set_option maxHeartbeats 4000000 in
theorem wm_who_65 {p : Program} {l : Launch} {e : Env} {R : Room} {s : State} {m : MethodId} {args : Array Value} {below : List Frame} {meth : Method} {c : Code} {A : Nat → Prop} {g : MG} {Q : State → Prop} (E : EV p s m args c cX6_who 7 RX6) (hR : 5 ≤ R.frames ∧ 124 ≤ R.locals) {res : Int32 × MS} (hq : RTi p l e R s m args below meth c cX6_who 7 A g .int Q res) (N : Nat) {rec31 : Int32 → MS → Option (Int32 × MS)} (ih31 : ∀ (x1 : Int32) (σ : MS), rec31 x1 σ = some res → CF p l e R s m args below meth c 7 0 0 (MB g A s σ) Q 31 [(0, .ref (mh g)), (1, .int x1)] []) {rec43 : Int32 → Int32 → Int32 → MS → Option (Int32 × MS)} (ih43 : ∀ (x1 : Int32) (x2 : Int32) (x3 : Int32) (σ : MS), rec43 x1 x2 x3 σ = some res → CF p l e R s m args below meth c 7 0 0 (MB g A s σ) Q 43 [(0, .ref (mh g)), (1, .int x1), (2, .int x2), (3, .int x3)] []) (x1 : Int32) (x3 : Int32) (σ : MS) (h : m_who_65 N rec31 rec43 x1 x3 σ = some res) : CF p l e R s m args below meth c 7 0 0 (MB g A s σ) Q 65 [(0, .ref (mh g)), (1, .int x1), (3, .int x3)] [] := by
  unfold m_who_65 at h
  refine cf_iconst E dX6_who_65 ic_1 rfl ?_
  refine cf_goto E dX6_who_66 rfl ?_
  exact CF.sub [0, 1, 2] rfl (wm_who_70 E hR hq N ih31 ih43 x1 x3 (1 : Int32) σ h)
set_option maxHeartbeats 4000000 in
theorem wm_who_43b {p : Program} {l : Launch} {e : Env} {R : Room} {s : State} {m : MethodId} {args : Array Value} {below : List Frame} {meth : Method} {c : Code} {A : Nat → Prop} {g : MG} {Q : State → Prop} (E : EV p s m args c cX6_who 7 RX6) (hR : 5 ≤ R.frames ∧ 124 ≤ R.locals) {res : Int32 × MS} (hq : RTi p l e R s m args below meth c cX6_who 7 A g .int Q res) (N : Nat) {rec31 : Int32 → MS → Option (Int32 × MS)} (ih31 : ∀ (x1 : Int32) (σ : MS), rec31 x1 σ = some res → CF p l e R s m args below meth c 7 0 0 (MB g A s σ) Q 31 [(0, .ref (mh g)), (1, .int x1)] []) {rec43 : Int32 → Int32 → Int32 → MS → Option (Int32 × MS)} (ih43 : ∀ (x1 : Int32) (x2 : Int32) (x3 : Int32) (σ : MS), rec43 x1 x2 x3 σ = some res → CF p l e R s m args below meth c 7 0 0 (MB g A s σ) Q 43 [(0, .ref (mh g)), (1, .int x1), (2, .int x2), (3, .int x3)] []) (x1 : Int32) (x2 : Int32) (x3 : Int32) (σ : MS) (h : m_who_43b N rec31 rec43 x1 x2 x3 σ = some res) : CF p l e R s m args below meth c 7 0 0 (MB g A s σ) Q 43 [(0, .ref (mh g)), (1, .int x1), (2, .int x2), (3, .int x3)] [] := by
  unfold m_who_43b at h
  refine cf_iload_n E dX6_who_43 3 rfl rfl ?_
  refine cf_aload_n E dX6_who_44 0 rfl rfl ?_
  refine mget_43 E dX6_who_45 rfl ?_
  refine cf_icmp_ge E dX6_who_48 h rfl rfl (fun h => ?_) (fun h => ?_)
  · refine cf_iload_n E dX6_who_77 2 rfl rfl ?_
    refine cf_if_ne E dX6_who_78 h rfl rfl (fun h => ?_) (fun h => ?_)
    · refine cf_aload_n E dX6_who_84 0 rfl rfl ?_
      refine cf_iload_n E dX6_who_85 1 rfl rfl ?_
      refine mcl_woreOn E (rmle hR rfl rfl) (Nat.le_of_ble_eq_true rfl) dX6_who_86 h rfl (fun v_2 s_1 h => ?_)
      refine cf_istore_n E dX6_who_89 h (fun x3_3 => [(3, .int x3_3), (0, .ref (mh g)), (1, .int x1), (2, .int x2)]) (Nat.le_of_ble_eq_true rfl) (fun _ => rfl) rfl (fun x3_3 h => ?_)
      refine cf_bipush E dX6_who_90 bp_63 rfl ?_
      refine cf_istore E dX6_who_92 h (fun x4_4 => [(4, .int x4_4), (3, .int x3_3), (0, .ref (mh g)), (1, .int x1), (2, .int x2)]) (Nat.le_of_ble_eq_true rfl) (fun _ => rfl) rfl (fun x4_4 h => ?_)
      exact CF.sub [2, 3, 1, 0] rfl (wm_who_94 E hR hq N ih31 N x1 x3_3 x4_4 s_1 h)
    · refine cf_goto E dX6_who_81 rfl ?_
      exact CF.sub [0, 1] rfl (wm_who_179 E hR hq N ih31 x1 σ h)
  · refine cf_iload_n E dX6_who_51 2 rfl rfl ?_
    refine cf_if_ne E dX6_who_52 h rfl rfl (fun h => ?_) (fun h => ?_)
    · exact CF.sub [0, 1, 3] rfl (wm_who_65 E hR hq N ih31 ih43 x1 x3 σ h)
    · refine cf_aload_n E dX6_who_55 0 rfl rfl ?_
      refine mget_44 E dX6_who_56 rfl ?_
      refine cf_iload_n E dX6_who_59 3 rfl rfl ?_
      refine mald_44 E dX6_who_60 h rfl (fun h => ?_)
      refine cf_iload_n E dX6_who_61 1 rfl rfl ?_
      refine cf_icmp_ne E dX6_who_62 h rfl rfl (fun h => ?_) (fun h => ?_)
      · refine cf_iconst E dX6_who_69 ic_0 rfl ?_
        exact CF.sub [0, 1, 3] rfl (wm_who_70 E hR hq N ih31 ih43 x1 x3 (0 : Int32) σ h)
      · exact CF.sub [0, 1, 3] rfl (wm_who_65 E hR hq N ih31 ih43 x1 x3 σ h)
set_option maxHeartbeats 4000000 in
theorem wm_who_43 {p : Program} {l : Launch} {e : Env} {R : Room} {s : State} {m : MethodId} {args : Array Value} {below : List Frame} {meth : Method} {c : Code} {A : Nat → Prop} {g : MG} {Q : State → Prop} (E : EV p s m args c cX6_who 7 RX6) (hR : 5 ≤ R.frames ∧ 124 ≤ R.locals) {res : Int32 × MS} (hq : RTi p l e R s m args below meth c cX6_who 7 A g .int Q res) (N : Nat) {rec31 : Int32 → MS → Option (Int32 × MS)} (ih31 : ∀ (x1 : Int32) (σ : MS), rec31 x1 σ = some res → CF p l e R s m args below meth c 7 0 0 (MB g A s σ) Q 31 [(0, .ref (mh g)), (1, .int x1)] []) : ∀ (k : Nat) (x1 : Int32) (x2 : Int32) (x3 : Int32) (σ : MS), m_who_43 N rec31 k x1 x2 x3 σ = some res → CF p l e R s m args below meth c 7 0 0 (MB g A s σ) Q 43 [(0, .ref (mh g)), (1, .int x1), (2, .int x2), (3, .int x3)] [] := by
  intro k
  induction k with
  | zero => intro x1 x2 x3 σ h; have h : (none : Option (Int32 × MS)) = some res := h; cases h
  | succ k ih => intro x1 x2 x3 σ h; exact wm_who_43b E hR hq N ih31 ih x1 x2 x3 σ h
set_option maxHeartbeats 4000000 in
theorem wm_who_31b {p : Program} {l : Launch} {e : Env} {R : Room} {s : State} {m : MethodId} {args : Array Value} {below : List Frame} {meth : Method} {c : Code} {A : Nat → Prop} {g : MG} {Q : State → Prop} (E : EV p s m args c cX6_who 7 RX6) (hR : 5 ≤ R.frames ∧ 124 ≤ R.locals) {res : Int32 × MS} (hq : RTi p l e R s m args below meth c cX6_who 7 A g .int Q res) (N : Nat)  {rec31 : Int32 → MS → Option (Int32 × MS)} (ih31 : ∀ (x1 : Int32) (σ : MS), rec31 x1 σ = some res → CF p l e R s m args below meth c 7 0 0 (MB g A s σ) Q 31 [(0, .ref (mh g)), (1, .int x1)] []) (x1 : Int32) (σ : MS) (h : m_who_31b N  rec31 x1 σ = some res) : CF p l e R s m args below meth c 7 0 0 (MB g A s σ) Q 31 [(0, .ref (mh g)), (1, .int x1)] [] := by
  unfold m_who_31b at h
  refine cf_iload_n E dX6_who_31 1 rfl rfl ?_
  refine cf_aload_n E dX6_who_32 0 rfl rfl ?_
  refine mget_1 E dX6_who_33 rfl ?_
  refine cf_icmp_ge E dX6_who_36 h rfl rfl (fun h => ?_) (fun h => ?_)
  · refine cf_iconst E dX6_who_185 ic_0 rfl ?_
    refine cf_istore_n E dX6_who_186 h (fun x1_1 => [(1, .int x1_1), (0, .ref (mh g))]) (Nat.le_of_ble_eq_true rfl) (fun _ => rfl) rfl (fun x1_1 h => ?_)
    refine cf_iconst E dX6_who_187 ic_0 rfl ?_
    refine cf_istore_n E dX6_who_188 h (fun x2_2 => [(2, .int x2_2), (1, .int x1_1), (0, .ref (mh g))]) (Nat.le_of_ble_eq_true rfl) (fun _ => rfl) rfl (fun x2_2 h => ?_)
    exact CF.sub [2, 1, 0] rfl (wm_who_189 E hR hq N N x1_1 x2_2 σ h)
  · refine cf_iconst E dX6_who_39 ic_0 rfl ?_
    refine cf_istore_n E dX6_who_40 h (fun x2_3 => [(2, .int x2_3), (0, .ref (mh g)), (1, .int x1)]) (Nat.le_of_ble_eq_true rfl) (fun _ => rfl) rfl (fun x2_3 h => ?_)
    refine cf_iconst E dX6_who_41 ic_0 rfl ?_
    refine cf_istore_n E dX6_who_42 h (fun x3_4 => [(3, .int x3_4), (2, .int x2_3), (0, .ref (mh g)), (1, .int x1)]) (Nat.le_of_ble_eq_true rfl) (fun _ => rfl) rfl (fun x3_4 h => ?_)
    exact CF.sub [2, 3, 1, 0] rfl (wm_who_43 E hR hq N ih31 N x1 x2_3 x3_4 σ h)
set_option maxHeartbeats 4000000 in
theorem wm_who_31 {p : Program} {l : Launch} {e : Env} {R : Room} {s : State} {m : MethodId} {args : Array Value} {below : List Frame} {meth : Method} {c : Code} {A : Nat → Prop} {g : MG} {Q : State → Prop} (E : EV p s m args c cX6_who 7 RX6) (hR : 5 ≤ R.frames ∧ 124 ≤ R.locals) {res : Int32 × MS} (hq : RTi p l e R s m args below meth c cX6_who 7 A g .int Q res) (N : Nat)  : ∀ (k : Nat) (x1 : Int32) (σ : MS), m_who_31 N  k x1 σ = some res → CF p l e R s m args below meth c 7 0 0 (MB g A s σ) Q 31 [(0, .ref (mh g)), (1, .int x1)] [] := by
  intro k
  induction k with
  | zero => intro x1 σ h; have h : (none : Option (Int32 × MS)) = some res := h; cases h
  | succ k ih => intro x1 σ h; exact wm_who_31b E hR hq N  ih x1 σ h
set_option maxHeartbeats 4000000 in
theorem wm_who_22 {p : Program} {l : Launch} {e : Env} {R : Room} {s : State} {m : MethodId} {args : Array Value} {below : List Frame} {meth : Method} {c : Code} {A : Nat → Prop} {g : MG} {Q : State → Prop} (E : EV p s m args c cX6_who 7 RX6) (hR : 5 ≤ R.frames ∧ 124 ≤ R.locals) {res : Int32 × MS} (hq : RTi p l e R s m args below meth c cX6_who 7 A g .int Q res) (N : Nat) {rec2 : Int32 → MS → Option (Int32 × MS)} (ih2 : ∀ (x1 : Int32) (σ : MS), rec2 x1 σ = some res → CF p l e R s m args below meth c 7 0 0 (MB g A s σ) Q 2 [(0, .ref (mh g)), (1, .int x1)] []) (x1 : Int32) (z0 : Int32) (z1 : Int32) (σ : MS) (h : m_who_22 N rec2 x1 z0 z1 σ = some res) : CF p l e R s m args below meth c 7 0 0 (MB g A s σ) Q 22 [(0, .ref (mh g)), (1, .int x1)] [.int z0, .int z1, .ref (ma g 46)] := by
  unfold m_who_22 at h
  refine mast_46 E dX6_who_22 h rfl (fun s_1 h => ?_)
  refine cf_iinc E dX6_who_23 ic_1 h 1 rfl (fun x1_2 => [(1, .int x1_2), (0, .ref (mh g))]) (Nat.le_of_ble_eq_true rfl) (fun _ => rfl) rfl (fun x1_2 h => ?_)
  refine cf_goto E dX6_who_26 rfl ?_
  exact CF.sub [1, 0] rfl (ih2 x1_2 s_1 h)
set_option maxHeartbeats 4000000 in
theorem wm_who_2b {p : Program} {l : Launch} {e : Env} {R : Room} {s : State} {m : MethodId} {args : Array Value} {below : List Frame} {meth : Method} {c : Code} {A : Nat → Prop} {g : MG} {Q : State → Prop} (E : EV p s m args c cX6_who 7 RX6) (hR : 5 ≤ R.frames ∧ 124 ≤ R.locals) {res : Int32 × MS} (hq : RTi p l e R s m args below meth c cX6_who 7 A g .int Q res) (N : Nat)  {rec2 : Int32 → MS → Option (Int32 × MS)} (ih2 : ∀ (x1 : Int32) (σ : MS), rec2 x1 σ = some res → CF p l e R s m args below meth c 7 0 0 (MB g A s σ) Q 2 [(0, .ref (mh g)), (1, .int x1)] []) (x1 : Int32) (σ : MS) (h : m_who_2b N  rec2 x1 σ = some res) : CF p l e R s m args below meth c 7 0 0 (MB g A s σ) Q 2 [(0, .ref (mh g)), (1, .int x1)] [] := by
  unfold m_who_2b at h
  refine cf_iload_n E dX6_who_2 1 rfl rfl ?_
  refine cf_bipush E dX6_who_3 bp_64 rfl ?_
  refine cf_icmp_ge E dX6_who_5 h rfl rfl (fun h => ?_) (fun h => ?_)
  · refine cf_iconst E dX6_who_29 ic_0 rfl ?_
    refine cf_istore_n E dX6_who_30 h (fun x1_1 => [(1, .int x1_1), (0, .ref (mh g))]) (Nat.le_of_ble_eq_true rfl) (fun _ => rfl) rfl (fun x1_1 h => ?_)
    exact CF.sub [1, 0] rfl (wm_who_31 E hR hq N N x1_1 σ h)
  · refine cf_aload_n E dX6_who_8 0 rfl rfl ?_
    refine mget_46 E dX6_who_9 rfl ?_
    refine cf_iload_n E dX6_who_12 1 rfl rfl ?_
    refine cf_iload_n E dX6_who_13 1 rfl rfl ?_
    refine cf_if_ne E dX6_who_14 h rfl rfl (fun h => ?_) (fun h => ?_)
    · refine cf_iconst E dX6_who_21 ic_0 rfl ?_
      exact CF.sub [0, 1] rfl (wm_who_22 E hR hq N ih2 x1 (0 : Int32) x1 σ h)
    · refine cf_iconst E dX6_who_17 ic_1 rfl ?_
      refine cf_goto E dX6_who_18 rfl ?_
      exact CF.sub [0, 1] rfl (wm_who_22 E hR hq N ih2 x1 (1 : Int32) x1 σ h)
set_option maxHeartbeats 4000000 in
theorem wm_who_2 {p : Program} {l : Launch} {e : Env} {R : Room} {s : State} {m : MethodId} {args : Array Value} {below : List Frame} {meth : Method} {c : Code} {A : Nat → Prop} {g : MG} {Q : State → Prop} (E : EV p s m args c cX6_who 7 RX6) (hR : 5 ≤ R.frames ∧ 124 ≤ R.locals) {res : Int32 × MS} (hq : RTi p l e R s m args below meth c cX6_who 7 A g .int Q res) (N : Nat)  : ∀ (k : Nat) (x1 : Int32) (σ : MS), m_who_2 N  k x1 σ = some res → CF p l e R s m args below meth c 7 0 0 (MB g A s σ) Q 2 [(0, .ref (mh g)), (1, .int x1)] [] := by
  intro k
  induction k with
  | zero => intro x1 σ h; have h : (none : Option (Int32 × MS)) = some res := h; cases h
  | succ k ih => intro x1 σ h; exact wm_who_2b E hR hq N  ih x1 σ h
set_option maxHeartbeats 4000000 in
theorem met_who (l : Launch) (g : MG) (N : Nat)  (σ : MS) {v : Int32} {σ1 : MS} (h : m_who N  σ = some (v, σ1)) : MetMi l g yX6_who (ws_ yX6_who cX6_who 7 (some .int)) { frames := 5, cells := 0, slots := 0, locals := 124 } [] σ v σ1 := by
  refine met_mi (lv0 := [(0, .ref (mh g))]) (by decide) rfl ⟨rfl, rfl⟩ (Nat.le_of_ble_eq_true rfl) rfl ?_
  intro p e s m below meth c A Q E hq
  have hR : 5 ≤ ({ frames := 5, cells := 0, slots := 0, locals := 124 } : Room).frames ∧ 124 ≤ ({ frames := 5, cells := 0, slots := 0, locals := 124 } : Room).locals := ⟨Nat.le_refl _, Nat.le_refl _⟩
  unfold m_who at h
  refine cf_iconst E dX6_who_0 ic_0 rfl ?_
  refine cf_istore_n E dX6_who_1 h (fun x1_1 => [(1, .int x1_1), (0, .ref (mh g))]) (Nat.le_of_ble_eq_true rfl) (fun _ => rfl) rfl (fun x1_1 h => ?_)
  exact CF.sub [1, 0] rfl (wm_who_2 E hR hq N N x1_1 σ h)

set_option maxHeartbeats 4000000 in
theorem wm_divisor_5b {p : Program} {l : Launch} {e : Env} {R : Room} {s : State} {m : MethodId} {args : Array Value} {below : List Frame} {meth : Method} {c : Code} {A : Nat → Prop} {g : MG} {Q : State → Prop} (E : EV p s m args c cX6_divisor 6 RX6) (hR : 0 ≤ R.frames ∧ 0 ≤ R.locals) {res : Int32 × MS} (hq : RTi p l e R s m args below meth c cX6_divisor 6 A g .int Q res) (N : Nat)  {rec5 : Int32 → Int32 → MS → Option (Int32 × MS)} (ih5 : ∀ (x3 : Int32) (x4 : Int32) (σ : MS), rec5 x3 x4 σ = some res → CF p l e R s m args below meth c 6 0 0 (MB g A s σ) Q 5 [(3, .int x3), (4, .int x4)] []) (x3 : Int32) (x4 : Int32) (σ : MS) (h : m_divisor_5b N  rec5 x3 x4 σ = some res) : CF p l e R s m args below meth c 6 0 0 (MB g A s σ) Q 5 [(3, .int x3), (4, .int x4)] [] := by
  unfold m_divisor_5b at h
  refine cf_iload E dX6_divisor_5 1 rfl rfl ?_
  refine cf_if_eq E dX6_divisor_7 h rfl rfl (fun h => ?_) (fun h => ?_)
  · refine cf_iload_n E dX6_divisor_26 0 rfl rfl ?_
    exact mret_i dX6_divisor_27 h rfl hq
  · refine cf_iload_n E dX6_divisor_10 0 rfl rfl ?_
    refine cf_iload E dX6_divisor_11 1 rfl rfl ?_
    refine cf_irem E dX6_divisor_13 h rfl (fun h => ?_)
    refine cf_istore E dX6_divisor_14 h (fun x5_1 => [(5, .int x5_1), (3, .int x3), (4, .int x4)]) (Nat.le_of_ble_eq_true rfl) (fun _ => rfl) rfl (fun x5_1 h => ?_)
    refine cf_iload E dX6_divisor_16 2 rfl rfl ?_
    refine cf_istore_n E dX6_divisor_18 h (fun x3_2 => [(3, .int x3_2), (5, .int x5_1), (4, .int x4)]) (Nat.le_of_ble_eq_true rfl) (fun _ => rfl) rfl (fun x3_2 h => ?_)
    refine cf_iload E dX6_divisor_19 1 rfl rfl ?_
    refine cf_istore E dX6_divisor_21 h (fun x4_3 => [(4, .int x4_3), (3, .int x3_2), (5, .int x5_1)]) (Nat.le_of_ble_eq_true rfl) (fun _ => rfl) rfl (fun x4_3 h => ?_)
    refine cf_goto E dX6_divisor_23 rfl ?_
    exact CF.sub [1, 0] rfl (ih5 x3_2 x4_3 σ h)
set_option maxHeartbeats 4000000 in
theorem wm_divisor_5 {p : Program} {l : Launch} {e : Env} {R : Room} {s : State} {m : MethodId} {args : Array Value} {below : List Frame} {meth : Method} {c : Code} {A : Nat → Prop} {g : MG} {Q : State → Prop} (E : EV p s m args c cX6_divisor 6 RX6) (hR : 0 ≤ R.frames ∧ 0 ≤ R.locals) {res : Int32 × MS} (hq : RTi p l e R s m args below meth c cX6_divisor 6 A g .int Q res) (N : Nat)  : ∀ (k : Nat) (x3 : Int32) (x4 : Int32) (σ : MS), m_divisor_5 N  k x3 x4 σ = some res → CF p l e R s m args below meth c 6 0 0 (MB g A s σ) Q 5 [(3, .int x3), (4, .int x4)] [] := by
  intro k
  induction k with
  | zero => intro x3 x4 σ h; have h : (none : Option (Int32 × MS)) = some res := h; cases h
  | succ k ih => intro x3 x4 σ h; exact wm_divisor_5b E hR hq N  ih x3 x4 σ h
set_option maxHeartbeats 4000000 in
theorem met_divisor (l : Launch) (g : MG) (N : Nat) (x1 : Int32) (x2 : Int32) (σ : MS) {v : Int32} {σ1 : MS} (h : m_divisor N x1 x2 σ = some (v, σ1)) : MetMi l g yX6_divisor (ws_ yX6_divisor cX6_divisor 6 (some .int)) { frames := 0, cells := 0, slots := 0, locals := 0 } [.int x1, .int x2] σ v σ1 := by
  refine met_mi (lv0 := [(0, .ref (mh g)), (1, .int x1), (2, .int x2)]) (by decide) rfl ⟨rfl, rfl⟩ (Nat.le_of_ble_eq_true rfl) rfl ?_
  intro p e s m below meth c A Q E hq
  have hR : 0 ≤ ({ frames := 0, cells := 0, slots := 0, locals := 0 } : Room).frames ∧ 0 ≤ ({ frames := 0, cells := 0, slots := 0, locals := 0 } : Room).locals := ⟨Nat.le_refl _, Nat.le_refl _⟩
  unfold m_divisor at h
  refine cf_iload_n E dX6_divisor_0 1 rfl rfl ?_
  refine cf_istore_n E dX6_divisor_1 h (fun x3_1 => [(3, .int x3_1), (0, .ref (mh g)), (1, .int x1), (2, .int x2)]) (Nat.le_of_ble_eq_true rfl) (fun _ => rfl) rfl (fun x3_1 h => ?_)
  refine cf_iload_n E dX6_divisor_2 3 rfl rfl ?_
  refine cf_istore E dX6_divisor_3 h (fun x4_2 => [(4, .int x4_2), (3, .int x3_1), (0, .ref (mh g)), (1, .int x1), (2, .int x2)]) (Nat.le_of_ble_eq_true rfl) (fun _ => rfl) rfl (fun x4_2 h => ?_)
  exact CF.sub [1, 0] rfl (wm_divisor_5 E hR hq N N x3_1 x4_2 σ h)
theorem gw_divisor : GoodIn lw_all (wsV RX6 401 RX6 yX6_divisor (ws_ yX6_divisor cX6_divisor 6 (some .int))) := lw_V q2055 q2057 qs84 q105 q2058
theorem hd_divisor : yX6_divisor.cls = RX6 ∧ yX6_divisor.cls ≠ "java/lang/invoke/MethodHandle" ∧ yX6_divisor.cls ≠ "java/lang/invoke/VarHandle" ∧ (parseMethodDescriptor yX6_divisor.desc).map (fun d => d.parameters.length) = some 2 := by decide +kernel
theorem mcl_divisor {p : Program} {l : Launch} {e : Env} {R : Room} {s : State} {m : MethodId} {args : Array Value} {below : List Frame} {meth : Method} {c : Code} {nL : Nat} {A : Nat → Prop} {g : MG} {σ : MS} {Q : State → Prop} {pc n : Nat} {lv : List (Nat × Value)} {st : List Value} {cc : ByteArray} {ρ : Type} {res : ρ} (E : EV p s m args c cc nL RX6) {N : Nat} {x1 : Int32} {x2 : Int32} {kk : Int32 → MS → Option ρ} (hR : 1 ≤ R.frames ∧ 25 ≤ R.locals) (hcat : (st.map fun v => v.category).sum ≤ 8) (d : decode cc pc = .ok (.invokevirtual 401, 3)) (h : bnd (m_divisor N x1 x2 σ) kk = some res) (hn : pc + 3 = n) (k : ∀ (v : Int32) (σ1 : MS), kk v σ1 = some res → CF p l e R s m args below meth c nL 0 0 (MB g A s σ1) Q n lv (.int v :: st)) : CF p l e R s m args below meth c nL 0 0 (MB g A s σ) Q pc lv (.int x2 :: .int x1 :: .ref (mh g) :: st) :=
  mcall_i E [.int x1, .int x2] (fun v σ1 ho => met_divisor l g N x1 x2 σ ho) gw_divisor hd_divisor rfl rfl hR rfl rfl hcat d h hn k
set_option maxHeartbeats 4000000 in
theorem met_lowest (l : Launch) (g : MG) (N : Nat) (x1 : Int32) (x2 : Int32) (x3 : Int32) (σ : MS) {v : Int64} {σ1 : MS} (h : m_lowest N x1 x2 x3 σ = some (v, σ1)) : MetMl l g yX6_lowest (ws_ yX6_lowest cX6_lowest 5 (some .long)) { frames := 1, cells := 0, slots := 0, locals := 25 } [.int x1, .int x2, .int x3] σ v σ1 := by
  refine met_ml (lv0 := [(0, .ref (mh g)), (1, .int x1), (2, .int x2), (3, .int x3)]) (by decide) rfl ⟨rfl, rfl⟩ (Nat.le_of_ble_eq_true rfl) rfl ?_
  intro p e s m below meth c A Q E hq
  have hR : 1 ≤ ({ frames := 1, cells := 0, slots := 0, locals := 25 } : Room).frames ∧ 25 ≤ ({ frames := 1, cells := 0, slots := 0, locals := 25 } : Room).locals := ⟨Nat.le_refl _, Nat.le_refl _⟩
  unfold m_lowest at h
  refine cf_aload_n E dX6_lowest_0 0 rfl rfl ?_
  refine cf_iload_n E dX6_lowest_1 1 rfl rfl ?_
  refine cf_iload_n E dX6_lowest_2 2 rfl rfl ?_
  refine mcl_divisor E (rmle hR rfl rfl) (Nat.le_of_ble_eq_true rfl) dX6_lowest_3 h rfl (fun v_2 s_1 h => ?_)
  refine cf_istore E dX6_lowest_6 h (fun x4_3 => [(4, .int x4_3), (0, .ref (mh g)), (1, .int x1), (2, .int x2), (3, .int x3)]) (Nat.le_of_ble_eq_true rfl) (fun _ => rfl) rfl (fun x4_3 h => ?_)
  refine cf_iload_n E dX6_lowest_8 4 rfl rfl ?_
  refine cf_if_ne E dX6_lowest_9 h rfl rfl (fun h => ?_) (fun h => ?_)
  · refine cf_iload_n E dX6_lowest_20 3 rfl rfl ?_
    refine cf_iload E dX6_lowest_21 0 rfl rfl ?_
    refine cf_idiv E dX6_lowest_23 h rfl (fun h => ?_)
    refine cf_i2l E dX6_lowest_24 rfl ?_
    exact mret_l dX6_lowest_25 h hq
  · refine cf_iload_n E dX6_lowest_12 2 rfl rfl ?_
    refine cf_iload E dX6_lowest_13 0 rfl rfl ?_
    refine cf_idiv E dX6_lowest_15 h rfl (fun h => ?_)
    refine cf_i2l E dX6_lowest_16 rfl ?_
    refine cf_goto E dX6_lowest_17 rfl ?_
    exact mret_l dX6_lowest_25 h hq
theorem gw_lowest : GoodIn lw_all (wsV RX6 406 RX6 yX6_lowest (ws_ yX6_lowest cX6_lowest 5 (some .long))) := lw_V q2051 q2053 qs83 q105 q2054
theorem hd_lowest : yX6_lowest.cls = RX6 ∧ yX6_lowest.cls ≠ "java/lang/invoke/MethodHandle" ∧ yX6_lowest.cls ≠ "java/lang/invoke/VarHandle" ∧ (parseMethodDescriptor yX6_lowest.desc).map (fun d => d.parameters.length) = some 3 := by decide +kernel
theorem mcl_lowest {p : Program} {l : Launch} {e : Env} {R : Room} {s : State} {m : MethodId} {args : Array Value} {below : List Frame} {meth : Method} {c : Code} {nL : Nat} {A : Nat → Prop} {g : MG} {σ : MS} {Q : State → Prop} {pc n : Nat} {lv : List (Nat × Value)} {st : List Value} {cc : ByteArray} {ρ : Type} {res : ρ} (E : EV p s m args c cc nL RX6) {N : Nat} {x1 : Int32} {x2 : Int32} {x3 : Int32} {kk : Int64 → MS → Option ρ} (hR : 2 ≤ R.frames ∧ 49 ≤ R.locals) (hcat : (st.map fun v => v.category).sum ≤ 8) (d : decode cc pc = .ok (.invokevirtual 406, 3)) (h : bnd (m_lowest N x1 x2 x3 σ) kk = some res) (hn : pc + 3 = n) (k : ∀ (v : Int64) (σ1 : MS), kk v σ1 = some res → CF p l e R s m args below meth c nL 0 0 (MB g A s σ1) Q n lv (.long v :: st)) : CF p l e R s m args below meth c nL 0 0 (MB g A s σ) Q pc lv (.int x3 :: .int x2 :: .int x1 :: .ref (mh g) :: st) :=
  mcall_l E [.int x1, .int x2, .int x3] (fun v σ1 ho => met_lowest l g N x1 x2 x3 σ ho) gw_lowest hd_lowest rfl rfl hR rfl rfl hcat d h hn k
set_option maxHeartbeats 4000000 in
theorem wm_odds_74 {p : Program} {l : Launch} {e : Env} {R : Room} {s : State} {m : MethodId} {args : Array Value} {below : List Frame} {meth : Method} {c : Code} {A : Nat → Prop} {g : MG} {Q : State → Prop} (E : EV p s m args c cX6_odds 6 RX6) (hR : 5 ≤ R.frames ∧ 121 ≤ R.locals) {res : Int64 × MS} (hq : RTl p l e R s m args below meth c cX6_odds 6 A g Q res) (N : Nat) {rec34 : Int32 → Int32 → Int32 → Int32 → MS → Option (Int64 × MS)} (ih34 : ∀ (x1 : Int32) (x2 : Int32) (x3 : Int32) (x4 : Int32) (σ : MS), rec34 x1 x2 x3 x4 σ = some res → CF p l e R s m args below meth c 6 0 0 (MB g A s σ) Q 34 [(0, .ref (mh g)), (1, .int x1), (2, .int x2), (3, .int x3), (4, .int x4)] []) (x1 : Int32) (x2 : Int32) (x4 : Int32) (z0 : Int32) (z1 : Int32) (σ : MS) (h : m_odds_74 N rec34 x1 x2 x4 z0 z1 σ = some res) : CF p l e R s m args below meth c 6 0 0 (MB g A s σ) Q 74 [(0, .ref (mh g)), (1, .int x1), (2, .int x2), (4, .int x4)] [.int z0, .int z1] := by
  unfold m_odds_74 at h
  refine cf_iadd E dX6_odds_74 rfl ?_
  refine cf_istore_n E dX6_odds_75 h (fun x3_1 => [(3, .int x3_1), (0, .ref (mh g)), (1, .int x1), (2, .int x2), (4, .int x4)]) (Nat.le_of_ble_eq_true rfl) (fun _ => rfl) rfl (fun x3_1 h => ?_)
  refine cf_aload_n E dX6_odds_76 1 rfl rfl ?_
  refine mcl_putBack E (rmle hR rfl rfl) (Nat.le_of_ble_eq_true rfl) dX6_odds_77 h rfl (fun s_2 h => ?_)
  refine cf_iinc E dX6_odds_80 ic_1 h 4 rfl (fun x4_3 => [(4, .int x4_3), (3, .int x3_1), (0, .ref (mh g)), (1, .int x1), (2, .int x2)]) (Nat.le_of_ble_eq_true rfl) (fun _ => rfl) rfl (fun x4_3 h => ?_)
  refine cf_goto E dX6_odds_83 rfl ?_
  exact CF.sub [2, 3, 4, 1, 0] rfl (ih34 x1 x2 x3_1 x4_3 s_2 h)
set_option maxHeartbeats 4000000 in
theorem wm_odds_34b {p : Program} {l : Launch} {e : Env} {R : Room} {s : State} {m : MethodId} {args : Array Value} {below : List Frame} {meth : Method} {c : Code} {A : Nat → Prop} {g : MG} {Q : State → Prop} (E : EV p s m args c cX6_odds 6 RX6) (hR : 5 ≤ R.frames ∧ 121 ≤ R.locals) {res : Int64 × MS} (hq : RTl p l e R s m args below meth c cX6_odds 6 A g Q res) (N : Nat)  {rec34 : Int32 → Int32 → Int32 → Int32 → MS → Option (Int64 × MS)} (ih34 : ∀ (x1 : Int32) (x2 : Int32) (x3 : Int32) (x4 : Int32) (σ : MS), rec34 x1 x2 x3 x4 σ = some res → CF p l e R s m args below meth c 6 0 0 (MB g A s σ) Q 34 [(0, .ref (mh g)), (1, .int x1), (2, .int x2), (3, .int x3), (4, .int x4)] []) (x1 : Int32) (x2 : Int32) (x3 : Int32) (x4 : Int32) (σ : MS) (h : m_odds_34b N  rec34 x1 x2 x3 x4 σ = some res) : CF p l e R s m args below meth c 6 0 0 (MB g A s σ) Q 34 [(0, .ref (mh g)), (1, .int x1), (2, .int x2), (3, .int x3), (4, .int x4)] [] := by
  unfold m_odds_34b at h
  refine cf_iload E dX6_odds_34 4 rfl rfl ?_
  refine cf_aload_n E dX6_odds_36 0 rfl rfl ?_
  refine mget_0 E dX6_odds_37 rfl ?_
  refine cf_icmp_ge E dX6_odds_40 h rfl rfl (fun h => ?_) (fun h => ?_)
  · refine cf_aload_n E dX6_odds_86 0 rfl rfl ?_
    refine cf_iload_n E dX6_odds_87 3 rfl rfl ?_
    refine cf_aload_n E dX6_odds_88 0 rfl rfl ?_
    refine mget_0 E dX6_odds_89 rfl ?_
    refine cf_iload_n E dX6_odds_92 2 rfl rfl ?_
    refine mcl_lowest E (rmle hR rfl rfl) (Nat.le_of_ble_eq_true rfl) dX6_odds_93 h rfl (fun v_2 s_1 h => ?_)
    exact mret_l dX6_odds_96 h hq
  · refine cf_aload_n E dX6_odds_43 0 rfl rfl ?_
    refine mcl_save E (rmle hR rfl rfl) (Nat.le_of_ble_eq_true rfl) dX6_odds_44 h rfl (fun s_3 h => ?_)
    refine cf_aload_n E dX6_odds_47 0 rfl rfl ?_
    refine cf_iload E dX6_odds_48 4 rfl rfl ?_
    refine mcl_goGust E (rmle hR rfl rfl) (Nat.le_of_ble_eq_true rfl) dX6_odds_50 h rfl (fun v_5 s_4 h => ?_)
    refine cf_istore E dX6_odds_53 h (fun x5_6 => [(5, .int x5_6), (0, .ref (mh g)), (1, .int x1), (2, .int x2), (3, .int x3), (4, .int x4)]) (Nat.le_of_ble_eq_true rfl) (fun _ => rfl) rfl (fun x5_6 h => ?_)
    refine cf_iload_n E dX6_odds_55 4 rfl rfl ?_
    refine cf_aload_n E dX6_odds_56 1 rfl rfl ?_
    refine cf_iload_n E dX6_odds_57 2 rfl rfl ?_
    refine mcl_todayOf E (rmle hR rfl rfl) (Nat.le_of_ble_eq_true rfl) dX6_odds_58 h rfl (fun v_8 s_7 h => ?_)
    refine cf_aload_n E dX6_odds_61 1 rfl rfl ?_
    refine cf_iload_n E dX6_odds_62 2 rfl rfl ?_
    refine mcl_work E (rmle hR rfl rfl) (Nat.le_of_ble_eq_true rfl) dX6_odds_63 h rfl (fun v_10 s_9 h => ?_)
    refine cf_icmp_lt E dX6_odds_66 h rfl rfl (fun h => ?_) (fun h => ?_)
    · refine cf_iconst E dX6_odds_73 ic_0 rfl ?_
      exact CF.sub [1, 2, 3, 5] rfl (wm_odds_74 E hR hq N ih34 x1 x2 x4 (0 : Int32) x3 s_9 h)
    · refine cf_iconst E dX6_odds_69 ic_1 rfl ?_
      refine cf_goto E dX6_odds_70 rfl ?_
      exact CF.sub [1, 2, 3, 5] rfl (wm_odds_74 E hR hq N ih34 x1 x2 x4 (1 : Int32) x3 s_9 h)
set_option maxHeartbeats 4000000 in
theorem wm_odds_34 {p : Program} {l : Launch} {e : Env} {R : Room} {s : State} {m : MethodId} {args : Array Value} {below : List Frame} {meth : Method} {c : Code} {A : Nat → Prop} {g : MG} {Q : State → Prop} (E : EV p s m args c cX6_odds 6 RX6) (hR : 5 ≤ R.frames ∧ 121 ≤ R.locals) {res : Int64 × MS} (hq : RTl p l e R s m args below meth c cX6_odds 6 A g Q res) (N : Nat)  : ∀ (k : Nat) (x1 : Int32) (x2 : Int32) (x3 : Int32) (x4 : Int32) (σ : MS), m_odds_34 N  k x1 x2 x3 x4 σ = some res → CF p l e R s m args below meth c 6 0 0 (MB g A s σ) Q 34 [(0, .ref (mh g)), (1, .int x1), (2, .int x2), (3, .int x3), (4, .int x4)] [] := by
  intro k
  induction k with
  | zero => intro x1 x2 x3 x4 σ h; have h : (none : Option (Int64 × MS)) = some res := h; cases h
  | succ k ih => intro x1 x2 x3 x4 σ h; exact wm_odds_34b E hR hq N  ih x1 x2 x3 x4 σ h
set_option maxHeartbeats 4000000 in
theorem met_odds (l : Launch) (g : MG) (N : Nat) (x1 : Int32) (x2 : Int32) (σ : MS) {v : Int64} {σ1 : MS} (h : m_odds N x1 x2 σ = some (v, σ1)) : MetMl l g yX6_odds (ws_ yX6_odds cX6_odds 6 (some .long)) { frames := 5, cells := 0, slots := 0, locals := 121 } [.int x1, .int x2] σ v σ1 := by
  refine met_ml (lv0 := [(0, .ref (mh g)), (1, .int x1), (2, .int x2)]) (by decide) rfl ⟨rfl, rfl⟩ (Nat.le_of_ble_eq_true rfl) rfl ?_
  intro p e s m below meth c A Q E hq
  have hR : 5 ≤ ({ frames := 5, cells := 0, slots := 0, locals := 121 } : Room).frames ∧ 121 ≤ ({ frames := 5, cells := 0, slots := 0, locals := 121 } : Room).locals := ⟨Nat.le_refl _, Nat.le_refl _⟩
  unfold m_odds at h
  refine cf_aload_n E dX6_odds_0 0 rfl rfl ?_
  refine cf_iload_n E dX6_odds_1 1 rfl rfl ?_
  refine mcl_isTrade E (rmle hR rfl rfl) (Nat.le_of_ble_eq_true rfl) dX6_odds_2 h rfl (fun v_2 s_1 h => ?_)
  refine cf_if_eq E dX6_odds_5 h rfl rfl (fun h => ?_) (fun h => ?_)
  · refine cf_ldc2 E dX6_odds_25 q2050 rfl ?_
    exact mret_l dX6_odds_28 h hq
  · refine cf_aload_n E dX6_odds_8 0 rfl rfl ?_
    refine cf_iload_n E dX6_odds_9 2 rfl rfl ?_
    refine cf_iconst E dX6_odds_10 ic_0 rfl ?_
    refine cf_iconst E dX6_odds_11 ic_1 rfl ?_
    refine mcl_in E (rmle hR rfl rfl) (Nat.le_of_ble_eq_true rfl) dX6_odds_12 h rfl (fun v_4 s_3 h => ?_)
    refine cf_if_eq E dX6_odds_15 h rfl rfl (fun h => ?_) (fun h => ?_)
    · refine cf_ldc2 E dX6_odds_25 q2050 rfl ?_
      exact mret_l dX6_odds_28 h hq
    · refine cf_aload_n E dX6_odds_18 0 rfl rfl ?_
      refine mget_0 E dX6_odds_19 rfl ?_
      refine cf_if_ne E dX6_odds_22 h rfl rfl (fun h => ?_) (fun h => ?_)
      · refine cf_iconst E dX6_odds_29 ic_0 rfl ?_
        refine cf_istore_n E dX6_odds_30 h (fun x3_5 => [(3, .int x3_5), (0, .ref (mh g)), (1, .int x1), (2, .int x2)]) (Nat.le_of_ble_eq_true rfl) (fun _ => rfl) rfl (fun x3_5 h => ?_)
        refine cf_iconst E dX6_odds_31 ic_0 rfl ?_
        refine cf_istore E dX6_odds_32 h (fun x4_6 => [(4, .int x4_6), (3, .int x3_5), (0, .ref (mh g)), (1, .int x1), (2, .int x2)]) (Nat.le_of_ble_eq_true rfl) (fun _ => rfl) rfl (fun x4_6 h => ?_)
        exact CF.sub [2, 3, 4, 1, 0] rfl (wm_odds_34 E hR hq N N x1 x2 x3_5 x4_6 s_3 h)
      · refine cf_ldc2 E dX6_odds_25 q2050 rfl ?_
        exact mret_l dX6_odds_28 h hq

set_option maxHeartbeats 4000000 in
theorem wm_mean_34b {p : Program} {l : Launch} {e : Env} {R : Room} {s : State} {m : MethodId} {args : Array Value} {below : List Frame} {meth : Method} {c : Code} {A : Nat → Prop} {g : MG} {Q : State → Prop} (E : EV p s m args c cX6_mean 5 RX6) (hR : 4 ≤ R.frames ∧ 98 ≤ R.locals) {res : Int64 × MS} (hq : RTl p l e R s m args below meth c cX6_mean 5 A g Q res) (N : Nat)  {rec34 : Int32 → Int32 → Int32 → Int32 → MS → Option (Int64 × MS)} (ih34 : ∀ (x1 : Int32) (x2 : Int32) (x3 : Int32) (x4 : Int32) (σ : MS), rec34 x1 x2 x3 x4 σ = some res → CF p l e R s m args below meth c 5 0 0 (MB g A s σ) Q 34 [(0, .ref (mh g)), (1, .int x1), (2, .int x2), (3, .int x3), (4, .int x4)] []) (x1 : Int32) (x2 : Int32) (x3 : Int32) (x4 : Int32) (σ : MS) (h : m_mean_34b N  rec34 x1 x2 x3 x4 σ = some res) : CF p l e R s m args below meth c 5 0 0 (MB g A s σ) Q 34 [(0, .ref (mh g)), (1, .int x1), (2, .int x2), (3, .int x3), (4, .int x4)] [] := by
  unfold m_mean_34b at h
  refine cf_iload E dX6_mean_34 4 rfl rfl ?_
  refine cf_aload_n E dX6_mean_36 0 rfl rfl ?_
  refine mget_0 E dX6_mean_37 rfl ?_
  refine cf_icmp_ge E dX6_mean_40 h rfl rfl (fun h => ?_) (fun h => ?_)
  · refine cf_aload_n E dX6_mean_59 0 rfl rfl ?_
    refine cf_iload_n E dX6_mean_60 3 rfl rfl ?_
    refine cf_aload_n E dX6_mean_61 0 rfl rfl ?_
    refine mget_0 E dX6_mean_62 rfl ?_
    refine cf_iload_n E dX6_mean_65 2 rfl rfl ?_
    refine mcl_lowest E (rmle hR rfl rfl) (Nat.le_of_ble_eq_true rfl) dX6_mean_66 h rfl (fun v_2 s_1 h => ?_)
    exact mret_l dX6_mean_69 h hq
  · refine cf_iload_n E dX6_mean_43 3 rfl rfl ?_
    refine cf_aload_n E dX6_mean_44 0 rfl rfl ?_
    refine cf_iload_n E dX6_mean_45 1 rfl rfl ?_
    refine cf_iload E dX6_mean_46 4 rfl rfl ?_
    refine mcl_deed E (rmle hR rfl rfl) (Nat.le_of_ble_eq_true rfl) dX6_mean_48 h rfl (fun v_4 s_3 h => ?_)
    refine cf_iadd E dX6_mean_51 rfl ?_
    refine cf_istore_n E dX6_mean_52 h (fun x3_5 => [(3, .int x3_5), (0, .ref (mh g)), (1, .int x1), (2, .int x2), (4, .int x4)]) (Nat.le_of_ble_eq_true rfl) (fun _ => rfl) rfl (fun x3_5 h => ?_)
    refine cf_iinc E dX6_mean_53 ic_1 h 4 rfl (fun x4_6 => [(4, .int x4_6), (3, .int x3_5), (0, .ref (mh g)), (1, .int x1), (2, .int x2)]) (Nat.le_of_ble_eq_true rfl) (fun _ => rfl) rfl (fun x4_6 h => ?_)
    refine cf_goto E dX6_mean_56 rfl ?_
    exact CF.sub [2, 3, 4, 1, 0] rfl (ih34 x1 x2 x3_5 x4_6 s_3 h)
set_option maxHeartbeats 4000000 in
theorem wm_mean_34 {p : Program} {l : Launch} {e : Env} {R : Room} {s : State} {m : MethodId} {args : Array Value} {below : List Frame} {meth : Method} {c : Code} {A : Nat → Prop} {g : MG} {Q : State → Prop} (E : EV p s m args c cX6_mean 5 RX6) (hR : 4 ≤ R.frames ∧ 98 ≤ R.locals) {res : Int64 × MS} (hq : RTl p l e R s m args below meth c cX6_mean 5 A g Q res) (N : Nat)  : ∀ (k : Nat) (x1 : Int32) (x2 : Int32) (x3 : Int32) (x4 : Int32) (σ : MS), m_mean_34 N  k x1 x2 x3 x4 σ = some res → CF p l e R s m args below meth c 5 0 0 (MB g A s σ) Q 34 [(0, .ref (mh g)), (1, .int x1), (2, .int x2), (3, .int x3), (4, .int x4)] [] := by
  intro k
  induction k with
  | zero => intro x1 x2 x3 x4 σ h; have h : (none : Option (Int64 × MS)) = some res := h; cases h
  | succ k ih => intro x1 x2 x3 x4 σ h; exact wm_mean_34b E hR hq N  ih x1 x2 x3 x4 σ h
set_option maxHeartbeats 4000000 in
theorem met_mean (l : Launch) (g : MG) (N : Nat) (x1 : Int32) (x2 : Int32) (σ : MS) {v : Int64} {σ1 : MS} (h : m_mean N x1 x2 σ = some (v, σ1)) : MetMl l g yX6_mean (ws_ yX6_mean cX6_mean 5 (some .long)) { frames := 4, cells := 0, slots := 0, locals := 98 } [.int x1, .int x2] σ v σ1 := by
  refine met_ml (lv0 := [(0, .ref (mh g)), (1, .int x1), (2, .int x2)]) (by decide) rfl ⟨rfl, rfl⟩ (Nat.le_of_ble_eq_true rfl) rfl ?_
  intro p e s m below meth c A Q E hq
  have hR : 4 ≤ ({ frames := 4, cells := 0, slots := 0, locals := 98 } : Room).frames ∧ 98 ≤ ({ frames := 4, cells := 0, slots := 0, locals := 98 } : Room).locals := ⟨Nat.le_refl _, Nat.le_refl _⟩
  unfold m_mean at h
  refine cf_aload_n E dX6_mean_0 0 rfl rfl ?_
  refine cf_iload_n E dX6_mean_1 1 rfl rfl ?_
  refine mcl_isHat E (rmle hR rfl rfl) (Nat.le_of_ble_eq_true rfl) dX6_mean_2 h rfl (fun v_2 s_1 h => ?_)
  refine cf_if_eq E dX6_mean_5 h rfl rfl (fun h => ?_) (fun h => ?_)
  · refine cf_ldc2 E dX6_mean_25 q2050 rfl ?_
    exact mret_l dX6_mean_28 h hq
  · refine cf_aload_n E dX6_mean_8 0 rfl rfl ?_
    refine cf_iload_n E dX6_mean_9 2 rfl rfl ?_
    refine cf_iconst E dX6_mean_10 ic_0 rfl ?_
    refine cf_iconst E dX6_mean_11 ic_1 rfl ?_
    refine mcl_in E (rmle hR rfl rfl) (Nat.le_of_ble_eq_true rfl) dX6_mean_12 h rfl (fun v_4 s_3 h => ?_)
    refine cf_if_eq E dX6_mean_15 h rfl rfl (fun h => ?_) (fun h => ?_)
    · refine cf_ldc2 E dX6_mean_25 q2050 rfl ?_
      exact mret_l dX6_mean_28 h hq
    · refine cf_aload_n E dX6_mean_18 0 rfl rfl ?_
      refine mget_0 E dX6_mean_19 rfl ?_
      refine cf_if_ne E dX6_mean_22 h rfl rfl (fun h => ?_) (fun h => ?_)
      · refine cf_iconst E dX6_mean_29 ic_0 rfl ?_
        refine cf_istore_n E dX6_mean_30 h (fun x3_5 => [(3, .int x3_5), (0, .ref (mh g)), (1, .int x1), (2, .int x2)]) (Nat.le_of_ble_eq_true rfl) (fun _ => rfl) rfl (fun x3_5 h => ?_)
        refine cf_iconst E dX6_mean_31 ic_0 rfl ?_
        refine cf_istore E dX6_mean_32 h (fun x4_6 => [(4, .int x4_6), (3, .int x3_5), (0, .ref (mh g)), (1, .int x1), (2, .int x2)]) (Nat.le_of_ble_eq_true rfl) (fun _ => rfl) rfl (fun x4_6 h => ?_)
        exact CF.sub [2, 3, 4, 1, 0] rfl (wm_mean_34 E hR hq N N x1 x2 x3_5 x4_6 s_3 h)
      · refine cf_ldc2 E dX6_mean_25 q2050 rfl ?_
        exact mret_l dX6_mean_28 h hq

set_option maxHeartbeats 4000000 in
theorem met_book (l : Launch) (g : MG) (N : Nat) (x1 : Int32) (x2 : Int32) (σ : MS) {v : Int32} {σ1 : MS} (h : m_book N x1 x2 σ = some (v, σ1)) : MetMi l g yX6_book (ws_ yX6_book cX6_book 3 (some .int)) { frames := 2, cells := 0, slots := 0, locals := 44 } [.int x1, .int x2] σ v σ1 := by
  refine met_mi (lv0 := [(0, .ref (mh g)), (1, .int x1), (2, .int x2)]) (by decide) rfl ⟨rfl, rfl⟩ (Nat.le_of_ble_eq_true rfl) rfl ?_
  intro p e s m below meth c A Q E hq
  have hR : 2 ≤ ({ frames := 2, cells := 0, slots := 0, locals := 44 } : Room).frames ∧ 44 ≤ ({ frames := 2, cells := 0, slots := 0, locals := 44 } : Room).locals := ⟨Nat.le_refl _, Nat.le_refl _⟩
  unfold m_book at h
  refine cf_iload_n E dX6_book_0 1 rfl rfl ?_
  refine cf_iconst E dX6_book_1 ic_m1 rfl ?_
  refine cf_icmp_ne E dX6_book_2 h rfl rfl (fun h => ?_) (fun h => ?_)
  · refine cf_aload_n E dX6_book_12 0 rfl rfl ?_
    refine cf_iload_n E dX6_book_13 1 rfl rfl ?_
    refine mcl_isHat E (rmle hR rfl rfl) (Nat.le_of_ble_eq_true rfl) dX6_book_14 h rfl (fun v_2 s_1 h => ?_)
    refine cf_if_eq E dX6_book_17 h rfl rfl (fun h => ?_) (fun h => ?_)
    · refine cf_iconst E dX6_book_28 ic_m1 rfl ?_
      exact mret_i dX6_book_29 h rfl hq
    · refine cf_aload_n E dX6_book_20 0 rfl rfl ?_
      refine cf_iload_n E dX6_book_21 2 rfl rfl ?_
      refine mcl_isHead E (rmle hR rfl rfl) (Nat.le_of_ble_eq_true rfl) dX6_book_22 h rfl (fun v_4 s_3 h => ?_)
      refine cf_if_ne E dX6_book_25 h rfl rfl (fun h => ?_) (fun h => ?_)
      · refine cf_aload_n E dX6_book_30 0 rfl rfl ?_
        refine mget_47 E dX6_book_31 rfl ?_
        refine cf_bipush E dX6_book_34 bp_8 rfl ?_
        refine cf_icmp_ne E dX6_book_36 h rfl rfl (fun h => ?_) (fun h => ?_)
        · refine cf_aload_n E dX6_book_42 0 rfl rfl ?_
          refine mget_48 E dX6_book_43 rfl ?_
          refine cf_aload_n E dX6_book_46 0 rfl rfl ?_
          refine mget_47 E dX6_book_47 rfl ?_
          refine cf_iload_n E dX6_book_50 1 rfl rfl ?_
          refine mast_48 E dX6_book_51 h rfl (fun s_5 h => ?_)
          refine cf_aload_n E dX6_book_52 0 rfl rfl ?_
          refine mget_49 E dX6_book_53 rfl ?_
          refine cf_aload_n E dX6_book_56 0 rfl rfl ?_
          refine mget_47 E dX6_book_57 rfl ?_
          refine cf_iload_n E dX6_book_60 2 rfl rfl ?_
          refine mast_49 E dX6_book_61 h rfl (fun s_6 h => ?_)
          refine cf_aload_n E dX6_book_62 0 rfl rfl ?_
          refine cf_dup E dX6_book_63 rfl rfl ?_
          refine mget_47 E dX6_book_64 rfl ?_
          refine cf_iconst E dX6_book_67 ic_1 rfl ?_
          refine cf_iadd E dX6_book_68 rfl ?_
          refine mput_47 E dX6_book_69 h rfl (fun s_7 h => ?_)
          refine cf_aload_n E dX6_book_72 0 rfl rfl ?_
          refine mget_47 E dX6_book_73 rfl ?_
          exact mret_i dX6_book_76 h rfl hq
        · refine cf_bipush E dX6_book_39 bp_m4 rfl ?_
          exact mret_i dX6_book_41 h rfl hq
      · refine cf_iconst E dX6_book_28 ic_m1 rfl ?_
        exact mret_i dX6_book_29 h rfl hq
  · refine cf_aload_n E dX6_book_5 0 rfl rfl ?_
    refine cf_iconst E dX6_book_6 ic_0 rfl ?_
    refine mput_47 E dX6_book_7 h rfl (fun s_8 h => ?_)
    refine cf_iconst E dX6_book_10 ic_0 rfl ?_
    exact mret_i dX6_book_11 h rfl hq

set_option maxHeartbeats 4000000 in
theorem wm_looked_2b {p : Program} {l : Launch} {e : Env} {R : Room} {s : State} {m : MethodId} {args : Array Value} {below : List Frame} {meth : Method} {c : Code} {A : Nat → Prop} {g : MG} {Q : State → Prop} (E : EV p s m args c cX6_looked 2 RX6) (hR : 0 ≤ R.frames ∧ 0 ≤ R.locals) {res : Int32 × MS} (hq : RTi p l e R s m args below meth c cX6_looked 2 A g .int Q res) (N : Nat)  {rec2 : Int32 → MS → Option (Int32 × MS)} (ih2 : ∀ (x1 : Int32) (σ : MS), rec2 x1 σ = some res → CF p l e R s m args below meth c 2 0 0 (MB g A s σ) Q 2 [(0, .ref (mh g)), (1, .int x1)] []) (x1 : Int32) (σ : MS) (h : m_looked_2b N  rec2 x1 σ = some res) : CF p l e R s m args below meth c 2 0 0 (MB g A s σ) Q 2 [(0, .ref (mh g)), (1, .int x1)] [] := by
  unfold m_looked_2b at h
  refine cf_iload_n E dX6_looked_2 1 rfl rfl ?_
  refine cf_aload_n E dX6_looked_3 0 rfl rfl ?_
  refine mget_47 E dX6_looked_4 rfl ?_
  refine cf_icmp_ge E dX6_looked_7 h rfl rfl (fun h => ?_) (fun h => ?_)
  · refine cf_bipush E dX6_looked_38 bp_m5 rfl ?_
    exact mret_i dX6_looked_40 h rfl hq
  · refine cf_aload_n E dX6_looked_10 0 rfl rfl ?_
    refine mget_5 E dX6_looked_11 rfl ?_
    refine cf_aload_n E dX6_looked_14 0 rfl rfl ?_
    refine mget_49 E dX6_looked_15 rfl ?_
    refine cf_iload_n E dX6_looked_18 1 rfl rfl ?_
    refine mald_49 E dX6_looked_19 h rfl (fun h => ?_)
    refine mald_5 E dX6_looked_20 h rfl (fun h => ?_)
    refine cf_aload_n E dX6_looked_21 0 rfl rfl ?_
    refine mget_48 E dX6_looked_22 rfl ?_
    refine cf_iload_n E dX6_looked_25 1 rfl rfl ?_
    refine mald_48 E dX6_looked_26 h rfl (fun h => ?_)
    refine cf_icmp_eq E dX6_looked_27 h rfl rfl (fun h => ?_) (fun h => ?_)
    · refine cf_iinc E dX6_looked_32 ic_1 h 1 rfl (fun x1_1 => [(1, .int x1_1), (0, .ref (mh g))]) (Nat.le_of_ble_eq_true rfl) (fun _ => rfl) rfl (fun x1_1 h => ?_)
      refine cf_goto E dX6_looked_35 rfl ?_
      exact CF.sub [1, 0] rfl (ih2 x1_1 σ h)
    · refine cf_iload_n E dX6_looked_30 1 rfl rfl ?_
      exact mret_i dX6_looked_31 h rfl hq
set_option maxHeartbeats 4000000 in
theorem wm_looked_2 {p : Program} {l : Launch} {e : Env} {R : Room} {s : State} {m : MethodId} {args : Array Value} {below : List Frame} {meth : Method} {c : Code} {A : Nat → Prop} {g : MG} {Q : State → Prop} (E : EV p s m args c cX6_looked 2 RX6) (hR : 0 ≤ R.frames ∧ 0 ≤ R.locals) {res : Int32 × MS} (hq : RTi p l e R s m args below meth c cX6_looked 2 A g .int Q res) (N : Nat)  : ∀ (k : Nat) (x1 : Int32) (σ : MS), m_looked_2 N  k x1 σ = some res → CF p l e R s m args below meth c 2 0 0 (MB g A s σ) Q 2 [(0, .ref (mh g)), (1, .int x1)] [] := by
  intro k
  induction k with
  | zero => intro x1 σ h; have h : (none : Option (Int32 × MS)) = some res := h; cases h
  | succ k ih => intro x1 σ h; exact wm_looked_2b E hR hq N  ih x1 σ h
set_option maxHeartbeats 4000000 in
theorem met_looked (l : Launch) (g : MG) (N : Nat)  (σ : MS) {v : Int32} {σ1 : MS} (h : m_looked N  σ = some (v, σ1)) : MetMi l g yX6_looked (ws_ yX6_looked cX6_looked 2 (some .int)) { frames := 0, cells := 0, slots := 0, locals := 0 } [] σ v σ1 := by
  refine met_mi (lv0 := [(0, .ref (mh g))]) (by decide) rfl ⟨rfl, rfl⟩ (Nat.le_of_ble_eq_true rfl) rfl ?_
  intro p e s m below meth c A Q E hq
  have hR : 0 ≤ ({ frames := 0, cells := 0, slots := 0, locals := 0 } : Room).frames ∧ 0 ≤ ({ frames := 0, cells := 0, slots := 0, locals := 0 } : Room).locals := ⟨Nat.le_refl _, Nat.le_refl _⟩
  unfold m_looked at h
  refine cf_iconst E dX6_looked_0 ic_0 rfl ?_
  refine cf_istore_n E dX6_looked_1 h (fun x1_1 => [(1, .int x1_1), (0, .ref (mh g))]) (Nat.le_of_ble_eq_true rfl) (fun _ => rfl) rfl (fun x1_1 h => ?_)
  exact CF.sub [1, 0] rfl (wm_looked_2 E hR hq N N x1_1 σ h)

set_option maxHeartbeats 4000000 in
theorem met_isTape (l : Launch) (g : MG) (N : Nat) (x1 : Int32) (σ : MS) {v : Int32} {σ1 : MS} (h : m_isTape N x1 σ = some (v, σ1)) : MetMi l g yX6_isTape (ws_ yX6_isTape cX6_isTape 2 (some .boolean)) { frames := 1, cells := 0, slots := 0, locals := 23 } [.int x1] σ v σ1 := by
  refine met_mi (lv0 := [(0, .ref (mh g)), (1, .int x1)]) (by decide) rfl ⟨rfl, rfl⟩ (Nat.le_of_ble_eq_true rfl) rfl ?_
  intro p e s m below meth c A Q E hq
  have hR : 1 ≤ ({ frames := 1, cells := 0, slots := 0, locals := 23 } : Room).frames ∧ 23 ≤ ({ frames := 1, cells := 0, slots := 0, locals := 23 } : Room).locals := ⟨Nat.le_refl _, Nat.le_refl _⟩
  unfold m_isTape at h
  refine cf_aload_n E dX6_isTape_0 0 rfl rfl ?_
  refine cf_iload_n E dX6_isTape_1 1 rfl rfl ?_
  refine cf_iconst E dX6_isTape_2 ic_0 rfl ?_
  refine cf_iconst E dX6_isTape_3 ic_5 rfl ?_
  refine mcl_in E (rmle hR rfl rfl) (Nat.le_of_ble_eq_true rfl) dX6_isTape_4 h rfl (fun v_2 s_1 h => ?_)
  exact mret_z dX6_isTape_7 h hq
theorem gw_isTape : GoodIn lw_all (wsV RX6 410 RX6 yX6_isTape (ws_ yX6_isTape cX6_isTape 2 (some .boolean))) := lw_V q2075 q2077 qs85 q105 q2078
theorem hd_isTape : yX6_isTape.cls = RX6 ∧ yX6_isTape.cls ≠ "java/lang/invoke/MethodHandle" ∧ yX6_isTape.cls ≠ "java/lang/invoke/VarHandle" ∧ (parseMethodDescriptor yX6_isTape.desc).map (fun d => d.parameters.length) = some 1 := by decide +kernel
theorem mcl_isTape {p : Program} {l : Launch} {e : Env} {R : Room} {s : State} {m : MethodId} {args : Array Value} {below : List Frame} {meth : Method} {c : Code} {nL : Nat} {A : Nat → Prop} {g : MG} {σ : MS} {Q : State → Prop} {pc n : Nat} {lv : List (Nat × Value)} {st : List Value} {cc : ByteArray} {ρ : Type} {res : ρ} (E : EV p s m args c cc nL RX6) {N : Nat} {x1 : Int32} {kk : Int32 → MS → Option ρ} (hR : 2 ≤ R.frames ∧ 44 ≤ R.locals) (hcat : (st.map fun v => v.category).sum ≤ 8) (d : decode cc pc = .ok (.invokevirtual 410, 3)) (h : bnd (m_isTape N x1 σ) kk = some res) (hn : pc + 3 = n) (k : ∀ (v : Int32) (σ1 : MS), kk v σ1 = some res → CF p l e R s m args below meth c nL 0 0 (MB g A s σ1) Q n lv (.int v :: st)) : CF p l e R s m args below meth c nL 0 0 (MB g A s σ) Q pc lv (.int x1 :: .ref (mh g) :: st) :=
  mcall_i E [.int x1] (fun v σ1 ho => met_isTape l g N x1 σ ho) gw_isTape hd_isTape rfl rfl hR rfl rfl hcat d h hn k
set_option maxHeartbeats 4000000 in
theorem wm_judge_24b {p : Program} {l : Launch} {e : Env} {R : Room} {s : State} {m : MethodId} {args : Array Value} {below : List Frame} {meth : Method} {c : Code} {A : Nat → Prop} {g : MG} {Q : State → Prop} (E : EV p s m args c cX6_judge 4 RX6) (hR : 2 ≤ R.frames ∧ 44 ≤ R.locals) {res : Int32 × MS} (hq : RTi p l e R s m args below meth c cX6_judge 4 A g .int Q res) (N : Nat)  {rec24 : Int32 → Int32 → Int32 → MS → Option (Int32 × MS)} (ih24 : ∀ (x1 : Int32) (x2 : Int32) (x3 : Int32) (σ : MS), rec24 x1 x2 x3 σ = some res → CF p l e R s m args below meth c 4 0 0 (MB g A s σ) Q 24 [(0, .ref (mh g)), (1, .int x1), (2, .int x2), (3, .int x3)] []) (x1 : Int32) (x2 : Int32) (x3 : Int32) (σ : MS) (h : m_judge_24b N  rec24 x1 x2 x3 σ = some res) : CF p l e R s m args below meth c 4 0 0 (MB g A s σ) Q 24 [(0, .ref (mh g)), (1, .int x1), (2, .int x2), (3, .int x3)] [] := by
  unfold m_judge_24b at h
  refine cf_iload_n E dX6_judge_24 3 rfl rfl ?_
  refine cf_aload_n E dX6_judge_25 0 rfl rfl ?_
  refine mget_0 E dX6_judge_26 rfl ?_
  refine cf_icmp_ge E dX6_judge_29 h rfl rfl (fun h => ?_) (fun h => ?_)
  · refine cf_bipush E dX6_judge_96 bp_m5 rfl ?_
    exact mret_i dX6_judge_98 h rfl hq
  · refine cf_aload_n E dX6_judge_32 0 rfl rfl ?_
    refine mget_74 E dX6_judge_33 rfl ?_
    refine cf_iload_n E dX6_judge_36 1 rfl rfl ?_
    refine mald_74 E dX6_judge_37 h rfl (fun h => ?_)
    refine cf_if_lt E dX6_judge_38 h rfl rfl (fun h => ?_) (fun h => ?_)
    · refine cf_bipush E dX6_judge_59 bp_100 rfl ?_
      refine cf_iload_n E dX6_judge_61 3 rfl rfl ?_
      refine cf_iadd E dX6_judge_62 rfl ?_
      exact mret_i dX6_judge_63 h rfl hq
    · refine cf_iload_n E dX6_judge_41 2 rfl rfl ?_
      refine cf_if_lt E dX6_judge_42 h rfl rfl (fun h => ?_) (fun h => ?_)
      · refine cf_bipush E dX6_judge_59 bp_100 rfl ?_
        refine cf_iload_n E dX6_judge_61 3 rfl rfl ?_
        refine cf_iadd E dX6_judge_62 rfl ?_
        exact mret_i dX6_judge_63 h rfl hq
      · refine cf_iload_n E dX6_judge_45 2 rfl rfl ?_
        refine cf_aload_n E dX6_judge_46 0 rfl rfl ?_
        refine mget_75 E dX6_judge_47 rfl ?_
        refine cf_iload_n E dX6_judge_50 1 rfl rfl ?_
        refine mald_75 E dX6_judge_51 h rfl (fun h => ?_)
        refine cf_iload_n E dX6_judge_52 3 rfl rfl ?_
        refine cf_isub E dX6_judge_53 rfl ?_
        refine cf_iconst E dX6_judge_54 ic_1 rfl ?_
        refine cf_isub E dX6_judge_55 rfl ?_
        refine cf_icmp_le E dX6_judge_56 h rfl rfl (fun h => ?_) (fun h => ?_)
        · refine cf_aload_n E dX6_judge_64 0 rfl rfl ?_
          refine mget_76 E dX6_judge_65 rfl ?_
          refine cf_bipush E dX6_judge_68 bp_60 rfl ?_
          refine cf_iload_n E dX6_judge_70 1 rfl rfl ?_
          refine cf_imul E dX6_judge_71 rfl ?_
          refine cf_iload_n E dX6_judge_72 2 rfl rfl ?_
          refine cf_iadd E dX6_judge_73 rfl ?_
          refine cf_iload_n E dX6_judge_74 3 rfl rfl ?_
          refine cf_iadd E dX6_judge_75 rfl ?_
          refine mald_76 E dX6_judge_76 h rfl (fun h => ?_)
          refine cf_aload_n E dX6_judge_77 0 rfl rfl ?_
          refine mget_5 E dX6_judge_78 rfl ?_
          refine cf_iload_n E dX6_judge_81 3 rfl rfl ?_
          refine mald_5 E dX6_judge_82 h rfl (fun h => ?_)
          refine cf_i2l E dX6_judge_83 rfl ?_
          refine cf_lcmp E dX6_judge_84 rfl ?_
          refine cf_if_eq E dX6_judge_85 h rfl rfl (fun h => ?_) (fun h => ?_)
          · refine cf_iinc E dX6_judge_90 ic_1 h 3 rfl (fun x3_1 => [(3, .int x3_1), (0, .ref (mh g)), (1, .int x1), (2, .int x2)]) (Nat.le_of_ble_eq_true rfl) (fun _ => rfl) rfl (fun x3_1 h => ?_)
            refine cf_goto E dX6_judge_93 rfl ?_
            exact CF.sub [1, 2, 3, 0] rfl (ih24 x1 x2 x3_1 σ h)
          · refine cf_iload_n E dX6_judge_88 3 rfl rfl ?_
            exact mret_i dX6_judge_89 h rfl hq
        · refine cf_bipush E dX6_judge_59 bp_100 rfl ?_
          refine cf_iload_n E dX6_judge_61 3 rfl rfl ?_
          refine cf_iadd E dX6_judge_62 rfl ?_
          exact mret_i dX6_judge_63 h rfl hq
set_option maxHeartbeats 4000000 in
theorem wm_judge_24 {p : Program} {l : Launch} {e : Env} {R : Room} {s : State} {m : MethodId} {args : Array Value} {below : List Frame} {meth : Method} {c : Code} {A : Nat → Prop} {g : MG} {Q : State → Prop} (E : EV p s m args c cX6_judge 4 RX6) (hR : 2 ≤ R.frames ∧ 44 ≤ R.locals) {res : Int32 × MS} (hq : RTi p l e R s m args below meth c cX6_judge 4 A g .int Q res) (N : Nat)  : ∀ (k : Nat) (x1 : Int32) (x2 : Int32) (x3 : Int32) (σ : MS), m_judge_24 N  k x1 x2 x3 σ = some res → CF p l e R s m args below meth c 4 0 0 (MB g A s σ) Q 24 [(0, .ref (mh g)), (1, .int x1), (2, .int x2), (3, .int x3)] [] := by
  intro k
  induction k with
  | zero => intro x1 x2 x3 σ h; have h : (none : Option (Int32 × MS)) = some res := h; cases h
  | succ k ih => intro x1 x2 x3 σ h; exact wm_judge_24b E hR hq N  ih x1 x2 x3 σ h
set_option maxHeartbeats 4000000 in
theorem met_judge (l : Launch) (g : MG) (N : Nat) (x1 : Int32) (x2 : Int32) (σ : MS) {v : Int32} {σ1 : MS} (h : m_judge N x1 x2 σ = some (v, σ1)) : MetMi l g yX6_judge (ws_ yX6_judge cX6_judge 4 (some .int)) { frames := 2, cells := 0, slots := 0, locals := 44 } [.int x1, .int x2] σ v σ1 := by
  refine met_mi (lv0 := [(0, .ref (mh g)), (1, .int x1), (2, .int x2)]) (by decide) rfl ⟨rfl, rfl⟩ (Nat.le_of_ble_eq_true rfl) rfl ?_
  intro p e s m below meth c A Q E hq
  have hR : 2 ≤ ({ frames := 2, cells := 0, slots := 0, locals := 44 } : Room).frames ∧ 44 ≤ ({ frames := 2, cells := 0, slots := 0, locals := 44 } : Room).locals := ⟨Nat.le_refl _, Nat.le_refl _⟩
  unfold m_judge at h
  refine cf_aload_n E dX6_judge_0 0 rfl rfl ?_
  refine cf_iload_n E dX6_judge_1 1 rfl rfl ?_
  refine mcl_isTape E (rmle hR rfl rfl) (Nat.le_of_ble_eq_true rfl) dX6_judge_2 h rfl (fun v_2 s_1 h => ?_)
  refine cf_if_ne E dX6_judge_5 h rfl rfl (fun h => ?_) (fun h => ?_)
  · refine cf_aload_n E dX6_judge_10 0 rfl rfl ?_
    refine mget_74 E dX6_judge_11 rfl ?_
    refine cf_iload_n E dX6_judge_14 1 rfl rfl ?_
    refine mald_74 E dX6_judge_15 h rfl (fun h => ?_)
    refine cf_if_le E dX6_judge_16 h rfl rfl (fun h => ?_) (fun h => ?_)
    · refine cf_iconst E dX6_judge_22 ic_0 rfl ?_
      refine cf_istore_n E dX6_judge_23 h (fun x3_3 => [(3, .int x3_3), (0, .ref (mh g)), (1, .int x1), (2, .int x2)]) (Nat.le_of_ble_eq_true rfl) (fun _ => rfl) rfl (fun x3_3 h => ?_)
      exact CF.sub [1, 2, 3, 0] rfl (wm_judge_24 E hR hq N N x1 x2 x3_3 s_1 h)
    · refine cf_bipush E dX6_judge_19 bp_m12 rfl ?_
      exact mret_i dX6_judge_21 h rfl hq
  · refine cf_iconst E dX6_judge_8 ic_m1 rfl ?_
    exact mret_i dX6_judge_9 h rfl hq

set_option maxHeartbeats 4000000 in
theorem wm_image_252b {p : Program} {l : Launch} {e : Env} {R : Room} {s : State} {m : MethodId} {args : Array Value} {below : List Frame} {meth : Method} {c : Code} {A : Nat → Prop} {g : MG} {Q : State → Prop} (E : EV p s m args c cX6_image 2 RX6) (hR : 0 ≤ R.frames ∧ 0 ≤ R.locals) {res : Int32 × MS} (hq : RTi p l e R s m args below meth c cX6_image 2 A g .int Q res) (N : Nat)  {rec252 : Int32 → MS → Option (Int32 × MS)} (ih252 : ∀ (x1 : Int32) (σ : MS), rec252 x1 σ = some res → CF p l e R s m args below meth c 2 0 0 (MB g A s σ) Q 252 [(0, .ref (mh g)), (1, .int x1)] []) (x1 : Int32) (σ : MS) (h : m_image_252b N  rec252 x1 σ = some res) : CF p l e R s m args below meth c 2 0 0 (MB g A s σ) Q 252 [(0, .ref (mh g)), (1, .int x1)] [] := by
  unfold m_image_252b at h
  refine cf_iload_n E dX6_image_252 1 rfl rfl ?_
  refine cf_bipush E dX6_image_253 bp_8 rfl ?_
  refine cf_icmp_ge E dX6_image_255 h rfl rfl (fun h => ?_) (fun h => ?_)
  · refine cf_aload_n E dX6_image_288 0 rfl rfl ?_
    refine mget_1 E dX6_image_289 rfl ?_
    exact mret_i dX6_image_292 h rfl hq
  · refine cf_aload_n E dX6_image_258 0 rfl rfl ?_
    refine mget_70 E dX6_image_259 rfl ?_
    refine cf_iload_n E dX6_image_262 1 rfl rfl ?_
    refine cf_aload_n E dX6_image_263 0 rfl rfl ?_
    refine mget_48 E dX6_image_264 rfl ?_
    refine cf_iload_n E dX6_image_267 1 rfl rfl ?_
    refine mald_48 E dX6_image_268 h rfl (fun h => ?_)
    refine mast_70 E dX6_image_269 h rfl (fun s_1 h => ?_)
    refine cf_aload_n E dX6_image_270 0 rfl rfl ?_
    refine mget_71 E dX6_image_271 rfl ?_
    refine cf_iload_n E dX6_image_274 1 rfl rfl ?_
    refine cf_aload_n E dX6_image_275 0 rfl rfl ?_
    refine mget_49 E dX6_image_276 rfl ?_
    refine cf_iload_n E dX6_image_279 1 rfl rfl ?_
    refine mald_49 E dX6_image_280 h rfl (fun h => ?_)
    refine mast_71 E dX6_image_281 h rfl (fun s_2 h => ?_)
    refine cf_iinc E dX6_image_282 ic_1 h 1 rfl (fun x1_3 => [(1, .int x1_3), (0, .ref (mh g))]) (Nat.le_of_ble_eq_true rfl) (fun _ => rfl) rfl (fun x1_3 h => ?_)
    refine cf_goto E dX6_image_285 rfl ?_
    exact CF.sub [1, 0] rfl (ih252 x1_3 s_2 h)
set_option maxHeartbeats 4000000 in
theorem wm_image_252 {p : Program} {l : Launch} {e : Env} {R : Room} {s : State} {m : MethodId} {args : Array Value} {below : List Frame} {meth : Method} {c : Code} {A : Nat → Prop} {g : MG} {Q : State → Prop} (E : EV p s m args c cX6_image 2 RX6) (hR : 0 ≤ R.frames ∧ 0 ≤ R.locals) {res : Int32 × MS} (hq : RTi p l e R s m args below meth c cX6_image 2 A g .int Q res) (N : Nat)  : ∀ (k : Nat) (x1 : Int32) (σ : MS), m_image_252 N  k x1 σ = some res → CF p l e R s m args below meth c 2 0 0 (MB g A s σ) Q 252 [(0, .ref (mh g)), (1, .int x1)] [] := by
  intro k
  induction k with
  | zero => intro x1 σ h; have h : (none : Option (Int32 × MS)) = some res := h; cases h
  | succ k ih => intro x1 σ h; exact wm_image_252b E hR hq N  ih x1 σ h
set_option maxHeartbeats 4000000 in
theorem wm_image_227b {p : Program} {l : Launch} {e : Env} {R : Room} {s : State} {m : MethodId} {args : Array Value} {below : List Frame} {meth : Method} {c : Code} {A : Nat → Prop} {g : MG} {Q : State → Prop} (E : EV p s m args c cX6_image 2 RX6) (hR : 0 ≤ R.frames ∧ 0 ≤ R.locals) {res : Int32 × MS} (hq : RTi p l e R s m args below meth c cX6_image 2 A g .int Q res) (N : Nat)  {rec227 : Int32 → MS → Option (Int32 × MS)} (ih227 : ∀ (x1 : Int32) (σ : MS), rec227 x1 σ = some res → CF p l e R s m args below meth c 2 0 0 (MB g A s σ) Q 227 [(0, .ref (mh g)), (1, .int x1)] []) (x1 : Int32) (σ : MS) (h : m_image_227b N  rec227 x1 σ = some res) : CF p l e R s m args below meth c 2 0 0 (MB g A s σ) Q 227 [(0, .ref (mh g)), (1, .int x1)] [] := by
  unfold m_image_227b at h
  refine cf_iload_n E dX6_image_227 1 rfl rfl ?_
  refine cf_iconst E dX6_image_228 ic_5 rfl ?_
  refine cf_icmp_ge E dX6_image_229 h rfl rfl (fun h => ?_) (fun h => ?_)
  · refine cf_iconst E dX6_image_250 ic_0 rfl ?_
    refine cf_istore_n E dX6_image_251 h (fun x1_1 => [(1, .int x1_1), (0, .ref (mh g))]) (Nat.le_of_ble_eq_true rfl) (fun _ => rfl) rfl (fun x1_1 h => ?_)
    exact CF.sub [1, 0] rfl (wm_image_252 E hR hq N N x1_1 σ h)
  · refine cf_aload_n E dX6_image_232 0 rfl rfl ?_
    refine mget_67 E dX6_image_233 rfl ?_
    refine cf_iload_n E dX6_image_236 1 rfl rfl ?_
    refine cf_aload_n E dX6_image_237 0 rfl rfl ?_
    refine mget_13 E dX6_image_238 rfl ?_
    refine cf_iload_n E dX6_image_241 1 rfl rfl ?_
    refine mald_13 E dX6_image_242 h rfl (fun h => ?_)
    refine mast_67 E dX6_image_243 h rfl (fun s_2 h => ?_)
    refine cf_iinc E dX6_image_244 ic_1 h 1 rfl (fun x1_3 => [(1, .int x1_3), (0, .ref (mh g))]) (Nat.le_of_ble_eq_true rfl) (fun _ => rfl) rfl (fun x1_3 h => ?_)
    refine cf_goto E dX6_image_247 rfl ?_
    exact CF.sub [1, 0] rfl (ih227 x1_3 s_2 h)
set_option maxHeartbeats 4000000 in
theorem wm_image_227 {p : Program} {l : Launch} {e : Env} {R : Room} {s : State} {m : MethodId} {args : Array Value} {below : List Frame} {meth : Method} {c : Code} {A : Nat → Prop} {g : MG} {Q : State → Prop} (E : EV p s m args c cX6_image 2 RX6) (hR : 0 ≤ R.frames ∧ 0 ≤ R.locals) {res : Int32 × MS} (hq : RTi p l e R s m args below meth c cX6_image 2 A g .int Q res) (N : Nat)  : ∀ (k : Nat) (x1 : Int32) (σ : MS), m_image_227 N  k x1 σ = some res → CF p l e R s m args below meth c 2 0 0 (MB g A s σ) Q 227 [(0, .ref (mh g)), (1, .int x1)] [] := by
  intro k
  induction k with
  | zero => intro x1 σ h; have h : (none : Option (Int32 × MS)) = some res := h; cases h
  | succ k ih => intro x1 σ h; exact wm_image_227b E hR hq N  ih x1 σ h
set_option maxHeartbeats 4000000 in
theorem wm_image_201b {p : Program} {l : Launch} {e : Env} {R : Room} {s : State} {m : MethodId} {args : Array Value} {below : List Frame} {meth : Method} {c : Code} {A : Nat → Prop} {g : MG} {Q : State → Prop} (E : EV p s m args c cX6_image 2 RX6) (hR : 0 ≤ R.frames ∧ 0 ≤ R.locals) {res : Int32 × MS} (hq : RTi p l e R s m args below meth c cX6_image 2 A g .int Q res) (N : Nat)  {rec201 : Int32 → MS → Option (Int32 × MS)} (ih201 : ∀ (x1 : Int32) (σ : MS), rec201 x1 σ = some res → CF p l e R s m args below meth c 2 0 0 (MB g A s σ) Q 201 [(0, .ref (mh g)), (1, .int x1)] []) (x1 : Int32) (σ : MS) (h : m_image_201b N  rec201 x1 σ = some res) : CF p l e R s m args below meth c 2 0 0 (MB g A s σ) Q 201 [(0, .ref (mh g)), (1, .int x1)] [] := by
  unfold m_image_201b at h
  refine cf_iload_n E dX6_image_201 1 rfl rfl ?_
  refine cf_bipush E dX6_image_202 bp_24 rfl ?_
  refine cf_icmp_ge E dX6_image_204 h rfl rfl (fun h => ?_) (fun h => ?_)
  · refine cf_iconst E dX6_image_225 ic_0 rfl ?_
    refine cf_istore_n E dX6_image_226 h (fun x1_1 => [(1, .int x1_1), (0, .ref (mh g))]) (Nat.le_of_ble_eq_true rfl) (fun _ => rfl) rfl (fun x1_1 h => ?_)
    exact CF.sub [1, 0] rfl (wm_image_227 E hR hq N N x1_1 σ h)
  · refine cf_aload_n E dX6_image_207 0 rfl rfl ?_
    refine mget_66 E dX6_image_208 rfl ?_
    refine cf_iload_n E dX6_image_211 1 rfl rfl ?_
    refine cf_aload_n E dX6_image_212 0 rfl rfl ?_
    refine mget_12 E dX6_image_213 rfl ?_
    refine cf_iload_n E dX6_image_216 1 rfl rfl ?_
    refine mald_12 E dX6_image_217 h rfl (fun h => ?_)
    refine mast_66 E dX6_image_218 h rfl (fun s_2 h => ?_)
    refine cf_iinc E dX6_image_219 ic_1 h 1 rfl (fun x1_3 => [(1, .int x1_3), (0, .ref (mh g))]) (Nat.le_of_ble_eq_true rfl) (fun _ => rfl) rfl (fun x1_3 h => ?_)
    refine cf_goto E dX6_image_222 rfl ?_
    exact CF.sub [1, 0] rfl (ih201 x1_3 s_2 h)
set_option maxHeartbeats 4000000 in
theorem wm_image_201 {p : Program} {l : Launch} {e : Env} {R : Room} {s : State} {m : MethodId} {args : Array Value} {below : List Frame} {meth : Method} {c : Code} {A : Nat → Prop} {g : MG} {Q : State → Prop} (E : EV p s m args c cX6_image 2 RX6) (hR : 0 ≤ R.frames ∧ 0 ≤ R.locals) {res : Int32 × MS} (hq : RTi p l e R s m args below meth c cX6_image 2 A g .int Q res) (N : Nat)  : ∀ (k : Nat) (x1 : Int32) (σ : MS), m_image_201 N  k x1 σ = some res → CF p l e R s m args below meth c 2 0 0 (MB g A s σ) Q 201 [(0, .ref (mh g)), (1, .int x1)] [] := by
  intro k
  induction k with
  | zero => intro x1 σ h; have h : (none : Option (Int32 × MS)) = some res := h; cases h
  | succ k ih => intro x1 σ h; exact wm_image_201b E hR hq N  ih x1 σ h
set_option maxHeartbeats 4000000 in
theorem wm_image_55b {p : Program} {l : Launch} {e : Env} {R : Room} {s : State} {m : MethodId} {args : Array Value} {below : List Frame} {meth : Method} {c : Code} {A : Nat → Prop} {g : MG} {Q : State → Prop} (E : EV p s m args c cX6_image 2 RX6) (hR : 0 ≤ R.frames ∧ 0 ≤ R.locals) {res : Int32 × MS} (hq : RTi p l e R s m args below meth c cX6_image 2 A g .int Q res) (N : Nat)  {rec55 : Int32 → MS → Option (Int32 × MS)} (ih55 : ∀ (x1 : Int32) (σ : MS), rec55 x1 σ = some res → CF p l e R s m args below meth c 2 0 0 (MB g A s σ) Q 55 [(0, .ref (mh g)), (1, .int x1)] []) (x1 : Int32) (σ : MS) (h : m_image_55b N  rec55 x1 σ = some res) : CF p l e R s m args below meth c 2 0 0 (MB g A s σ) Q 55 [(0, .ref (mh g)), (1, .int x1)] [] := by
  unfold m_image_55b at h
  refine cf_iload_n E dX6_image_55 1 rfl rfl ?_
  refine cf_bipush E dX6_image_56 bp_6 rfl ?_
  refine cf_icmp_ge E dX6_image_58 h rfl rfl (fun h => ?_) (fun h => ?_)
  · refine cf_iconst E dX6_image_199 ic_0 rfl ?_
    refine cf_istore_n E dX6_image_200 h (fun x1_1 => [(1, .int x1_1), (0, .ref (mh g))]) (Nat.le_of_ble_eq_true rfl) (fun _ => rfl) rfl (fun x1_1 h => ?_)
    exact CF.sub [1, 0] rfl (wm_image_201 E hR hq N N x1_1 σ h)
  · refine cf_aload_n E dX6_image_61 0 rfl rfl ?_
    refine mget_57 E dX6_image_62 rfl ?_
    refine cf_iload_n E dX6_image_65 1 rfl rfl ?_
    refine cf_aload_n E dX6_image_66 0 rfl rfl ?_
    refine mget_3 E dX6_image_67 rfl ?_
    refine cf_iload_n E dX6_image_70 1 rfl rfl ?_
    refine mald_3 E dX6_image_71 h rfl (fun h => ?_)
    refine mast_57 E dX6_image_72 h rfl (fun s_2 h => ?_)
    refine cf_aload_n E dX6_image_73 0 rfl rfl ?_
    refine mget_58 E dX6_image_74 rfl ?_
    refine cf_iload_n E dX6_image_77 1 rfl rfl ?_
    refine cf_aload_n E dX6_image_78 0 rfl rfl ?_
    refine mget_4 E dX6_image_79 rfl ?_
    refine cf_iload_n E dX6_image_82 1 rfl rfl ?_
    refine mald_4 E dX6_image_83 h rfl (fun h => ?_)
    refine mast_58 E dX6_image_84 h rfl (fun s_3 h => ?_)
    refine cf_aload_n E dX6_image_85 0 rfl rfl ?_
    refine mget_59 E dX6_image_86 rfl ?_
    refine cf_iload_n E dX6_image_89 1 rfl rfl ?_
    refine cf_aload_n E dX6_image_90 0 rfl rfl ?_
    refine mget_5 E dX6_image_91 rfl ?_
    refine cf_iload_n E dX6_image_94 1 rfl rfl ?_
    refine mald_5 E dX6_image_95 h rfl (fun h => ?_)
    refine mast_59 E dX6_image_96 h rfl (fun s_4 h => ?_)
    refine cf_aload_n E dX6_image_97 0 rfl rfl ?_
    refine mget_60 E dX6_image_98 rfl ?_
    refine cf_iload_n E dX6_image_101 1 rfl rfl ?_
    refine cf_aload_n E dX6_image_102 0 rfl rfl ?_
    refine mget_6 E dX6_image_103 rfl ?_
    refine cf_iload_n E dX6_image_106 1 rfl rfl ?_
    refine mald_6 E dX6_image_107 h rfl (fun h => ?_)
    refine mast_60 E dX6_image_108 h rfl (fun s_5 h => ?_)
    refine cf_aload_n E dX6_image_109 0 rfl rfl ?_
    refine mget_61 E dX6_image_110 rfl ?_
    refine cf_iload_n E dX6_image_113 1 rfl rfl ?_
    refine cf_aload_n E dX6_image_114 0 rfl rfl ?_
    refine mget_7 E dX6_image_115 rfl ?_
    refine cf_iload_n E dX6_image_118 1 rfl rfl ?_
    refine mald_7 E dX6_image_119 h rfl (fun h => ?_)
    refine mast_61 E dX6_image_120 h rfl (fun s_6 h => ?_)
    refine cf_aload_n E dX6_image_121 0 rfl rfl ?_
    refine mget_62 E dX6_image_122 rfl ?_
    refine cf_iload_n E dX6_image_125 1 rfl rfl ?_
    refine cf_aload_n E dX6_image_126 0 rfl rfl ?_
    refine mget_8 E dX6_image_127 rfl ?_
    refine cf_iload_n E dX6_image_130 1 rfl rfl ?_
    refine mald_8 E dX6_image_131 h rfl (fun h => ?_)
    refine mast_62 E dX6_image_132 h rfl (fun s_7 h => ?_)
    refine cf_aload_n E dX6_image_133 0 rfl rfl ?_
    refine mget_63 E dX6_image_134 rfl ?_
    refine cf_iload_n E dX6_image_137 1 rfl rfl ?_
    refine cf_aload_n E dX6_image_138 0 rfl rfl ?_
    refine mget_9 E dX6_image_139 rfl ?_
    refine cf_iload_n E dX6_image_142 1 rfl rfl ?_
    refine mald_9 E dX6_image_143 h rfl (fun h => ?_)
    refine mast_63 E dX6_image_144 h rfl (fun s_8 h => ?_)
    refine cf_aload_n E dX6_image_145 0 rfl rfl ?_
    refine mget_64 E dX6_image_146 rfl ?_
    refine cf_iload_n E dX6_image_149 1 rfl rfl ?_
    refine cf_aload_n E dX6_image_150 0 rfl rfl ?_
    refine mget_10 E dX6_image_151 rfl ?_
    refine cf_iload_n E dX6_image_154 1 rfl rfl ?_
    refine mald_10 E dX6_image_155 h rfl (fun h => ?_)
    refine mast_64 E dX6_image_156 h rfl (fun s_9 h => ?_)
    refine cf_aload_n E dX6_image_157 0 rfl rfl ?_
    refine mget_65 E dX6_image_158 rfl ?_
    refine cf_iload_n E dX6_image_161 1 rfl rfl ?_
    refine cf_aload_n E dX6_image_162 0 rfl rfl ?_
    refine mget_11 E dX6_image_163 rfl ?_
    refine cf_iload_n E dX6_image_166 1 rfl rfl ?_
    refine mald_11 E dX6_image_167 h rfl (fun h => ?_)
    refine mast_65 E dX6_image_168 h rfl (fun s_10 h => ?_)
    refine cf_aload_n E dX6_image_169 0 rfl rfl ?_
    refine mget_68 E dX6_image_170 rfl ?_
    refine cf_iload_n E dX6_image_173 1 rfl rfl ?_
    refine cf_aload_n E dX6_image_174 0 rfl rfl ?_
    refine mget_44 E dX6_image_175 rfl ?_
    refine cf_iload_n E dX6_image_178 1 rfl rfl ?_
    refine mald_44 E dX6_image_179 h rfl (fun h => ?_)
    refine mast_68 E dX6_image_180 h rfl (fun s_11 h => ?_)
    refine cf_aload_n E dX6_image_181 0 rfl rfl ?_
    refine mget_69 E dX6_image_182 rfl ?_
    refine cf_iload_n E dX6_image_185 1 rfl rfl ?_
    refine cf_aload_n E dX6_image_186 0 rfl rfl ?_
    refine mget_45 E dX6_image_187 rfl ?_
    refine cf_iload_n E dX6_image_190 1 rfl rfl ?_
    refine mald_45 E dX6_image_191 h rfl (fun h => ?_)
    refine mast_69 E dX6_image_192 h rfl (fun s_12 h => ?_)
    refine cf_iinc E dX6_image_193 ic_1 h 1 rfl (fun x1_13 => [(1, .int x1_13), (0, .ref (mh g))]) (Nat.le_of_ble_eq_true rfl) (fun _ => rfl) rfl (fun x1_13 h => ?_)
    refine cf_goto E dX6_image_196 rfl ?_
    exact CF.sub [1, 0] rfl (ih55 x1_13 s_12 h)
set_option maxHeartbeats 4000000 in
theorem wm_image_55 {p : Program} {l : Launch} {e : Env} {R : Room} {s : State} {m : MethodId} {args : Array Value} {below : List Frame} {meth : Method} {c : Code} {A : Nat → Prop} {g : MG} {Q : State → Prop} (E : EV p s m args c cX6_image 2 RX6) (hR : 0 ≤ R.frames ∧ 0 ≤ R.locals) {res : Int32 × MS} (hq : RTi p l e R s m args below meth c cX6_image 2 A g .int Q res) (N : Nat)  : ∀ (k : Nat) (x1 : Int32) (σ : MS), m_image_55 N  k x1 σ = some res → CF p l e R s m args below meth c 2 0 0 (MB g A s σ) Q 55 [(0, .ref (mh g)), (1, .int x1)] [] := by
  intro k
  induction k with
  | zero => intro x1 σ h; have h : (none : Option (Int32 × MS)) = some res := h; cases h
  | succ k ih => intro x1 σ h; exact wm_image_55b E hR hq N  ih x1 σ h
set_option maxHeartbeats 4000000 in
theorem met_image (l : Launch) (g : MG) (N : Nat)  (σ : MS) {v : Int32} {σ1 : MS} (h : m_image N  σ = some (v, σ1)) : MetMi l g yX6_image (ws_ yX6_image cX6_image 2 (some .int)) { frames := 0, cells := 0, slots := 0, locals := 0 } [] σ v σ1 := by
  refine met_mi (lv0 := [(0, .ref (mh g))]) (by decide) rfl ⟨rfl, rfl⟩ (Nat.le_of_ble_eq_true rfl) rfl ?_
  intro p e s m below meth c A Q E hq
  have hR : 0 ≤ ({ frames := 0, cells := 0, slots := 0, locals := 0 } : Room).frames ∧ 0 ≤ ({ frames := 0, cells := 0, slots := 0, locals := 0 } : Room).locals := ⟨Nat.le_refl _, Nat.le_refl _⟩
  unfold m_image at h
  refine cf_aload_n E dX6_image_0 0 rfl rfl ?_
  refine cf_iconst E dX6_image_1 ic_1 rfl ?_
  refine mput_50 E dX6_image_2 nzb1 fzb1 h rfl (fun s_1 h => ?_)
  refine cf_aload_n E dX6_image_5 0 rfl rfl ?_
  refine cf_aload_n E dX6_image_6 0 rfl rfl ?_
  refine mget_15 E dX6_image_7 rfl ?_
  refine mput_51 E dX6_image_10 h rfl (fun s_2 h => ?_)
  refine cf_aload_n E dX6_image_13 0 rfl rfl ?_
  refine cf_aload_n E dX6_image_14 0 rfl rfl ?_
  refine mget_0 E dX6_image_15 rfl ?_
  refine mput_52 E dX6_image_18 h rfl (fun s_3 h => ?_)
  refine cf_aload_n E dX6_image_21 0 rfl rfl ?_
  refine cf_aload_n E dX6_image_22 0 rfl rfl ?_
  refine mget_1 E dX6_image_23 rfl ?_
  refine mput_53 E dX6_image_26 h rfl (fun s_4 h => ?_)
  refine cf_aload_n E dX6_image_29 0 rfl rfl ?_
  refine cf_aload_n E dX6_image_30 0 rfl rfl ?_
  refine mget_2 E dX6_image_31 rfl ?_
  refine mput_54 E dX6_image_34 h rfl (fun s_5 h => ?_)
  refine cf_aload_n E dX6_image_37 0 rfl rfl ?_
  refine cf_aload_n E dX6_image_38 0 rfl rfl ?_
  refine mget_43 E dX6_image_39 rfl ?_
  refine mput_55 E dX6_image_42 h rfl (fun s_6 h => ?_)
  refine cf_aload_n E dX6_image_45 0 rfl rfl ?_
  refine cf_aload_n E dX6_image_46 0 rfl rfl ?_
  refine mget_47 E dX6_image_47 rfl ?_
  refine mput_56 E dX6_image_50 h rfl (fun s_7 h => ?_)
  refine cf_iconst E dX6_image_53 ic_0 rfl ?_
  refine cf_istore_n E dX6_image_54 h (fun x1_8 => [(1, .int x1_8), (0, .ref (mh g))]) (Nat.le_of_ble_eq_true rfl) (fun _ => rfl) rfl (fun x1_8 h => ?_)
  exact CF.sub [1, 0] rfl (wm_image_55 E hR hq N N x1_8 s_7 h)

set_option maxHeartbeats 4000000 in
theorem wm_undo_257b {p : Program} {l : Launch} {e : Env} {R : Room} {s : State} {m : MethodId} {args : Array Value} {below : List Frame} {meth : Method} {c : Code} {A : Nat → Prop} {g : MG} {Q : State → Prop} (E : EV p s m args c cX6_undo 2 RX6) (hR : 0 ≤ R.frames ∧ 0 ≤ R.locals) {res : Int32 × MS} (hq : RTi p l e R s m args below meth c cX6_undo 2 A g .int Q res) (N : Nat)  {rec257 : Int32 → MS → Option (Int32 × MS)} (ih257 : ∀ (x1 : Int32) (σ : MS), rec257 x1 σ = some res → CF p l e R s m args below meth c 2 0 0 (MB g A s σ) Q 257 [(0, .ref (mh g)), (1, .int x1)] []) (x1 : Int32) (σ : MS) (h : m_undo_257b N  rec257 x1 σ = some res) : CF p l e R s m args below meth c 2 0 0 (MB g A s σ) Q 257 [(0, .ref (mh g)), (1, .int x1)] [] := by
  unfold m_undo_257b at h
  refine cf_iload_n E dX6_undo_257 1 rfl rfl ?_
  refine cf_bipush E dX6_undo_258 bp_8 rfl ?_
  refine cf_icmp_ge E dX6_undo_260 h rfl rfl (fun h => ?_) (fun h => ?_)
  · refine cf_aload_n E dX6_undo_293 0 rfl rfl ?_
    refine mget_1 E dX6_undo_294 rfl ?_
    exact mret_i dX6_undo_297 h rfl hq
  · refine cf_aload_n E dX6_undo_263 0 rfl rfl ?_
    refine mget_48 E dX6_undo_264 rfl ?_
    refine cf_iload_n E dX6_undo_267 1 rfl rfl ?_
    refine cf_aload_n E dX6_undo_268 0 rfl rfl ?_
    refine mget_70 E dX6_undo_269 rfl ?_
    refine cf_iload_n E dX6_undo_272 1 rfl rfl ?_
    refine mald_70 E dX6_undo_273 h rfl (fun h => ?_)
    refine mast_48 E dX6_undo_274 h rfl (fun s_1 h => ?_)
    refine cf_aload_n E dX6_undo_275 0 rfl rfl ?_
    refine mget_49 E dX6_undo_276 rfl ?_
    refine cf_iload_n E dX6_undo_279 1 rfl rfl ?_
    refine cf_aload_n E dX6_undo_280 0 rfl rfl ?_
    refine mget_71 E dX6_undo_281 rfl ?_
    refine cf_iload_n E dX6_undo_284 1 rfl rfl ?_
    refine mald_71 E dX6_undo_285 h rfl (fun h => ?_)
    refine mast_49 E dX6_undo_286 h rfl (fun s_2 h => ?_)
    refine cf_iinc E dX6_undo_287 ic_1 h 1 rfl (fun x1_3 => [(1, .int x1_3), (0, .ref (mh g))]) (Nat.le_of_ble_eq_true rfl) (fun _ => rfl) rfl (fun x1_3 h => ?_)
    refine cf_goto E dX6_undo_290 rfl ?_
    exact CF.sub [1, 0] rfl (ih257 x1_3 s_2 h)
set_option maxHeartbeats 4000000 in
theorem wm_undo_257 {p : Program} {l : Launch} {e : Env} {R : Room} {s : State} {m : MethodId} {args : Array Value} {below : List Frame} {meth : Method} {c : Code} {A : Nat → Prop} {g : MG} {Q : State → Prop} (E : EV p s m args c cX6_undo 2 RX6) (hR : 0 ≤ R.frames ∧ 0 ≤ R.locals) {res : Int32 × MS} (hq : RTi p l e R s m args below meth c cX6_undo 2 A g .int Q res) (N : Nat)  : ∀ (k : Nat) (x1 : Int32) (σ : MS), m_undo_257 N  k x1 σ = some res → CF p l e R s m args below meth c 2 0 0 (MB g A s σ) Q 257 [(0, .ref (mh g)), (1, .int x1)] [] := by
  intro k
  induction k with
  | zero => intro x1 σ h; have h : (none : Option (Int32 × MS)) = some res := h; cases h
  | succ k ih => intro x1 σ h; exact wm_undo_257b E hR hq N  ih x1 σ h
set_option maxHeartbeats 4000000 in
theorem wm_undo_232b {p : Program} {l : Launch} {e : Env} {R : Room} {s : State} {m : MethodId} {args : Array Value} {below : List Frame} {meth : Method} {c : Code} {A : Nat → Prop} {g : MG} {Q : State → Prop} (E : EV p s m args c cX6_undo 2 RX6) (hR : 0 ≤ R.frames ∧ 0 ≤ R.locals) {res : Int32 × MS} (hq : RTi p l e R s m args below meth c cX6_undo 2 A g .int Q res) (N : Nat)  {rec232 : Int32 → MS → Option (Int32 × MS)} (ih232 : ∀ (x1 : Int32) (σ : MS), rec232 x1 σ = some res → CF p l e R s m args below meth c 2 0 0 (MB g A s σ) Q 232 [(0, .ref (mh g)), (1, .int x1)] []) (x1 : Int32) (σ : MS) (h : m_undo_232b N  rec232 x1 σ = some res) : CF p l e R s m args below meth c 2 0 0 (MB g A s σ) Q 232 [(0, .ref (mh g)), (1, .int x1)] [] := by
  unfold m_undo_232b at h
  refine cf_iload_n E dX6_undo_232 1 rfl rfl ?_
  refine cf_iconst E dX6_undo_233 ic_5 rfl ?_
  refine cf_icmp_ge E dX6_undo_234 h rfl rfl (fun h => ?_) (fun h => ?_)
  · refine cf_iconst E dX6_undo_255 ic_0 rfl ?_
    refine cf_istore_n E dX6_undo_256 h (fun x1_1 => [(1, .int x1_1), (0, .ref (mh g))]) (Nat.le_of_ble_eq_true rfl) (fun _ => rfl) rfl (fun x1_1 h => ?_)
    exact CF.sub [1, 0] rfl (wm_undo_257 E hR hq N N x1_1 σ h)
  · refine cf_aload_n E dX6_undo_237 0 rfl rfl ?_
    refine mget_13 E dX6_undo_238 rfl ?_
    refine cf_iload_n E dX6_undo_241 1 rfl rfl ?_
    refine cf_aload_n E dX6_undo_242 0 rfl rfl ?_
    refine mget_67 E dX6_undo_243 rfl ?_
    refine cf_iload_n E dX6_undo_246 1 rfl rfl ?_
    refine mald_67 E dX6_undo_247 h rfl (fun h => ?_)
    refine mast_13 E dX6_undo_248 h rfl (fun s_2 h => ?_)
    refine cf_iinc E dX6_undo_249 ic_1 h 1 rfl (fun x1_3 => [(1, .int x1_3), (0, .ref (mh g))]) (Nat.le_of_ble_eq_true rfl) (fun _ => rfl) rfl (fun x1_3 h => ?_)
    refine cf_goto E dX6_undo_252 rfl ?_
    exact CF.sub [1, 0] rfl (ih232 x1_3 s_2 h)
set_option maxHeartbeats 4000000 in
theorem wm_undo_232 {p : Program} {l : Launch} {e : Env} {R : Room} {s : State} {m : MethodId} {args : Array Value} {below : List Frame} {meth : Method} {c : Code} {A : Nat → Prop} {g : MG} {Q : State → Prop} (E : EV p s m args c cX6_undo 2 RX6) (hR : 0 ≤ R.frames ∧ 0 ≤ R.locals) {res : Int32 × MS} (hq : RTi p l e R s m args below meth c cX6_undo 2 A g .int Q res) (N : Nat)  : ∀ (k : Nat) (x1 : Int32) (σ : MS), m_undo_232 N  k x1 σ = some res → CF p l e R s m args below meth c 2 0 0 (MB g A s σ) Q 232 [(0, .ref (mh g)), (1, .int x1)] [] := by
  intro k
  induction k with
  | zero => intro x1 σ h; have h : (none : Option (Int32 × MS)) = some res := h; cases h
  | succ k ih => intro x1 σ h; exact wm_undo_232b E hR hq N  ih x1 σ h
set_option maxHeartbeats 4000000 in
theorem wm_undo_206b {p : Program} {l : Launch} {e : Env} {R : Room} {s : State} {m : MethodId} {args : Array Value} {below : List Frame} {meth : Method} {c : Code} {A : Nat → Prop} {g : MG} {Q : State → Prop} (E : EV p s m args c cX6_undo 2 RX6) (hR : 0 ≤ R.frames ∧ 0 ≤ R.locals) {res : Int32 × MS} (hq : RTi p l e R s m args below meth c cX6_undo 2 A g .int Q res) (N : Nat)  {rec206 : Int32 → MS → Option (Int32 × MS)} (ih206 : ∀ (x1 : Int32) (σ : MS), rec206 x1 σ = some res → CF p l e R s m args below meth c 2 0 0 (MB g A s σ) Q 206 [(0, .ref (mh g)), (1, .int x1)] []) (x1 : Int32) (σ : MS) (h : m_undo_206b N  rec206 x1 σ = some res) : CF p l e R s m args below meth c 2 0 0 (MB g A s σ) Q 206 [(0, .ref (mh g)), (1, .int x1)] [] := by
  unfold m_undo_206b at h
  refine cf_iload_n E dX6_undo_206 1 rfl rfl ?_
  refine cf_bipush E dX6_undo_207 bp_24 rfl ?_
  refine cf_icmp_ge E dX6_undo_209 h rfl rfl (fun h => ?_) (fun h => ?_)
  · refine cf_iconst E dX6_undo_230 ic_0 rfl ?_
    refine cf_istore_n E dX6_undo_231 h (fun x1_1 => [(1, .int x1_1), (0, .ref (mh g))]) (Nat.le_of_ble_eq_true rfl) (fun _ => rfl) rfl (fun x1_1 h => ?_)
    exact CF.sub [1, 0] rfl (wm_undo_232 E hR hq N N x1_1 σ h)
  · refine cf_aload_n E dX6_undo_212 0 rfl rfl ?_
    refine mget_12 E dX6_undo_213 rfl ?_
    refine cf_iload_n E dX6_undo_216 1 rfl rfl ?_
    refine cf_aload_n E dX6_undo_217 0 rfl rfl ?_
    refine mget_66 E dX6_undo_218 rfl ?_
    refine cf_iload_n E dX6_undo_221 1 rfl rfl ?_
    refine mald_66 E dX6_undo_222 h rfl (fun h => ?_)
    refine mast_12 E dX6_undo_223 h rfl (fun s_2 h => ?_)
    refine cf_iinc E dX6_undo_224 ic_1 h 1 rfl (fun x1_3 => [(1, .int x1_3), (0, .ref (mh g))]) (Nat.le_of_ble_eq_true rfl) (fun _ => rfl) rfl (fun x1_3 h => ?_)
    refine cf_goto E dX6_undo_227 rfl ?_
    exact CF.sub [1, 0] rfl (ih206 x1_3 s_2 h)
set_option maxHeartbeats 4000000 in
theorem wm_undo_206 {p : Program} {l : Launch} {e : Env} {R : Room} {s : State} {m : MethodId} {args : Array Value} {below : List Frame} {meth : Method} {c : Code} {A : Nat → Prop} {g : MG} {Q : State → Prop} (E : EV p s m args c cX6_undo 2 RX6) (hR : 0 ≤ R.frames ∧ 0 ≤ R.locals) {res : Int32 × MS} (hq : RTi p l e R s m args below meth c cX6_undo 2 A g .int Q res) (N : Nat)  : ∀ (k : Nat) (x1 : Int32) (σ : MS), m_undo_206 N  k x1 σ = some res → CF p l e R s m args below meth c 2 0 0 (MB g A s σ) Q 206 [(0, .ref (mh g)), (1, .int x1)] [] := by
  intro k
  induction k with
  | zero => intro x1 σ h; have h : (none : Option (Int32 × MS)) = some res := h; cases h
  | succ k ih => intro x1 σ h; exact wm_undo_206b E hR hq N  ih x1 σ h
set_option maxHeartbeats 4000000 in
theorem wm_undo_60b {p : Program} {l : Launch} {e : Env} {R : Room} {s : State} {m : MethodId} {args : Array Value} {below : List Frame} {meth : Method} {c : Code} {A : Nat → Prop} {g : MG} {Q : State → Prop} (E : EV p s m args c cX6_undo 2 RX6) (hR : 0 ≤ R.frames ∧ 0 ≤ R.locals) {res : Int32 × MS} (hq : RTi p l e R s m args below meth c cX6_undo 2 A g .int Q res) (N : Nat)  {rec60 : Int32 → MS → Option (Int32 × MS)} (ih60 : ∀ (x1 : Int32) (σ : MS), rec60 x1 σ = some res → CF p l e R s m args below meth c 2 0 0 (MB g A s σ) Q 60 [(0, .ref (mh g)), (1, .int x1)] []) (x1 : Int32) (σ : MS) (h : m_undo_60b N  rec60 x1 σ = some res) : CF p l e R s m args below meth c 2 0 0 (MB g A s σ) Q 60 [(0, .ref (mh g)), (1, .int x1)] [] := by
  unfold m_undo_60b at h
  refine cf_iload_n E dX6_undo_60 1 rfl rfl ?_
  refine cf_bipush E dX6_undo_61 bp_6 rfl ?_
  refine cf_icmp_ge E dX6_undo_63 h rfl rfl (fun h => ?_) (fun h => ?_)
  · refine cf_iconst E dX6_undo_204 ic_0 rfl ?_
    refine cf_istore_n E dX6_undo_205 h (fun x1_1 => [(1, .int x1_1), (0, .ref (mh g))]) (Nat.le_of_ble_eq_true rfl) (fun _ => rfl) rfl (fun x1_1 h => ?_)
    exact CF.sub [1, 0] rfl (wm_undo_206 E hR hq N N x1_1 σ h)
  · refine cf_aload_n E dX6_undo_66 0 rfl rfl ?_
    refine mget_3 E dX6_undo_67 rfl ?_
    refine cf_iload_n E dX6_undo_70 1 rfl rfl ?_
    refine cf_aload_n E dX6_undo_71 0 rfl rfl ?_
    refine mget_57 E dX6_undo_72 rfl ?_
    refine cf_iload_n E dX6_undo_75 1 rfl rfl ?_
    refine mald_57 E dX6_undo_76 h rfl (fun h => ?_)
    refine mast_3 E dX6_undo_77 h rfl (fun s_2 h => ?_)
    refine cf_aload_n E dX6_undo_78 0 rfl rfl ?_
    refine mget_4 E dX6_undo_79 rfl ?_
    refine cf_iload_n E dX6_undo_82 1 rfl rfl ?_
    refine cf_aload_n E dX6_undo_83 0 rfl rfl ?_
    refine mget_58 E dX6_undo_84 rfl ?_
    refine cf_iload_n E dX6_undo_87 1 rfl rfl ?_
    refine mald_58 E dX6_undo_88 h rfl (fun h => ?_)
    refine mast_4 E dX6_undo_89 h rfl (fun s_3 h => ?_)
    refine cf_aload_n E dX6_undo_90 0 rfl rfl ?_
    refine mget_5 E dX6_undo_91 rfl ?_
    refine cf_iload_n E dX6_undo_94 1 rfl rfl ?_
    refine cf_aload_n E dX6_undo_95 0 rfl rfl ?_
    refine mget_59 E dX6_undo_96 rfl ?_
    refine cf_iload_n E dX6_undo_99 1 rfl rfl ?_
    refine mald_59 E dX6_undo_100 h rfl (fun h => ?_)
    refine mast_5 E dX6_undo_101 h rfl (fun s_4 h => ?_)
    refine cf_aload_n E dX6_undo_102 0 rfl rfl ?_
    refine mget_6 E dX6_undo_103 rfl ?_
    refine cf_iload_n E dX6_undo_106 1 rfl rfl ?_
    refine cf_aload_n E dX6_undo_107 0 rfl rfl ?_
    refine mget_60 E dX6_undo_108 rfl ?_
    refine cf_iload_n E dX6_undo_111 1 rfl rfl ?_
    refine mald_60 E dX6_undo_112 h rfl (fun h => ?_)
    refine mast_6 E dX6_undo_113 h rfl (fun s_5 h => ?_)
    refine cf_aload_n E dX6_undo_114 0 rfl rfl ?_
    refine mget_7 E dX6_undo_115 rfl ?_
    refine cf_iload_n E dX6_undo_118 1 rfl rfl ?_
    refine cf_aload_n E dX6_undo_119 0 rfl rfl ?_
    refine mget_61 E dX6_undo_120 rfl ?_
    refine cf_iload_n E dX6_undo_123 1 rfl rfl ?_
    refine mald_61 E dX6_undo_124 h rfl (fun h => ?_)
    refine mast_7 E dX6_undo_125 h rfl (fun s_6 h => ?_)
    refine cf_aload_n E dX6_undo_126 0 rfl rfl ?_
    refine mget_8 E dX6_undo_127 rfl ?_
    refine cf_iload_n E dX6_undo_130 1 rfl rfl ?_
    refine cf_aload_n E dX6_undo_131 0 rfl rfl ?_
    refine mget_62 E dX6_undo_132 rfl ?_
    refine cf_iload_n E dX6_undo_135 1 rfl rfl ?_
    refine mald_62 E dX6_undo_136 h rfl (fun h => ?_)
    refine mast_8 E dX6_undo_137 h rfl (fun s_7 h => ?_)
    refine cf_aload_n E dX6_undo_138 0 rfl rfl ?_
    refine mget_9 E dX6_undo_139 rfl ?_
    refine cf_iload_n E dX6_undo_142 1 rfl rfl ?_
    refine cf_aload_n E dX6_undo_143 0 rfl rfl ?_
    refine mget_63 E dX6_undo_144 rfl ?_
    refine cf_iload_n E dX6_undo_147 1 rfl rfl ?_
    refine mald_63 E dX6_undo_148 h rfl (fun h => ?_)
    refine mast_9 E dX6_undo_149 h rfl (fun s_8 h => ?_)
    refine cf_aload_n E dX6_undo_150 0 rfl rfl ?_
    refine mget_10 E dX6_undo_151 rfl ?_
    refine cf_iload_n E dX6_undo_154 1 rfl rfl ?_
    refine cf_aload_n E dX6_undo_155 0 rfl rfl ?_
    refine mget_64 E dX6_undo_156 rfl ?_
    refine cf_iload_n E dX6_undo_159 1 rfl rfl ?_
    refine mald_64 E dX6_undo_160 h rfl (fun h => ?_)
    refine mast_10 E dX6_undo_161 h rfl (fun s_9 h => ?_)
    refine cf_aload_n E dX6_undo_162 0 rfl rfl ?_
    refine mget_11 E dX6_undo_163 rfl ?_
    refine cf_iload_n E dX6_undo_166 1 rfl rfl ?_
    refine cf_aload_n E dX6_undo_167 0 rfl rfl ?_
    refine mget_65 E dX6_undo_168 rfl ?_
    refine cf_iload_n E dX6_undo_171 1 rfl rfl ?_
    refine mald_65 E dX6_undo_172 h rfl (fun h => ?_)
    refine mast_11 E dX6_undo_173 h rfl (fun s_10 h => ?_)
    refine cf_aload_n E dX6_undo_174 0 rfl rfl ?_
    refine mget_44 E dX6_undo_175 rfl ?_
    refine cf_iload_n E dX6_undo_178 1 rfl rfl ?_
    refine cf_aload_n E dX6_undo_179 0 rfl rfl ?_
    refine mget_68 E dX6_undo_180 rfl ?_
    refine cf_iload_n E dX6_undo_183 1 rfl rfl ?_
    refine mald_68 E dX6_undo_184 h rfl (fun h => ?_)
    refine mast_44 E dX6_undo_185 h rfl (fun s_11 h => ?_)
    refine cf_aload_n E dX6_undo_186 0 rfl rfl ?_
    refine mget_45 E dX6_undo_187 rfl ?_
    refine cf_iload_n E dX6_undo_190 1 rfl rfl ?_
    refine cf_aload_n E dX6_undo_191 0 rfl rfl ?_
    refine mget_69 E dX6_undo_192 rfl ?_
    refine cf_iload_n E dX6_undo_195 1 rfl rfl ?_
    refine mald_69 E dX6_undo_196 h rfl (fun h => ?_)
    refine mast_45 E dX6_undo_197 h rfl (fun s_12 h => ?_)
    refine cf_iinc E dX6_undo_198 ic_1 h 1 rfl (fun x1_13 => [(1, .int x1_13), (0, .ref (mh g))]) (Nat.le_of_ble_eq_true rfl) (fun _ => rfl) rfl (fun x1_13 h => ?_)
    refine cf_goto E dX6_undo_201 rfl ?_
    exact CF.sub [1, 0] rfl (ih60 x1_13 s_12 h)
set_option maxHeartbeats 4000000 in
theorem wm_undo_60 {p : Program} {l : Launch} {e : Env} {R : Room} {s : State} {m : MethodId} {args : Array Value} {below : List Frame} {meth : Method} {c : Code} {A : Nat → Prop} {g : MG} {Q : State → Prop} (E : EV p s m args c cX6_undo 2 RX6) (hR : 0 ≤ R.frames ∧ 0 ≤ R.locals) {res : Int32 × MS} (hq : RTi p l e R s m args below meth c cX6_undo 2 A g .int Q res) (N : Nat)  : ∀ (k : Nat) (x1 : Int32) (σ : MS), m_undo_60 N  k x1 σ = some res → CF p l e R s m args below meth c 2 0 0 (MB g A s σ) Q 60 [(0, .ref (mh g)), (1, .int x1)] [] := by
  intro k
  induction k with
  | zero => intro x1 σ h; have h : (none : Option (Int32 × MS)) = some res := h; cases h
  | succ k ih => intro x1 σ h; exact wm_undo_60b E hR hq N  ih x1 σ h
set_option maxHeartbeats 4000000 in
theorem met_undo (l : Launch) (g : MG) (N : Nat)  (σ : MS) {v : Int32} {σ1 : MS} (h : m_undo N  σ = some (v, σ1)) : MetMi l g yX6_undo (ws_ yX6_undo cX6_undo 2 (some .int)) { frames := 0, cells := 0, slots := 0, locals := 0 } [] σ v σ1 := by
  refine met_mi (lv0 := [(0, .ref (mh g))]) (by decide) rfl ⟨rfl, rfl⟩ (Nat.le_of_ble_eq_true rfl) rfl ?_
  intro p e s m below meth c A Q E hq
  have hR : 0 ≤ ({ frames := 0, cells := 0, slots := 0, locals := 0 } : Room).frames ∧ 0 ≤ ({ frames := 0, cells := 0, slots := 0, locals := 0 } : Room).locals := ⟨Nat.le_refl _, Nat.le_refl _⟩
  unfold m_undo at h
  refine cf_aload_n E dX6_undo_0 0 rfl rfl ?_
  refine mget_50 E dX6_undo_1 rfl ?_
  refine cf_if_ne E dX6_undo_4 h rfl rfl (fun h => ?_) (fun h => ?_)
  · refine cf_aload_n E dX6_undo_10 0 rfl rfl ?_
    refine cf_aload_n E dX6_undo_11 0 rfl rfl ?_
    refine mget_51 E dX6_undo_12 rfl ?_
    refine mput_15 E dX6_undo_15 h rfl (fun s_1 h => ?_)
    refine cf_aload_n E dX6_undo_18 0 rfl rfl ?_
    refine cf_aload_n E dX6_undo_19 0 rfl rfl ?_
    refine mget_52 E dX6_undo_20 rfl ?_
    refine mput_0 E dX6_undo_23 h rfl (fun s_2 h => ?_)
    refine cf_aload_n E dX6_undo_26 0 rfl rfl ?_
    refine cf_aload_n E dX6_undo_27 0 rfl rfl ?_
    refine mget_53 E dX6_undo_28 rfl ?_
    refine mput_1 E dX6_undo_31 h rfl (fun s_3 h => ?_)
    refine cf_aload_n E dX6_undo_34 0 rfl rfl ?_
    refine cf_aload_n E dX6_undo_35 0 rfl rfl ?_
    refine mget_54 E dX6_undo_36 rfl ?_
    refine mput_2 E dX6_undo_39 h rfl (fun s_4 h => ?_)
    refine cf_aload_n E dX6_undo_42 0 rfl rfl ?_
    refine cf_aload_n E dX6_undo_43 0 rfl rfl ?_
    refine mget_55 E dX6_undo_44 rfl ?_
    refine mput_43 E dX6_undo_47 h rfl (fun s_5 h => ?_)
    refine cf_aload_n E dX6_undo_50 0 rfl rfl ?_
    refine cf_aload_n E dX6_undo_51 0 rfl rfl ?_
    refine mget_56 E dX6_undo_52 rfl ?_
    refine mput_47 E dX6_undo_55 h rfl (fun s_6 h => ?_)
    refine cf_iconst E dX6_undo_58 ic_0 rfl ?_
    refine cf_istore_n E dX6_undo_59 h (fun x1_7 => [(1, .int x1_7), (0, .ref (mh g))]) (Nat.le_of_ble_eq_true rfl) (fun _ => rfl) rfl (fun x1_7 h => ?_)
    exact CF.sub [1, 0] rfl (wm_undo_60 E hR hq N N x1_7 s_6 h)
  · refine cf_bipush E dX6_undo_7 bp_m3 rfl ?_
    exact mret_i dX6_undo_9 h rfl hq

set_option maxHeartbeats 4000000 in
theorem wm_body_19 {p : Program} {l : Launch} {e : Env} {R : Room} {s : State} {m : MethodId} {args : Array Value} {below : List Frame} {meth : Method} {c : Code} {A : Nat → Prop} {g : MG} {Q : State → Prop} (E : EV p s m args c cX6_body 2 RX6) (hR : 0 ≤ R.frames ∧ 0 ≤ R.locals) {res : MS} (hq : RTv p l e R s m args below meth c cX6_body 2 A g Q res) (N : Nat)   (σ : MS) (h : m_body_19 N   σ = some res) : CF p l e R s m args below meth c 2 0 0 (MB g A s σ) Q 19 [(0, .ref (mh g))] [] := by
  unfold m_body_19 at h
  refine cf_aload_n E dX6_body_19 0 rfl rfl ?_
  refine cf_dup E dX6_body_20 rfl rfl ?_
  refine mget_72 E dX6_body_21 rfl ?_
  refine cf_iconst E dX6_body_24 ic_1 rfl ?_
  refine cf_iadd E dX6_body_25 rfl ?_
  refine mput_72 E dX6_body_26 h rfl (fun s_1 h => ?_)
  exact mret_v dX6_body_29 h hq
set_option maxHeartbeats 4000000 in
theorem met_body (l : Launch) (g : MG) (N : Nat) (x1 : Int32) (σ : MS) {σ1 : MS} (h : m_body N x1 σ = some σ1) : MetMv l g yX6_body (ws_ yX6_body cX6_body 2 (none)) { frames := 0, cells := 0, slots := 0, locals := 0 } [.int x1] σ σ1 := by
  refine met_mv (lv0 := [(0, .ref (mh g)), (1, .int x1)]) (by decide) rfl ⟨rfl, rfl⟩ (Nat.le_of_ble_eq_true rfl) rfl ?_
  intro p e s m below meth c A Q E hq
  have hR : 0 ≤ ({ frames := 0, cells := 0, slots := 0, locals := 0 } : Room).frames ∧ 0 ≤ ({ frames := 0, cells := 0, slots := 0, locals := 0 } : Room).locals := ⟨Nat.le_refl _, Nat.le_refl _⟩
  unfold m_body at h
  refine cf_aload_n E dX6_body_0 0 rfl rfl ?_
  refine mget_72 E dX6_body_1 rfl ?_
  refine cf_bipush E dX6_body_4 bp_20 rfl ?_
  refine cf_icmp_ge E dX6_body_6 h rfl rfl (fun h => ?_) (fun h => ?_)
  · exact CF.sub [0] rfl (wm_body_19 E hR hq N σ h)
  · refine cf_aload_n E dX6_body_9 0 rfl rfl ?_
    refine mget_73 E dX6_body_10 rfl ?_
    refine cf_aload_n E dX6_body_13 0 rfl rfl ?_
    refine mget_72 E dX6_body_14 rfl ?_
    refine cf_iload_n E dX6_body_17 1 rfl rfl ?_
    refine mast_73 E dX6_body_18 h rfl (fun s_1 h => ?_)
    exact CF.sub [0] rfl (wm_body_19 E hR hq N s_1 h)
theorem gw_body : GoodIn lw_all (wsV RX6 413 RX6 yX6_body (ws_ yX6_body cX6_body 2 none)) := lw_V q2095 q2097 qs87 q105 q2098
theorem hd_body : yX6_body.cls = RX6 ∧ yX6_body.cls ≠ "java/lang/invoke/MethodHandle" ∧ yX6_body.cls ≠ "java/lang/invoke/VarHandle" ∧ (parseMethodDescriptor yX6_body.desc).map (fun d => d.parameters.length) = some 1 := by decide +kernel
theorem mcl_body {p : Program} {l : Launch} {e : Env} {R : Room} {s : State} {m : MethodId} {args : Array Value} {below : List Frame} {meth : Method} {c : Code} {nL : Nat} {A : Nat → Prop} {g : MG} {σ : MS} {Q : State → Prop} {pc n : Nat} {lv : List (Nat × Value)} {st : List Value} {cc : ByteArray} {ρ : Type} {res : ρ} (E : EV p s m args c cc nL RX6) {N : Nat} {x1 : Int32} {kk : MS → Option ρ} (hR : 1 ≤ R.frames ∧ 21 ≤ R.locals) (hcat : (st.map fun v => v.category).sum ≤ 8) (d : decode cc pc = .ok (.invokevirtual 413, 3)) (h : bnv (m_body N x1 σ) kk = some res) (hn : pc + 3 = n) (k : ∀ (σ1 : MS), kk σ1 = some res → CF p l e R s m args below meth c nL 0 0 (MB g A s σ1) Q n lv st) : CF p l e R s m args below meth c nL 0 0 (MB g A s σ) Q pc lv (.int x1 :: .ref (mh g) :: st) :=
  mcall_v E [.int x1] (fun σ1 ho => met_body l g N x1 σ ho) gw_body hd_body rfl rfl hR rfl rfl hcat d h hn k
set_option maxHeartbeats 4000000 in
theorem met_hatSits (l : Launch) (g : MG) (N : Nat) (x1 : Int32) (x2 : Int32) (σ : MS) {v : Int32} {σ1 : MS} (h : m_hatSits N x1 x2 σ = some (v, σ1)) : MetMi l g yX6_hatSits (ws_ yX6_hatSits cX6_hatSits 3 (some .int)) { frames := 1, cells := 0, slots := 0, locals := 21 } [.int x1, .int x2] σ v σ1 := by
  refine met_mi (lv0 := [(0, .ref (mh g)), (1, .int x1), (2, .int x2)]) (by decide) rfl ⟨rfl, rfl⟩ (Nat.le_of_ble_eq_true rfl) rfl ?_
  intro p e s m below meth c A Q E hq
  have hR : 1 ≤ ({ frames := 1, cells := 0, slots := 0, locals := 21 } : Room).frames ∧ 21 ≤ ({ frames := 1, cells := 0, slots := 0, locals := 21 } : Room).locals := ⟨Nat.le_refl _, Nat.le_refl _⟩
  unfold m_hatSits at h
  refine cf_aload_n E dX6_hatSits_0 0 rfl rfl ?_
  refine cf_bipush E dX6_hatSits_1 bp_10 rfl ?_
  refine mcl_body E (rmle hR rfl rfl) (Nat.le_of_ble_eq_true rfl) dX6_hatSits_3 h rfl (fun s_1 h => ?_)
  refine cf_iload_n E dX6_hatSits_6 2 rfl rfl ?_
  refine cf_iload_n E dX6_hatSits_7 1 rfl rfl ?_
  refine cf_iadd E dX6_hatSits_8 rfl ?_
  exact mret_i dX6_hatSits_9 h rfl hq
theorem gw_hatSits : GoodIn lw_all (wsV RX6 416 RX6 yX6_hatSits (ws_ yX6_hatSits cX6_hatSits 3 (some .int))) := lw_V q2099 q2101 qs88 q105 q2102
theorem hd_hatSits : yX6_hatSits.cls = RX6 ∧ yX6_hatSits.cls ≠ "java/lang/invoke/MethodHandle" ∧ yX6_hatSits.cls ≠ "java/lang/invoke/VarHandle" ∧ (parseMethodDescriptor yX6_hatSits.desc).map (fun d => d.parameters.length) = some 2 := by decide +kernel
theorem mcl_hatSits {p : Program} {l : Launch} {e : Env} {R : Room} {s : State} {m : MethodId} {args : Array Value} {below : List Frame} {meth : Method} {c : Code} {nL : Nat} {A : Nat → Prop} {g : MG} {σ : MS} {Q : State → Prop} {pc n : Nat} {lv : List (Nat × Value)} {st : List Value} {cc : ByteArray} {ρ : Type} {res : ρ} (E : EV p s m args c cc nL RX6) {N : Nat} {x1 : Int32} {x2 : Int32} {kk : Int32 → MS → Option ρ} (hR : 2 ≤ R.frames ∧ 43 ≤ R.locals) (hcat : (st.map fun v => v.category).sum ≤ 8) (d : decode cc pc = .ok (.invokevirtual 416, 3)) (h : bnd (m_hatSits N x1 x2 σ) kk = some res) (hn : pc + 3 = n) (k : ∀ (v : Int32) (σ1 : MS), kk v σ1 = some res → CF p l e R s m args below meth c nL 0 0 (MB g A s σ1) Q n lv (.int v :: st)) : CF p l e R s m args below meth c nL 0 0 (MB g A s σ) Q pc lv (.int x2 :: .int x1 :: .ref (mh g) :: st) :=
  mcall_i E [.int x1, .int x2] (fun v σ1 ho => met_hatSits l g N x1 x2 σ ho) gw_hatSits hd_hatSits rfl rfl hR rfl rfl hcat d h hn k
set_option maxHeartbeats 4000000 in
theorem met_sitsAct (l : Launch) (g : MG) (N : Nat) (x1 : Int32) (x2 : Int32) (σ : MS) {v : Int32} {σ1 : MS} (h : m_sitsAct N x1 x2 σ = some (v, σ1)) : MetMi l g yX6_sitsAct (ws_ yX6_sitsAct cX6_sitsAct 3 (some .int)) { frames := 2, cells := 0, slots := 0, locals := 43 } [.int x1, .int x2] σ v σ1 := by
  refine met_mi (lv0 := [(0, .ref (mh g)), (1, .int x1), (2, .int x2)]) (by decide) rfl ⟨rfl, rfl⟩ (Nat.le_of_ble_eq_true rfl) rfl ?_
  intro p e s m below meth c A Q E hq
  have hR : 2 ≤ ({ frames := 2, cells := 0, slots := 0, locals := 43 } : Room).frames ∧ 43 ≤ ({ frames := 2, cells := 0, slots := 0, locals := 43 } : Room).locals := ⟨Nat.le_refl _, Nat.le_refl _⟩
  unfold m_sitsAct at h
  refine cf_aload_n E dX6_sitsAct_0 0 rfl rfl ?_
  refine mget_6 E dX6_sitsAct_1 rfl ?_
  refine cf_iload_n E dX6_sitsAct_4 1 rfl rfl ?_
  refine mald_6 E dX6_sitsAct_5 h rfl (fun h => ?_)
  by_cases hx_1 : (gR σ 6 x1.toNatClampNeg) = (2 : Int32)
  · rw [if_pos hx_1] at h
    refine cf_tabIn E 2 dX6_sitsAct_6 (i32_eqZ hx_1 (by decide)) (by decide) (by decide) rfl rfl ?_
    refine cf_aload_n E dX6_sitsAct_40 0 rfl rfl ?_
    refine cf_bipush E dX6_sitsAct_41 bp_30 rfl ?_
    refine mcl_body E (rmle hR rfl rfl) (Nat.le_of_ble_eq_true rfl) dX6_sitsAct_43 h rfl (fun s_2 h => ?_)
    refine cf_aload_n E dX6_sitsAct_46 0 rfl rfl ?_
    refine cf_iload_n E dX6_sitsAct_47 1 rfl rfl ?_
    refine cf_iload_n E dX6_sitsAct_48 2 rfl rfl ?_
    refine cf_iconst E dX6_sitsAct_49 ic_3 rfl ?_
    refine cf_imul E dX6_sitsAct_50 rfl ?_
    refine mcl_hatSits E (rmle hR rfl rfl) (Nat.le_of_ble_eq_true rfl) dX6_sitsAct_51 h rfl (fun v_4 s_3 h => ?_)
    exact mret_i dX6_sitsAct_54 h rfl hq
  rw [if_neg hx_1] at h
  by_cases hx_5 : (gR σ 6 x1.toNatClampNeg) = (3 : Int32)
  · rw [if_pos hx_5] at h
    refine cf_tabIn E 3 dX6_sitsAct_6 (i32_eqZ hx_5 (by decide)) (by decide) (by decide) rfl rfl ?_
    refine cf_aload_n E dX6_sitsAct_89 0 rfl rfl ?_
    refine cf_iload_n E dX6_sitsAct_90 1 rfl rfl ?_
    refine cf_iload_n E dX6_sitsAct_91 2 rfl rfl ?_
    refine mcl_hatSits E (rmle hR rfl rfl) (Nat.le_of_ble_eq_true rfl) dX6_sitsAct_92 h rfl (fun v_7 s_6 h => ?_)
    exact mret_i dX6_sitsAct_95 h rfl hq
  rw [if_neg hx_5] at h
  by_cases hx_8 : (gR σ 6 x1.toNatClampNeg) = (4 : Int32)
  · rw [if_pos hx_8] at h
    refine cf_tabIn E 4 dX6_sitsAct_6 (i32_eqZ hx_8 (by decide)) (by decide) (by decide) rfl rfl ?_
    refine cf_aload_n E dX6_sitsAct_55 0 rfl rfl ?_
    refine cf_bipush E dX6_sitsAct_56 bp_50 rfl ?_
    refine mcl_body E (rmle hR rfl rfl) (Nat.le_of_ble_eq_true rfl) dX6_sitsAct_58 h rfl (fun s_9 h => ?_)
    refine cf_aload_n E dX6_sitsAct_61 0 rfl rfl ?_
    refine cf_iload_n E dX6_sitsAct_62 1 rfl rfl ?_
    refine cf_iload_n E dX6_sitsAct_63 2 rfl rfl ?_
    refine mcl_hatSits E (rmle hR rfl rfl) (Nat.le_of_ble_eq_true rfl) dX6_sitsAct_64 h rfl (fun v_11 s_10 h => ?_)
    refine cf_ineg E dX6_sitsAct_67 rfl ?_
    exact mret_i dX6_sitsAct_68 h rfl hq
  rw [if_neg hx_8] at h
  by_cases hx_12 : (gR σ 6 x1.toNatClampNeg) = (5 : Int32)
  · rw [if_pos hx_12] at h
    refine cf_tabIn E 5 dX6_sitsAct_6 (i32_eqZ hx_12 (by decide)) (by decide) (by decide) rfl rfl ?_
    refine cf_aload_n E dX6_sitsAct_40 0 rfl rfl ?_
    refine cf_bipush E dX6_sitsAct_41 bp_30 rfl ?_
    refine mcl_body E (rmle hR rfl rfl) (Nat.le_of_ble_eq_true rfl) dX6_sitsAct_43 h rfl (fun s_13 h => ?_)
    refine cf_aload_n E dX6_sitsAct_46 0 rfl rfl ?_
    refine cf_iload_n E dX6_sitsAct_47 1 rfl rfl ?_
    refine cf_iload_n E dX6_sitsAct_48 2 rfl rfl ?_
    refine cf_iconst E dX6_sitsAct_49 ic_3 rfl ?_
    refine cf_imul E dX6_sitsAct_50 rfl ?_
    refine mcl_hatSits E (rmle hR rfl rfl) (Nat.le_of_ble_eq_true rfl) dX6_sitsAct_51 h rfl (fun v_15 s_14 h => ?_)
    exact mret_i dX6_sitsAct_54 h rfl hq
  rw [if_neg hx_12] at h
  by_cases hx_16 : (gR σ 6 x1.toNatClampNeg) = (6 : Int32)
  · rw [if_pos hx_16] at h
    refine cf_tabIn E 6 dX6_sitsAct_6 (i32_eqZ hx_16 (by decide)) (by decide) (by decide) rfl rfl ?_
    refine cf_aload_n E dX6_sitsAct_69 0 rfl rfl ?_
    refine cf_bipush E dX6_sitsAct_70 bp_71 rfl ?_
    refine mcl_body E (rmle hR rfl rfl) (Nat.le_of_ble_eq_true rfl) dX6_sitsAct_72 h rfl (fun s_17 h => ?_)
    refine cf_aload_n E dX6_sitsAct_75 0 rfl rfl ?_
    refine cf_iload_n E dX6_sitsAct_76 1 rfl rfl ?_
    refine cf_iload_n E dX6_sitsAct_77 2 rfl rfl ?_
    refine mcl_hatSits E (rmle hR rfl rfl) (Nat.le_of_ble_eq_true rfl) dX6_sitsAct_78 h rfl (fun v_19 s_18 h => ?_)
    refine cf_aload_n E dX6_sitsAct_81 0 rfl rfl ?_
    refine mget_7 E dX6_sitsAct_82 rfl ?_
    refine cf_iload_n E dX6_sitsAct_85 1 rfl rfl ?_
    refine mald_7 E dX6_sitsAct_86 h rfl (fun h => ?_)
    refine cf_ixor E dX6_sitsAct_87 rfl ?_
    exact mret_i dX6_sitsAct_88 h rfl hq
  rw [if_neg hx_16] at h
  have hx_1 := i32_neZ (z := 2) hx_1 (by decide)
  have hx_5 := i32_neZ (z := 3) hx_5 (by decide)
  have hx_8 := i32_neZ (z := 4) hx_8 (by decide)
  have hx_12 := i32_neZ (z := 5) hx_12 (by decide)
  have hx_16 := i32_neZ (z := 6) hx_16 (by decide)
  refine cf_tabOut E dX6_sitsAct_6 (by omega) rfl ?_
  refine cf_aload_n E dX6_sitsAct_89 0 rfl rfl ?_
  refine cf_iload_n E dX6_sitsAct_90 1 rfl rfl ?_
  refine cf_iload_n E dX6_sitsAct_91 2 rfl rfl ?_
  refine mcl_hatSits E (rmle hR rfl rfl) (Nat.le_of_ble_eq_true rfl) dX6_sitsAct_92 h rfl (fun v_21 s_20 h => ?_)
  exact mret_i dX6_sitsAct_95 h rfl hq
theorem gw_sitsAct : GoodIn lw_all (wsV RX6 419 RX6 yX6_sitsAct (ws_ yX6_sitsAct cX6_sitsAct 3 (some .int))) := lw_V q2091 q2093 qs86 q105 q2094
theorem hd_sitsAct : yX6_sitsAct.cls = RX6 ∧ yX6_sitsAct.cls ≠ "java/lang/invoke/MethodHandle" ∧ yX6_sitsAct.cls ≠ "java/lang/invoke/VarHandle" ∧ (parseMethodDescriptor yX6_sitsAct.desc).map (fun d => d.parameters.length) = some 2 := by decide +kernel
theorem mcl_sitsAct {p : Program} {l : Launch} {e : Env} {R : Room} {s : State} {m : MethodId} {args : Array Value} {below : List Frame} {meth : Method} {c : Code} {nL : Nat} {A : Nat → Prop} {g : MG} {σ : MS} {Q : State → Prop} {pc n : Nat} {lv : List (Nat × Value)} {st : List Value} {cc : ByteArray} {ρ : Type} {res : ρ} (E : EV p s m args c cc nL RX6) {N : Nat} {x1 : Int32} {x2 : Int32} {kk : Int32 → MS → Option ρ} (hR : 3 ≤ R.frames ∧ 65 ≤ R.locals) (hcat : (st.map fun v => v.category).sum ≤ 8) (d : decode cc pc = .ok (.invokevirtual 419, 3)) (h : bnd (m_sitsAct N x1 x2 σ) kk = some res) (hn : pc + 3 = n) (k : ∀ (v : Int32) (σ1 : MS), kk v σ1 = some res → CF p l e R s m args below meth c nL 0 0 (MB g A s σ1) Q n lv (.int v :: st)) : CF p l e R s m args below meth c nL 0 0 (MB g A s σ) Q pc lv (.int x2 :: .int x1 :: .ref (mh g) :: st) :=
  mcall_i E [.int x1, .int x2] (fun v σ1 ho => met_sitsAct l g N x1 x2 σ ho) gw_sitsAct hd_sitsAct rfl rfl hR rfl rfl hcat d h hn k
set_option maxHeartbeats 4000000 in
theorem met_hatDoes (l : Launch) (g : MG) (N : Nat) (x1 : Int32) (x2 : Int32) (σ : MS) {v : Int32} {σ1 : MS} (h : m_hatDoes N x1 x2 σ = some (v, σ1)) : MetMi l g yX6_hatDoes (ws_ yX6_hatDoes cX6_hatDoes 3 (some .int)) { frames := 3, cells := 0, slots := 0, locals := 65 } [.int x1, .int x2] σ v σ1 := by
  refine met_mi (lv0 := [(0, .ref (mh g)), (1, .int x1), (2, .int x2)]) (by decide) rfl ⟨rfl, rfl⟩ (Nat.le_of_ble_eq_true rfl) rfl ?_
  intro p e s m below meth c A Q E hq
  have hR : 3 ≤ ({ frames := 3, cells := 0, slots := 0, locals := 65 } : Room).frames ∧ 65 ≤ ({ frames := 3, cells := 0, slots := 0, locals := 65 } : Room).locals := ⟨Nat.le_refl _, Nat.le_refl _⟩
  unfold m_hatDoes at h
  refine cf_aload_n E dX6_hatDoes_0 0 rfl rfl ?_
  refine cf_bipush E dX6_hatDoes_1 bp_11 rfl ?_
  refine mcl_body E (rmle hR rfl rfl) (Nat.le_of_ble_eq_true rfl) dX6_hatDoes_3 h rfl (fun s_1 h => ?_)
  refine cf_aload_n E dX6_hatDoes_6 0 rfl rfl ?_
  refine cf_iload_n E dX6_hatDoes_7 1 rfl rfl ?_
  refine cf_iload_n E dX6_hatDoes_8 2 rfl rfl ?_
  refine mcl_sitsAct E (rmle hR rfl rfl) (Nat.le_of_ble_eq_true rfl) dX6_hatDoes_9 h rfl (fun v_3 s_2 h => ?_)
  refine cf_aload_n E dX6_hatDoes_12 0 rfl rfl ?_
  refine mget_7 E dX6_hatDoes_13 rfl ?_
  refine cf_iload_n E dX6_hatDoes_16 1 rfl rfl ?_
  refine mald_7 E dX6_hatDoes_17 h rfl (fun h => ?_)
  refine cf_isub E dX6_hatDoes_18 rfl ?_
  exact mret_i dX6_hatDoes_19 h rfl hq
theorem gw_hatDoes : GoodIn lw_all (wsV RX6 422 RX6 yX6_hatDoes (ws_ yX6_hatDoes cX6_hatDoes 3 (some .int))) := lw_V q2111 q2113 qs91 q105 q2114
theorem hd_hatDoes : yX6_hatDoes.cls = RX6 ∧ yX6_hatDoes.cls ≠ "java/lang/invoke/MethodHandle" ∧ yX6_hatDoes.cls ≠ "java/lang/invoke/VarHandle" ∧ (parseMethodDescriptor yX6_hatDoes.desc).map (fun d => d.parameters.length) = some 2 := by decide +kernel
theorem mcl_hatDoes {p : Program} {l : Launch} {e : Env} {R : Room} {s : State} {m : MethodId} {args : Array Value} {below : List Frame} {meth : Method} {c : Code} {nL : Nat} {A : Nat → Prop} {g : MG} {σ : MS} {Q : State → Prop} {pc n : Nat} {lv : List (Nat × Value)} {st : List Value} {cc : ByteArray} {ρ : Type} {res : ρ} (E : EV p s m args c cc nL RX6) {N : Nat} {x1 : Int32} {x2 : Int32} {kk : Int32 → MS → Option ρ} (hR : 4 ≤ R.frames ∧ 87 ≤ R.locals) (hcat : (st.map fun v => v.category).sum ≤ 8) (d : decode cc pc = .ok (.invokevirtual 422, 3)) (h : bnd (m_hatDoes N x1 x2 σ) kk = some res) (hn : pc + 3 = n) (k : ∀ (v : Int32) (σ1 : MS), kk v σ1 = some res → CF p l e R s m args below meth c nL 0 0 (MB g A s σ1) Q n lv (.int v :: st)) : CF p l e R s m args below meth c nL 0 0 (MB g A s σ) Q pc lv (.int x2 :: .int x1 :: .ref (mh g) :: st) :=
  mcall_i E [.int x1, .int x2] (fun v σ1 ho => met_hatDoes l g N x1 x2 σ ho) gw_hatDoes hd_hatDoes rfl rfl hR rfl rfl hcat d h hn k
set_option maxHeartbeats 4000000 in
theorem met_tightDoes (l : Launch) (g : MG) (N : Nat) (x1 : Int32) (x2 : Int32) (σ : MS) {v : Int32} {σ1 : MS} (h : m_tightDoes N x1 x2 σ = some (v, σ1)) : MetMi l g yX6_tightDoes (ws_ yX6_tightDoes cX6_tightDoes 3 (some .int)) { frames := 4, cells := 0, slots := 0, locals := 87 } [.int x1, .int x2] σ v σ1 := by
  refine met_mi (lv0 := [(0, .ref (mh g)), (1, .int x1), (2, .int x2)]) (by decide) rfl ⟨rfl, rfl⟩ (Nat.le_of_ble_eq_true rfl) rfl ?_
  intro p e s m below meth c A Q E hq
  have hR : 4 ≤ ({ frames := 4, cells := 0, slots := 0, locals := 87 } : Room).frames ∧ 87 ≤ ({ frames := 4, cells := 0, slots := 0, locals := 87 } : Room).locals := ⟨Nat.le_refl _, Nat.le_refl _⟩
  unfold m_tightDoes at h
  refine cf_aload_n E dX6_tightDoes_0 0 rfl rfl ?_
  refine cf_bipush E dX6_tightDoes_1 bp_20 rfl ?_
  refine mcl_body E (rmle hR rfl rfl) (Nat.le_of_ble_eq_true rfl) dX6_tightDoes_3 h rfl (fun s_1 h => ?_)
  refine cf_aload_n E dX6_tightDoes_6 0 rfl rfl ?_
  refine cf_iload_n E dX6_tightDoes_7 1 rfl rfl ?_
  refine cf_iload_n E dX6_tightDoes_8 2 rfl rfl ?_
  refine mcl_hatDoes E (rmle hR rfl rfl) (Nat.le_of_ble_eq_true rfl) dX6_tightDoes_9 h rfl (fun v_3 s_2 h => ?_)
  refine cf_bipush E dX6_tightDoes_12 bp_6 rfl ?_
  refine cf_ixor E dX6_tightDoes_14 rfl ?_
  exact mret_i dX6_tightDoes_15 h rfl hq
theorem gw_tightDoes : GoodIn lw_all (wsV RX6 425 RX6 yX6_tightDoes (ws_ yX6_tightDoes cX6_tightDoes 3 (some .int))) := lw_V q2107 q2109 qs90 q105 q2110
theorem hd_tightDoes : yX6_tightDoes.cls = RX6 ∧ yX6_tightDoes.cls ≠ "java/lang/invoke/MethodHandle" ∧ yX6_tightDoes.cls ≠ "java/lang/invoke/VarHandle" ∧ (parseMethodDescriptor yX6_tightDoes.desc).map (fun d => d.parameters.length) = some 2 := by decide +kernel
theorem mcl_tightDoes {p : Program} {l : Launch} {e : Env} {R : Room} {s : State} {m : MethodId} {args : Array Value} {below : List Frame} {meth : Method} {c : Code} {nL : Nat} {A : Nat → Prop} {g : MG} {σ : MS} {Q : State → Prop} {pc n : Nat} {lv : List (Nat × Value)} {st : List Value} {cc : ByteArray} {ρ : Type} {res : ρ} (E : EV p s m args c cc nL RX6) {N : Nat} {x1 : Int32} {x2 : Int32} {kk : Int32 → MS → Option ρ} (hR : 5 ≤ R.frames ∧ 109 ≤ R.locals) (hcat : (st.map fun v => v.category).sum ≤ 8) (d : decode cc pc = .ok (.invokevirtual 425, 3)) (h : bnd (m_tightDoes N x1 x2 σ) kk = some res) (hn : pc + 3 = n) (k : ∀ (v : Int32) (σ1 : MS), kk v σ1 = some res → CF p l e R s m args below meth c nL 0 0 (MB g A s σ1) Q n lv (.int v :: st)) : CF p l e R s m args below meth c nL 0 0 (MB g A s σ) Q pc lv (.int x2 :: .int x1 :: .ref (mh g) :: st) :=
  mcall_i E [.int x1, .int x2] (fun v σ1 ho => met_tightDoes l g N x1 x2 σ ho) gw_tightDoes hd_tightDoes rfl rfl hR rfl rfl hcat d h hn k
set_option maxHeartbeats 4000000 in
theorem met_doesAct (l : Launch) (g : MG) (N : Nat) (x1 : Int32) (x2 : Int32) (σ : MS) {v : Int32} {σ1 : MS} (h : m_doesAct N x1 x2 σ = some (v, σ1)) : MetMi l g yX6_doesAct (ws_ yX6_doesAct cX6_doesAct 4 (some .int)) { frames := 5, cells := 0, slots := 0, locals := 109 } [.int x1, .int x2] σ v σ1 := by
  refine met_mi (lv0 := [(0, .ref (mh g)), (1, .int x1), (2, .int x2)]) (by decide) rfl ⟨rfl, rfl⟩ (Nat.le_of_ble_eq_true rfl) rfl ?_
  intro p e s m below meth c A Q E hq
  have hR : 5 ≤ ({ frames := 5, cells := 0, slots := 0, locals := 109 } : Room).frames ∧ 109 ≤ ({ frames := 5, cells := 0, slots := 0, locals := 109 } : Room).locals := ⟨Nat.le_refl _, Nat.le_refl _⟩
  unfold m_doesAct at h
  refine cf_aload_n E dX6_doesAct_0 0 rfl rfl ?_
  refine mget_6 E dX6_doesAct_1 rfl ?_
  refine cf_iload_n E dX6_doesAct_4 1 rfl rfl ?_
  refine mald_6 E dX6_doesAct_5 h rfl (fun h => ?_)
  by_cases hx_1 : (gR σ 6 x1.toNatClampNeg) = (1 : Int32)
  · rw [if_pos hx_1] at h
    refine cf_look E dX6_doesAct_6 (by decide) (by rw [i32_eqZ (z := 1) hx_1 (by decide)]) rfl ?_
    refine cf_aload_n E dX6_doesAct_40 0 rfl rfl ?_
    refine cf_iload_n E dX6_doesAct_41 1 rfl rfl ?_
    refine cf_iload_n E dX6_doesAct_42 2 rfl rfl ?_
    refine mcl_tightDoes E (rmle hR rfl rfl) (Nat.le_of_ble_eq_true rfl) dX6_doesAct_43 h rfl (fun v_3 s_2 h => ?_)
    exact mret_i dX6_doesAct_46 h rfl hq
  rw [if_neg hx_1] at h
  by_cases hx_4 : (gR σ 6 x1.toNatClampNeg) = (4 : Int32)
  · rw [if_pos hx_4] at h
    refine cf_look E dX6_doesAct_6 (by decide) (by rw [i32_eqZ (z := 4) hx_4 (by decide)]) rfl ?_
    refine cf_aload_n E dX6_doesAct_47 0 rfl rfl ?_
    refine cf_bipush E dX6_doesAct_48 bp_51 rfl ?_
    refine mcl_body E (rmle hR rfl rfl) (Nat.le_of_ble_eq_true rfl) dX6_doesAct_50 h rfl (fun s_5 h => ?_)
    refine cf_aload_n E dX6_doesAct_53 0 rfl rfl ?_
    refine cf_iload_n E dX6_doesAct_54 1 rfl rfl ?_
    refine cf_iload_n E dX6_doesAct_55 2 rfl rfl ?_
    refine cf_iconst E dX6_doesAct_56 ic_1 rfl ?_
    refine cf_iadd E dX6_doesAct_57 rfl ?_
    refine mcl_tightDoes E (rmle hR rfl rfl) (Nat.le_of_ble_eq_true rfl) dX6_doesAct_58 h rfl (fun v_7 s_6 h => ?_)
    exact mret_i dX6_doesAct_61 h rfl hq
  rw [if_neg hx_4] at h
  by_cases hx_8 : (gR σ 6 x1.toNatClampNeg) = (6 : Int32)
  · rw [if_pos hx_8] at h
    refine cf_look E dX6_doesAct_6 (by decide) (by rw [i32_eqZ (z := 6) hx_8 (by decide)]) rfl ?_
    refine cf_aload_n E dX6_doesAct_62 0 rfl rfl ?_
    refine cf_bipush E dX6_doesAct_63 bp_70 rfl ?_
    refine mcl_body E (rmle hR rfl rfl) (Nat.le_of_ble_eq_true rfl) dX6_doesAct_65 h rfl (fun s_9 h => ?_)
    refine cf_aload_n E dX6_doesAct_68 0 rfl rfl ?_
    refine cf_iload_n E dX6_doesAct_69 1 rfl rfl ?_
    refine cf_iload_n E dX6_doesAct_70 2 rfl rfl ?_
    refine mcl_hatDoes E (rmle hR rfl rfl) (Nat.le_of_ble_eq_true rfl) dX6_doesAct_71 h rfl (fun v_11 s_10 h => ?_)
    refine cf_istore_n E dX6_doesAct_74 h (fun x3_12 => [(3, .int x3_12), (0, .ref (mh g)), (1, .int x1), (2, .int x2)]) (Nat.le_of_ble_eq_true rfl) (fun _ => rfl) rfl (fun x3_12 h => ?_)
    refine cf_iload_n E dX6_doesAct_75 0 rfl rfl ?_
    refine cf_aload_n E dX6_doesAct_76 1 rfl rfl ?_
    refine cf_iload_n E dX6_doesAct_77 2 rfl rfl ?_
    refine cf_iconst E dX6_doesAct_78 ic_2 rfl ?_
    refine mcl_hatSits E (rmle hR rfl rfl) (Nat.le_of_ble_eq_true rfl) dX6_doesAct_79 h rfl (fun v_14 s_13 h => ?_)
    refine cf_iadd E dX6_doesAct_82 rfl ?_
    exact mret_i dX6_doesAct_83 h rfl hq
  rw [if_neg hx_8] at h
  refine cf_look E dX6_doesAct_6 (by decide) (look_no (i32_neZ (z := 1) hx_1 (by decide)) (look_no (i32_neZ (z := 4) hx_4 (by decide)) (look_no (i32_neZ (z := 6) hx_8 (by decide)) rfl))) rfl ?_
  refine cf_aload_n E dX6_doesAct_84 0 rfl rfl ?_
  refine cf_iload_n E dX6_doesAct_85 1 rfl rfl ?_
  refine cf_iload_n E dX6_doesAct_86 2 rfl rfl ?_
  refine mcl_hatDoes E (rmle hR rfl rfl) (Nat.le_of_ble_eq_true rfl) dX6_doesAct_87 h rfl (fun v_16 s_15 h => ?_)
  exact mret_i dX6_doesAct_90 h rfl hq
theorem gw_doesAct : GoodIn lw_all (wsV RX6 428 RX6 yX6_doesAct (ws_ yX6_doesAct cX6_doesAct 4 (some .int))) := lw_V q2103 q2105 qs89 q105 q2106
theorem hd_doesAct : yX6_doesAct.cls = RX6 ∧ yX6_doesAct.cls ≠ "java/lang/invoke/MethodHandle" ∧ yX6_doesAct.cls ≠ "java/lang/invoke/VarHandle" ∧ (parseMethodDescriptor yX6_doesAct.desc).map (fun d => d.parameters.length) = some 2 := by decide +kernel
theorem mcl_doesAct {p : Program} {l : Launch} {e : Env} {R : Room} {s : State} {m : MethodId} {args : Array Value} {below : List Frame} {meth : Method} {c : Code} {nL : Nat} {A : Nat → Prop} {g : MG} {σ : MS} {Q : State → Prop} {pc n : Nat} {lv : List (Nat × Value)} {st : List Value} {cc : ByteArray} {ρ : Type} {res : ρ} (E : EV p s m args c cc nL RX6) {N : Nat} {x1 : Int32} {x2 : Int32} {kk : Int32 → MS → Option ρ} (hR : 6 ≤ R.frames ∧ 132 ≤ R.locals) (hcat : (st.map fun v => v.category).sum ≤ 8) (d : decode cc pc = .ok (.invokevirtual 428, 3)) (h : bnd (m_doesAct N x1 x2 σ) kk = some res) (hn : pc + 3 = n) (k : ∀ (v : Int32) (σ1 : MS), kk v σ1 = some res → CF p l e R s m args below meth c nL 0 0 (MB g A s σ1) Q n lv (.int v :: st)) : CF p l e R s m args below meth c nL 0 0 (MB g A s σ) Q pc lv (.int x2 :: .int x1 :: .ref (mh g) :: st) :=
  mcall_i E [.int x1, .int x2] (fun v σ1 ho => met_doesAct l g N x1 x2 σ ho) gw_doesAct hd_doesAct rfl rfl hR rfl rfl hcat d h hn k
set_option maxHeartbeats 4000000 in
theorem met_hatTells (l : Launch) (g : MG) (N : Nat) (x1 : Int32) (x2 : Int32) (σ : MS) {v : Int32} {σ1 : MS} (h : m_hatTells N x1 x2 σ = some (v, σ1)) : MetMi l g yX6_hatTells (ws_ yX6_hatTells cX6_hatTells 3 (some .int)) { frames := 6, cells := 0, slots := 0, locals := 132 } [.int x1, .int x2] σ v σ1 := by
  refine met_mi (lv0 := [(0, .ref (mh g)), (1, .int x1), (2, .int x2)]) (by decide) rfl ⟨rfl, rfl⟩ (Nat.le_of_ble_eq_true rfl) rfl ?_
  intro p e s m below meth c A Q E hq
  have hR : 6 ≤ ({ frames := 6, cells := 0, slots := 0, locals := 132 } : Room).frames ∧ 132 ≤ ({ frames := 6, cells := 0, slots := 0, locals := 132 } : Room).locals := ⟨Nat.le_refl _, Nat.le_refl _⟩
  unfold m_hatTells at h
  refine cf_aload_n E dX6_hatTells_0 0 rfl rfl ?_
  refine cf_bipush E dX6_hatTells_1 bp_12 rfl ?_
  refine mcl_body E (rmle hR rfl rfl) (Nat.le_of_ble_eq_true rfl) dX6_hatTells_3 h rfl (fun s_1 h => ?_)
  refine cf_aload_n E dX6_hatTells_6 0 rfl rfl ?_
  refine cf_iload_n E dX6_hatTells_7 1 rfl rfl ?_
  refine cf_iload_n E dX6_hatTells_8 2 rfl rfl ?_
  refine mcl_doesAct E (rmle hR rfl rfl) (Nat.le_of_ble_eq_true rfl) dX6_hatTells_9 h rfl (fun v_3 s_2 h => ?_)
  refine cf_iconst E dX6_hatTells_12 ic_2 rfl ?_
  refine cf_imul E dX6_hatTells_13 rfl ?_
  exact mret_i dX6_hatTells_14 h rfl hq
theorem gw_hatTells : GoodIn lw_all (wsV RX6 431 RX6 yX6_hatTells (ws_ yX6_hatTells cX6_hatTells 3 (some .int))) := lw_V q2119 q2121 qs93 q105 q2122
theorem hd_hatTells : yX6_hatTells.cls = RX6 ∧ yX6_hatTells.cls ≠ "java/lang/invoke/MethodHandle" ∧ yX6_hatTells.cls ≠ "java/lang/invoke/VarHandle" ∧ (parseMethodDescriptor yX6_hatTells.desc).map (fun d => d.parameters.length) = some 2 := by decide +kernel
theorem mcl_hatTells {p : Program} {l : Launch} {e : Env} {R : Room} {s : State} {m : MethodId} {args : Array Value} {below : List Frame} {meth : Method} {c : Code} {nL : Nat} {A : Nat → Prop} {g : MG} {σ : MS} {Q : State → Prop} {pc n : Nat} {lv : List (Nat × Value)} {st : List Value} {cc : ByteArray} {ρ : Type} {res : ρ} (E : EV p s m args c cc nL RX6) {N : Nat} {x1 : Int32} {x2 : Int32} {kk : Int32 → MS → Option ρ} (hR : 7 ≤ R.frames ∧ 154 ≤ R.locals) (hcat : (st.map fun v => v.category).sum ≤ 8) (d : decode cc pc = .ok (.invokevirtual 431, 3)) (h : bnd (m_hatTells N x1 x2 σ) kk = some res) (hn : pc + 3 = n) (k : ∀ (v : Int32) (σ1 : MS), kk v σ1 = some res → CF p l e R s m args below meth c nL 0 0 (MB g A s σ1) Q n lv (.int v :: st)) : CF p l e R s m args below meth c nL 0 0 (MB g A s σ) Q pc lv (.int x2 :: .int x1 :: .ref (mh g) :: st) :=
  mcall_i E [.int x1, .int x2] (fun v σ1 ho => met_hatTells l g N x1 x2 σ ho) gw_hatTells hd_hatTells rfl rfl hR rfl rfl hcat d h hn k
set_option maxHeartbeats 4000000 in
theorem met_tellsAct (l : Launch) (g : MG) (N : Nat) (x1 : Int32) (x2 : Int32) (σ : MS) {v : Int32} {σ1 : MS} (h : m_tellsAct N x1 x2 σ = some (v, σ1)) : MetMi l g yX6_tellsAct (ws_ yX6_tellsAct cX6_tellsAct 4 (some .int)) { frames := 7, cells := 0, slots := 0, locals := 154 } [.int x1, .int x2] σ v σ1 := by
  refine met_mi (lv0 := [(0, .ref (mh g)), (1, .int x1), (2, .int x2)]) (by decide) rfl ⟨rfl, rfl⟩ (Nat.le_of_ble_eq_true rfl) rfl ?_
  intro p e s m below meth c A Q E hq
  have hR : 7 ≤ ({ frames := 7, cells := 0, slots := 0, locals := 154 } : Room).frames ∧ 154 ≤ ({ frames := 7, cells := 0, slots := 0, locals := 154 } : Room).locals := ⟨Nat.le_refl _, Nat.le_refl _⟩
  unfold m_tellsAct at h
  refine cf_aload_n E dX6_tellsAct_0 0 rfl rfl ?_
  refine mget_6 E dX6_tellsAct_1 rfl ?_
  refine cf_iload_n E dX6_tellsAct_4 1 rfl rfl ?_
  refine mald_6 E dX6_tellsAct_5 h rfl (fun h => ?_)
  by_cases hx_1 : (gR σ 6 x1.toNatClampNeg) = (3 : Int32)
  · rw [if_pos hx_1] at h
    refine cf_tabIn E 3 dX6_tellsAct_6 (i32_eqZ hx_1 (by decide)) (by decide) (by decide) rfl rfl ?_
    refine cf_aload_n E dX6_tellsAct_36 0 rfl rfl ?_
    refine cf_bipush E dX6_tellsAct_37 bp_40 rfl ?_
    refine mcl_body E (rmle hR rfl rfl) (Nat.le_of_ble_eq_true rfl) dX6_tellsAct_39 h rfl (fun s_2 h => ?_)
    refine cf_aload_n E dX6_tellsAct_42 0 rfl rfl ?_
    refine cf_iload_n E dX6_tellsAct_43 1 rfl rfl ?_
    refine cf_iload_n E dX6_tellsAct_44 2 rfl rfl ?_
    refine mcl_hatTells E (rmle hR rfl rfl) (Nat.le_of_ble_eq_true rfl) dX6_tellsAct_45 h rfl (fun v_4 s_3 h => ?_)
    refine cf_istore_n E dX6_tellsAct_48 h (fun x3_5 => [(3, .int x3_5), (0, .ref (mh g)), (1, .int x1), (2, .int x2)]) (Nat.le_of_ble_eq_true rfl) (fun _ => rfl) rfl (fun x3_5 h => ?_)
    refine cf_iload_n E dX6_tellsAct_49 0 rfl rfl ?_
    refine cf_aload_n E dX6_tellsAct_50 1 rfl rfl ?_
    refine cf_iload_n E dX6_tellsAct_51 2 rfl rfl ?_
    refine cf_iconst E dX6_tellsAct_52 ic_1 rfl ?_
    refine mcl_doesAct E (rmle hR rfl rfl) (Nat.le_of_ble_eq_true rfl) dX6_tellsAct_53 h rfl (fun v_7 s_6 h => ?_)
    refine cf_iadd E dX6_tellsAct_56 rfl ?_
    exact mret_i dX6_tellsAct_57 h rfl hq
  rw [if_neg hx_1] at h
  by_cases hx_8 : (gR σ 6 x1.toNatClampNeg) = (4 : Int32)
  · rw [if_pos hx_8] at h
    refine cf_tabIn E 4 dX6_tellsAct_6 (i32_eqZ hx_8 (by decide)) (by decide) (by decide) rfl rfl ?_
    refine cf_aload_n E dX6_tellsAct_73 0 rfl rfl ?_
    refine cf_iload_n E dX6_tellsAct_74 1 rfl rfl ?_
    refine cf_iload_n E dX6_tellsAct_75 2 rfl rfl ?_
    refine mcl_hatTells E (rmle hR rfl rfl) (Nat.le_of_ble_eq_true rfl) dX6_tellsAct_76 h rfl (fun v_10 s_9 h => ?_)
    exact mret_i dX6_tellsAct_79 h rfl hq
  rw [if_neg hx_8] at h
  by_cases hx_11 : (gR σ 6 x1.toNatClampNeg) = (5 : Int32)
  · rw [if_pos hx_11] at h
    refine cf_tabIn E 5 dX6_tellsAct_6 (i32_eqZ hx_11 (by decide)) (by decide) (by decide) rfl rfl ?_
    refine cf_aload_n E dX6_tellsAct_58 0 rfl rfl ?_
    refine cf_bipush E dX6_tellsAct_59 bp_60 rfl ?_
    refine mcl_body E (rmle hR rfl rfl) (Nat.le_of_ble_eq_true rfl) dX6_tellsAct_61 h rfl (fun s_12 h => ?_)
    refine cf_aload_n E dX6_tellsAct_64 0 rfl rfl ?_
    refine cf_iload_n E dX6_tellsAct_65 1 rfl rfl ?_
    refine cf_iload_n E dX6_tellsAct_66 2 rfl rfl ?_
    refine cf_iload_n E dX6_tellsAct_67 1 rfl rfl ?_
    refine cf_isub E dX6_tellsAct_68 rfl ?_
    refine mcl_hatTells E (rmle hR rfl rfl) (Nat.le_of_ble_eq_true rfl) dX6_tellsAct_69 h rfl (fun v_14 s_13 h => ?_)
    exact mret_i dX6_tellsAct_72 h rfl hq
  rw [if_neg hx_11] at h
  by_cases hx_15 : (gR σ 6 x1.toNatClampNeg) = (6 : Int32)
  · rw [if_pos hx_15] at h
    refine cf_tabIn E 6 dX6_tellsAct_6 (i32_eqZ hx_15 (by decide)) (by decide) (by decide) rfl rfl ?_
    refine cf_aload_n E dX6_tellsAct_36 0 rfl rfl ?_
    refine cf_bipush E dX6_tellsAct_37 bp_40 rfl ?_
    refine mcl_body E (rmle hR rfl rfl) (Nat.le_of_ble_eq_true rfl) dX6_tellsAct_39 h rfl (fun s_16 h => ?_)
    refine cf_aload_n E dX6_tellsAct_42 0 rfl rfl ?_
    refine cf_iload_n E dX6_tellsAct_43 1 rfl rfl ?_
    refine cf_iload_n E dX6_tellsAct_44 2 rfl rfl ?_
    refine mcl_hatTells E (rmle hR rfl rfl) (Nat.le_of_ble_eq_true rfl) dX6_tellsAct_45 h rfl (fun v_18 s_17 h => ?_)
    refine cf_istore_n E dX6_tellsAct_48 h (fun x3_19 => [(3, .int x3_19), (0, .ref (mh g)), (1, .int x1), (2, .int x2)]) (Nat.le_of_ble_eq_true rfl) (fun _ => rfl) rfl (fun x3_19 h => ?_)
    refine cf_iload_n E dX6_tellsAct_49 0 rfl rfl ?_
    refine cf_aload_n E dX6_tellsAct_50 1 rfl rfl ?_
    refine cf_iload_n E dX6_tellsAct_51 2 rfl rfl ?_
    refine cf_iconst E dX6_tellsAct_52 ic_1 rfl ?_
    refine mcl_doesAct E (rmle hR rfl rfl) (Nat.le_of_ble_eq_true rfl) dX6_tellsAct_53 h rfl (fun v_21 s_20 h => ?_)
    refine cf_iadd E dX6_tellsAct_56 rfl ?_
    exact mret_i dX6_tellsAct_57 h rfl hq
  rw [if_neg hx_15] at h
  have hx_1 := i32_neZ (z := 3) hx_1 (by decide)
  have hx_8 := i32_neZ (z := 4) hx_8 (by decide)
  have hx_11 := i32_neZ (z := 5) hx_11 (by decide)
  have hx_15 := i32_neZ (z := 6) hx_15 (by decide)
  refine cf_tabOut E dX6_tellsAct_6 (by omega) rfl ?_
  refine cf_aload_n E dX6_tellsAct_73 0 rfl rfl ?_
  refine cf_iload_n E dX6_tellsAct_74 1 rfl rfl ?_
  refine cf_iload_n E dX6_tellsAct_75 2 rfl rfl ?_
  refine mcl_hatTells E (rmle hR rfl rfl) (Nat.le_of_ble_eq_true rfl) dX6_tellsAct_76 h rfl (fun v_23 s_22 h => ?_)
  exact mret_i dX6_tellsAct_79 h rfl hq
theorem gw_tellsAct : GoodIn lw_all (wsV RX6 434 RX6 yX6_tellsAct (ws_ yX6_tellsAct cX6_tellsAct 4 (some .int))) := lw_V q2115 q2117 qs92 q105 q2118
theorem hd_tellsAct : yX6_tellsAct.cls = RX6 ∧ yX6_tellsAct.cls ≠ "java/lang/invoke/MethodHandle" ∧ yX6_tellsAct.cls ≠ "java/lang/invoke/VarHandle" ∧ (parseMethodDescriptor yX6_tellsAct.desc).map (fun d => d.parameters.length) = some 2 := by decide +kernel
theorem mcl_tellsAct {p : Program} {l : Launch} {e : Env} {R : Room} {s : State} {m : MethodId} {args : Array Value} {below : List Frame} {meth : Method} {c : Code} {nL : Nat} {A : Nat → Prop} {g : MG} {σ : MS} {Q : State → Prop} {pc n : Nat} {lv : List (Nat × Value)} {st : List Value} {cc : ByteArray} {ρ : Type} {res : ρ} (E : EV p s m args c cc nL RX6) {N : Nat} {x1 : Int32} {x2 : Int32} {kk : Int32 → MS → Option ρ} (hR : 8 ≤ R.frames ∧ 177 ≤ R.locals) (hcat : (st.map fun v => v.category).sum ≤ 8) (d : decode cc pc = .ok (.invokevirtual 434, 3)) (h : bnd (m_tellsAct N x1 x2 σ) kk = some res) (hn : pc + 3 = n) (k : ∀ (v : Int32) (σ1 : MS), kk v σ1 = some res → CF p l e R s m args below meth c nL 0 0 (MB g A s σ1) Q n lv (.int v :: st)) : CF p l e R s m args below meth c nL 0 0 (MB g A s σ) Q pc lv (.int x2 :: .int x1 :: .ref (mh g) :: st) :=
  mcall_i E [.int x1, .int x2] (fun v σ1 ho => met_tellsAct l g N x1 x2 σ ho) gw_tellsAct hd_tellsAct rfl rfl hR rfl rfl hcat d h hn k
set_option maxHeartbeats 4000000 in
theorem met_act (l : Launch) (g : MG) (N : Nat) (x1 : Int32) (x2 : Int32) (x3 : Int32) (σ : MS) {v : Int32} {σ1 : MS} (h : m_act N x1 x2 x3 σ = some (v, σ1)) : MetMi l g yX6_act (ws_ yX6_act cX6_act 4 (some .int)) { frames := 8, cells := 0, slots := 0, locals := 177 } [.int x1, .int x2, .int x3] σ v σ1 := by
  refine met_mi (lv0 := [(0, .ref (mh g)), (1, .int x1), (2, .int x2), (3, .int x3)]) (by decide) rfl ⟨rfl, rfl⟩ (Nat.le_of_ble_eq_true rfl) rfl ?_
  intro p e s m below meth c A Q E hq
  have hR : 8 ≤ ({ frames := 8, cells := 0, slots := 0, locals := 177 } : Room).frames ∧ 177 ≤ ({ frames := 8, cells := 0, slots := 0, locals := 177 } : Room).locals := ⟨Nat.le_refl _, Nat.le_refl _⟩
  unfold m_act at h
  refine cf_aload_n E dX6_act_0 0 rfl rfl ?_
  refine cf_iconst E dX6_act_1 ic_0 rfl ?_
  refine mput_72 E dX6_act_2 h rfl (fun s_1 h => ?_)
  refine cf_aload_n E dX6_act_5 0 rfl rfl ?_
  refine cf_iload_n E dX6_act_6 1 rfl rfl ?_
  refine mcl_isHat E (rmle hR rfl rfl) (Nat.le_of_ble_eq_true rfl) dX6_act_7 h rfl (fun v_3 s_2 h => ?_)
  refine cf_if_eq E dX6_act_10 h rfl rfl (fun h => ?_) (fun h => ?_)
  · refine cf_iconst E dX6_act_23 ic_0 rfl ?_
    exact mret_i dX6_act_24 h rfl hq
  · refine cf_aload_n E dX6_act_13 0 rfl rfl ?_
    refine cf_iload_n E dX6_act_14 2 rfl rfl ?_
    refine cf_iconst E dX6_act_15 ic_0 rfl ?_
    refine cf_iconst E dX6_act_16 ic_2 rfl ?_
    refine mcl_in E (rmle hR rfl rfl) (Nat.le_of_ble_eq_true rfl) dX6_act_17 h rfl (fun v_5 s_4 h => ?_)
    refine cf_if_ne E dX6_act_20 h rfl rfl (fun h => ?_) (fun h => ?_)
    · refine cf_iload_n E dX6_act_25 2 rfl rfl ?_
      refine cf_if_ne E dX6_act_26 h rfl rfl (fun h => ?_) (fun h => ?_)
      · refine cf_iload_n E dX6_act_38 2 rfl rfl ?_
        refine cf_iconst E dX6_act_39 ic_1 rfl ?_
        refine cf_icmp_ne E dX6_act_40 h rfl rfl (fun h => ?_) (fun h => ?_)
        · refine cf_aload_n E dX6_act_52 0 rfl rfl ?_
          refine cf_iload_n E dX6_act_53 1 rfl rfl ?_
          refine cf_iload_n E dX6_act_54 3 rfl rfl ?_
          refine mcl_tellsAct E (rmle hR rfl rfl) (Nat.le_of_ble_eq_true rfl) dX6_act_55 h rfl (fun v_7 s_6 h => ?_)
          exact mret_i dX6_act_58 h rfl hq
        · refine cf_aload_n E dX6_act_43 0 rfl rfl ?_
          refine cf_iload_n E dX6_act_44 1 rfl rfl ?_
          refine cf_iload_n E dX6_act_45 3 rfl rfl ?_
          refine mcl_doesAct E (rmle hR rfl rfl) (Nat.le_of_ble_eq_true rfl) dX6_act_46 h rfl (fun v_9 s_8 h => ?_)
          refine cf_goto E dX6_act_49 rfl ?_
          exact mret_i dX6_act_58 h rfl hq
      · refine cf_aload_n E dX6_act_29 0 rfl rfl ?_
        refine cf_iload_n E dX6_act_30 1 rfl rfl ?_
        refine cf_iload_n E dX6_act_31 3 rfl rfl ?_
        refine mcl_sitsAct E (rmle hR rfl rfl) (Nat.le_of_ble_eq_true rfl) dX6_act_32 h rfl (fun v_11 s_10 h => ?_)
        refine cf_goto E dX6_act_35 rfl ?_
        exact mret_i dX6_act_58 h rfl hq
    · refine cf_iconst E dX6_act_23 ic_0 rfl ?_
      exact mret_i dX6_act_24 h rfl hq

set_option maxHeartbeats 4000000 in
theorem met_trace (l : Launch) (g : MG) (N : Nat) (x1 : Int32) (σ : MS) {v : Int32} {σ1 : MS} (h : m_trace N x1 σ = some (v, σ1)) : MetMi l g yX6_trace (ws_ yX6_trace cX6_trace 2 (some .int)) { frames := 1, cells := 0, slots := 0, locals := 23 } [.int x1] σ v σ1 := by
  refine met_mi (lv0 := [(0, .ref (mh g)), (1, .int x1)]) (by decide) rfl ⟨rfl, rfl⟩ (Nat.le_of_ble_eq_true rfl) rfl ?_
  intro p e s m below meth c A Q E hq
  have hR : 1 ≤ ({ frames := 1, cells := 0, slots := 0, locals := 23 } : Room).frames ∧ 23 ≤ ({ frames := 1, cells := 0, slots := 0, locals := 23 } : Room).locals := ⟨Nat.le_refl _, Nat.le_refl _⟩
  unfold m_trace at h
  refine cf_aload_n E dX6_trace_0 0 rfl rfl ?_
  refine cf_iload_n E dX6_trace_1 1 rfl rfl ?_
  refine cf_iconst E dX6_trace_2 ic_0 rfl ?_
  refine cf_bipush E dX6_trace_3 bp_19 rfl ?_
  refine mcl_in E (rmle hR rfl rfl) (Nat.le_of_ble_eq_true rfl) dX6_trace_5 h rfl (fun v_2 s_1 h => ?_)
  refine cf_if_eq E dX6_trace_8 h rfl rfl (fun h => ?_) (fun h => ?_)
  · refine cf_iconst E dX6_trace_28 ic_m1 rfl ?_
    exact mret_i dX6_trace_29 h rfl hq
  · refine cf_iload_n E dX6_trace_11 1 rfl rfl ?_
    refine cf_aload_n E dX6_trace_12 0 rfl rfl ?_
    refine mget_72 E dX6_trace_13 rfl ?_
    refine cf_icmp_ge E dX6_trace_16 h rfl rfl (fun h => ?_) (fun h => ?_)
    · refine cf_iconst E dX6_trace_28 ic_m1 rfl ?_
      exact mret_i dX6_trace_29 h rfl hq
    · refine cf_aload_n E dX6_trace_19 0 rfl rfl ?_
      refine mget_73 E dX6_trace_20 rfl ?_
      refine cf_iload_n E dX6_trace_23 1 rfl rfl ?_
      refine mald_73 E dX6_trace_24 h rfl (fun h => ?_)
      refine cf_goto E dX6_trace_25 rfl ?_
      exact mret_i dX6_trace_29 h rfl hq

set_option maxHeartbeats 4000000 in
theorem wm_taken_61 {p : Program} {l : Launch} {e : Env} {R : Room} {s : State} {m : MethodId} {args : Array Value} {below : List Frame} {meth : Method} {c : Code} {A : Nat → Prop} {g : MG} {Q : State → Prop} (E : EV p s m args c cX6_taken 4 RX6) (hR : 2 ≤ R.frames ∧ 44 ≤ R.locals) {res : Int32 × MS} (hq : RTi p l e R s m args below meth c cX6_taken 4 A g .int Q res) (N : Nat)  (x2 : Int32) (x3 : Int32) (σ : MS) (h : m_taken_61 N  x2 x3 σ = some res) : CF p l e R s m args below meth c 4 0 0 (MB g A s σ) Q 61 [(2, .int x2), (3, .int x3)] [] := by
  unfold m_taken_61 at h
  refine cf_iload_n E dX6_taken_61 0 rfl rfl ?_
  refine cf_iconst E dX6_taken_62 ic_3 rfl ?_
  refine cf_icmp_ne E dX6_taken_63 h rfl rfl (fun h => ?_) (fun h => ?_)
  · refine cf_bipush E dX6_taken_76 bp_m12 rfl ?_
    exact mret_i dX6_taken_78 h rfl hq
  · refine cf_iload_n E dX6_taken_66 1 rfl rfl ?_
    refine cf_bipush E dX6_taken_67 bp_6 rfl ?_
    refine cf_icmp_ne E dX6_taken_69 h rfl rfl (fun h => ?_) (fun h => ?_)
    · refine cf_bipush E dX6_taken_76 bp_m12 rfl ?_
      exact mret_i dX6_taken_78 h rfl hq
    · refine cf_iload_n E dX6_taken_72 1 rfl rfl ?_
      refine cf_goto E dX6_taken_73 rfl ?_
      exact mret_i dX6_taken_78 h rfl hq
set_option maxHeartbeats 4000000 in
theorem wm_taken_51 {p : Program} {l : Launch} {e : Env} {R : Room} {s : State} {m : MethodId} {args : Array Value} {below : List Frame} {meth : Method} {c : Code} {A : Nat → Prop} {g : MG} {Q : State → Prop} (E : EV p s m args c cX6_taken 4 RX6) (hR : 2 ≤ R.frames ∧ 44 ≤ R.locals) {res : Int32 × MS} (hq : RTi p l e R s m args below meth c cX6_taken 4 A g .int Q res) (N : Nat)  (x2 : Int32) (x3 : Int32) (σ : MS) (h : m_taken_51 N  x2 x3 σ = some res) : CF p l e R s m args below meth c 4 0 0 (MB g A s σ) Q 51 [(2, .int x2), (3, .int x3)] [] := by
  unfold m_taken_51 at h
  refine cf_iload_n E dX6_taken_51 0 rfl rfl ?_
  refine cf_iconst E dX6_taken_52 ic_2 rfl ?_
  refine cf_icmp_ne E dX6_taken_53 h rfl rfl (fun h => ?_) (fun h => ?_)
  · exact CF.sub [0, 1] rfl (wm_taken_61 E hR hq N x2 x3 σ h)
  · refine cf_iload_n E dX6_taken_56 1 rfl rfl ?_
    refine cf_iconst E dX6_taken_57 ic_5 rfl ?_
    refine cf_icmp_eq E dX6_taken_58 h rfl rfl (fun h => ?_) (fun h => ?_)
    · refine cf_iload_n E dX6_taken_72 1 rfl rfl ?_
      refine cf_goto E dX6_taken_73 rfl ?_
      exact mret_i dX6_taken_78 h rfl hq
    · exact CF.sub [0, 1] rfl (wm_taken_61 E hR hq N x2 x3 σ h)
set_option maxHeartbeats 4000000 in
theorem met_taken (l : Launch) (g : MG) (N : Nat) (x1 : Int32) (x2 : Int32) (σ : MS) {v : Int32} {σ1 : MS} (h : m_taken N x1 x2 σ = some (v, σ1)) : MetMi l g yX6_taken (ws_ yX6_taken cX6_taken 4 (some .int)) { frames := 2, cells := 0, slots := 0, locals := 44 } [.int x1, .int x2] σ v σ1 := by
  refine met_mi (lv0 := [(0, .ref (mh g)), (1, .int x1), (2, .int x2)]) (by decide) rfl ⟨rfl, rfl⟩ (Nat.le_of_ble_eq_true rfl) rfl ?_
  intro p e s m below meth c A Q E hq
  have hR : 2 ≤ ({ frames := 2, cells := 0, slots := 0, locals := 44 } : Room).frames ∧ 44 ≤ ({ frames := 2, cells := 0, slots := 0, locals := 44 } : Room).locals := ⟨Nat.le_refl _, Nat.le_refl _⟩
  unfold m_taken at h
  refine cf_aload_n E dX6_taken_0 0 rfl rfl ?_
  refine cf_iload_n E dX6_taken_1 2 rfl rfl ?_
  refine cf_iconst E dX6_taken_2 ic_0 rfl ?_
  refine cf_bipush E dX6_taken_3 bp_6 rfl ?_
  refine mcl_in E (rmle hR rfl rfl) (Nat.le_of_ble_eq_true rfl) dX6_taken_5 h rfl (fun v_2 s_1 h => ?_)
  refine cf_if_ne E dX6_taken_8 h rfl rfl (fun h => ?_) (fun h => ?_)
  · refine cf_aload_n E dX6_taken_14 0 rfl rfl ?_
    refine cf_iload_n E dX6_taken_15 1 rfl rfl ?_
    refine mcl_isHat E (rmle hR rfl rfl) (Nat.le_of_ble_eq_true rfl) dX6_taken_16 h rfl (fun v_4 s_3 h => ?_)
    refine cf_if_ne E dX6_taken_19 h rfl rfl (fun h => ?_) (fun h => ?_)
    · refine cf_aload_n E dX6_taken_25 0 rfl rfl ?_
      refine mget_6 E dX6_taken_26 rfl ?_
      refine cf_iload_n E dX6_taken_29 1 rfl rfl ?_
      refine mald_6 E dX6_taken_30 h rfl (fun h => ?_)
      refine cf_istore_n E dX6_taken_31 h (fun x3_5 => [(3, .int x3_5), (0, .ref (mh g)), (1, .int x1), (2, .int x2)]) (Nat.le_of_ble_eq_true rfl) (fun _ => rfl) rfl (fun x3_5 h => ?_)
      refine cf_iload_n E dX6_taken_32 3 rfl rfl ?_
      refine cf_if_eq E dX6_taken_33 h rfl rfl (fun h => ?_) (fun h => ?_)
      · refine cf_iload_n E dX6_taken_72 0 rfl rfl ?_
        refine cf_goto E dX6_taken_73 rfl ?_
        exact mret_i dX6_taken_78 h rfl hq
      · refine cf_iload_n E dX6_taken_36 0 rfl rfl ?_
        refine cf_iload_n E dX6_taken_37 3 rfl rfl ?_
        refine cf_icmp_eq E dX6_taken_38 h rfl rfl (fun h => ?_) (fun h => ?_)
        · refine cf_iload_n E dX6_taken_72 0 rfl rfl ?_
          refine cf_goto E dX6_taken_73 rfl ?_
          exact mret_i dX6_taken_78 h rfl hq
        · refine cf_iload_n E dX6_taken_41 3 rfl rfl ?_
          refine cf_iconst E dX6_taken_42 ic_1 rfl ?_
          refine cf_icmp_ne E dX6_taken_43 h rfl rfl (fun h => ?_) (fun h => ?_)
          · exact CF.sub [3, 0] rfl (wm_taken_51 E hR hq N x2 x3_5 s_3 h)
          · refine cf_iload_n E dX6_taken_46 0 rfl rfl ?_
            refine cf_iconst E dX6_taken_47 ic_4 rfl ?_
            refine cf_icmp_eq E dX6_taken_48 h rfl rfl (fun h => ?_) (fun h => ?_)
            · refine cf_iload_n E dX6_taken_72 0 rfl rfl ?_
              refine cf_goto E dX6_taken_73 rfl ?_
              exact mret_i dX6_taken_78 h rfl hq
            · exact CF.sub [3, 0] rfl (wm_taken_51 E hR hq N x2 x3_5 s_3 h)
    · refine cf_bipush E dX6_taken_22 bp_m11 rfl ?_
      exact mret_i dX6_taken_24 h rfl hq
  · refine cf_bipush E dX6_taken_11 bp_m2 rfl ?_
    exact mret_i dX6_taken_13 h rfl hq

set_option maxHeartbeats 4000000 in
theorem met_count (l : Launch) (g : MG) (N : Nat) (x1 : Int32) (σ : MS) {v : Int32} {σ1 : MS} (h : m_count N x1 σ = some (v, σ1)) : MetMi l g yX6_count (ws_ yX6_count cX6_count 2 (some .int)) { frames := 0, cells := 0, slots := 0, locals := 0 } [.int x1] σ v σ1 := by
  refine met_mi (lv0 := [(0, .ref (mh g)), (1, .int x1)]) (by decide) rfl ⟨rfl, rfl⟩ (Nat.le_of_ble_eq_true rfl) rfl ?_
  intro p e s m below meth c A Q E hq
  have hR : 0 ≤ ({ frames := 0, cells := 0, slots := 0, locals := 0 } : Room).frames ∧ 0 ≤ ({ frames := 0, cells := 0, slots := 0, locals := 0 } : Room).locals := ⟨Nat.le_refl _, Nat.le_refl _⟩
  unfold m_count at h
  refine cf_iload_n E dX6_count_0 1 rfl rfl ?_
  by_cases hx_1 : x1 = (0 : Int32)
  · rw [if_pos hx_1] at h
    refine cf_tabIn E 0 dX6_count_1 (i32_eqZ hx_1 (by decide)) (by decide) (by decide) rfl rfl ?_
    refine cf_aload_n E dX6_count_44 0 rfl rfl ?_
    refine mget_1 E dX6_count_45 rfl ?_
    exact mret_i dX6_count_48 h rfl hq
  rw [if_neg hx_1] at h
  by_cases hx_2 : x1 = (1 : Int32)
  · rw [if_pos hx_2] at h
    refine cf_tabIn E 1 dX6_count_1 (i32_eqZ hx_2 (by decide)) (by decide) (by decide) rfl rfl ?_
    refine cf_aload_n E dX6_count_49 0 rfl rfl ?_
    refine mget_0 E dX6_count_50 rfl ?_
    exact mret_i dX6_count_53 h rfl hq
  rw [if_neg hx_2] at h
  by_cases hx_3 : x1 = (2 : Int32)
  · rw [if_pos hx_3] at h
    refine cf_tabIn E 2 dX6_count_1 (i32_eqZ hx_3 (by decide)) (by decide) (by decide) rfl rfl ?_
    refine cf_aload_n E dX6_count_54 0 rfl rfl ?_
    refine mget_14 E dX6_count_55 rfl ?_
    exact mret_i dX6_count_58 h rfl hq
  rw [if_neg hx_3] at h
  by_cases hx_4 : x1 = (3 : Int32)
  · rw [if_pos hx_4] at h
    refine cf_tabIn E 3 dX6_count_1 (i32_eqZ hx_4 (by decide)) (by decide) (by decide) rfl rfl ?_
    refine cf_aload_n E dX6_count_59 0 rfl rfl ?_
    refine mget_43 E dX6_count_60 rfl ?_
    exact mret_i dX6_count_63 h rfl hq
  rw [if_neg hx_4] at h
  by_cases hx_5 : x1 = (4 : Int32)
  · rw [if_pos hx_5] at h
    refine cf_tabIn E 4 dX6_count_1 (i32_eqZ hx_5 (by decide)) (by decide) (by decide) rfl rfl ?_
    refine cf_aload_n E dX6_count_64 0 rfl rfl ?_
    refine mget_47 E dX6_count_65 rfl ?_
    exact mret_i dX6_count_68 h rfl hq
  rw [if_neg hx_5] at h
  by_cases hx_6 : x1 = (5 : Int32)
  · rw [if_pos hx_6] at h
    refine cf_tabIn E 5 dX6_count_1 (i32_eqZ hx_6 (by decide)) (by decide) (by decide) rfl rfl ?_
    refine cf_aload_n E dX6_count_69 0 rfl rfl ?_
    refine mget_16 E dX6_count_70 rfl ?_
    exact mret_i dX6_count_73 h rfl hq
  rw [if_neg hx_6] at h
  by_cases hx_7 : x1 = (6 : Int32)
  · rw [if_pos hx_7] at h
    refine cf_tabIn E 6 dX6_count_1 (i32_eqZ hx_7 (by decide)) (by decide) (by decide) rfl rfl ?_
    refine cf_aload_n E dX6_count_74 0 rfl rfl ?_
    refine mget_72 E dX6_count_75 rfl ?_
    exact mret_i dX6_count_78 h rfl hq
  rw [if_neg hx_7] at h
  have hx_1 := i32_neZ (z := 0) hx_1 (by decide)
  have hx_2 := i32_neZ (z := 1) hx_2 (by decide)
  have hx_3 := i32_neZ (z := 2) hx_3 (by decide)
  have hx_4 := i32_neZ (z := 3) hx_4 (by decide)
  have hx_5 := i32_neZ (z := 4) hx_5 (by decide)
  have hx_6 := i32_neZ (z := 5) hx_6 (by decide)
  have hx_7 := i32_neZ (z := 6) hx_7 (by decide)
  refine cf_tabOut E dX6_count_1 (by omega) rfl ?_
  refine cf_bipush E dX6_count_79 bp_m2 rfl ?_
  exact mret_i dX6_count_81 h rfl hq

set_option maxHeartbeats 4000000 in
theorem wm_tape_69b {p : Program} {l : Launch} {e : Env} {R : Room} {s : State} {m : MethodId} {args : Array Value} {below : List Frame} {meth : Method} {c : Code} {A : Nat → Prop} {g : MG} {Q : State → Prop} (E : EV p s m args c cX6_tape 5 RX6) (hR : 2 ≤ R.frames ∧ 44 ≤ R.locals) {res : Int32 × MS} (hq : RTi p l e R s m args below meth c cX6_tape 5 A g .int Q res) (N : Nat)  {rec69 : Int32 → Int32 → MS → Option (Int32 × MS)} (ih69 : ∀ (x1 : Int32) (x4 : Int32) (σ : MS), rec69 x1 x4 σ = some res → CF p l e R s m args below meth c 5 0 0 (MB g A s σ) Q 69 [(0, .ref (mh g)), (1, .int x1), (4, .int x4)] []) (x1 : Int32) (x4 : Int32) (σ : MS) (h : m_tape_69b N  rec69 x1 x4 σ = some res) : CF p l e R s m args below meth c 5 0 0 (MB g A s σ) Q 69 [(0, .ref (mh g)), (1, .int x1), (4, .int x4)] [] := by
  unfold m_tape_69b at h
  refine cf_iload E dX6_tape_69 2 rfl rfl ?_
  refine cf_bipush E dX6_tape_71 bp_60 rfl ?_
  refine cf_icmp_ge E dX6_tape_73 h rfl rfl (fun h => ?_) (fun h => ?_)
  · refine cf_iconst E dX6_tape_95 ic_1 rfl ?_
    exact mret_i dX6_tape_96 h rfl hq
  · refine cf_aload_n E dX6_tape_76 0 rfl rfl ?_
    refine mget_76 E dX6_tape_77 rfl ?_
    refine cf_bipush E dX6_tape_80 bp_60 rfl ?_
    refine cf_iload_n E dX6_tape_82 1 rfl rfl ?_
    refine cf_imul E dX6_tape_83 rfl ?_
    refine cf_iload E dX6_tape_84 2 rfl rfl ?_
    refine cf_iadd E dX6_tape_86 rfl ?_
    refine cf_lconst E dX6_tape_87 lc_0 rfl ?_
    refine mast_76 E dX6_tape_88 h rfl (fun s_1 h => ?_)
    refine cf_iinc E dX6_tape_89 ic_1 h 2 rfl (fun x4_2 => [(4, .int x4_2), (0, .ref (mh g)), (1, .int x1)]) (Nat.le_of_ble_eq_true rfl) (fun _ => rfl) rfl (fun x4_2 h => ?_)
    refine cf_goto E dX6_tape_92 rfl ?_
    exact CF.sub [1, 2, 0] rfl (ih69 x1 x4_2 s_1 h)
set_option maxHeartbeats 4000000 in
theorem wm_tape_69 {p : Program} {l : Launch} {e : Env} {R : Room} {s : State} {m : MethodId} {args : Array Value} {below : List Frame} {meth : Method} {c : Code} {A : Nat → Prop} {g : MG} {Q : State → Prop} (E : EV p s m args c cX6_tape 5 RX6) (hR : 2 ≤ R.frames ∧ 44 ≤ R.locals) {res : Int32 × MS} (hq : RTi p l e R s m args below meth c cX6_tape 5 A g .int Q res) (N : Nat)  : ∀ (k : Nat) (x1 : Int32) (x4 : Int32) (σ : MS), m_tape_69 N  k x1 x4 σ = some res → CF p l e R s m args below meth c 5 0 0 (MB g A s σ) Q 69 [(0, .ref (mh g)), (1, .int x1), (4, .int x4)] [] := by
  intro k
  induction k with
  | zero => intro x1 x4 σ h; have h : (none : Option (Int32 × MS)) = some res := h; cases h
  | succ k ih => intro x1 x4 σ h; exact wm_tape_69b E hR hq N  ih x1 x4 σ h
set_option maxHeartbeats 4000000 in
theorem wm_tape_65 {p : Program} {l : Launch} {e : Env} {R : Room} {s : State} {m : MethodId} {args : Array Value} {below : List Frame} {meth : Method} {c : Code} {A : Nat → Prop} {g : MG} {Q : State → Prop} (E : EV p s m args c cX6_tape 5 RX6) (hR : 2 ≤ R.frames ∧ 44 ≤ R.locals) {res : Int32 × MS} (hq : RTi p l e R s m args below meth c cX6_tape 5 A g .int Q res) (N : Nat)  (x1 : Int32) (z0 : Int32) (z1 : Int32) (σ : MS) (h : m_tape_65 N  x1 z0 z1 σ = some res) : CF p l e R s m args below meth c 5 0 0 (MB g A s σ) Q 65 [(0, .ref (mh g)), (1, .int x1)] [.int z0, .int z1, .ref (ma g 75)] := by
  unfold m_tape_65 at h
  refine mast_75 E dX6_tape_65 h rfl (fun s_1 h => ?_)
  refine cf_iconst E dX6_tape_66 ic_0 rfl ?_
  refine cf_istore E dX6_tape_67 h (fun x4_2 => [(4, .int x4_2), (0, .ref (mh g)), (1, .int x1)]) (Nat.le_of_ble_eq_true rfl) (fun _ => rfl) rfl (fun x4_2 h => ?_)
  exact CF.sub [1, 2, 0] rfl (wm_tape_69 E hR hq N N x1 x4_2 s_1 h)
set_option maxHeartbeats 4000000 in
theorem wm_tape_44 {p : Program} {l : Launch} {e : Env} {R : Room} {s : State} {m : MethodId} {args : Array Value} {below : List Frame} {meth : Method} {c : Code} {A : Nat → Prop} {g : MG} {Q : State → Prop} (E : EV p s m args c cX6_tape 5 RX6) (hR : 2 ≤ R.frames ∧ 44 ≤ R.locals) {res : Int32 × MS} (hq : RTi p l e R s m args below meth c cX6_tape 5 A g .int Q res) (N : Nat)  (x1 : Int32) (x2 : Int32) (x3 : Int32) (σ : MS) (h : m_tape_44 N  x1 x2 x3 σ = some res) : CF p l e R s m args below meth c 5 0 0 (MB g A s σ) Q 44 [(0, .ref (mh g)), (1, .int x1), (2, .int x2), (3, .int x3)] [] := by
  unfold m_tape_44 at h
  refine cf_aload_n E dX6_tape_44 0 rfl rfl ?_
  refine mget_74 E dX6_tape_45 rfl ?_
  refine cf_iload_n E dX6_tape_48 1 rfl rfl ?_
  refine cf_iload_n E dX6_tape_49 2 rfl rfl ?_
  refine mast_74 E dX6_tape_50 h rfl (fun s_1 h => ?_)
  refine cf_aload_n E dX6_tape_51 0 rfl rfl ?_
  refine mget_75 E dX6_tape_52 rfl ?_
  refine cf_iload_n E dX6_tape_55 1 rfl rfl ?_
  refine cf_iload_n E dX6_tape_56 2 rfl rfl ?_
  refine cf_if_ge E dX6_tape_57 h rfl rfl (fun h => ?_) (fun h => ?_)
  · refine cf_iload_n E dX6_tape_64 3 rfl rfl ?_
    exact CF.sub [0, 1] rfl (wm_tape_65 E hR hq N x1 x3 x1 s_1 h)
  · refine cf_iconst E dX6_tape_60 ic_0 rfl ?_
    refine cf_goto E dX6_tape_61 rfl ?_
    exact CF.sub [0, 1] rfl (wm_tape_65 E hR hq N x1 (0 : Int32) x1 s_1 h)
set_option maxHeartbeats 4000000 in
theorem wm_tape_33 {p : Program} {l : Launch} {e : Env} {R : Room} {s : State} {m : MethodId} {args : Array Value} {below : List Frame} {meth : Method} {c : Code} {A : Nat → Prop} {g : MG} {Q : State → Prop} (E : EV p s m args c cX6_tape 5 RX6) (hR : 2 ≤ R.frames ∧ 44 ≤ R.locals) {res : Int32 × MS} (hq : RTi p l e R s m args below meth c cX6_tape 5 A g .int Q res) (N : Nat)  (x1 : Int32) (x2 : Int32) (x3 : Int32) (σ : MS) (h : m_tape_33 N  x1 x2 x3 σ = some res) : CF p l e R s m args below meth c 5 0 0 (MB g A s σ) Q 33 [(0, .ref (mh g)), (1, .int x1), (2, .int x2), (3, .int x3)] [] := by
  unfold m_tape_33 at h
  refine cf_iload_n E dX6_tape_33 2 rfl rfl ?_
  refine cf_if_lt E dX6_tape_34 h rfl rfl (fun h => ?_) (fun h => ?_)
  · exact CF.sub [0, 1, 2, 3] rfl (wm_tape_44 E hR hq N x1 x2 x3 σ h)
  · refine cf_iload_n E dX6_tape_37 3 rfl rfl ?_
    refine cf_if_ge E dX6_tape_38 h rfl rfl (fun h => ?_) (fun h => ?_)
    · exact CF.sub [0, 1, 2, 3] rfl (wm_tape_44 E hR hq N x1 x2 x3 σ h)
    · refine cf_bipush E dX6_tape_41 bp_m14 rfl ?_
      exact mret_i dX6_tape_43 h rfl hq
set_option maxHeartbeats 4000000 in
theorem met_tape (l : Launch) (g : MG) (N : Nat) (x1 : Int32) (x2 : Int32) (x3 : Int32) (σ : MS) {v : Int32} {σ1 : MS} (h : m_tape N x1 x2 x3 σ = some (v, σ1)) : MetMi l g yX6_tape (ws_ yX6_tape cX6_tape 5 (some .int)) { frames := 2, cells := 0, slots := 0, locals := 44 } [.int x1, .int x2, .int x3] σ v σ1 := by
  refine met_mi (lv0 := [(0, .ref (mh g)), (1, .int x1), (2, .int x2), (3, .int x3)]) (by decide) rfl ⟨rfl, rfl⟩ (Nat.le_of_ble_eq_true rfl) rfl ?_
  intro p e s m below meth c A Q E hq
  have hR : 2 ≤ ({ frames := 2, cells := 0, slots := 0, locals := 44 } : Room).frames ∧ 44 ≤ ({ frames := 2, cells := 0, slots := 0, locals := 44 } : Room).locals := ⟨Nat.le_refl _, Nat.le_refl _⟩
  unfold m_tape at h
  refine cf_aload_n E dX6_tape_0 0 rfl rfl ?_
  refine cf_iload_n E dX6_tape_1 1 rfl rfl ?_
  refine mcl_isTape E (rmle hR rfl rfl) (Nat.le_of_ble_eq_true rfl) dX6_tape_2 h rfl (fun v_2 s_1 h => ?_)
  refine cf_if_ne E dX6_tape_5 h rfl rfl (fun h => ?_) (fun h => ?_)
  · refine cf_aload_n E dX6_tape_10 0 rfl rfl ?_
    refine cf_iload_n E dX6_tape_11 2 rfl rfl ?_
    refine cf_iconst E dX6_tape_12 ic_m1 rfl ?_
    refine cf_iconst E dX6_tape_13 ic_4 rfl ?_
    refine mcl_in E (rmle hR rfl rfl) (Nat.le_of_ble_eq_true rfl) dX6_tape_14 h rfl (fun v_4 s_3 h => ?_)
    refine cf_if_eq E dX6_tape_17 h rfl rfl (fun h => ?_) (fun h => ?_)
    · refine cf_bipush E dX6_tape_30 bp_m2 rfl ?_
      exact mret_i dX6_tape_32 h rfl hq
    · refine cf_iload_n E dX6_tape_20 2 rfl rfl ?_
      refine cf_if_lt E dX6_tape_21 h rfl rfl (fun h => ?_) (fun h => ?_)
      · exact CF.sub [0, 1, 2, 3] rfl (wm_tape_33 E hR hq N x1 x2 x3 s_3 h)
      · refine cf_iload_n E dX6_tape_24 3 rfl rfl ?_
        refine cf_bipush E dX6_tape_25 bp_60 rfl ?_
        refine cf_icmp_le E dX6_tape_27 h rfl rfl (fun h => ?_) (fun h => ?_)
        · exact CF.sub [0, 1, 2, 3] rfl (wm_tape_33 E hR hq N x1 x2 x3 s_3 h)
        · refine cf_bipush E dX6_tape_30 bp_m2 rfl ?_
          exact mret_i dX6_tape_32 h rfl hq
  · refine cf_iconst E dX6_tape_8 ic_m1 rfl ?_
    exact mret_i dX6_tape_9 h rfl hq

set_option maxHeartbeats 4000000 in
theorem met_narrow (l : Launch) (g : MG) (N : Nat) (x1 : Int32) (x2 : Int64) (σ : MS) {v : Int64} {σ1 : MS} (h : m_narrow N x1 x2 σ = some (v, σ1)) : MetMl l g yX6_narrow (ws_ yX6_narrow cX6_narrow 4 (some .long)) { frames := 0, cells := 0, slots := 0, locals := 0 } [.int x1, .long x2] σ v σ1 := by
  refine met_ml (lv0 := [(0, .ref (mh g)), (1, .int x1), (2, .long x2)]) (by decide) rfl ⟨rfl, rfl⟩ (Nat.le_of_ble_eq_true rfl) rfl ?_
  intro p e s m below meth c A Q E hq
  have hR : 0 ≤ ({ frames := 0, cells := 0, slots := 0, locals := 0 } : Room).frames ∧ 0 ≤ ({ frames := 0, cells := 0, slots := 0, locals := 0 } : Room).locals := ⟨Nat.le_refl _, Nat.le_refl _⟩
  unfold m_narrow at h
  refine cf_iload_n E dX6_narrow_0 1 rfl rfl ?_
  refine cf_if_ne E dX6_narrow_1 h rfl rfl (fun h => ?_) (fun h => ?_)
  · refine cf_iload_n E dX6_narrow_11 1 rfl rfl ?_
    refine cf_iconst E dX6_narrow_12 ic_1 rfl ?_
    refine cf_icmp_ne E dX6_narrow_13 h rfl rfl (fun h => ?_) (fun h => ?_)
    · refine cf_iload_n E dX6_narrow_23 1 rfl rfl ?_
      refine cf_iconst E dX6_narrow_24 ic_2 rfl ?_
      refine cf_icmp_ne E dX6_narrow_25 h rfl rfl (fun h => ?_) (fun h => ?_)
      · refine cf_iload_n E dX6_narrow_34 1 rfl rfl ?_
        refine cf_iconst E dX6_narrow_35 ic_4 rfl ?_
        refine cf_icmp_ne E dX6_narrow_36 h rfl rfl (fun h => ?_) (fun h => ?_)
        · refine cf_lload_n E dX6_narrow_53 2 rfl rfl ?_
          exact mret_l dX6_narrow_54 h hq
        · refine cf_lload_n E dX6_narrow_39 2 rfl rfl ?_
          refine cf_lconst E dX6_narrow_40 lc_0 rfl ?_
          refine cf_lcmp E dX6_narrow_41 rfl ?_
          refine cf_if_eq E dX6_narrow_42 h rfl rfl (fun h => ?_) (fun h => ?_)
          · refine cf_lconst E dX6_narrow_49 lc_0 rfl ?_
            refine cf_goto E dX6_narrow_50 rfl ?_
            exact mret_l dX6_narrow_54 h hq
          · refine cf_lconst E dX6_narrow_45 lc_1 rfl ?_
            refine cf_goto E dX6_narrow_46 rfl ?_
            exact mret_l dX6_narrow_54 h hq
      · refine cf_lload_n E dX6_narrow_28 2 rfl rfl ?_
        refine cf_l2i E dX6_narrow_29 rfl ?_
        refine cf_i2l E dX6_narrow_30 rfl ?_
        refine cf_goto E dX6_narrow_31 rfl ?_
        exact mret_l dX6_narrow_54 h hq
    · refine cf_lload_n E dX6_narrow_16 2 rfl rfl ?_
      refine cf_l2i E dX6_narrow_17 rfl ?_
      refine cf_i2s E dX6_narrow_18 rfl ?_
      refine cf_i2l E dX6_narrow_19 rfl ?_
      refine cf_goto E dX6_narrow_20 rfl ?_
      exact mret_l dX6_narrow_54 h hq
  · refine cf_lload_n E dX6_narrow_4 2 rfl rfl ?_
    refine cf_l2i E dX6_narrow_5 rfl ?_
    refine cf_i2b E dX6_narrow_6 rfl ?_
    refine cf_i2l E dX6_narrow_7 rfl ?_
    refine cf_goto E dX6_narrow_8 rfl ?_
    exact mret_l dX6_narrow_54 h hq
theorem gw_narrow : GoodIn lw_all (wsV RX6 437 RX6 yX6_narrow (ws_ yX6_narrow cX6_narrow 4 (some .long))) := lw_V q2143 q2145 qs94 q105 q2146
theorem hd_narrow : yX6_narrow.cls = RX6 ∧ yX6_narrow.cls ≠ "java/lang/invoke/MethodHandle" ∧ yX6_narrow.cls ≠ "java/lang/invoke/VarHandle" ∧ (parseMethodDescriptor yX6_narrow.desc).map (fun d => d.parameters.length) = some 2 := by decide +kernel
theorem mcl_narrow {p : Program} {l : Launch} {e : Env} {R : Room} {s : State} {m : MethodId} {args : Array Value} {below : List Frame} {meth : Method} {c : Code} {nL : Nat} {A : Nat → Prop} {g : MG} {σ : MS} {Q : State → Prop} {pc n : Nat} {lv : List (Nat × Value)} {st : List Value} {cc : ByteArray} {ρ : Type} {res : ρ} (E : EV p s m args c cc nL RX6) {N : Nat} {x1 : Int32} {x2 : Int64} {kk : Int64 → MS → Option ρ} (hR : 1 ≤ R.frames ∧ 23 ≤ R.locals) (hcat : (st.map fun v => v.category).sum ≤ 8) (d : decode cc pc = .ok (.invokevirtual 437, 3)) (h : bnd (m_narrow N x1 x2 σ) kk = some res) (hn : pc + 3 = n) (k : ∀ (v : Int64) (σ1 : MS), kk v σ1 = some res → CF p l e R s m args below meth c nL 0 0 (MB g A s σ1) Q n lv (.long v :: st)) : CF p l e R s m args below meth c nL 0 0 (MB g A s σ) Q pc lv (.long x2 :: .int x1 :: .ref (mh g) :: st) :=
  mcall_l E [.int x1, .long x2] (fun v σ1 ho => met_narrow l g N x1 x2 σ ho) gw_narrow hd_narrow rfl rfl hR rfl rfl hcat d h hn k
set_option maxHeartbeats 4000000 in
theorem met_item (l : Launch) (g : MG) (N : Nat) (x1 : Int32) (x2 : Int32) (x3 : Int64) (σ : MS) {v : Int32} {σ1 : MS} (h : m_item N x1 x2 x3 σ = some (v, σ1)) : MetMi l g yX6_item (ws_ yX6_item cX6_item 5 (some .int)) { frames := 2, cells := 0, slots := 0, locals := 44 } [.int x1, .int x2, .long x3] σ v σ1 := by
  refine met_mi (lv0 := [(0, .ref (mh g)), (1, .int x1), (2, .int x2), (3, .long x3)]) (by decide) rfl ⟨rfl, rfl⟩ (Nat.le_of_ble_eq_true rfl) rfl ?_
  intro p e s m below meth c A Q E hq
  have hR : 2 ≤ ({ frames := 2, cells := 0, slots := 0, locals := 44 } : Room).frames ∧ 44 ≤ ({ frames := 2, cells := 0, slots := 0, locals := 44 } : Room).locals := ⟨Nat.le_refl _, Nat.le_refl _⟩
  unfold m_item at h
  refine cf_aload_n E dX6_item_0 0 rfl rfl ?_
  refine cf_iload_n E dX6_item_1 1 rfl rfl ?_
  refine mcl_isTape E (rmle hR rfl rfl) (Nat.le_of_ble_eq_true rfl) dX6_item_2 h rfl (fun v_2 s_1 h => ?_)
  refine cf_if_ne E dX6_item_5 h rfl rfl (fun h => ?_) (fun h => ?_)
  · refine cf_aload_n E dX6_item_10 0 rfl rfl ?_
    refine mget_74 E dX6_item_11 rfl ?_
    refine cf_iload_n E dX6_item_14 1 rfl rfl ?_
    refine mald_74 E dX6_item_15 h rfl (fun h => ?_)
    refine cf_if_ge E dX6_item_16 h rfl rfl (fun h => ?_) (fun h => ?_)
    · refine cf_aload_n E dX6_item_22 0 rfl rfl ?_
      refine cf_iload_n E dX6_item_23 2 rfl rfl ?_
      refine cf_iconst E dX6_item_24 ic_0 rfl ?_
      refine cf_aload_n E dX6_item_25 0 rfl rfl ?_
      refine mget_75 E dX6_item_26 rfl ?_
      refine cf_iload_n E dX6_item_29 1 rfl rfl ?_
      refine mald_75 E dX6_item_30 h rfl (fun h => ?_)
      refine cf_iconst E dX6_item_31 ic_1 rfl ?_
      refine cf_isub E dX6_item_32 rfl ?_
      refine mcl_in E (rmle hR rfl rfl) (Nat.le_of_ble_eq_true rfl) dX6_item_33 h rfl (fun v_4 s_3 h => ?_)
      refine cf_if_ne E dX6_item_36 h rfl rfl (fun h => ?_) (fun h => ?_)
      · refine cf_aload_n E dX6_item_42 0 rfl rfl ?_
        refine mget_76 E dX6_item_43 rfl ?_
        refine cf_bipush E dX6_item_46 bp_60 rfl ?_
        refine cf_iload_n E dX6_item_48 1 rfl rfl ?_
        refine cf_imul E dX6_item_49 rfl ?_
        refine cf_iload_n E dX6_item_50 2 rfl rfl ?_
        refine cf_iadd E dX6_item_51 rfl ?_
        refine cf_aload_n E dX6_item_52 0 rfl rfl ?_
        refine cf_aload_n E dX6_item_53 0 rfl rfl ?_
        refine mget_74 E dX6_item_54 rfl ?_
        refine cf_iload_n E dX6_item_57 1 rfl rfl ?_
        refine mald_74 E dX6_item_58 h rfl (fun h => ?_)
        refine cf_lload_n E dX6_item_59 3 rfl rfl ?_
        refine mcl_narrow E (rmle hR rfl rfl) (Nat.le_of_ble_eq_true rfl) dX6_item_60 h rfl (fun v_6 s_5 h => ?_)
        refine mast_76 E dX6_item_63 h rfl (fun s_7 h => ?_)
        refine cf_iconst E dX6_item_64 ic_1 rfl ?_
        exact mret_i dX6_item_65 h rfl hq
      · refine cf_bipush E dX6_item_39 bp_m13 rfl ?_
        exact mret_i dX6_item_41 h rfl hq
    · refine cf_bipush E dX6_item_19 bp_m11 rfl ?_
      exact mret_i dX6_item_21 h rfl hq
  · refine cf_iconst E dX6_item_8 ic_m1 rfl ?_
    exact mret_i dX6_item_9 h rfl hq

set_option maxHeartbeats 4000000 in
theorem met_read (l : Launch) (g : MG) (N : Nat) (x1 : Int32) (x2 : Int32) (σ : MS) {v : Int64} {σ1 : MS} (h : m_read N x1 x2 σ = some (v, σ1)) : MetMl l g yX6_read (ws_ yX6_read cX6_read 3 (some .long)) { frames := 2, cells := 0, slots := 0, locals := 44 } [.int x1, .int x2] σ v σ1 := by
  refine met_ml (lv0 := [(0, .ref (mh g)), (1, .int x1), (2, .int x2)]) (by decide) rfl ⟨rfl, rfl⟩ (Nat.le_of_ble_eq_true rfl) rfl ?_
  intro p e s m below meth c A Q E hq
  have hR : 2 ≤ ({ frames := 2, cells := 0, slots := 0, locals := 44 } : Room).frames ∧ 44 ≤ ({ frames := 2, cells := 0, slots := 0, locals := 44 } : Room).locals := ⟨Nat.le_refl _, Nat.le_refl _⟩
  unfold m_read at h
  refine cf_aload_n E dX6_read_0 0 rfl rfl ?_
  refine cf_iload_n E dX6_read_1 1 rfl rfl ?_
  refine mcl_isTape E (rmle hR rfl rfl) (Nat.le_of_ble_eq_true rfl) dX6_read_2 h rfl (fun v_2 s_1 h => ?_)
  refine cf_if_eq E dX6_read_5 h rfl rfl (fun h => ?_) (fun h => ?_)
  · refine cf_ldc2 E dX6_read_34 q2050 rfl ?_
    refine cf_goto E dX6_read_37 rfl ?_
    exact mret_l dX6_read_51 h hq
  · refine cf_aload_n E dX6_read_8 0 rfl rfl ?_
    refine mget_74 E dX6_read_9 rfl ?_
    refine cf_iload_n E dX6_read_12 1 rfl rfl ?_
    refine mald_74 E dX6_read_13 h rfl (fun h => ?_)
    refine cf_if_lt E dX6_read_14 h rfl rfl (fun h => ?_) (fun h => ?_)
    · refine cf_ldc2 E dX6_read_34 q2050 rfl ?_
      refine cf_goto E dX6_read_37 rfl ?_
      exact mret_l dX6_read_51 h hq
    · refine cf_aload_n E dX6_read_17 0 rfl rfl ?_
      refine cf_iload_n E dX6_read_18 2 rfl rfl ?_
      refine cf_iconst E dX6_read_19 ic_0 rfl ?_
      refine cf_aload_n E dX6_read_20 0 rfl rfl ?_
      refine mget_75 E dX6_read_21 rfl ?_
      refine cf_iload_n E dX6_read_24 1 rfl rfl ?_
      refine mald_75 E dX6_read_25 h rfl (fun h => ?_)
      refine cf_iconst E dX6_read_26 ic_1 rfl ?_
      refine cf_isub E dX6_read_27 rfl ?_
      refine mcl_in E (rmle hR rfl rfl) (Nat.le_of_ble_eq_true rfl) dX6_read_28 h rfl (fun v_4 s_3 h => ?_)
      refine cf_if_ne E dX6_read_31 h rfl rfl (fun h => ?_) (fun h => ?_)
      · refine cf_aload_n E dX6_read_40 0 rfl rfl ?_
        refine mget_76 E dX6_read_41 rfl ?_
        refine cf_bipush E dX6_read_44 bp_60 rfl ?_
        refine cf_iload_n E dX6_read_46 1 rfl rfl ?_
        refine cf_imul E dX6_read_47 rfl ?_
        refine cf_iload_n E dX6_read_48 2 rfl rfl ?_
        refine cf_iadd E dX6_read_49 rfl ?_
        refine mald_76 E dX6_read_50 h rfl (fun h => ?_)
        exact mret_l dX6_read_51 h hq
      · refine cf_ldc2 E dX6_read_34 q2050 rfl ?_
        refine cf_goto E dX6_read_37 rfl ?_
        exact mret_l dX6_read_51 h hq

