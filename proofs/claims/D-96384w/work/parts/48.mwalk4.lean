/-! walks 103-110 -/
set_option maxRecDepth 100000
set_option maxHeartbeats 4000000 in
theorem wm_shift_141b {p : Program} {l : Launch} {e : Env} {R : Room} {s : State} {m : MethodId} {args : Array Value} {below : List Frame} {meth : Method} {c : Code} {A : Nat → Prop} {g : MG} {Q : State → Prop} (E : EV p s m args c cX6_shift 7 RX6) (hR : 2 ≤ R.frames ∧ 44 ≤ R.locals) {res : Int32 × MS} (hq : RTi p l e R s m args below meth c cX6_shift 7 A g .int Q res) (N : Nat)  {rec141 : Int32 → Int32 → Int32 → Int32 → MS → Option (Int32 × MS)} (ih141 : ∀ (x3 : Int32) (x4 : Int32) (x5 : Int32) (x6 : Int32) (σ : MS), rec141 x3 x4 x5 x6 σ = some res → CF p l e R s m args below meth c 7 0 0 (MB g A s σ) Q 141 [(0, .ref (mh g)), (3, .int x3), (4, .int x4), (5, .int x5), (6, .int x6)] []) (x3 : Int32) (x4 : Int32) (x5 : Int32) (x6 : Int32) (σ : MS) (h : m_shift_141b N  rec141 x3 x4 x5 x6 σ = some res) : CF p l e R s m args below meth c 7 0 0 (MB g A s σ) Q 141 [(0, .ref (mh g)), (3, .int x3), (4, .int x4), (5, .int x5), (6, .int x6)] [] := by
  unfold m_shift_141b at h
  refine cf_iload E dX6_shift_141 4 rfl rfl ?_
  refine cf_iload E dX6_shift_143 3 rfl rfl ?_
  refine cf_icmp_ge E dX6_shift_145 h rfl rfl (fun h => ?_) (fun h => ?_)
  · refine cf_iload E dX6_shift_176 3 rfl rfl ?_
    exact mret_i dX6_shift_178 h rfl hq
  · refine cf_aload_n E dX6_shift_148 0 rfl rfl ?_
    refine mget_76 E dX6_shift_149 rfl ?_
    refine cf_bipush E dX6_shift_152 bp_60 rfl ?_
    refine cf_iload_n E dX6_shift_154 1 rfl rfl ?_
    refine cf_imul E dX6_shift_155 rfl ?_
    refine cf_iload E dX6_shift_156 2 rfl rfl ?_
    refine cf_iadd E dX6_shift_158 rfl ?_
    refine cf_iload E dX6_shift_159 4 rfl rfl ?_
    refine cf_iadd E dX6_shift_161 rfl ?_
    refine cf_aload_n E dX6_shift_162 0 rfl rfl ?_
    refine mget_77 E dX6_shift_163 rfl ?_
    refine cf_iload E dX6_shift_166 4 rfl rfl ?_
    refine mald_77 E dX6_shift_168 h rfl (fun h => ?_)
    refine mast_76 E dX6_shift_169 h rfl (fun s_1 h => ?_)
    refine cf_iinc E dX6_shift_170 ic_1 h 4 rfl (fun x6_2 => [(6, .int x6_2), (0, .ref (mh g)), (3, .int x3), (4, .int x4), (5, .int x5)]) (Nat.le_of_ble_eq_true rfl) (fun _ => rfl) rfl (fun x6_2 h => ?_)
    refine cf_goto E dX6_shift_173 rfl ?_
    exact CF.sub [1, 2, 3, 4, 0] rfl (ih141 x3 x4 x5 x6_2 s_1 h)
set_option maxHeartbeats 4000000 in
theorem wm_shift_141 {p : Program} {l : Launch} {e : Env} {R : Room} {s : State} {m : MethodId} {args : Array Value} {below : List Frame} {meth : Method} {c : Code} {A : Nat → Prop} {g : MG} {Q : State → Prop} (E : EV p s m args c cX6_shift 7 RX6) (hR : 2 ≤ R.frames ∧ 44 ≤ R.locals) {res : Int32 × MS} (hq : RTi p l e R s m args below meth c cX6_shift 7 A g .int Q res) (N : Nat)  : ∀ (k : Nat) (x3 : Int32) (x4 : Int32) (x5 : Int32) (x6 : Int32) (σ : MS), m_shift_141 N  k x3 x4 x5 x6 σ = some res → CF p l e R s m args below meth c 7 0 0 (MB g A s σ) Q 141 [(0, .ref (mh g)), (3, .int x3), (4, .int x4), (5, .int x5), (6, .int x6)] [] := by
  intro k
  induction k with
  | zero => intro x3 x4 x5 x6 σ h; have h : (none : Option (Int32 × MS)) = some res := h; cases h
  | succ k ih => intro x3 x4 x5 x6 σ h; exact wm_shift_141b E hR hq N  ih x3 x4 x5 x6 σ h
set_option maxHeartbeats 4000000 in
theorem wm_shift_104b {p : Program} {l : Launch} {e : Env} {R : Room} {s : State} {m : MethodId} {args : Array Value} {below : List Frame} {meth : Method} {c : Code} {A : Nat → Prop} {g : MG} {Q : State → Prop} (E : EV p s m args c cX6_shift 7 RX6) (hR : 2 ≤ R.frames ∧ 44 ≤ R.locals) {res : Int32 × MS} (hq : RTi p l e R s m args below meth c cX6_shift 7 A g .int Q res) (N : Nat)  {rec104 : Int32 → Int32 → Int32 → Int32 → Int32 → Int32 → MS → Option (Int32 × MS)} (ih104 : ∀ (x1 : Int32) (x2 : Int32) (x3 : Int32) (x4 : Int32) (x5 : Int32) (x6 : Int32) (σ : MS), rec104 x1 x2 x3 x4 x5 x6 σ = some res → CF p l e R s m args below meth c 7 0 0 (MB g A s σ) Q 104 [(0, .ref (mh g)), (1, .int x1), (2, .int x2), (3, .int x3), (4, .int x4), (5, .int x5), (6, .int x6)] []) (x1 : Int32) (x2 : Int32) (x3 : Int32) (x4 : Int32) (x5 : Int32) (x6 : Int32) (σ : MS) (h : m_shift_104b N  rec104 x1 x2 x3 x4 x5 x6 σ = some res) : CF p l e R s m args below meth c 7 0 0 (MB g A s σ) Q 104 [(0, .ref (mh g)), (1, .int x1), (2, .int x2), (3, .int x3), (4, .int x4), (5, .int x5), (6, .int x6)] [] := by
  unfold m_shift_104b at h
  refine cf_iload E dX6_shift_104 6 rfl rfl ?_
  refine cf_iload E dX6_shift_106 5 rfl rfl ?_
  refine cf_icmp_ge E dX6_shift_108 h rfl rfl (fun h => ?_) (fun h => ?_)
  · refine cf_iconst E dX6_shift_138 ic_0 rfl ?_
    refine cf_istore E dX6_shift_139 h (fun x6_1 => [(6, .int x6_1), (0, .ref (mh g)), (1, .int x1), (2, .int x2), (3, .int x3), (4, .int x4), (5, .int x5)]) (Nat.le_of_ble_eq_true rfl) (fun _ => rfl) rfl (fun x6_1 h => ?_)
    exact CF.sub [1, 4, 5, 6, 0] rfl (wm_shift_141 E hR hq N N x3 x4 x5 x6_1 σ h)
  · refine cf_aload_n E dX6_shift_111 0 rfl rfl ?_
    refine mget_77 E dX6_shift_112 rfl ?_
    refine cf_iload E dX6_shift_115 6 rfl rfl ?_
    refine cf_aload_n E dX6_shift_117 0 rfl rfl ?_
    refine mget_76 E dX6_shift_118 rfl ?_
    refine cf_bipush E dX6_shift_121 bp_60 rfl ?_
    refine cf_iload_n E dX6_shift_123 1 rfl rfl ?_
    refine cf_imul E dX6_shift_124 rfl ?_
    refine cf_iload_n E dX6_shift_125 2 rfl rfl ?_
    refine cf_iadd E dX6_shift_126 rfl ?_
    refine cf_iload E dX6_shift_127 6 rfl rfl ?_
    refine cf_iadd E dX6_shift_129 rfl ?_
    refine mald_76 E dX6_shift_130 h rfl (fun h => ?_)
    refine mast_77 E dX6_shift_131 h rfl (fun s_2 h => ?_)
    refine cf_iinc E dX6_shift_132 ic_1 h 6 rfl (fun x6_3 => [(6, .int x6_3), (0, .ref (mh g)), (1, .int x1), (2, .int x2), (3, .int x3), (4, .int x4), (5, .int x5)]) (Nat.le_of_ble_eq_true rfl) (fun _ => rfl) rfl (fun x6_3 h => ?_)
    refine cf_goto E dX6_shift_135 rfl ?_
    exact CF.sub [1, 2, 3, 4, 5, 6, 0] rfl (ih104 x1 x2 x3 x4 x5 x6_3 s_2 h)
set_option maxHeartbeats 4000000 in
theorem wm_shift_104 {p : Program} {l : Launch} {e : Env} {R : Room} {s : State} {m : MethodId} {args : Array Value} {below : List Frame} {meth : Method} {c : Code} {A : Nat → Prop} {g : MG} {Q : State → Prop} (E : EV p s m args c cX6_shift 7 RX6) (hR : 2 ≤ R.frames ∧ 44 ≤ R.locals) {res : Int32 × MS} (hq : RTi p l e R s m args below meth c cX6_shift 7 A g .int Q res) (N : Nat)  : ∀ (k : Nat) (x1 : Int32) (x2 : Int32) (x3 : Int32) (x4 : Int32) (x5 : Int32) (x6 : Int32) (σ : MS), m_shift_104 N  k x1 x2 x3 x4 x5 x6 σ = some res → CF p l e R s m args below meth c 7 0 0 (MB g A s σ) Q 104 [(0, .ref (mh g)), (1, .int x1), (2, .int x2), (3, .int x3), (4, .int x4), (5, .int x5), (6, .int x6)] [] := by
  intro k
  induction k with
  | zero => intro x1 x2 x3 x4 x5 x6 σ h; have h : (none : Option (Int32 × MS)) = some res := h; cases h
  | succ k ih => intro x1 x2 x3 x4 x5 x6 σ h; exact wm_shift_104b E hR hq N  ih x1 x2 x3 x4 x5 x6 σ h
set_option maxHeartbeats 4000000 in
theorem met_shift (l : Launch) (g : MG) (N : Nat) (x1 : Int32) (x2 : Int32) (x3 : Int32) (x4 : Int32) (x5 : Int32) (σ : MS) {v : Int32} {σ1 : MS} (h : m_shift N x1 x2 x3 x4 x5 σ = some (v, σ1)) : MetMi l g yX6_shift (ws_ yX6_shift cX6_shift 7 (some .int)) { frames := 2, cells := 0, slots := 0, locals := 44 } [.int x1, .int x2, .int x3, .int x4, .int x5] σ v σ1 := by
  refine met_mi (lv0 := [(0, .ref (mh g)), (1, .int x1), (2, .int x2), (3, .int x3), (4, .int x4), (5, .int x5)]) (by decide) rfl ⟨rfl, rfl⟩ (Nat.le_of_ble_eq_true rfl) rfl ?_
  intro p e s m below meth c A Q E hq
  have hR : 2 ≤ ({ frames := 2, cells := 0, slots := 0, locals := 44 } : Room).frames ∧ 44 ≤ ({ frames := 2, cells := 0, slots := 0, locals := 44 } : Room).locals := ⟨Nat.le_refl _, Nat.le_refl _⟩
  unfold m_shift at h
  refine cf_aload_n E dX6_shift_0 0 rfl rfl ?_
  refine cf_iload_n E dX6_shift_1 1 rfl rfl ?_
  refine mcl_isTape E (rmle hR rfl rfl) (Nat.le_of_ble_eq_true rfl) dX6_shift_2 h rfl (fun v_2 s_1 h => ?_)
  refine cf_if_eq E dX6_shift_5 h rfl rfl (fun h => ?_) (fun h => ?_)
  · refine cf_iconst E dX6_shift_16 ic_m1 rfl ?_
    exact mret_i dX6_shift_17 h rfl hq
  · refine cf_aload_n E dX6_shift_8 0 rfl rfl ?_
    refine cf_iload_n E dX6_shift_9 3 rfl rfl ?_
    refine mcl_isTape E (rmle hR rfl rfl) (Nat.le_of_ble_eq_true rfl) dX6_shift_10 h rfl (fun v_4 s_3 h => ?_)
    refine cf_if_ne E dX6_shift_13 h rfl rfl (fun h => ?_) (fun h => ?_)
    · refine cf_aload_n E dX6_shift_18 0 rfl rfl ?_
      refine mget_74 E dX6_shift_19 rfl ?_
      refine cf_iload_n E dX6_shift_22 1 rfl rfl ?_
      refine mald_74 E dX6_shift_23 h rfl (fun h => ?_)
      refine cf_if_lt E dX6_shift_24 h rfl rfl (fun h => ?_) (fun h => ?_)
      · refine cf_bipush E dX6_shift_36 bp_m11 rfl ?_
        exact mret_i dX6_shift_38 h rfl hq
      · refine cf_aload_n E dX6_shift_27 0 rfl rfl ?_
        refine mget_74 E dX6_shift_28 rfl ?_
        refine cf_iload_n E dX6_shift_31 3 rfl rfl ?_
        refine mald_74 E dX6_shift_32 h rfl (fun h => ?_)
        refine cf_if_ge E dX6_shift_33 h rfl rfl (fun h => ?_) (fun h => ?_)
        · refine cf_aload_n E dX6_shift_39 0 rfl rfl ?_
          refine mget_74 E dX6_shift_40 rfl ?_
          refine cf_iload_n E dX6_shift_43 1 rfl rfl ?_
          refine mald_74 E dX6_shift_44 h rfl (fun h => ?_)
          refine cf_aload_n E dX6_shift_45 0 rfl rfl ?_
          refine mget_74 E dX6_shift_46 rfl ?_
          refine cf_iload_n E dX6_shift_49 3 rfl rfl ?_
          refine mald_74 E dX6_shift_50 h rfl (fun h => ?_)
          refine cf_icmp_eq E dX6_shift_51 h rfl rfl (fun h => ?_) (fun h => ?_)
          · refine cf_iload E dX6_shift_57 5 rfl rfl ?_
            refine cf_if_lt E dX6_shift_59 h rfl rfl (fun h => ?_) (fun h => ?_)
            · refine cf_bipush E dX6_shift_98 bp_m13 rfl ?_
              exact mret_i dX6_shift_100 h rfl hq
            · refine cf_iload_n E dX6_shift_62 2 rfl rfl ?_
              refine cf_if_lt E dX6_shift_63 h rfl rfl (fun h => ?_) (fun h => ?_)
              · refine cf_bipush E dX6_shift_98 bp_m13 rfl ?_
                exact mret_i dX6_shift_100 h rfl hq
              · refine cf_iload E dX6_shift_66 4 rfl rfl ?_
                refine cf_if_lt E dX6_shift_68 h rfl rfl (fun h => ?_) (fun h => ?_)
                · refine cf_bipush E dX6_shift_98 bp_m13 rfl ?_
                  exact mret_i dX6_shift_100 h rfl hq
                · refine cf_iload_n E dX6_shift_71 2 rfl rfl ?_
                  refine cf_aload_n E dX6_shift_72 0 rfl rfl ?_
                  refine mget_75 E dX6_shift_73 rfl ?_
                  refine cf_iload_n E dX6_shift_76 1 rfl rfl ?_
                  refine mald_75 E dX6_shift_77 h rfl (fun h => ?_)
                  refine cf_iload E dX6_shift_78 5 rfl rfl ?_
                  refine cf_isub E dX6_shift_80 rfl ?_
                  refine cf_icmp_gt E dX6_shift_81 h rfl rfl (fun h => ?_) (fun h => ?_)
                  · refine cf_bipush E dX6_shift_98 bp_m13 rfl ?_
                    exact mret_i dX6_shift_100 h rfl hq
                  · refine cf_iload E dX6_shift_84 4 rfl rfl ?_
                    refine cf_aload_n E dX6_shift_86 0 rfl rfl ?_
                    refine mget_75 E dX6_shift_87 rfl ?_
                    refine cf_iload_n E dX6_shift_90 3 rfl rfl ?_
                    refine mald_75 E dX6_shift_91 h rfl (fun h => ?_)
                    refine cf_iload E dX6_shift_92 5 rfl rfl ?_
                    refine cf_isub E dX6_shift_94 rfl ?_
                    refine cf_icmp_le E dX6_shift_95 h rfl rfl (fun h => ?_) (fun h => ?_)
                    · refine cf_iconst E dX6_shift_101 ic_0 rfl ?_
                      refine cf_istore E dX6_shift_102 h (fun x6_5 => [(6, .int x6_5), (0, .ref (mh g)), (1, .int x1), (2, .int x2), (3, .int x3), (4, .int x4), (5, .int x5)]) (Nat.le_of_ble_eq_true rfl) (fun _ => rfl) rfl (fun x6_5 h => ?_)
                      exact CF.sub [1, 2, 3, 4, 5, 6, 0] rfl (wm_shift_104 E hR hq N N x1 x2 x3 x4 x5 x6_5 s_3 h)
                    · refine cf_bipush E dX6_shift_98 bp_m13 rfl ?_
                      exact mret_i dX6_shift_100 h rfl hq
          · refine cf_bipush E dX6_shift_54 bp_m12 rfl ?_
            exact mret_i dX6_shift_56 h rfl hq
        · refine cf_bipush E dX6_shift_36 bp_m11 rfl ?_
          exact mret_i dX6_shift_38 h rfl hq
    · refine cf_iconst E dX6_shift_16 ic_m1 rfl ?_
      exact mret_i dX6_shift_17 h rfl hq

