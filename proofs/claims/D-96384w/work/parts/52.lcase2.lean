/-! THE LAW, cases 23-45: printed by gen/law.py -/
set_option maxRecDepth 100000
def OP_23 (N : Nat) (g : XG) (Cp : XS → MS → Prop) : Prop := ∀ (ξ : XS) (σ : MS), Cp ξ σ → ∃ (v : Int32) (σ1 : MS), m_lucky N σ = some (v, σ1) ∧ y0_lucky N g ξ 9000 110000 (fun v1 ξ1 => v1 = v ∧ Cp ξ1 σ1)
set_option maxHeartbeats 4000000 in
theorem lcase_23 {p : Program} {l : Launch} {e : Env} {s : State} {m : MethodId} {args : Array Value} {below : List Frame} {meth : Method} {c : Code} {cells slots : Nat} {A : Nat → Prop} {g : XG} {ξ : XS} {σ : MS} {b L : Nat} {xs : Nat → Int32} {Q : State → Prop} (E : EV p s m args c code 4 R_law) (hlt : l.stackTraces = false) (N : Nat) (Cp : XS → MS → Prop) (hop : OP_23 N g Cp) {i : Int32} (hi : ∀ j : Int32, 0 ≤ j → j ≤ 5 → inb (i + j) L = true) (hb : cells + 9000 ≤ room_1.cells ∧ slots + 110000 ≤ room_1.slots) (hC : Cp ξ σ) (k : ∀ (σ1 : MS) (ξ1 : XS), Cp ξ1 σ1 → CF p l e room_1 s m args below meth c 4 (cells + 9000) (slots + 110000) (LB g A s b L xs σ1 ξ1) Q 1506 [(0, .ref b), (1, .ref (xa g 0)), (2, .ref (xa g 500)), (3, .int i)] []) : CF p l e room_1 s m args below meth c 4 cells slots (LB g A s b L xs σ ξ) Q 837 [(0, .ref b), (1, .ref (xa g 0)), (2, .ref (xa g 500)), (3, .int i)] [] := by
  obtain ⟨v, σ1, hm, hx⟩ := hop  ξ σ hC
  refine cf_aload_n E dL_law_837 1 rfl rfl ?_
  refine lcallY_i (na := 0) E [] (met_y0_lucky l g N  ξ 9000 110000 _ hx) (C9 := RX0) (lw_V q1173 q1174 q1175 q96 q1176) (by decide +kernel) ⟨0, 1, _, _, rfl, rfl, rfl⟩ ⟨Nat.le_of_ble_eq_true rfl, Nat.le_of_ble_eq_true rfl⟩ rfl rfl (Nat.le_of_ble_eq_true rfl) hb dL_law_838 rfl (fun v9 ξ1 hk => ?_)
  obtain ⟨rfl, hC1⟩ := hk
  refine cf_aload_n E dL_law_841 2 rfl rfl ?_
  refine lcallM_i (na := 0) E [] (met_lucky l (gm g) N  σ hm) (lw_V q2014 q2015 q2016 q105 q2017) (by decide +kernel) rfl rfl ⟨Nat.le_of_ble_eq_true rfl, Nat.le_of_ble_eq_true rfl⟩ rfl rfl (Nat.le_of_ble_eq_true rfl) hb dL_law_842 rfl ?_
  exact lifeq E dL_law_845 rfl (k σ1 ξ1 hC1)
def OP_24 (N : Nat) (g : XG) (Cp : XS → MS → Prop) : Prop := ∀ (ξ : XS) (σ : MS), Cp ξ σ → ∃ (v : Int32) (ξ1 : XS) (σ1 : MS), x0_swap N g ξ = some (v, ξ1) ∧ m_swap N σ = some (v, σ1) ∧ Cp ξ1 σ1
set_option maxHeartbeats 4000000 in
theorem lcase_24 {p : Program} {l : Launch} {e : Env} {s : State} {m : MethodId} {args : Array Value} {below : List Frame} {meth : Method} {c : Code} {cells slots : Nat} {A : Nat → Prop} {g : XG} {ξ : XS} {σ : MS} {b L : Nat} {xs : Nat → Int32} {Q : State → Prop} (E : EV p s m args c code 4 R_law) (hlt : l.stackTraces = false) (N : Nat) (Cp : XS → MS → Prop) (hop : OP_24 N g Cp) {i : Int32} (hi : ∀ j : Int32, 0 ≤ j → j ≤ 5 → inb (i + j) L = true) (hb : cells + 9000 ≤ room_1.cells ∧ slots + 110000 ≤ room_1.slots) (hC : Cp ξ σ) (k : ∀ (σ1 : MS) (ξ1 : XS), Cp ξ1 σ1 → CF p l e room_1 s m args below meth c 4 (cells + 9000) (slots + 110000) (LB g A s b L xs σ1 ξ1) Q 1506 [(0, .ref b), (1, .ref (xa g 0)), (2, .ref (xa g 500)), (3, .int i)] []) : CF p l e room_1 s m args below meth c 4 cells slots (LB g A s b L xs σ ξ) Q 850 [(0, .ref b), (1, .ref (xa g 0)), (2, .ref (xa g 500)), (3, .int i)] [] := by
  obtain ⟨v, ξ1, σ1, hx, hm, hC1⟩ := hop  ξ σ hC
  refine cf_aload_n E dL_law_850 1 rfl rfl ?_
  refine CFwiden (show cells ≤ cells + 9000 from by omega) (show slots ≤ slots + 110000 from by omega) ?_
  refine lcallX_i (na := 0) E [] (met_x0_swap l g N  ξ hx) (C9 := RX0) (lw_V q1177 q1178 q1179 q96 q1180) (by decide +kernel) ⟨0, 1, _, _, rfl, rfl, rfl⟩ rfl rfl ⟨Nat.le_of_ble_eq_true rfl, Nat.le_of_ble_eq_true rfl⟩ rfl rfl (Nat.le_of_ble_eq_true rfl) hb dL_law_851 rfl ?_
  refine cf_aload_n E dL_law_854 2 rfl rfl ?_
  refine lcallM_i (na := 0) E [] (met_swap l (gm g) N  σ hm) (lw_V q2018 q2019 q2020 q105 q2021) (by decide +kernel) rfl rfl ⟨Nat.le_of_ble_eq_true rfl, Nat.le_of_ble_eq_true rfl⟩ rfl rfl (Nat.le_of_ble_eq_true rfl) hb dL_law_855 rfl ?_
  exact lifeq E dL_law_858 rfl (k σ1 ξ1 hC1)
def OP_25 (N : Nat) (g : XG) (Cp : XS → MS → Prop) : Prop := ∀ (a1 : Int32) (a2 : Int32) (a3 : Int32) (ξ : XS) (σ : MS), Cp ξ σ → ∃ (v : Int32) (ξ1 : XS) (σ1 : MS), x0_quarrel N g a1 a2 a3 ξ = some (v, ξ1) ∧ m_quarrel N a1 a2 a3 σ = some (v, σ1) ∧ Cp ξ1 σ1
set_option maxHeartbeats 4000000 in
theorem lcase_25 {p : Program} {l : Launch} {e : Env} {s : State} {m : MethodId} {args : Array Value} {below : List Frame} {meth : Method} {c : Code} {cells slots : Nat} {A : Nat → Prop} {g : XG} {ξ : XS} {σ : MS} {b L : Nat} {xs : Nat → Int32} {Q : State → Prop} (E : EV p s m args c code 4 R_law) (hlt : l.stackTraces = false) (N : Nat) (Cp : XS → MS → Prop) (hop : OP_25 N g Cp) {i : Int32} (hi : ∀ j : Int32, 0 ≤ j → j ≤ 5 → inb (i + j) L = true) (hb : cells + 9000 ≤ room_1.cells ∧ slots + 110000 ≤ room_1.slots) (hC : Cp ξ σ) (k : ∀ (σ1 : MS) (ξ1 : XS), Cp ξ1 σ1 → CF p l e room_1 s m args below meth c 4 (cells + 9000) (slots + 110000) (LB g A s b L xs σ1 ξ1) Q 1506 [(0, .ref b), (1, .ref (xa g 0)), (2, .ref (xa g 500)), (3, .int i)] []) : CF p l e room_1 s m args below meth c 4 cells slots (LB g A s b L xs σ ξ) Q 863 [(0, .ref b), (1, .ref (xa g 0)), (2, .ref (xa g 500)), (3, .int i)] [] := by
  obtain ⟨v, ξ1, σ1, hx, hm, hC1⟩ := hop (xs (i + (1 : Int32)).toNatClampNeg) (xs (i + (2 : Int32)).toNatClampNeg) (xs (i + (3 : Int32)).toNatClampNeg) ξ σ hC
  refine cf_aload_n E dL_law_863 1 rfl rfl ?_
  refine cf_aload_n E dL_law_864 0 rfl rfl ?_
  refine cf_iload_n E dL_law_865 3 rfl rfl ?_
  refine cf_iconst E dL_law_866 ic_1 rfl ?_
  refine cf_iadd E dL_law_867 rfl ?_
  refine lsld E (hi _ (by decide) (by decide)) dL_law_868 rfl ?_
  refine cf_aload_n E dL_law_869 0 rfl rfl ?_
  refine cf_iload_n E dL_law_870 3 rfl rfl ?_
  refine cf_iconst E dL_law_871 ic_2 rfl ?_
  refine cf_iadd E dL_law_872 rfl ?_
  refine lsld E (hi _ (by decide) (by decide)) dL_law_873 rfl ?_
  refine cf_aload_n E dL_law_874 0 rfl rfl ?_
  refine cf_iload_n E dL_law_875 3 rfl rfl ?_
  refine cf_iconst E dL_law_876 ic_3 rfl ?_
  refine cf_iadd E dL_law_877 rfl ?_
  refine lsld E (hi _ (by decide) (by decide)) dL_law_878 rfl ?_
  refine CFwiden (show cells ≤ cells + 9000 from by omega) (show slots ≤ slots + 110000 from by omega) ?_
  refine lcallX_i (na := 3) E [.int (xs (i + (1 : Int32)).toNatClampNeg), .int (xs (i + (2 : Int32)).toNatClampNeg), .int (xs (i + (3 : Int32)).toNatClampNeg)] (met_x0_quarrel l g N (xs (i + (1 : Int32)).toNatClampNeg) (xs (i + (2 : Int32)).toNatClampNeg) (xs (i + (3 : Int32)).toNatClampNeg) ξ hx) (C9 := RX0) (lw_V q1181 q1182 q1183 q96 q1184) (by decide +kernel) ⟨0, 1, _, _, rfl, rfl, rfl⟩ rfl rfl ⟨Nat.le_of_ble_eq_true rfl, Nat.le_of_ble_eq_true rfl⟩ rfl rfl (Nat.le_of_ble_eq_true rfl) hb dL_law_879 rfl ?_
  refine cf_aload_n E dL_law_882 2 rfl rfl ?_
  refine cf_aload_n E dL_law_883 0 rfl rfl ?_
  refine cf_iload_n E dL_law_884 3 rfl rfl ?_
  refine cf_iconst E dL_law_885 ic_1 rfl ?_
  refine cf_iadd E dL_law_886 rfl ?_
  refine lsld E (hi _ (by decide) (by decide)) dL_law_887 rfl ?_
  refine cf_aload_n E dL_law_888 0 rfl rfl ?_
  refine cf_iload_n E dL_law_889 3 rfl rfl ?_
  refine cf_iconst E dL_law_890 ic_2 rfl ?_
  refine cf_iadd E dL_law_891 rfl ?_
  refine lsld E (hi _ (by decide) (by decide)) dL_law_892 rfl ?_
  refine cf_aload_n E dL_law_893 0 rfl rfl ?_
  refine cf_iload_n E dL_law_894 3 rfl rfl ?_
  refine cf_iconst E dL_law_895 ic_3 rfl ?_
  refine cf_iadd E dL_law_896 rfl ?_
  refine lsld E (hi _ (by decide) (by decide)) dL_law_897 rfl ?_
  refine lcallM_i (na := 3) E [.int (xs (i + (1 : Int32)).toNatClampNeg), .int (xs (i + (2 : Int32)).toNatClampNeg), .int (xs (i + (3 : Int32)).toNatClampNeg)] (met_quarrel l (gm g) N (xs (i + (1 : Int32)).toNatClampNeg) (xs (i + (2 : Int32)).toNatClampNeg) (xs (i + (3 : Int32)).toNatClampNeg) σ hm) (lw_V q2022 q2023 q2024 q105 q2025) (by decide +kernel) rfl rfl ⟨Nat.le_of_ble_eq_true rfl, Nat.le_of_ble_eq_true rfl⟩ rfl rfl (Nat.le_of_ble_eq_true rfl) hb dL_law_898 rfl ?_
  exact lifeq E dL_law_901 rfl (k σ1 ξ1 hC1)
def OP_26 (N : Nat) (g : XG) (Cp : XS → MS → Prop) : Prop := ∀ (a1 : Int32) (ξ : XS) (σ : MS), Cp ξ σ → ∃ (v : Int32) (ξ1 : XS) (σ1 : MS), x0_how N g a1 ξ = some (v, ξ1) ∧ m_how N a1 σ = some (v, σ1) ∧ Cp ξ1 σ1
set_option maxHeartbeats 4000000 in
theorem lcase_26 {p : Program} {l : Launch} {e : Env} {s : State} {m : MethodId} {args : Array Value} {below : List Frame} {meth : Method} {c : Code} {cells slots : Nat} {A : Nat → Prop} {g : XG} {ξ : XS} {σ : MS} {b L : Nat} {xs : Nat → Int32} {Q : State → Prop} (E : EV p s m args c code 4 R_law) (hlt : l.stackTraces = false) (N : Nat) (Cp : XS → MS → Prop) (hop : OP_26 N g Cp) {i : Int32} (hi : ∀ j : Int32, 0 ≤ j → j ≤ 5 → inb (i + j) L = true) (hb : cells + 9000 ≤ room_1.cells ∧ slots + 110000 ≤ room_1.slots) (hC : Cp ξ σ) (k : ∀ (σ1 : MS) (ξ1 : XS), Cp ξ1 σ1 → CF p l e room_1 s m args below meth c 4 (cells + 9000) (slots + 110000) (LB g A s b L xs σ1 ξ1) Q 1506 [(0, .ref b), (1, .ref (xa g 0)), (2, .ref (xa g 500)), (3, .int i)] []) : CF p l e room_1 s m args below meth c 4 cells slots (LB g A s b L xs σ ξ) Q 906 [(0, .ref b), (1, .ref (xa g 0)), (2, .ref (xa g 500)), (3, .int i)] [] := by
  obtain ⟨v, ξ1, σ1, hx, hm, hC1⟩ := hop (xs (i + (1 : Int32)).toNatClampNeg) ξ σ hC
  refine cf_aload_n E dL_law_906 1 rfl rfl ?_
  refine cf_aload_n E dL_law_907 0 rfl rfl ?_
  refine cf_iload_n E dL_law_908 3 rfl rfl ?_
  refine cf_iconst E dL_law_909 ic_1 rfl ?_
  refine cf_iadd E dL_law_910 rfl ?_
  refine lsld E (hi _ (by decide) (by decide)) dL_law_911 rfl ?_
  refine CFwiden (show cells ≤ cells + 9000 from by omega) (show slots ≤ slots + 110000 from by omega) ?_
  refine lcallX_i (na := 1) E [.int (xs (i + (1 : Int32)).toNatClampNeg)] (met_x0_how l g N (xs (i + (1 : Int32)).toNatClampNeg) ξ hx) (C9 := RX0) (lw_V q1185 q1186 q1187 q96 q1188) (by decide +kernel) ⟨0, 1, _, _, rfl, rfl, rfl⟩ rfl rfl ⟨Nat.le_of_ble_eq_true rfl, Nat.le_of_ble_eq_true rfl⟩ rfl rfl (Nat.le_of_ble_eq_true rfl) hb dL_law_912 rfl ?_
  refine cf_aload_n E dL_law_915 2 rfl rfl ?_
  refine cf_aload_n E dL_law_916 0 rfl rfl ?_
  refine cf_iload_n E dL_law_917 3 rfl rfl ?_
  refine cf_iconst E dL_law_918 ic_1 rfl ?_
  refine cf_iadd E dL_law_919 rfl ?_
  refine lsld E (hi _ (by decide) (by decide)) dL_law_920 rfl ?_
  refine lcallM_i (na := 1) E [.int (xs (i + (1 : Int32)).toNatClampNeg)] (met_how l (gm g) N (xs (i + (1 : Int32)).toNatClampNeg) σ hm) (lw_V q2026 q2027 q2028 q105 q2029) (by decide +kernel) rfl rfl ⟨Nat.le_of_ble_eq_true rfl, Nat.le_of_ble_eq_true rfl⟩ rfl rfl (Nat.le_of_ble_eq_true rfl) hb dL_law_921 rfl ?_
  exact lifeq E dL_law_924 rfl (k σ1 ξ1 hC1)
def OP_27 (N : Nat) (g : XG) (Cp : XS → MS → Prop) : Prop := ∀ (a1 : Int32) (a2 : Int32) (ξ : XS) (σ : MS), Cp ξ σ → ∃ (v : Int32) (ξ1 : XS) (σ1 : MS), x0_see N g a1 a2 ξ = some (v, ξ1) ∧ m_see N a1 a2 σ = some (v, σ1) ∧ Cp ξ1 σ1
set_option maxHeartbeats 4000000 in
theorem lcase_27 {p : Program} {l : Launch} {e : Env} {s : State} {m : MethodId} {args : Array Value} {below : List Frame} {meth : Method} {c : Code} {cells slots : Nat} {A : Nat → Prop} {g : XG} {ξ : XS} {σ : MS} {b L : Nat} {xs : Nat → Int32} {Q : State → Prop} (E : EV p s m args c code 4 R_law) (hlt : l.stackTraces = false) (N : Nat) (Cp : XS → MS → Prop) (hop : OP_27 N g Cp) {i : Int32} (hi : ∀ j : Int32, 0 ≤ j → j ≤ 5 → inb (i + j) L = true) (hb : cells + 9000 ≤ room_1.cells ∧ slots + 110000 ≤ room_1.slots) (hC : Cp ξ σ) (k : ∀ (σ1 : MS) (ξ1 : XS), Cp ξ1 σ1 → CF p l e room_1 s m args below meth c 4 (cells + 9000) (slots + 110000) (LB g A s b L xs σ1 ξ1) Q 1506 [(0, .ref b), (1, .ref (xa g 0)), (2, .ref (xa g 500)), (3, .int i)] []) : CF p l e room_1 s m args below meth c 4 cells slots (LB g A s b L xs σ ξ) Q 929 [(0, .ref b), (1, .ref (xa g 0)), (2, .ref (xa g 500)), (3, .int i)] [] := by
  obtain ⟨v, ξ1, σ1, hx, hm, hC1⟩ := hop (xs (i + (1 : Int32)).toNatClampNeg) (xs (i + (2 : Int32)).toNatClampNeg) ξ σ hC
  refine cf_aload_n E dL_law_929 1 rfl rfl ?_
  refine cf_aload_n E dL_law_930 0 rfl rfl ?_
  refine cf_iload_n E dL_law_931 3 rfl rfl ?_
  refine cf_iconst E dL_law_932 ic_1 rfl ?_
  refine cf_iadd E dL_law_933 rfl ?_
  refine lsld E (hi _ (by decide) (by decide)) dL_law_934 rfl ?_
  refine cf_aload_n E dL_law_935 0 rfl rfl ?_
  refine cf_iload_n E dL_law_936 3 rfl rfl ?_
  refine cf_iconst E dL_law_937 ic_2 rfl ?_
  refine cf_iadd E dL_law_938 rfl ?_
  refine lsld E (hi _ (by decide) (by decide)) dL_law_939 rfl ?_
  refine CFwiden (show cells ≤ cells + 9000 from by omega) (show slots ≤ slots + 110000 from by omega) ?_
  refine lcallX_i (na := 2) E [.int (xs (i + (1 : Int32)).toNatClampNeg), .int (xs (i + (2 : Int32)).toNatClampNeg)] (met_x0_see l g N (xs (i + (1 : Int32)).toNatClampNeg) (xs (i + (2 : Int32)).toNatClampNeg) ξ hx) (C9 := RX0) (lw_V q1189 q1190 q1191 q96 q1192) (by decide +kernel) ⟨0, 1, _, _, rfl, rfl, rfl⟩ rfl rfl ⟨Nat.le_of_ble_eq_true rfl, Nat.le_of_ble_eq_true rfl⟩ rfl rfl (Nat.le_of_ble_eq_true rfl) hb dL_law_940 rfl ?_
  refine cf_aload_n E dL_law_943 2 rfl rfl ?_
  refine cf_aload_n E dL_law_944 0 rfl rfl ?_
  refine cf_iload_n E dL_law_945 3 rfl rfl ?_
  refine cf_iconst E dL_law_946 ic_1 rfl ?_
  refine cf_iadd E dL_law_947 rfl ?_
  refine lsld E (hi _ (by decide) (by decide)) dL_law_948 rfl ?_
  refine cf_aload_n E dL_law_949 0 rfl rfl ?_
  refine cf_iload_n E dL_law_950 3 rfl rfl ?_
  refine cf_iconst E dL_law_951 ic_2 rfl ?_
  refine cf_iadd E dL_law_952 rfl ?_
  refine lsld E (hi _ (by decide) (by decide)) dL_law_953 rfl ?_
  refine lcallM_i (na := 2) E [.int (xs (i + (1 : Int32)).toNatClampNeg), .int (xs (i + (2 : Int32)).toNatClampNeg)] (met_see l (gm g) N (xs (i + (1 : Int32)).toNatClampNeg) (xs (i + (2 : Int32)).toNatClampNeg) σ hm) (lw_V q2030 q2031 q2032 q105 q2033) (by decide +kernel) rfl rfl ⟨Nat.le_of_ble_eq_true rfl, Nat.le_of_ble_eq_true rfl⟩ rfl rfl (Nat.le_of_ble_eq_true rfl) hb dL_law_954 rfl ?_
  exact lifeq E dL_law_957 rfl (k σ1 ξ1 hC1)
def OP_28 (N : Nat) (g : XG) (Cp : XS → MS → Prop) : Prop := ∀ (a1 : Int32) (ξ : XS) (σ : MS), Cp ξ σ → ∃ (v : Int32) (ξ1 : XS) (σ1 : MS), x0_wore N g a1 ξ = some (v, ξ1) ∧ m_wore N a1 σ = some (v, σ1) ∧ Cp ξ1 σ1
set_option maxHeartbeats 4000000 in
theorem lcase_28 {p : Program} {l : Launch} {e : Env} {s : State} {m : MethodId} {args : Array Value} {below : List Frame} {meth : Method} {c : Code} {cells slots : Nat} {A : Nat → Prop} {g : XG} {ξ : XS} {σ : MS} {b L : Nat} {xs : Nat → Int32} {Q : State → Prop} (E : EV p s m args c code 4 R_law) (hlt : l.stackTraces = false) (N : Nat) (Cp : XS → MS → Prop) (hop : OP_28 N g Cp) {i : Int32} (hi : ∀ j : Int32, 0 ≤ j → j ≤ 5 → inb (i + j) L = true) (hb : cells + 9000 ≤ room_1.cells ∧ slots + 110000 ≤ room_1.slots) (hC : Cp ξ σ) (k : ∀ (σ1 : MS) (ξ1 : XS), Cp ξ1 σ1 → CF p l e room_1 s m args below meth c 4 (cells + 9000) (slots + 110000) (LB g A s b L xs σ1 ξ1) Q 1506 [(0, .ref b), (1, .ref (xa g 0)), (2, .ref (xa g 500)), (3, .int i)] []) : CF p l e room_1 s m args below meth c 4 cells slots (LB g A s b L xs σ ξ) Q 962 [(0, .ref b), (1, .ref (xa g 0)), (2, .ref (xa g 500)), (3, .int i)] [] := by
  obtain ⟨v, ξ1, σ1, hx, hm, hC1⟩ := hop (xs (i + (1 : Int32)).toNatClampNeg) ξ σ hC
  refine cf_aload_n E dL_law_962 1 rfl rfl ?_
  refine cf_aload_n E dL_law_963 0 rfl rfl ?_
  refine cf_iload_n E dL_law_964 3 rfl rfl ?_
  refine cf_iconst E dL_law_965 ic_1 rfl ?_
  refine cf_iadd E dL_law_966 rfl ?_
  refine lsld E (hi _ (by decide) (by decide)) dL_law_967 rfl ?_
  refine CFwiden (show cells ≤ cells + 9000 from by omega) (show slots ≤ slots + 110000 from by omega) ?_
  refine lcallX_i (na := 1) E [.int (xs (i + (1 : Int32)).toNatClampNeg)] (met_x0_wore l g N (xs (i + (1 : Int32)).toNatClampNeg) ξ hx) (C9 := RX0) (lw_V q1193 q1194 q1195 q96 q1196) (by decide +kernel) ⟨0, 1, _, _, rfl, rfl, rfl⟩ rfl rfl ⟨Nat.le_of_ble_eq_true rfl, Nat.le_of_ble_eq_true rfl⟩ rfl rfl (Nat.le_of_ble_eq_true rfl) hb dL_law_968 rfl ?_
  refine cf_aload_n E dL_law_971 2 rfl rfl ?_
  refine cf_aload_n E dL_law_972 0 rfl rfl ?_
  refine cf_iload_n E dL_law_973 3 rfl rfl ?_
  refine cf_iconst E dL_law_974 ic_1 rfl ?_
  refine cf_iadd E dL_law_975 rfl ?_
  refine lsld E (hi _ (by decide) (by decide)) dL_law_976 rfl ?_
  refine lcallM_i (na := 1) E [.int (xs (i + (1 : Int32)).toNatClampNeg)] (met_wore l (gm g) N (xs (i + (1 : Int32)).toNatClampNeg) σ hm) (lw_V q2034 q2035 q2036 q105 q2037) (by decide +kernel) rfl rfl ⟨Nat.le_of_ble_eq_true rfl, Nat.le_of_ble_eq_true rfl⟩ rfl rfl (Nat.le_of_ble_eq_true rfl) hb dL_law_977 rfl ?_
  exact lifeq E dL_law_980 rfl (k σ1 ξ1 hC1)
def OP_29 (N : Nat) (g : XG) (Cp : XS → MS → Prop) : Prop := ∀ (ξ : XS) (σ : MS), Cp ξ σ → ∃ (v : Int32) (ξ1 : XS) (σ1 : MS), x0_who N g ξ = some (v, ξ1) ∧ m_who N σ = some (v, σ1) ∧ Cp ξ1 σ1
set_option maxHeartbeats 4000000 in
theorem lcase_29 {p : Program} {l : Launch} {e : Env} {s : State} {m : MethodId} {args : Array Value} {below : List Frame} {meth : Method} {c : Code} {cells slots : Nat} {A : Nat → Prop} {g : XG} {ξ : XS} {σ : MS} {b L : Nat} {xs : Nat → Int32} {Q : State → Prop} (E : EV p s m args c code 4 R_law) (hlt : l.stackTraces = false) (N : Nat) (Cp : XS → MS → Prop) (hop : OP_29 N g Cp) {i : Int32} (hi : ∀ j : Int32, 0 ≤ j → j ≤ 5 → inb (i + j) L = true) (hb : cells + 9000 ≤ room_1.cells ∧ slots + 110000 ≤ room_1.slots) (hC : Cp ξ σ) (k : ∀ (σ1 : MS) (ξ1 : XS), Cp ξ1 σ1 → CF p l e room_1 s m args below meth c 4 (cells + 9000) (slots + 110000) (LB g A s b L xs σ1 ξ1) Q 1506 [(0, .ref b), (1, .ref (xa g 0)), (2, .ref (xa g 500)), (3, .int i)] []) : CF p l e room_1 s m args below meth c 4 cells slots (LB g A s b L xs σ ξ) Q 985 [(0, .ref b), (1, .ref (xa g 0)), (2, .ref (xa g 500)), (3, .int i)] [] := by
  obtain ⟨v, ξ1, σ1, hx, hm, hC1⟩ := hop  ξ σ hC
  refine cf_aload_n E dL_law_985 1 rfl rfl ?_
  refine CFwiden (show cells ≤ cells + 9000 from by omega) (show slots ≤ slots + 110000 from by omega) ?_
  refine lcallX_i (na := 0) E [] (met_x0_who l g N  ξ hx) (C9 := RX0) (lw_V q1205 q1206 q1207 q96 q1208) (by decide +kernel) ⟨0, 1, _, _, rfl, rfl, rfl⟩ rfl rfl ⟨Nat.le_of_ble_eq_true rfl, Nat.le_of_ble_eq_true rfl⟩ rfl rfl (Nat.le_of_ble_eq_true rfl) hb dL_law_986 rfl ?_
  refine cf_aload_n E dL_law_989 2 rfl rfl ?_
  refine lcallM_i (na := 0) E [] (met_who l (gm g) N  σ hm) (lw_V q2042 q2043 q2044 q105 q2045) (by decide +kernel) rfl rfl ⟨Nat.le_of_ble_eq_true rfl, Nat.le_of_ble_eq_true rfl⟩ rfl rfl (Nat.le_of_ble_eq_true rfl) hb dL_law_990 rfl ?_
  exact lifeq E dL_law_993 rfl (k σ1 ξ1 hC1)
def OP_30 (N : Nat) (g : XG) (Cp : XS → MS → Prop) : Prop := ∀ (a1 : Int32) (a2 : Int32) (ξ : XS) (σ : MS), Cp ξ σ → ∃ (v : Int64) (σ1 : MS), m_odds N a1 a2 σ = some (v, σ1) ∧ y0_odds N g a1 a2 ξ 9000 110000 (fun v1 ξ1 => v1 = v ∧ Cp ξ1 σ1)
set_option maxHeartbeats 4000000 in
theorem lcase_30 {p : Program} {l : Launch} {e : Env} {s : State} {m : MethodId} {args : Array Value} {below : List Frame} {meth : Method} {c : Code} {cells slots : Nat} {A : Nat → Prop} {g : XG} {ξ : XS} {σ : MS} {b L : Nat} {xs : Nat → Int32} {Q : State → Prop} (E : EV p s m args c code 4 R_law) (hlt : l.stackTraces = false) (N : Nat) (Cp : XS → MS → Prop) (hop : OP_30 N g Cp) {i : Int32} (hi : ∀ j : Int32, 0 ≤ j → j ≤ 5 → inb (i + j) L = true) (hb : cells + 9000 ≤ room_1.cells ∧ slots + 110000 ≤ room_1.slots) (hC : Cp ξ σ) (k : ∀ (σ1 : MS) (ξ1 : XS), Cp ξ1 σ1 → CF p l e room_1 s m args below meth c 4 (cells + 9000) (slots + 110000) (LB g A s b L xs σ1 ξ1) Q 1506 [(0, .ref b), (1, .ref (xa g 0)), (2, .ref (xa g 500)), (3, .int i)] []) : CF p l e room_1 s m args below meth c 4 cells slots (LB g A s b L xs σ ξ) Q 998 [(0, .ref b), (1, .ref (xa g 0)), (2, .ref (xa g 500)), (3, .int i)] [] := by
  obtain ⟨v, σ1, hm, hx⟩ := hop (xs (i + (1 : Int32)).toNatClampNeg) (xs (i + (2 : Int32)).toNatClampNeg) ξ σ hC
  refine cf_aload_n E dL_law_998 1 rfl rfl ?_
  refine cf_aload_n E dL_law_999 0 rfl rfl ?_
  refine cf_iload_n E dL_law_1000 3 rfl rfl ?_
  refine cf_iconst E dL_law_1001 ic_1 rfl ?_
  refine cf_iadd E dL_law_1002 rfl ?_
  refine lsld E (hi _ (by decide) (by decide)) dL_law_1003 rfl ?_
  refine cf_aload_n E dL_law_1004 0 rfl rfl ?_
  refine cf_iload_n E dL_law_1005 3 rfl rfl ?_
  refine cf_iconst E dL_law_1006 ic_2 rfl ?_
  refine cf_iadd E dL_law_1007 rfl ?_
  refine lsld E (hi _ (by decide) (by decide)) dL_law_1008 rfl ?_
  refine lcallY_l (na := 2) E [.int (xs (i + (1 : Int32)).toNatClampNeg), .int (xs (i + (2 : Int32)).toNatClampNeg)] (met_y0_odds l g N (xs (i + (1 : Int32)).toNatClampNeg) (xs (i + (2 : Int32)).toNatClampNeg) ξ 9000 110000 _ hx) (C9 := RX0) (lw_V q1217 q1218 q1219 q96 q1220) (by decide +kernel) ⟨0, 1, _, _, rfl, rfl, rfl⟩ ⟨Nat.le_of_ble_eq_true rfl, Nat.le_of_ble_eq_true rfl⟩ rfl rfl (Nat.le_of_ble_eq_true rfl) hb dL_law_1009 rfl (fun v9 ξ1 hk => ?_)
  obtain ⟨rfl, hC1⟩ := hk
  refine cf_aload_n E dL_law_1012 2 rfl rfl ?_
  refine cf_aload_n E dL_law_1013 0 rfl rfl ?_
  refine cf_iload_n E dL_law_1014 3 rfl rfl ?_
  refine cf_iconst E dL_law_1015 ic_1 rfl ?_
  refine cf_iadd E dL_law_1016 rfl ?_
  refine lsld E (hi _ (by decide) (by decide)) dL_law_1017 rfl ?_
  refine cf_aload_n E dL_law_1018 0 rfl rfl ?_
  refine cf_iload_n E dL_law_1019 3 rfl rfl ?_
  refine cf_iconst E dL_law_1020 ic_2 rfl ?_
  refine cf_iadd E dL_law_1021 rfl ?_
  refine lsld E (hi _ (by decide) (by decide)) dL_law_1022 rfl ?_
  refine lcallM_l (na := 2) E [.int (xs (i + (1 : Int32)).toNatClampNeg), .int (xs (i + (2 : Int32)).toNatClampNeg)] (met_odds l (gm g) N (xs (i + (1 : Int32)).toNatClampNeg) (xs (i + (2 : Int32)).toNatClampNeg) σ hm) (lw_V q2046 q2047 q2048 q105 q2049) (by decide +kernel) rfl rfl ⟨Nat.le_of_ble_eq_true rfl, Nat.le_of_ble_eq_true rfl⟩ rfl rfl (Nat.le_of_ble_eq_true rfl) hb dL_law_1023 rfl ?_
  refine cf_lcmp E dL_law_1026 rfl ?_
  exact lifz E dL_law_1027 rfl (k σ1 ξ1 hC1)
def OP_31 (N : Nat) (g : XG) (Cp : XS → MS → Prop) : Prop := ∀ (a1 : Int32) (a2 : Int32) (ξ : XS) (σ : MS), Cp ξ σ → ∃ (v : Int64) (ξ1 : XS) (σ1 : MS), x0_mean N g a1 a2 ξ = some (v, ξ1) ∧ m_mean N a1 a2 σ = some (v, σ1) ∧ Cp ξ1 σ1
set_option maxHeartbeats 4000000 in
theorem lcase_31 {p : Program} {l : Launch} {e : Env} {s : State} {m : MethodId} {args : Array Value} {below : List Frame} {meth : Method} {c : Code} {cells slots : Nat} {A : Nat → Prop} {g : XG} {ξ : XS} {σ : MS} {b L : Nat} {xs : Nat → Int32} {Q : State → Prop} (E : EV p s m args c code 4 R_law) (hlt : l.stackTraces = false) (N : Nat) (Cp : XS → MS → Prop) (hop : OP_31 N g Cp) {i : Int32} (hi : ∀ j : Int32, 0 ≤ j → j ≤ 5 → inb (i + j) L = true) (hb : cells + 9000 ≤ room_1.cells ∧ slots + 110000 ≤ room_1.slots) (hC : Cp ξ σ) (k : ∀ (σ1 : MS) (ξ1 : XS), Cp ξ1 σ1 → CF p l e room_1 s m args below meth c 4 (cells + 9000) (slots + 110000) (LB g A s b L xs σ1 ξ1) Q 1506 [(0, .ref b), (1, .ref (xa g 0)), (2, .ref (xa g 500)), (3, .int i)] []) : CF p l e room_1 s m args below meth c 4 cells slots (LB g A s b L xs σ ξ) Q 1032 [(0, .ref b), (1, .ref (xa g 0)), (2, .ref (xa g 500)), (3, .int i)] [] := by
  obtain ⟨v, ξ1, σ1, hx, hm, hC1⟩ := hop (xs (i + (1 : Int32)).toNatClampNeg) (xs (i + (2 : Int32)).toNatClampNeg) ξ σ hC
  refine cf_aload_n E dL_law_1032 1 rfl rfl ?_
  refine cf_aload_n E dL_law_1033 0 rfl rfl ?_
  refine cf_iload_n E dL_law_1034 3 rfl rfl ?_
  refine cf_iconst E dL_law_1035 ic_1 rfl ?_
  refine cf_iadd E dL_law_1036 rfl ?_
  refine lsld E (hi _ (by decide) (by decide)) dL_law_1037 rfl ?_
  refine cf_aload_n E dL_law_1038 0 rfl rfl ?_
  refine cf_iload_n E dL_law_1039 3 rfl rfl ?_
  refine cf_iconst E dL_law_1040 ic_2 rfl ?_
  refine cf_iadd E dL_law_1041 rfl ?_
  refine lsld E (hi _ (by decide) (by decide)) dL_law_1042 rfl ?_
  refine CFwiden (show cells ≤ cells + 9000 from by omega) (show slots ≤ slots + 110000 from by omega) ?_
  refine lcallX_l (na := 2) E [.int (xs (i + (1 : Int32)).toNatClampNeg), .int (xs (i + (2 : Int32)).toNatClampNeg)] (met_x0_mean l g N (xs (i + (1 : Int32)).toNatClampNeg) (xs (i + (2 : Int32)).toNatClampNeg) ξ hx) (C9 := RX0) (lw_V q1228 q1229 q1230 q96 q1231) (by decide +kernel) ⟨0, 1, _, _, rfl, rfl, rfl⟩ rfl rfl ⟨Nat.le_of_ble_eq_true rfl, Nat.le_of_ble_eq_true rfl⟩ rfl rfl (Nat.le_of_ble_eq_true rfl) hb dL_law_1043 rfl ?_
  refine cf_aload_n E dL_law_1046 2 rfl rfl ?_
  refine cf_aload_n E dL_law_1047 0 rfl rfl ?_
  refine cf_iload_n E dL_law_1048 3 rfl rfl ?_
  refine cf_iconst E dL_law_1049 ic_1 rfl ?_
  refine cf_iadd E dL_law_1050 rfl ?_
  refine lsld E (hi _ (by decide) (by decide)) dL_law_1051 rfl ?_
  refine cf_aload_n E dL_law_1052 0 rfl rfl ?_
  refine cf_iload_n E dL_law_1053 3 rfl rfl ?_
  refine cf_iconst E dL_law_1054 ic_2 rfl ?_
  refine cf_iadd E dL_law_1055 rfl ?_
  refine lsld E (hi _ (by decide) (by decide)) dL_law_1056 rfl ?_
  refine lcallM_l (na := 2) E [.int (xs (i + (1 : Int32)).toNatClampNeg), .int (xs (i + (2 : Int32)).toNatClampNeg)] (met_mean l (gm g) N (xs (i + (1 : Int32)).toNatClampNeg) (xs (i + (2 : Int32)).toNatClampNeg) σ hm) (lw_V q2059 q2060 q2061 q105 q2062) (by decide +kernel) rfl rfl ⟨Nat.le_of_ble_eq_true rfl, Nat.le_of_ble_eq_true rfl⟩ rfl rfl (Nat.le_of_ble_eq_true rfl) hb dL_law_1057 rfl ?_
  refine cf_lcmp E dL_law_1060 rfl ?_
  exact lifz E dL_law_1061 rfl (k σ1 ξ1 hC1)
def OP_32 (N : Nat) (g : XG) (Cp : XS → MS → Prop) : Prop := ∀ (a1 : Int32) (a2 : Int32) (ξ : XS) (σ : MS), Cp ξ σ → ∃ (v : Int32) (ξ1 : XS) (σ1 : MS), x0_book N g a1 a2 ξ = some (v, ξ1) ∧ m_book N a1 a2 σ = some (v, σ1) ∧ Cp ξ1 σ1
set_option maxHeartbeats 4000000 in
theorem lcase_32 {p : Program} {l : Launch} {e : Env} {s : State} {m : MethodId} {args : Array Value} {below : List Frame} {meth : Method} {c : Code} {cells slots : Nat} {A : Nat → Prop} {g : XG} {ξ : XS} {σ : MS} {b L : Nat} {xs : Nat → Int32} {Q : State → Prop} (E : EV p s m args c code 4 R_law) (hlt : l.stackTraces = false) (N : Nat) (Cp : XS → MS → Prop) (hop : OP_32 N g Cp) {i : Int32} (hi : ∀ j : Int32, 0 ≤ j → j ≤ 5 → inb (i + j) L = true) (hb : cells + 9000 ≤ room_1.cells ∧ slots + 110000 ≤ room_1.slots) (hC : Cp ξ σ) (k : ∀ (σ1 : MS) (ξ1 : XS), Cp ξ1 σ1 → CF p l e room_1 s m args below meth c 4 (cells + 9000) (slots + 110000) (LB g A s b L xs σ1 ξ1) Q 1506 [(0, .ref b), (1, .ref (xa g 0)), (2, .ref (xa g 500)), (3, .int i)] []) : CF p l e room_1 s m args below meth c 4 cells slots (LB g A s b L xs σ ξ) Q 1066 [(0, .ref b), (1, .ref (xa g 0)), (2, .ref (xa g 500)), (3, .int i)] [] := by
  obtain ⟨v, ξ1, σ1, hx, hm, hC1⟩ := hop (xs (i + (1 : Int32)).toNatClampNeg) (xs (i + (2 : Int32)).toNatClampNeg) ξ σ hC
  refine cf_aload_n E dL_law_1066 1 rfl rfl ?_
  refine cf_aload_n E dL_law_1067 0 rfl rfl ?_
  refine cf_iload_n E dL_law_1068 3 rfl rfl ?_
  refine cf_iconst E dL_law_1069 ic_1 rfl ?_
  refine cf_iadd E dL_law_1070 rfl ?_
  refine lsld E (hi _ (by decide) (by decide)) dL_law_1071 rfl ?_
  refine cf_aload_n E dL_law_1072 0 rfl rfl ?_
  refine cf_iload_n E dL_law_1073 3 rfl rfl ?_
  refine cf_iconst E dL_law_1074 ic_2 rfl ?_
  refine cf_iadd E dL_law_1075 rfl ?_
  refine lsld E (hi _ (by decide) (by decide)) dL_law_1076 rfl ?_
  refine CFwiden (show cells ≤ cells + 9000 from by omega) (show slots ≤ slots + 110000 from by omega) ?_
  refine lcallX_i (na := 2) E [.int (xs (i + (1 : Int32)).toNatClampNeg), .int (xs (i + (2 : Int32)).toNatClampNeg)] (met_x0_book l g N (xs (i + (1 : Int32)).toNatClampNeg) (xs (i + (2 : Int32)).toNatClampNeg) ξ hx) (C9 := RX0) (lw_V q1232 q1233 q1234 q96 q1235) (by decide +kernel) ⟨0, 1, _, _, rfl, rfl, rfl⟩ rfl rfl ⟨Nat.le_of_ble_eq_true rfl, Nat.le_of_ble_eq_true rfl⟩ rfl rfl (Nat.le_of_ble_eq_true rfl) hb dL_law_1077 rfl ?_
  refine cf_aload_n E dL_law_1080 2 rfl rfl ?_
  refine cf_aload_n E dL_law_1081 0 rfl rfl ?_
  refine cf_iload_n E dL_law_1082 3 rfl rfl ?_
  refine cf_iconst E dL_law_1083 ic_1 rfl ?_
  refine cf_iadd E dL_law_1084 rfl ?_
  refine lsld E (hi _ (by decide) (by decide)) dL_law_1085 rfl ?_
  refine cf_aload_n E dL_law_1086 0 rfl rfl ?_
  refine cf_iload_n E dL_law_1087 3 rfl rfl ?_
  refine cf_iconst E dL_law_1088 ic_2 rfl ?_
  refine cf_iadd E dL_law_1089 rfl ?_
  refine lsld E (hi _ (by decide) (by decide)) dL_law_1090 rfl ?_
  refine lcallM_i (na := 2) E [.int (xs (i + (1 : Int32)).toNatClampNeg), .int (xs (i + (2 : Int32)).toNatClampNeg)] (met_book l (gm g) N (xs (i + (1 : Int32)).toNatClampNeg) (xs (i + (2 : Int32)).toNatClampNeg) σ hm) (lw_V q2063 q2064 q2065 q105 q2066) (by decide +kernel) rfl rfl ⟨Nat.le_of_ble_eq_true rfl, Nat.le_of_ble_eq_true rfl⟩ rfl rfl (Nat.le_of_ble_eq_true rfl) hb dL_law_1091 rfl ?_
  exact lifeq E dL_law_1094 rfl (k σ1 ξ1 hC1)
def OP_33 (N : Nat) (g : XG) (Cp : XS → MS → Prop) : Prop := ∀ (ξ : XS) (σ : MS), Cp ξ σ → ∃ (v : Int32) (ξ1 : XS) (σ1 : MS), x0_looked N g ξ = some (v, ξ1) ∧ m_looked N σ = some (v, σ1) ∧ Cp ξ1 σ1
set_option maxHeartbeats 4000000 in
theorem lcase_33 {p : Program} {l : Launch} {e : Env} {s : State} {m : MethodId} {args : Array Value} {below : List Frame} {meth : Method} {c : Code} {cells slots : Nat} {A : Nat → Prop} {g : XG} {ξ : XS} {σ : MS} {b L : Nat} {xs : Nat → Int32} {Q : State → Prop} (E : EV p s m args c code 4 R_law) (hlt : l.stackTraces = false) (N : Nat) (Cp : XS → MS → Prop) (hop : OP_33 N g Cp) {i : Int32} (hi : ∀ j : Int32, 0 ≤ j → j ≤ 5 → inb (i + j) L = true) (hb : cells + 9000 ≤ room_1.cells ∧ slots + 110000 ≤ room_1.slots) (hC : Cp ξ σ) (k : ∀ (σ1 : MS) (ξ1 : XS), Cp ξ1 σ1 → CF p l e room_1 s m args below meth c 4 (cells + 9000) (slots + 110000) (LB g A s b L xs σ1 ξ1) Q 1506 [(0, .ref b), (1, .ref (xa g 0)), (2, .ref (xa g 500)), (3, .int i)] []) : CF p l e room_1 s m args below meth c 4 cells slots (LB g A s b L xs σ ξ) Q 1099 [(0, .ref b), (1, .ref (xa g 0)), (2, .ref (xa g 500)), (3, .int i)] [] := by
  obtain ⟨v, ξ1, σ1, hx, hm, hC1⟩ := hop  ξ σ hC
  refine cf_aload_n E dL_law_1099 1 rfl rfl ?_
  refine CFwiden (show cells ≤ cells + 9000 from by omega) (show slots ≤ slots + 110000 from by omega) ?_
  refine lcallX_i (na := 0) E [] (met_x0_looked l g N  ξ hx) (C9 := RX0) (lw_V q1236 q1237 q1238 q96 q1239) (by decide +kernel) ⟨0, 1, _, _, rfl, rfl, rfl⟩ rfl rfl ⟨Nat.le_of_ble_eq_true rfl, Nat.le_of_ble_eq_true rfl⟩ rfl rfl (Nat.le_of_ble_eq_true rfl) hb dL_law_1100 rfl ?_
  refine cf_aload_n E dL_law_1103 2 rfl rfl ?_
  refine lcallM_i (na := 0) E [] (met_looked l (gm g) N  σ hm) (lw_V q2067 q2068 q2069 q105 q2070) (by decide +kernel) rfl rfl ⟨Nat.le_of_ble_eq_true rfl, Nat.le_of_ble_eq_true rfl⟩ rfl rfl (Nat.le_of_ble_eq_true rfl) hb dL_law_1104 rfl ?_
  exact lifeq E dL_law_1107 rfl (k σ1 ξ1 hC1)
def OP_34 (N : Nat) (g : XG) (Cp : XS → MS → Prop) : Prop := ∀ (a1 : Int32) (a2 : Int32) (ξ : XS) (σ : MS), Cp ξ σ → ∃ (v : Int32) (σ1 : MS), m_judge N a1 a2 σ = some (v, σ1) ∧ y0_judge N g a1 a2 ξ 9000 110000 (fun v1 ξ1 => v1 = v ∧ Cp ξ1 σ1)
set_option maxHeartbeats 4000000 in
theorem lcase_34 {p : Program} {l : Launch} {e : Env} {s : State} {m : MethodId} {args : Array Value} {below : List Frame} {meth : Method} {c : Code} {cells slots : Nat} {A : Nat → Prop} {g : XG} {ξ : XS} {σ : MS} {b L : Nat} {xs : Nat → Int32} {Q : State → Prop} (E : EV p s m args c code 4 R_law) (hlt : l.stackTraces = false) (N : Nat) (Cp : XS → MS → Prop) (hop : OP_34 N g Cp) {i : Int32} (hi : ∀ j : Int32, 0 ≤ j → j ≤ 5 → inb (i + j) L = true) (hb : cells + 9000 ≤ room_1.cells ∧ slots + 110000 ≤ room_1.slots) (hC : Cp ξ σ) (k : ∀ (σ1 : MS) (ξ1 : XS), Cp ξ1 σ1 → CF p l e room_1 s m args below meth c 4 (cells + 9000) (slots + 110000) (LB g A s b L xs σ1 ξ1) Q 1506 [(0, .ref b), (1, .ref (xa g 0)), (2, .ref (xa g 500)), (3, .int i)] []) : CF p l e room_1 s m args below meth c 4 cells slots (LB g A s b L xs σ ξ) Q 1112 [(0, .ref b), (1, .ref (xa g 0)), (2, .ref (xa g 500)), (3, .int i)] [] := by
  obtain ⟨v, σ1, hm, hx⟩ := hop (xs (i + (1 : Int32)).toNatClampNeg) (xs (i + (2 : Int32)).toNatClampNeg) ξ σ hC
  refine cf_aload_n E dL_law_1112 1 rfl rfl ?_
  refine cf_aload_n E dL_law_1113 0 rfl rfl ?_
  refine cf_iload_n E dL_law_1114 3 rfl rfl ?_
  refine cf_iconst E dL_law_1115 ic_1 rfl ?_
  refine cf_iadd E dL_law_1116 rfl ?_
  refine lsld E (hi _ (by decide) (by decide)) dL_law_1117 rfl ?_
  refine cf_aload_n E dL_law_1118 0 rfl rfl ?_
  refine cf_iload_n E dL_law_1119 3 rfl rfl ?_
  refine cf_iconst E dL_law_1120 ic_2 rfl ?_
  refine cf_iadd E dL_law_1121 rfl ?_
  refine lsld E (hi _ (by decide) (by decide)) dL_law_1122 rfl ?_
  refine lcallZ_i (na := 2) E [.int (xs (i + (1 : Int32)).toNatClampNeg), .int (xs (i + (2 : Int32)).toNatClampNeg)] (met_y0_judge l g N (xs (i + (1 : Int32)).toNatClampNeg) (xs (i + (2 : Int32)).toNatClampNeg) ξ 9000 110000 _ hlt hx) (C9 := RX0) (lw_VW q1240 q1241 q1242 q96 q1243) (by decide +kernel) ⟨0, 1, _, _, rfl, rfl, rfl⟩ ⟨Nat.le_of_ble_eq_true rfl, Nat.le_of_ble_eq_true rfl⟩ rfl rfl (Nat.le_of_ble_eq_true rfl) hb dL_law_1123 rfl (fun v9 ξ1 hk => ?_)
  obtain ⟨rfl, hC1⟩ := hk
  refine cf_aload_n E dL_law_1126 2 rfl rfl ?_
  refine cf_aload_n E dL_law_1127 0 rfl rfl ?_
  refine cf_iload_n E dL_law_1128 3 rfl rfl ?_
  refine cf_iconst E dL_law_1129 ic_1 rfl ?_
  refine cf_iadd E dL_law_1130 rfl ?_
  refine lsld E (hi _ (by decide) (by decide)) dL_law_1131 rfl ?_
  refine cf_aload_n E dL_law_1132 0 rfl rfl ?_
  refine cf_iload_n E dL_law_1133 3 rfl rfl ?_
  refine cf_iconst E dL_law_1134 ic_2 rfl ?_
  refine cf_iadd E dL_law_1135 rfl ?_
  refine lsld E (hi _ (by decide) (by decide)) dL_law_1136 rfl ?_
  refine lcallM_i (na := 2) E [.int (xs (i + (1 : Int32)).toNatClampNeg), .int (xs (i + (2 : Int32)).toNatClampNeg)] (met_judge l (gm g) N (xs (i + (1 : Int32)).toNatClampNeg) (xs (i + (2 : Int32)).toNatClampNeg) σ hm) (lw_V q2071 q2072 q2073 q105 q2074) (by decide +kernel) rfl rfl ⟨Nat.le_of_ble_eq_true rfl, Nat.le_of_ble_eq_true rfl⟩ rfl rfl (Nat.le_of_ble_eq_true rfl) hb dL_law_1137 rfl ?_
  exact lifeq E dL_law_1140 rfl (k σ1 ξ1 hC1)
def OP_35 (N : Nat) (g : XG) (Cp : XS → MS → Prop) : Prop := ∀ (ξ : XS) (σ : MS), Cp ξ σ → ∃ (v : Int32) (ξ1 : XS) (σ1 : MS), x0_image N g ξ = some (v, ξ1) ∧ m_image N σ = some (v, σ1) ∧ Cp ξ1 σ1
set_option maxHeartbeats 4000000 in
theorem lcase_35 {p : Program} {l : Launch} {e : Env} {s : State} {m : MethodId} {args : Array Value} {below : List Frame} {meth : Method} {c : Code} {cells slots : Nat} {A : Nat → Prop} {g : XG} {ξ : XS} {σ : MS} {b L : Nat} {xs : Nat → Int32} {Q : State → Prop} (E : EV p s m args c code 4 R_law) (hlt : l.stackTraces = false) (N : Nat) (Cp : XS → MS → Prop) (hop : OP_35 N g Cp) {i : Int32} (hi : ∀ j : Int32, 0 ≤ j → j ≤ 5 → inb (i + j) L = true) (hb : cells + 9000 ≤ room_1.cells ∧ slots + 110000 ≤ room_1.slots) (hC : Cp ξ σ) (k : ∀ (σ1 : MS) (ξ1 : XS), Cp ξ1 σ1 → CF p l e room_1 s m args below meth c 4 (cells + 9000) (slots + 110000) (LB g A s b L xs σ1 ξ1) Q 1506 [(0, .ref b), (1, .ref (xa g 0)), (2, .ref (xa g 500)), (3, .int i)] []) : CF p l e room_1 s m args below meth c 4 cells slots (LB g A s b L xs σ ξ) Q 1145 [(0, .ref b), (1, .ref (xa g 0)), (2, .ref (xa g 500)), (3, .int i)] [] := by
  obtain ⟨v, ξ1, σ1, hx, hm, hC1⟩ := hop  ξ σ hC
  refine cf_aload_n E dL_law_1145 1 rfl rfl ?_
  refine CFwiden (show cells ≤ cells + 9000 from by omega) (show slots ≤ slots + 110000 from by omega) ?_
  refine lcallX_i (na := 0) E [] (met_x0_image l g N  ξ hx) (C9 := RX0) (lw_V q1299 q1300 q1301 q96 q1302) (by decide +kernel) ⟨0, 1, _, _, rfl, rfl, rfl⟩ rfl rfl ⟨Nat.le_of_ble_eq_true rfl, Nat.le_of_ble_eq_true rfl⟩ rfl rfl (Nat.le_of_ble_eq_true rfl) hb dL_law_1146 rfl ?_
  refine cf_aload_n E dL_law_1149 2 rfl rfl ?_
  refine lcallM_i (na := 0) E [] (met_image l (gm g) N  σ hm) (lw_V q2079 q2080 q2081 q105 q2082) (by decide +kernel) rfl rfl ⟨Nat.le_of_ble_eq_true rfl, Nat.le_of_ble_eq_true rfl⟩ rfl rfl (Nat.le_of_ble_eq_true rfl) hb dL_law_1150 rfl ?_
  exact lifeq E dL_law_1153 rfl (k σ1 ξ1 hC1)
def OP_36 (N : Nat) (g : XG) (Cp : XS → MS → Prop) : Prop := ∀ (ξ : XS) (σ : MS), Cp ξ σ → ∃ (v : Int32) (ξ1 : XS) (σ1 : MS), x0_undo N g ξ = some (v, ξ1) ∧ m_undo N σ = some (v, σ1) ∧ Cp ξ1 σ1
set_option maxHeartbeats 4000000 in
theorem lcase_36 {p : Program} {l : Launch} {e : Env} {s : State} {m : MethodId} {args : Array Value} {below : List Frame} {meth : Method} {c : Code} {cells slots : Nat} {A : Nat → Prop} {g : XG} {ξ : XS} {σ : MS} {b L : Nat} {xs : Nat → Int32} {Q : State → Prop} (E : EV p s m args c code 4 R_law) (hlt : l.stackTraces = false) (N : Nat) (Cp : XS → MS → Prop) (hop : OP_36 N g Cp) {i : Int32} (hi : ∀ j : Int32, 0 ≤ j → j ≤ 5 → inb (i + j) L = true) (hb : cells + 9000 ≤ room_1.cells ∧ slots + 110000 ≤ room_1.slots) (hC : Cp ξ σ) (k : ∀ (σ1 : MS) (ξ1 : XS), Cp ξ1 σ1 → CF p l e room_1 s m args below meth c 4 (cells + 9000) (slots + 110000) (LB g A s b L xs σ1 ξ1) Q 1506 [(0, .ref b), (1, .ref (xa g 0)), (2, .ref (xa g 500)), (3, .int i)] []) : CF p l e room_1 s m args below meth c 4 cells slots (LB g A s b L xs σ ξ) Q 1158 [(0, .ref b), (1, .ref (xa g 0)), (2, .ref (xa g 500)), (3, .int i)] [] := by
  obtain ⟨v, ξ1, σ1, hx, hm, hC1⟩ := hop  ξ σ hC
  refine cf_aload_n E dL_law_1158 1 rfl rfl ?_
  refine CFwiden (show cells ≤ cells + 9000 from by omega) (show slots ≤ slots + 110000 from by omega) ?_
  refine lcallX_i (na := 0) E [] (met_x0_undo l g N  ξ hx) (C9 := RX0) (lw_V q1303 q1304 q1305 q96 q1306) (by decide +kernel) ⟨0, 1, _, _, rfl, rfl, rfl⟩ rfl rfl ⟨Nat.le_of_ble_eq_true rfl, Nat.le_of_ble_eq_true rfl⟩ rfl rfl (Nat.le_of_ble_eq_true rfl) hb dL_law_1159 rfl ?_
  refine cf_aload_n E dL_law_1162 2 rfl rfl ?_
  refine lcallM_i (na := 0) E [] (met_undo l (gm g) N  σ hm) (lw_V q2083 q2084 q2085 q105 q2086) (by decide +kernel) rfl rfl ⟨Nat.le_of_ble_eq_true rfl, Nat.le_of_ble_eq_true rfl⟩ rfl rfl (Nat.le_of_ble_eq_true rfl) hb dL_law_1163 rfl ?_
  exact lifeq E dL_law_1166 rfl (k σ1 ξ1 hC1)
def OP_37 (N : Nat) (g : XG) (Cp : XS → MS → Prop) : Prop := ∀ (a1 : Int32) (a2 : Int32) (a3 : Int32) (ξ : XS) (σ : MS), Cp ξ σ → ∃ (v : Int32) (ξ1 : XS) (σ1 : MS), x0_act N g a1 a2 a3 ξ = some (v, ξ1) ∧ m_act N a1 a2 a3 σ = some (v, σ1) ∧ Cp ξ1 σ1
set_option maxHeartbeats 4000000 in
theorem lcase_37 {p : Program} {l : Launch} {e : Env} {s : State} {m : MethodId} {args : Array Value} {below : List Frame} {meth : Method} {c : Code} {cells slots : Nat} {A : Nat → Prop} {g : XG} {ξ : XS} {σ : MS} {b L : Nat} {xs : Nat → Int32} {Q : State → Prop} (E : EV p s m args c code 4 R_law) (hlt : l.stackTraces = false) (N : Nat) (Cp : XS → MS → Prop) (hop : OP_37 N g Cp) {i : Int32} (hi : ∀ j : Int32, 0 ≤ j → j ≤ 5 → inb (i + j) L = true) (hb : cells + 9000 ≤ room_1.cells ∧ slots + 110000 ≤ room_1.slots) (hC : Cp ξ σ) (k : ∀ (σ1 : MS) (ξ1 : XS), Cp ξ1 σ1 → CF p l e room_1 s m args below meth c 4 (cells + 9000) (slots + 110000) (LB g A s b L xs σ1 ξ1) Q 1506 [(0, .ref b), (1, .ref (xa g 0)), (2, .ref (xa g 500)), (3, .int i)] []) : CF p l e room_1 s m args below meth c 4 cells slots (LB g A s b L xs σ ξ) Q 1171 [(0, .ref b), (1, .ref (xa g 0)), (2, .ref (xa g 500)), (3, .int i)] [] := by
  obtain ⟨v, ξ1, σ1, hx, hm, hC1⟩ := hop (xs (i + (1 : Int32)).toNatClampNeg) (xs (i + (2 : Int32)).toNatClampNeg) (xs (i + (3 : Int32)).toNatClampNeg) ξ σ hC
  refine cf_aload_n E dL_law_1171 1 rfl rfl ?_
  refine cf_aload_n E dL_law_1172 0 rfl rfl ?_
  refine cf_iload_n E dL_law_1173 3 rfl rfl ?_
  refine cf_iconst E dL_law_1174 ic_1 rfl ?_
  refine cf_iadd E dL_law_1175 rfl ?_
  refine lsld E (hi _ (by decide) (by decide)) dL_law_1176 rfl ?_
  refine cf_aload_n E dL_law_1177 0 rfl rfl ?_
  refine cf_iload_n E dL_law_1178 3 rfl rfl ?_
  refine cf_iconst E dL_law_1179 ic_2 rfl ?_
  refine cf_iadd E dL_law_1180 rfl ?_
  refine lsld E (hi _ (by decide) (by decide)) dL_law_1181 rfl ?_
  refine cf_aload_n E dL_law_1182 0 rfl rfl ?_
  refine cf_iload_n E dL_law_1183 3 rfl rfl ?_
  refine cf_iconst E dL_law_1184 ic_3 rfl ?_
  refine cf_iadd E dL_law_1185 rfl ?_
  refine lsld E (hi _ (by decide) (by decide)) dL_law_1186 rfl ?_
  refine CFwiden (show cells ≤ cells + 9000 from by omega) (show slots ≤ slots + 110000 from by omega) ?_
  refine lcallX_i (na := 3) E [.int (xs (i + (1 : Int32)).toNatClampNeg), .int (xs (i + (2 : Int32)).toNatClampNeg), .int (xs (i + (3 : Int32)).toNatClampNeg)] (met_x0_act l g N (xs (i + (1 : Int32)).toNatClampNeg) (xs (i + (2 : Int32)).toNatClampNeg) (xs (i + (3 : Int32)).toNatClampNeg) ξ hx) (C9 := RX0) (lw_V q1307 q1308 q1309 q96 q1310) (by decide +kernel) ⟨0, 1, _, _, rfl, rfl, rfl⟩ rfl rfl ⟨Nat.le_of_ble_eq_true rfl, Nat.le_of_ble_eq_true rfl⟩ rfl rfl (Nat.le_of_ble_eq_true rfl) hb dL_law_1187 rfl ?_
  refine cf_aload_n E dL_law_1190 2 rfl rfl ?_
  refine cf_aload_n E dL_law_1191 0 rfl rfl ?_
  refine cf_iload_n E dL_law_1192 3 rfl rfl ?_
  refine cf_iconst E dL_law_1193 ic_1 rfl ?_
  refine cf_iadd E dL_law_1194 rfl ?_
  refine lsld E (hi _ (by decide) (by decide)) dL_law_1195 rfl ?_
  refine cf_aload_n E dL_law_1196 0 rfl rfl ?_
  refine cf_iload_n E dL_law_1197 3 rfl rfl ?_
  refine cf_iconst E dL_law_1198 ic_2 rfl ?_
  refine cf_iadd E dL_law_1199 rfl ?_
  refine lsld E (hi _ (by decide) (by decide)) dL_law_1200 rfl ?_
  refine cf_aload_n E dL_law_1201 0 rfl rfl ?_
  refine cf_iload_n E dL_law_1202 3 rfl rfl ?_
  refine cf_iconst E dL_law_1203 ic_3 rfl ?_
  refine cf_iadd E dL_law_1204 rfl ?_
  refine lsld E (hi _ (by decide) (by decide)) dL_law_1205 rfl ?_
  refine lcallM_i (na := 3) E [.int (xs (i + (1 : Int32)).toNatClampNeg), .int (xs (i + (2 : Int32)).toNatClampNeg), .int (xs (i + (3 : Int32)).toNatClampNeg)] (met_act l (gm g) N (xs (i + (1 : Int32)).toNatClampNeg) (xs (i + (2 : Int32)).toNatClampNeg) (xs (i + (3 : Int32)).toNatClampNeg) σ hm) (lw_V q2087 q2088 q2089 q105 q2090) (by decide +kernel) rfl rfl ⟨Nat.le_of_ble_eq_true rfl, Nat.le_of_ble_eq_true rfl⟩ rfl rfl (Nat.le_of_ble_eq_true rfl) hb dL_law_1206 rfl ?_
  exact lifeq E dL_law_1209 rfl (k σ1 ξ1 hC1)
def OP_38 (N : Nat) (g : XG) (Cp : XS → MS → Prop) : Prop := ∀ (a1 : Int32) (ξ : XS) (σ : MS), Cp ξ σ → ∃ (v : Int32) (ξ1 : XS) (σ1 : MS), x0_trace N g a1 ξ = some (v, ξ1) ∧ m_trace N a1 σ = some (v, σ1) ∧ Cp ξ1 σ1
set_option maxHeartbeats 4000000 in
theorem lcase_38 {p : Program} {l : Launch} {e : Env} {s : State} {m : MethodId} {args : Array Value} {below : List Frame} {meth : Method} {c : Code} {cells slots : Nat} {A : Nat → Prop} {g : XG} {ξ : XS} {σ : MS} {b L : Nat} {xs : Nat → Int32} {Q : State → Prop} (E : EV p s m args c code 4 R_law) (hlt : l.stackTraces = false) (N : Nat) (Cp : XS → MS → Prop) (hop : OP_38 N g Cp) {i : Int32} (hi : ∀ j : Int32, 0 ≤ j → j ≤ 5 → inb (i + j) L = true) (hb : cells + 9000 ≤ room_1.cells ∧ slots + 110000 ≤ room_1.slots) (hC : Cp ξ σ) (k : ∀ (σ1 : MS) (ξ1 : XS), Cp ξ1 σ1 → CF p l e room_1 s m args below meth c 4 (cells + 9000) (slots + 110000) (LB g A s b L xs σ1 ξ1) Q 1506 [(0, .ref b), (1, .ref (xa g 0)), (2, .ref (xa g 500)), (3, .int i)] []) : CF p l e room_1 s m args below meth c 4 cells slots (LB g A s b L xs σ ξ) Q 1214 [(0, .ref b), (1, .ref (xa g 0)), (2, .ref (xa g 500)), (3, .int i)] [] := by
  obtain ⟨v, ξ1, σ1, hx, hm, hC1⟩ := hop (xs (i + (1 : Int32)).toNatClampNeg) ξ σ hC
  refine cf_aload_n E dL_law_1214 1 rfl rfl ?_
  refine cf_aload_n E dL_law_1215 0 rfl rfl ?_
  refine cf_iload_n E dL_law_1216 3 rfl rfl ?_
  refine cf_iconst E dL_law_1217 ic_1 rfl ?_
  refine cf_iadd E dL_law_1218 rfl ?_
  refine lsld E (hi _ (by decide) (by decide)) dL_law_1219 rfl ?_
  refine CFwiden (show cells ≤ cells + 9000 from by omega) (show slots ≤ slots + 110000 from by omega) ?_
  refine lcallX_i (na := 1) E [.int (xs (i + (1 : Int32)).toNatClampNeg)] (met_x0_trace l g N (xs (i + (1 : Int32)).toNatClampNeg) ξ hx) (C9 := RX0) (lw_V q1390 q1391 q1392 q96 q1393) (by decide +kernel) ⟨0, 1, _, _, rfl, rfl, rfl⟩ rfl rfl ⟨Nat.le_of_ble_eq_true rfl, Nat.le_of_ble_eq_true rfl⟩ rfl rfl (Nat.le_of_ble_eq_true rfl) hb dL_law_1220 rfl ?_
  refine cf_aload_n E dL_law_1223 2 rfl rfl ?_
  refine cf_aload_n E dL_law_1224 0 rfl rfl ?_
  refine cf_iload_n E dL_law_1225 3 rfl rfl ?_
  refine cf_iconst E dL_law_1226 ic_1 rfl ?_
  refine cf_iadd E dL_law_1227 rfl ?_
  refine lsld E (hi _ (by decide) (by decide)) dL_law_1228 rfl ?_
  refine lcallM_i (na := 1) E [.int (xs (i + (1 : Int32)).toNatClampNeg)] (met_trace l (gm g) N (xs (i + (1 : Int32)).toNatClampNeg) σ hm) (lw_V q2123 q2124 q2125 q105 q2126) (by decide +kernel) rfl rfl ⟨Nat.le_of_ble_eq_true rfl, Nat.le_of_ble_eq_true rfl⟩ rfl rfl (Nat.le_of_ble_eq_true rfl) hb dL_law_1229 rfl ?_
  exact lifeq E dL_law_1232 rfl (k σ1 ξ1 hC1)
def OP_39 (N : Nat) (g : XG) (Cp : XS → MS → Prop) : Prop := ∀ (a1 : Int32) (a2 : Int32) (ξ : XS) (σ : MS), Cp ξ σ → ∃ (v : Int32) (σ1 : MS), m_taken N a1 a2 σ = some (v, σ1) ∧ y0_taken N g a1 a2 ξ 9000 110000 (fun v1 ξ1 => v1 = v ∧ Cp ξ1 σ1)
set_option maxHeartbeats 4000000 in
theorem lcase_39 {p : Program} {l : Launch} {e : Env} {s : State} {m : MethodId} {args : Array Value} {below : List Frame} {meth : Method} {c : Code} {cells slots : Nat} {A : Nat → Prop} {g : XG} {ξ : XS} {σ : MS} {b L : Nat} {xs : Nat → Int32} {Q : State → Prop} (E : EV p s m args c code 4 R_law) (hlt : l.stackTraces = false) (N : Nat) (Cp : XS → MS → Prop) (hop : OP_39 N g Cp) {i : Int32} (hi : ∀ j : Int32, 0 ≤ j → j ≤ 5 → inb (i + j) L = true) (hb : cells + 9000 ≤ room_1.cells ∧ slots + 110000 ≤ room_1.slots) (hC : Cp ξ σ) (k : ∀ (σ1 : MS) (ξ1 : XS), Cp ξ1 σ1 → CF p l e room_1 s m args below meth c 4 (cells + 9000) (slots + 110000) (LB g A s b L xs σ1 ξ1) Q 1506 [(0, .ref b), (1, .ref (xa g 0)), (2, .ref (xa g 500)), (3, .int i)] []) : CF p l e room_1 s m args below meth c 4 cells slots (LB g A s b L xs σ ξ) Q 1237 [(0, .ref b), (1, .ref (xa g 0)), (2, .ref (xa g 500)), (3, .int i)] [] := by
  obtain ⟨v, σ1, hm, hx⟩ := hop (xs (i + (1 : Int32)).toNatClampNeg) (xs (i + (2 : Int32)).toNatClampNeg) ξ σ hC
  refine cf_aload_n E dL_law_1237 1 rfl rfl ?_
  refine cf_aload_n E dL_law_1238 0 rfl rfl ?_
  refine cf_iload_n E dL_law_1239 3 rfl rfl ?_
  refine cf_iconst E dL_law_1240 ic_1 rfl ?_
  refine cf_iadd E dL_law_1241 rfl ?_
  refine lsld E (hi _ (by decide) (by decide)) dL_law_1242 rfl ?_
  refine cf_aload_n E dL_law_1243 0 rfl rfl ?_
  refine cf_iload_n E dL_law_1244 3 rfl rfl ?_
  refine cf_iconst E dL_law_1245 ic_2 rfl ?_
  refine cf_iadd E dL_law_1246 rfl ?_
  refine lsld E (hi _ (by decide) (by decide)) dL_law_1247 rfl ?_
  refine lcallZ_i (na := 2) E [.int (xs (i + (1 : Int32)).toNatClampNeg), .int (xs (i + (2 : Int32)).toNatClampNeg)] (met_y0_taken l g N (xs (i + (1 : Int32)).toNatClampNeg) (xs (i + (2 : Int32)).toNatClampNeg) ξ 9000 110000 _ hlt hx) (C9 := RX0) (lw_VW q1394 q1395 q1396 q96 q1397) (by decide +kernel) ⟨0, 1, _, _, rfl, rfl, rfl⟩ ⟨Nat.le_of_ble_eq_true rfl, Nat.le_of_ble_eq_true rfl⟩ rfl rfl (Nat.le_of_ble_eq_true rfl) hb dL_law_1248 rfl (fun v9 ξ1 hk => ?_)
  obtain ⟨rfl, hC1⟩ := hk
  refine cf_aload_n E dL_law_1251 2 rfl rfl ?_
  refine cf_aload_n E dL_law_1252 0 rfl rfl ?_
  refine cf_iload_n E dL_law_1253 3 rfl rfl ?_
  refine cf_iconst E dL_law_1254 ic_1 rfl ?_
  refine cf_iadd E dL_law_1255 rfl ?_
  refine lsld E (hi _ (by decide) (by decide)) dL_law_1256 rfl ?_
  refine cf_aload_n E dL_law_1257 0 rfl rfl ?_
  refine cf_iload_n E dL_law_1258 3 rfl rfl ?_
  refine cf_iconst E dL_law_1259 ic_2 rfl ?_
  refine cf_iadd E dL_law_1260 rfl ?_
  refine lsld E (hi _ (by decide) (by decide)) dL_law_1261 rfl ?_
  refine lcallM_i (na := 2) E [.int (xs (i + (1 : Int32)).toNatClampNeg), .int (xs (i + (2 : Int32)).toNatClampNeg)] (met_taken l (gm g) N (xs (i + (1 : Int32)).toNatClampNeg) (xs (i + (2 : Int32)).toNatClampNeg) σ hm) (lw_V q2127 q2128 q2129 q105 q2130) (by decide +kernel) rfl rfl ⟨Nat.le_of_ble_eq_true rfl, Nat.le_of_ble_eq_true rfl⟩ rfl rfl (Nat.le_of_ble_eq_true rfl) hb dL_law_1262 rfl ?_
  exact lifeq E dL_law_1265 rfl (k σ1 ξ1 hC1)
def OP_40 (N : Nat) (g : XG) (Cp : XS → MS → Prop) : Prop := ∀ (a1 : Int32) (ξ : XS) (σ : MS), Cp ξ σ → ∃ (v : Int32) (ξ1 : XS) (σ1 : MS), x0_count N g a1 ξ = some (v, ξ1) ∧ m_count N a1 σ = some (v, σ1) ∧ Cp ξ1 σ1
set_option maxHeartbeats 4000000 in
theorem lcase_40 {p : Program} {l : Launch} {e : Env} {s : State} {m : MethodId} {args : Array Value} {below : List Frame} {meth : Method} {c : Code} {cells slots : Nat} {A : Nat → Prop} {g : XG} {ξ : XS} {σ : MS} {b L : Nat} {xs : Nat → Int32} {Q : State → Prop} (E : EV p s m args c code 4 R_law) (hlt : l.stackTraces = false) (N : Nat) (Cp : XS → MS → Prop) (hop : OP_40 N g Cp) {i : Int32} (hi : ∀ j : Int32, 0 ≤ j → j ≤ 5 → inb (i + j) L = true) (hb : cells + 9000 ≤ room_1.cells ∧ slots + 110000 ≤ room_1.slots) (hC : Cp ξ σ) (k : ∀ (σ1 : MS) (ξ1 : XS), Cp ξ1 σ1 → CF p l e room_1 s m args below meth c 4 (cells + 9000) (slots + 110000) (LB g A s b L xs σ1 ξ1) Q 1506 [(0, .ref b), (1, .ref (xa g 0)), (2, .ref (xa g 500)), (3, .int i)] []) : CF p l e room_1 s m args below meth c 4 cells slots (LB g A s b L xs σ ξ) Q 1270 [(0, .ref b), (1, .ref (xa g 0)), (2, .ref (xa g 500)), (3, .int i)] [] := by
  obtain ⟨v, ξ1, σ1, hx, hm, hC1⟩ := hop (xs (i + (1 : Int32)).toNatClampNeg) ξ σ hC
  refine cf_aload_n E dL_law_1270 1 rfl rfl ?_
  refine cf_aload_n E dL_law_1271 0 rfl rfl ?_
  refine cf_iload_n E dL_law_1272 3 rfl rfl ?_
  refine cf_iconst E dL_law_1273 ic_1 rfl ?_
  refine cf_iadd E dL_law_1274 rfl ?_
  refine lsld E (hi _ (by decide) (by decide)) dL_law_1275 rfl ?_
  refine CFwiden (show cells ≤ cells + 9000 from by omega) (show slots ≤ slots + 110000 from by omega) ?_
  refine lcallX_i (na := 1) E [.int (xs (i + (1 : Int32)).toNatClampNeg)] (met_x0_count l g N (xs (i + (1 : Int32)).toNatClampNeg) ξ hx) (C9 := RX0) (lw_V q1401 q1402 q1403 q96 q1404) (by decide +kernel) ⟨0, 1, _, _, rfl, rfl, rfl⟩ rfl rfl ⟨Nat.le_of_ble_eq_true rfl, Nat.le_of_ble_eq_true rfl⟩ rfl rfl (Nat.le_of_ble_eq_true rfl) hb dL_law_1276 rfl ?_
  refine cf_aload_n E dL_law_1279 2 rfl rfl ?_
  refine cf_aload_n E dL_law_1280 0 rfl rfl ?_
  refine cf_iload_n E dL_law_1281 3 rfl rfl ?_
  refine cf_iconst E dL_law_1282 ic_1 rfl ?_
  refine cf_iadd E dL_law_1283 rfl ?_
  refine lsld E (hi _ (by decide) (by decide)) dL_law_1284 rfl ?_
  refine lcallM_i (na := 1) E [.int (xs (i + (1 : Int32)).toNatClampNeg)] (met_count l (gm g) N (xs (i + (1 : Int32)).toNatClampNeg) σ hm) (lw_V q2131 q2132 q2133 q105 q2134) (by decide +kernel) rfl rfl ⟨Nat.le_of_ble_eq_true rfl, Nat.le_of_ble_eq_true rfl⟩ rfl rfl (Nat.le_of_ble_eq_true rfl) hb dL_law_1285 rfl ?_
  exact lifeq E dL_law_1288 rfl (k σ1 ξ1 hC1)
def OP_41 (N : Nat) (g : XG) (Cp : XS → MS → Prop) : Prop := ∀ (a1 : Int32) (a2 : Int32) (a3 : Int32) (ξ : XS) (σ : MS), Cp ξ σ → ∃ (v : Int32) (σ1 : MS), m_tape N a1 a2 a3 σ = some (v, σ1) ∧ y0_tape N g a1 a2 a3 ξ 9000 110000 (fun v1 ξ1 => v1 = v ∧ Cp ξ1 σ1)
set_option maxHeartbeats 4000000 in
theorem lcase_41 {p : Program} {l : Launch} {e : Env} {s : State} {m : MethodId} {args : Array Value} {below : List Frame} {meth : Method} {c : Code} {cells slots : Nat} {A : Nat → Prop} {g : XG} {ξ : XS} {σ : MS} {b L : Nat} {xs : Nat → Int32} {Q : State → Prop} (E : EV p s m args c code 4 R_law) (hlt : l.stackTraces = false) (N : Nat) (Cp : XS → MS → Prop) (hop : OP_41 N g Cp) {i : Int32} (hi : ∀ j : Int32, 0 ≤ j → j ≤ 5 → inb (i + j) L = true) (hb : cells + 9000 ≤ room_1.cells ∧ slots + 110000 ≤ room_1.slots) (hC : Cp ξ σ) (k : ∀ (σ1 : MS) (ξ1 : XS), Cp ξ1 σ1 → CF p l e room_1 s m args below meth c 4 (cells + 9000) (slots + 110000) (LB g A s b L xs σ1 ξ1) Q 1506 [(0, .ref b), (1, .ref (xa g 0)), (2, .ref (xa g 500)), (3, .int i)] []) : CF p l e room_1 s m args below meth c 4 cells slots (LB g A s b L xs σ ξ) Q 1293 [(0, .ref b), (1, .ref (xa g 0)), (2, .ref (xa g 500)), (3, .int i)] [] := by
  obtain ⟨v, σ1, hm, hx⟩ := hop (xs (i + (1 : Int32)).toNatClampNeg) (xs (i + (2 : Int32)).toNatClampNeg) (xs (i + (3 : Int32)).toNatClampNeg) ξ σ hC
  refine cf_aload_n E dL_law_1293 1 rfl rfl ?_
  refine cf_aload_n E dL_law_1294 0 rfl rfl ?_
  refine cf_iload_n E dL_law_1295 3 rfl rfl ?_
  refine cf_iconst E dL_law_1296 ic_1 rfl ?_
  refine cf_iadd E dL_law_1297 rfl ?_
  refine lsld E (hi _ (by decide) (by decide)) dL_law_1298 rfl ?_
  refine cf_aload_n E dL_law_1299 0 rfl rfl ?_
  refine cf_iload_n E dL_law_1300 3 rfl rfl ?_
  refine cf_iconst E dL_law_1301 ic_2 rfl ?_
  refine cf_iadd E dL_law_1302 rfl ?_
  refine lsld E (hi _ (by decide) (by decide)) dL_law_1303 rfl ?_
  refine cf_aload_n E dL_law_1304 0 rfl rfl ?_
  refine cf_iload_n E dL_law_1305 3 rfl rfl ?_
  refine cf_iconst E dL_law_1306 ic_3 rfl ?_
  refine cf_iadd E dL_law_1307 rfl ?_
  refine lsld E (hi _ (by decide) (by decide)) dL_law_1308 rfl ?_
  refine lcallZ_i (na := 3) E [.int (xs (i + (1 : Int32)).toNatClampNeg), .int (xs (i + (2 : Int32)).toNatClampNeg), .int (xs (i + (3 : Int32)).toNatClampNeg)] (met_y0_tape l g N (xs (i + (1 : Int32)).toNatClampNeg) (xs (i + (2 : Int32)).toNatClampNeg) (xs (i + (3 : Int32)).toNatClampNeg) ξ 9000 110000 _ hlt hx) (C9 := RX0) (lw_VW q1405 q1406 q1407 q96 q1408) (by decide +kernel) ⟨0, 1, _, _, rfl, rfl, rfl⟩ ⟨Nat.le_of_ble_eq_true rfl, Nat.le_of_ble_eq_true rfl⟩ rfl rfl (Nat.le_of_ble_eq_true rfl) hb dL_law_1309 rfl (fun v9 ξ1 hk => ?_)
  obtain ⟨rfl, hC1⟩ := hk
  refine cf_aload_n E dL_law_1312 2 rfl rfl ?_
  refine cf_aload_n E dL_law_1313 0 rfl rfl ?_
  refine cf_iload_n E dL_law_1314 3 rfl rfl ?_
  refine cf_iconst E dL_law_1315 ic_1 rfl ?_
  refine cf_iadd E dL_law_1316 rfl ?_
  refine lsld E (hi _ (by decide) (by decide)) dL_law_1317 rfl ?_
  refine cf_aload_n E dL_law_1318 0 rfl rfl ?_
  refine cf_iload_n E dL_law_1319 3 rfl rfl ?_
  refine cf_iconst E dL_law_1320 ic_2 rfl ?_
  refine cf_iadd E dL_law_1321 rfl ?_
  refine lsld E (hi _ (by decide) (by decide)) dL_law_1322 rfl ?_
  refine cf_aload_n E dL_law_1323 0 rfl rfl ?_
  refine cf_iload_n E dL_law_1324 3 rfl rfl ?_
  refine cf_iconst E dL_law_1325 ic_3 rfl ?_
  refine cf_iadd E dL_law_1326 rfl ?_
  refine lsld E (hi _ (by decide) (by decide)) dL_law_1327 rfl ?_
  refine lcallM_i (na := 3) E [.int (xs (i + (1 : Int32)).toNatClampNeg), .int (xs (i + (2 : Int32)).toNatClampNeg), .int (xs (i + (3 : Int32)).toNatClampNeg)] (met_tape l (gm g) N (xs (i + (1 : Int32)).toNatClampNeg) (xs (i + (2 : Int32)).toNatClampNeg) (xs (i + (3 : Int32)).toNatClampNeg) σ hm) (lw_V q2135 q2136 q2137 q105 q2138) (by decide +kernel) rfl rfl ⟨Nat.le_of_ble_eq_true rfl, Nat.le_of_ble_eq_true rfl⟩ rfl rfl (Nat.le_of_ble_eq_true rfl) hb dL_law_1328 rfl ?_
  exact lifeq E dL_law_1331 rfl (k σ1 ξ1 hC1)
def OP_42 (N : Nat) (g : XG) (Cp : XS → MS → Prop) : Prop := ∀ (a1 : Int32) (a2 : Int32) (a3 : Int64) (ξ : XS) (σ : MS), Cp ξ σ → ∃ (v : Int32) (σ1 : MS), m_item N a1 a2 a3 σ = some (v, σ1) ∧ y0_item N g a1 a2 a3 ξ 9000 110000 (fun v1 ξ1 => v1 = v ∧ Cp ξ1 σ1)
set_option maxHeartbeats 4000000 in
theorem lcase_42 {p : Program} {l : Launch} {e : Env} {s : State} {m : MethodId} {args : Array Value} {below : List Frame} {meth : Method} {c : Code} {cells slots : Nat} {A : Nat → Prop} {g : XG} {ξ : XS} {σ : MS} {b L : Nat} {xs : Nat → Int32} {Q : State → Prop} (E : EV p s m args c code 4 R_law) (hlt : l.stackTraces = false) (N : Nat) (Cp : XS → MS → Prop) (hop : OP_42 N g Cp) {i : Int32} (hi : ∀ j : Int32, 0 ≤ j → j ≤ 5 → inb (i + j) L = true) (hb : cells + 9000 ≤ room_1.cells ∧ slots + 110000 ≤ room_1.slots) (hC : Cp ξ σ) (k : ∀ (σ1 : MS) (ξ1 : XS), Cp ξ1 σ1 → CF p l e room_1 s m args below meth c 4 (cells + 9000) (slots + 110000) (LB g A s b L xs σ1 ξ1) Q 1506 [(0, .ref b), (1, .ref (xa g 0)), (2, .ref (xa g 500)), (3, .int i)] []) : CF p l e room_1 s m args below meth c 4 cells slots (LB g A s b L xs σ ξ) Q 1336 [(0, .ref b), (1, .ref (xa g 0)), (2, .ref (xa g 500)), (3, .int i)] [] := by
  obtain ⟨v, σ1, hm, hx⟩ := hop (xs (i + (1 : Int32)).toNatClampNeg) (xs (i + (2 : Int32)).toNatClampNeg) ((((xs (i + (3 : Int32)).toNatClampNeg).toInt64) <<< ((32 : Int32).toInt64 &&& 63)) ||| (((xs (i + (4 : Int32)).toNatClampNeg).toInt64) &&& (4294967295 : Int64))) ξ σ hC
  refine cf_aload_n E dL_law_1336 1 rfl rfl ?_
  refine cf_aload_n E dL_law_1337 0 rfl rfl ?_
  refine cf_iload_n E dL_law_1338 3 rfl rfl ?_
  refine cf_iconst E dL_law_1339 ic_1 rfl ?_
  refine cf_iadd E dL_law_1340 rfl ?_
  refine lsld E (hi _ (by decide) (by decide)) dL_law_1341 rfl ?_
  refine cf_aload_n E dL_law_1342 0 rfl rfl ?_
  refine cf_iload_n E dL_law_1343 3 rfl rfl ?_
  refine cf_iconst E dL_law_1344 ic_2 rfl ?_
  refine cf_iadd E dL_law_1345 rfl ?_
  refine lsld E (hi _ (by decide) (by decide)) dL_law_1346 rfl ?_
  refine cf_aload_n E dL_law_1347 0 rfl rfl ?_
  refine cf_iload_n E dL_law_1348 3 rfl rfl ?_
  refine cf_iconst E dL_law_1349 ic_3 rfl ?_
  refine cf_iadd E dL_law_1350 rfl ?_
  refine lsld E (hi _ (by decide) (by decide)) dL_law_1351 rfl ?_
  refine cf_i2l E dL_law_1352 rfl ?_
  refine cf_bipush E dL_law_1353 bp_32 rfl ?_
  refine cf_lshl E dL_law_1355 rfl rfl ?_
  refine cf_aload_n E dL_law_1356 0 rfl rfl ?_
  refine cf_iload_n E dL_law_1357 3 rfl rfl ?_
  refine cf_iconst E dL_law_1358 ic_4 rfl ?_
  refine cf_iadd E dL_law_1359 rfl ?_
  refine lsld E (hi _ (by decide) (by decide)) dL_law_1360 rfl ?_
  refine cf_i2l E dL_law_1361 rfl ?_
  refine cf_ldc2 E dL_law_1362 q2155 rfl ?_
  refine cf_land E dL_law_1365 rfl ?_
  refine cf_lor E dL_law_1366 rfl ?_
  refine lcallZ_i (na := 3) E [.int (xs (i + (1 : Int32)).toNatClampNeg), .int (xs (i + (2 : Int32)).toNatClampNeg), .long ((((xs (i + (3 : Int32)).toNatClampNeg).toInt64) <<< ((32 : Int32).toInt64 &&& 63)) ||| (((xs (i + (4 : Int32)).toNatClampNeg).toInt64) &&& (4294967295 : Int64)))] (met_y0_item l g N (xs (i + (1 : Int32)).toNatClampNeg) (xs (i + (2 : Int32)).toNatClampNeg) ((((xs (i + (3 : Int32)).toNatClampNeg).toInt64) <<< ((32 : Int32).toInt64 &&& 63)) ||| (((xs (i + (4 : Int32)).toNatClampNeg).toInt64) &&& (4294967295 : Int64))) ξ 9000 110000 _ hlt hx) (C9 := RX0) (lw_VW q1429 q1430 q1431 q96 q1432) (by decide +kernel) ⟨0, 1, _, _, rfl, rfl, rfl⟩ ⟨Nat.le_of_ble_eq_true rfl, Nat.le_of_ble_eq_true rfl⟩ rfl rfl (Nat.le_of_ble_eq_true rfl) hb dL_law_1367 rfl (fun v9 ξ1 hk => ?_)
  obtain ⟨rfl, hC1⟩ := hk
  refine cf_aload_n E dL_law_1370 2 rfl rfl ?_
  refine cf_aload_n E dL_law_1371 0 rfl rfl ?_
  refine cf_iload_n E dL_law_1372 3 rfl rfl ?_
  refine cf_iconst E dL_law_1373 ic_1 rfl ?_
  refine cf_iadd E dL_law_1374 rfl ?_
  refine lsld E (hi _ (by decide) (by decide)) dL_law_1375 rfl ?_
  refine cf_aload_n E dL_law_1376 0 rfl rfl ?_
  refine cf_iload_n E dL_law_1377 3 rfl rfl ?_
  refine cf_iconst E dL_law_1378 ic_2 rfl ?_
  refine cf_iadd E dL_law_1379 rfl ?_
  refine lsld E (hi _ (by decide) (by decide)) dL_law_1380 rfl ?_
  refine cf_aload_n E dL_law_1381 0 rfl rfl ?_
  refine cf_iload_n E dL_law_1382 3 rfl rfl ?_
  refine cf_iconst E dL_law_1383 ic_3 rfl ?_
  refine cf_iadd E dL_law_1384 rfl ?_
  refine lsld E (hi _ (by decide) (by decide)) dL_law_1385 rfl ?_
  refine cf_i2l E dL_law_1386 rfl ?_
  refine cf_bipush E dL_law_1387 bp_32 rfl ?_
  refine cf_lshl E dL_law_1389 rfl rfl ?_
  refine cf_aload_n E dL_law_1390 0 rfl rfl ?_
  refine cf_iload_n E dL_law_1391 3 rfl rfl ?_
  refine cf_iconst E dL_law_1392 ic_4 rfl ?_
  refine cf_iadd E dL_law_1393 rfl ?_
  refine lsld E (hi _ (by decide) (by decide)) dL_law_1394 rfl ?_
  refine cf_i2l E dL_law_1395 rfl ?_
  refine cf_ldc2 E dL_law_1396 q2155 rfl ?_
  refine cf_land E dL_law_1399 rfl ?_
  refine cf_lor E dL_law_1400 rfl ?_
  refine lcallM_i (na := 3) E [.int (xs (i + (1 : Int32)).toNatClampNeg), .int (xs (i + (2 : Int32)).toNatClampNeg), .long ((((xs (i + (3 : Int32)).toNatClampNeg).toInt64) <<< ((32 : Int32).toInt64 &&& 63)) ||| (((xs (i + (4 : Int32)).toNatClampNeg).toInt64) &&& (4294967295 : Int64)))] (met_item l (gm g) N (xs (i + (1 : Int32)).toNatClampNeg) (xs (i + (2 : Int32)).toNatClampNeg) ((((xs (i + (3 : Int32)).toNatClampNeg).toInt64) <<< ((32 : Int32).toInt64 &&& 63)) ||| (((xs (i + (4 : Int32)).toNatClampNeg).toInt64) &&& (4294967295 : Int64))) σ hm) (lw_V q2139 q2140 q2141 q105 q2142) (by decide +kernel) rfl rfl ⟨Nat.le_of_ble_eq_true rfl, Nat.le_of_ble_eq_true rfl⟩ rfl rfl (Nat.le_of_ble_eq_true rfl) hb dL_law_1401 rfl ?_
  exact lifeq E dL_law_1404 rfl (k σ1 ξ1 hC1)
def OP_43 (N : Nat) (g : XG) (Cp : XS → MS → Prop) : Prop := ∀ (a1 : Int32) (a2 : Int32) (ξ : XS) (σ : MS), Cp ξ σ → ∃ (v : Int64) (ξ1 : XS) (σ1 : MS), x0_read N g a1 a2 ξ = some (v, ξ1) ∧ m_read N a1 a2 σ = some (v, σ1) ∧ Cp ξ1 σ1
set_option maxHeartbeats 4000000 in
theorem lcase_43 {p : Program} {l : Launch} {e : Env} {s : State} {m : MethodId} {args : Array Value} {below : List Frame} {meth : Method} {c : Code} {cells slots : Nat} {A : Nat → Prop} {g : XG} {ξ : XS} {σ : MS} {b L : Nat} {xs : Nat → Int32} {Q : State → Prop} (E : EV p s m args c code 4 R_law) (hlt : l.stackTraces = false) (N : Nat) (Cp : XS → MS → Prop) (hop : OP_43 N g Cp) {i : Int32} (hi : ∀ j : Int32, 0 ≤ j → j ≤ 5 → inb (i + j) L = true) (hb : cells + 9000 ≤ room_1.cells ∧ slots + 110000 ≤ room_1.slots) (hC : Cp ξ σ) (k : ∀ (σ1 : MS) (ξ1 : XS), Cp ξ1 σ1 → CF p l e room_1 s m args below meth c 4 (cells + 9000) (slots + 110000) (LB g A s b L xs σ1 ξ1) Q 1506 [(0, .ref b), (1, .ref (xa g 0)), (2, .ref (xa g 500)), (3, .int i)] []) : CF p l e room_1 s m args below meth c 4 cells slots (LB g A s b L xs σ ξ) Q 1409 [(0, .ref b), (1, .ref (xa g 0)), (2, .ref (xa g 500)), (3, .int i)] [] := by
  obtain ⟨v, ξ1, σ1, hx, hm, hC1⟩ := hop (xs (i + (1 : Int32)).toNatClampNeg) (xs (i + (2 : Int32)).toNatClampNeg) ξ σ hC
  refine cf_aload_n E dL_law_1409 1 rfl rfl ?_
  refine cf_aload_n E dL_law_1410 0 rfl rfl ?_
  refine cf_iload_n E dL_law_1411 3 rfl rfl ?_
  refine cf_iconst E dL_law_1412 ic_1 rfl ?_
  refine cf_iadd E dL_law_1413 rfl ?_
  refine lsld E (hi _ (by decide) (by decide)) dL_law_1414 rfl ?_
  refine cf_aload_n E dL_law_1415 0 rfl rfl ?_
  refine cf_iload_n E dL_law_1416 3 rfl rfl ?_
  refine cf_iconst E dL_law_1417 ic_2 rfl ?_
  refine cf_iadd E dL_law_1418 rfl ?_
  refine lsld E (hi _ (by decide) (by decide)) dL_law_1419 rfl ?_
  refine CFwiden (show cells ≤ cells + 9000 from by omega) (show slots ≤ slots + 110000 from by omega) ?_
  refine lcallX_l (na := 2) E [.int (xs (i + (1 : Int32)).toNatClampNeg), .int (xs (i + (2 : Int32)).toNatClampNeg)] (met_x0_read l g N (xs (i + (1 : Int32)).toNatClampNeg) (xs (i + (2 : Int32)).toNatClampNeg) ξ hx) (C9 := RX0) (lw_V q1453 q1454 q1455 q96 q1456) (by decide +kernel) ⟨0, 1, _, _, rfl, rfl, rfl⟩ rfl rfl ⟨Nat.le_of_ble_eq_true rfl, Nat.le_of_ble_eq_true rfl⟩ rfl rfl (Nat.le_of_ble_eq_true rfl) hb dL_law_1420 rfl ?_
  refine cf_aload_n E dL_law_1423 2 rfl rfl ?_
  refine cf_aload_n E dL_law_1424 0 rfl rfl ?_
  refine cf_iload_n E dL_law_1425 3 rfl rfl ?_
  refine cf_iconst E dL_law_1426 ic_1 rfl ?_
  refine cf_iadd E dL_law_1427 rfl ?_
  refine lsld E (hi _ (by decide) (by decide)) dL_law_1428 rfl ?_
  refine cf_aload_n E dL_law_1429 0 rfl rfl ?_
  refine cf_iload_n E dL_law_1430 3 rfl rfl ?_
  refine cf_iconst E dL_law_1431 ic_2 rfl ?_
  refine cf_iadd E dL_law_1432 rfl ?_
  refine lsld E (hi _ (by decide) (by decide)) dL_law_1433 rfl ?_
  refine lcallM_l (na := 2) E [.int (xs (i + (1 : Int32)).toNatClampNeg), .int (xs (i + (2 : Int32)).toNatClampNeg)] (met_read l (gm g) N (xs (i + (1 : Int32)).toNatClampNeg) (xs (i + (2 : Int32)).toNatClampNeg) σ hm) (lw_V q2147 q2148 q2149 q105 q2150) (by decide +kernel) rfl rfl ⟨Nat.le_of_ble_eq_true rfl, Nat.le_of_ble_eq_true rfl⟩ rfl rfl (Nat.le_of_ble_eq_true rfl) hb dL_law_1434 rfl ?_
  refine cf_lcmp E dL_law_1437 rfl ?_
  exact lifz E dL_law_1438 rfl (k σ1 ξ1 hC1)
def OP_44 (N : Nat) (g : XG) (Cp : XS → MS → Prop) : Prop := ∀ (a1 : Int32) (a2 : Int32) (a3 : Int32) (a4 : Int32) (a5 : Int32) (ξ : XS) (σ : MS), Cp ξ σ → ∃ (v : Int32) (σ1 : MS), m_shift N a1 a2 a3 a4 a5 σ = some (v, σ1) ∧ y0_shift N g a1 a2 a3 a4 a5 ξ 9000 110000 (fun v1 ξ1 => v1 = v ∧ Cp ξ1 σ1)
set_option maxHeartbeats 4000000 in
theorem lcase_44 {p : Program} {l : Launch} {e : Env} {s : State} {m : MethodId} {args : Array Value} {below : List Frame} {meth : Method} {c : Code} {cells slots : Nat} {A : Nat → Prop} {g : XG} {ξ : XS} {σ : MS} {b L : Nat} {xs : Nat → Int32} {Q : State → Prop} (E : EV p s m args c code 4 R_law) (hlt : l.stackTraces = false) (N : Nat) (Cp : XS → MS → Prop) (hop : OP_44 N g Cp) {i : Int32} (hi : ∀ j : Int32, 0 ≤ j → j ≤ 5 → inb (i + j) L = true) (hb : cells + 9000 ≤ room_1.cells ∧ slots + 110000 ≤ room_1.slots) (hC : Cp ξ σ) (k : ∀ (σ1 : MS) (ξ1 : XS), Cp ξ1 σ1 → CF p l e room_1 s m args below meth c 4 (cells + 9000) (slots + 110000) (LB g A s b L xs σ1 ξ1) Q 1506 [(0, .ref b), (1, .ref (xa g 0)), (2, .ref (xa g 500)), (3, .int i)] []) : CF p l e room_1 s m args below meth c 4 cells slots (LB g A s b L xs σ ξ) Q 1443 [(0, .ref b), (1, .ref (xa g 0)), (2, .ref (xa g 500)), (3, .int i)] [] := by
  obtain ⟨v, σ1, hm, hx⟩ := hop (xs (i + (1 : Int32)).toNatClampNeg) (xs (i + (2 : Int32)).toNatClampNeg) (xs (i + (3 : Int32)).toNatClampNeg) (xs (i + (4 : Int32)).toNatClampNeg) (xs (i + (5 : Int32)).toNatClampNeg) ξ σ hC
  refine cf_aload_n E dL_law_1443 1 rfl rfl ?_
  refine cf_aload_n E dL_law_1444 0 rfl rfl ?_
  refine cf_iload_n E dL_law_1445 3 rfl rfl ?_
  refine cf_iconst E dL_law_1446 ic_1 rfl ?_
  refine cf_iadd E dL_law_1447 rfl ?_
  refine lsld E (hi _ (by decide) (by decide)) dL_law_1448 rfl ?_
  refine cf_aload_n E dL_law_1449 0 rfl rfl ?_
  refine cf_iload_n E dL_law_1450 3 rfl rfl ?_
  refine cf_iconst E dL_law_1451 ic_2 rfl ?_
  refine cf_iadd E dL_law_1452 rfl ?_
  refine lsld E (hi _ (by decide) (by decide)) dL_law_1453 rfl ?_
  refine cf_aload_n E dL_law_1454 0 rfl rfl ?_
  refine cf_iload_n E dL_law_1455 3 rfl rfl ?_
  refine cf_iconst E dL_law_1456 ic_3 rfl ?_
  refine cf_iadd E dL_law_1457 rfl ?_
  refine lsld E (hi _ (by decide) (by decide)) dL_law_1458 rfl ?_
  refine cf_aload_n E dL_law_1459 0 rfl rfl ?_
  refine cf_iload_n E dL_law_1460 3 rfl rfl ?_
  refine cf_iconst E dL_law_1461 ic_4 rfl ?_
  refine cf_iadd E dL_law_1462 rfl ?_
  refine lsld E (hi _ (by decide) (by decide)) dL_law_1463 rfl ?_
  refine cf_aload_n E dL_law_1464 0 rfl rfl ?_
  refine cf_iload_n E dL_law_1465 3 rfl rfl ?_
  refine cf_iconst E dL_law_1466 ic_5 rfl ?_
  refine cf_iadd E dL_law_1467 rfl ?_
  refine lsld E (hi _ (by decide) (by decide)) dL_law_1468 rfl ?_
  refine lcallZ_i (na := 5) E [.int (xs (i + (1 : Int32)).toNatClampNeg), .int (xs (i + (2 : Int32)).toNatClampNeg), .int (xs (i + (3 : Int32)).toNatClampNeg), .int (xs (i + (4 : Int32)).toNatClampNeg), .int (xs (i + (5 : Int32)).toNatClampNeg)] (met_y0_shift l g N (xs (i + (1 : Int32)).toNatClampNeg) (xs (i + (2 : Int32)).toNatClampNeg) (xs (i + (3 : Int32)).toNatClampNeg) (xs (i + (4 : Int32)).toNatClampNeg) (xs (i + (5 : Int32)).toNatClampNeg) ξ 9000 110000 _ hlt hx) (C9 := RX0) (lw_VW q1458 q1459 q1460 q96 q1461) (by decide +kernel) ⟨0, 1, _, _, rfl, rfl, rfl⟩ ⟨Nat.le_of_ble_eq_true rfl, Nat.le_of_ble_eq_true rfl⟩ rfl rfl (Nat.le_of_ble_eq_true rfl) hb dL_law_1469 rfl (fun v9 ξ1 hk => ?_)
  obtain ⟨rfl, hC1⟩ := hk
  refine cf_aload_n E dL_law_1472 2 rfl rfl ?_
  refine cf_aload_n E dL_law_1473 0 rfl rfl ?_
  refine cf_iload_n E dL_law_1474 3 rfl rfl ?_
  refine cf_iconst E dL_law_1475 ic_1 rfl ?_
  refine cf_iadd E dL_law_1476 rfl ?_
  refine lsld E (hi _ (by decide) (by decide)) dL_law_1477 rfl ?_
  refine cf_aload_n E dL_law_1478 0 rfl rfl ?_
  refine cf_iload_n E dL_law_1479 3 rfl rfl ?_
  refine cf_iconst E dL_law_1480 ic_2 rfl ?_
  refine cf_iadd E dL_law_1481 rfl ?_
  refine lsld E (hi _ (by decide) (by decide)) dL_law_1482 rfl ?_
  refine cf_aload_n E dL_law_1483 0 rfl rfl ?_
  refine cf_iload_n E dL_law_1484 3 rfl rfl ?_
  refine cf_iconst E dL_law_1485 ic_3 rfl ?_
  refine cf_iadd E dL_law_1486 rfl ?_
  refine lsld E (hi _ (by decide) (by decide)) dL_law_1487 rfl ?_
  refine cf_aload_n E dL_law_1488 0 rfl rfl ?_
  refine cf_iload_n E dL_law_1489 3 rfl rfl ?_
  refine cf_iconst E dL_law_1490 ic_4 rfl ?_
  refine cf_iadd E dL_law_1491 rfl ?_
  refine lsld E (hi _ (by decide) (by decide)) dL_law_1492 rfl ?_
  refine cf_aload_n E dL_law_1493 0 rfl rfl ?_
  refine cf_iload_n E dL_law_1494 3 rfl rfl ?_
  refine cf_iconst E dL_law_1495 ic_5 rfl ?_
  refine cf_iadd E dL_law_1496 rfl ?_
  refine lsld E (hi _ (by decide) (by decide)) dL_law_1497 rfl ?_
  refine lcallM_i (na := 5) E [.int (xs (i + (1 : Int32)).toNatClampNeg), .int (xs (i + (2 : Int32)).toNatClampNeg), .int (xs (i + (3 : Int32)).toNatClampNeg), .int (xs (i + (4 : Int32)).toNatClampNeg), .int (xs (i + (5 : Int32)).toNatClampNeg)] (met_shift l (gm g) N (xs (i + (1 : Int32)).toNatClampNeg) (xs (i + (2 : Int32)).toNatClampNeg) (xs (i + (3 : Int32)).toNatClampNeg) (xs (i + (4 : Int32)).toNatClampNeg) (xs (i + (5 : Int32)).toNatClampNeg) σ hm) (lw_V q2151 q2152 q2153 q105 q2154) (by decide +kernel) rfl rfl ⟨Nat.le_of_ble_eq_true rfl, Nat.le_of_ble_eq_true rfl⟩ rfl rfl (Nat.le_of_ble_eq_true rfl) hb dL_law_1498 rfl ?_
  exact lifeq E dL_law_1501 rfl (k σ1 ξ1 hC1)
