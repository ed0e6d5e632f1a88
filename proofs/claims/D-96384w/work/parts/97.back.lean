/-! PURE: back -/
set_option maxRecDepth 100000
theorem anN_true {p : Nat → Bool} : ∀ (n b : Nat), anN p n b = true ↔ ∃ k, b ≤ k ∧ k < b + n ∧ p k = true := by
  intro n
  induction n with
  | zero => intro b; simp only [anN]; exact ⟨fun h => absurd h (by simp), fun ⟨k, h1, h2, _⟩ => absurd h2 (by omega)⟩
  | succ n ih =>
    intro b
    simp only [anN, Bool.or_eq_true, ih]
    constructor
    · rintro (h | ⟨k, h1, h2, h3⟩)
      · exact ⟨b, by omega, by omega, h⟩
      · exact ⟨k, by omega, by omega, h3⟩
    · rintro ⟨k, h1, h2, h3⟩
      by_cases e : k = b
      · subst e; exact Or.inl h3
      · exact Or.inr ⟨k, by omega, by omega, h3⟩
theorem nodup_bound : ∀ (H : Nat) (V : List Nat), V.Nodup → (∀ v ∈ V, v < H) → V.length ≤ H := by
  intro H
  induction H with
  | zero =>
    intro V _ h
    cases V with
    | nil => simp
    | cons a l => exact absurd (h a (by simp)) (by omega)
  | succ H ih =>
    intro V hn h
    have h2 : (V.erase H).length ≤ H := by
      refine ih _ (hn.erase H) (fun v hv => ?_)
      have h3 := h v (List.mem_of_mem_erase hv)
      have h4 : v ≠ H := fun e => by subst e; exact hn.not_mem_erase hv
      omega
    by_cases hm : H ∈ V
    · have := List.length_erase_of_mem hm
      omega
    · rw [List.erase_of_not_mem hm] at h2
      omega
def dueB (ow wo : Nat → Int32) (H h : Nat) : Option Nat := if wo h = -1 then none else fi (fun k => decide (ow k = wo h)) H 0
def due2 (ow wo : Nat → Int32) (H h : Nat) : Option Nat := match dueB ow wo H h with
  | none => none
  | some k => fi (fun k => decide (ow k = wo h)) (H - (k + 1)) (k + 1)
theorem dueB_some {ow wo : Nat → Int32} {H h k : Nat} (e : dueB ow wo H h = some k) : k < H ∧ ow k = wo h ∧ wo h ≠ -1 := by
  unfold dueB at e
  by_cases q : wo h = -1
  · rw [if_pos q] at e; cases e
  · rw [if_neg q] at e
    obtain ⟨h1, h2, h3⟩ := fi_some _ _ _ e
    exact ⟨by omega, of_decide_eq_true h3, q⟩
theorem due_inj {ow wo : Nat → Int32} {H h h' k : Nat} (hi : cInj H wo) (lh : h < H) (lh' : h' < H) (e : dueB ow wo H h = some k) (e' : dueB ow wo H h' = some k) : h = h' := by
  obtain ⟨-, a2, a3⟩ := dueB_some e
  obtain ⟨-, b2, b3⟩ := dueB_some e'
  exact hi h h' lh lh' (a2.symm.trans b2) a3
theorem m_dueFor_eq {N : Nat} (hN : 1000 ≤ N) {σ : MS} {H A : Nat} (lH : H ≤ 6) (eH : gF σ 0 = nI H) (lA : A ≤ 6) {h : Nat} (hh : h < H) (hw : hx (gR σ 5 h) A) : m_dueFor N (nI h) σ = some (optI (dueB (gR σ 4) (gR σ 5) H h) (-1), σ) := by
  have key : ∀ (n c k : Nat), n + c = H → n < k → m_dueFor_13 N k (nI h) (nI c) σ = some (optI (fi (fun k => decide (gR σ 4 k = gR σ 5 h)) n c) (-1), σ) := by
    intro n
    induction n with
    | zero =>
      intro c k hc hk
      obtain ⟨k, rfl⟩ : ∃ k', k = k' + 1 := ⟨k - 1, by omega⟩
      show m_dueFor_13b N (m_dueFor_13 N k) (nI h) (nI c) σ = _
      unfold m_dueFor_13b
      rw [eH, if_pos (nI_le (by omega) (by omega))]
      rfl
    | succ n ih =>
      intro c k hc hk
      obtain ⟨k, rfl⟩ : ∃ k', k = k' + 1 := ⟨k - 1, by omega⟩
      show m_dueFor_13b N (m_dueFor_13 N k) (nI h) (nI c) σ = _
      unfold m_dueFor_13b
      simp only [eH, nI_ge (show c < H by omega) (show H < 2 ^ 31 by omega), if_false, in6 (show c < 6 by omega), in6 (show h < 6 by omega), if_true, cl6 (show c < 6 by omega), cl6 (show h < 6 by omega), nx_ok, nI_1, ih (c + 1) k (by omega) (by omega), fi]
      by_cases q : gR σ 4 c = gR σ 5 h
      · simp [q, optI]
      · simp [q]
  unfold m_dueFor
  rw [if_pos (in6 (by omega)), cl6 (by omega)]
  unfold dueB
  rcases hw with q | ⟨a, ha, q⟩
  · rw [if_pos q, q, if_neg (by decide)]
    rfl
  · have hne : ¬ gR σ 5 h = -1 := by rw [q]; exact nI_ne1 (by omega)
    rw [if_neg hne, if_pos (by rw [q]; exact nI_pos' (by omega)), nx_ok]
    exact key H 0 N (by omega) (by omega)
theorem x0_goalOf_eq {N : Nat} (hN : 1000 ≤ N) {g : XG} {ξ : XS} {ow wo : Nat → Int32} {H : Nat} (lH : H ≤ 6) (eH : xF ξ 202 = nI H) (r2 : eqN 6 (xR ξ 1) ow) (r3 : eqN 6 (xR ξ 200) wo) {h : Nat} (hh : h < H) : x0_goalOf N g (nI h) ξ = some (if (due2 ow wo H h).isSome = true then -5 else optI (dueB ow wo H h) (-1), ξ) := by
  have hh6 : h < 6 := by omega
  by_cases q : wo h = -1
  · have key : ∀ (n c k : Nat), n + c = H → n < k → x0_goalOf_4 N g k (nI h) (-1) (nI c) ξ = some (-1, ξ) := by
      intro n
      induction n with
      | zero =>
        intro c k hc hk
        obtain ⟨k, rfl⟩ : ∃ k', k = k' + 1 := ⟨k - 1, by omega⟩
        show x0_goalOf_4b N g (x0_goalOf_4 N g k) (nI h) (-1) (nI c) ξ = _
        unfold x0_goalOf_4b
        rw [eH, if_pos (nI_le (by omega) (by omega))]
      | succ n ih =>
        intro c k hc hk
        obtain ⟨k, rfl⟩ : ∃ k', k = k' + 1 := ⟨k - 1, by omega⟩
        show x0_goalOf_4b N g (x0_goalOf_4 N g k) (nI h) (-1) (nI c) ξ = _
        unfold x0_goalOf_4b
        simp only [eH, nI_ge (show c < H by omega) (show H < 2 ^ 31 by omega), if_false, in6 hh6, if_true, cl6 hh6, r3 h hh6, q, x0_goalOf_59, nx_ok, nI_1]
        exact ih (c + 1) k (by omega) (by omega)
    have e1 : dueB ow wo H h = none := by unfold dueB; rw [if_pos q]
    have e2 : due2 ow wo H h = none := by unfold due2; rw [e1]
    rw [e1, e2]
    unfold x0_goalOf
    exact key H 0 N (by omega) (by omega)
  · have k2 : ∀ (n c k k0 : Nat), n + c = H → n < k → k0 < 6 → x0_goalOf_4 N g k (nI h) (nI k0) (nI c) ξ = some (if (fi (fun k => decide (ow k = wo h)) n c).isSome = true then -5 else nI k0, ξ) := by
      intro n
      induction n with
      | zero =>
        intro c k k0 hc hk hk0
        obtain ⟨k, rfl⟩ : ∃ k', k = k' + 1 := ⟨k - 1, by omega⟩
        show x0_goalOf_4b N g (x0_goalOf_4 N g k) (nI h) (nI k0) (nI c) ξ = _
        unfold x0_goalOf_4b
        rw [eH, if_pos (nI_le (by omega) (by omega))]
        rfl
      | succ n ih =>
        intro c k k0 hc hk hk0
        obtain ⟨k, rfl⟩ : ∃ k', k = k' + 1 := ⟨k - 1, by omega⟩
        show x0_goalOf_4b N g (x0_goalOf_4 N g k) (nI h) (nI k0) (nI c) ξ = _
        unfold x0_goalOf_4b
        simp only [eH, nI_ge (show c < H by omega) (show H < 2 ^ 31 by omega), if_false, in6 hh6, if_true, cl6 hh6, r3 h hh6, q, in6 (show c < 6 by omega), cl6 (show c < 6 by omega), r2 c (by omega), nI_ne1 (show k0 < 2 ^ 31 by omega), x0_goalOf_59, nx_ok, nI_1, ih (c + 1) k k0 (by omega) (by omega) hk0, fi]
        by_cases q2 : ow c = wo h
        · simp [q2]
        · simp [q2]
    have k1 : ∀ (n c k : Nat), n + c = H → n < k → x0_goalOf_4 N g k (nI h) (-1) (nI c) ξ = some ((match fi (fun k => decide (ow k = wo h)) n c with | none => -1 | some k0 => if (fi (fun k => decide (ow k = wo h)) (H - (k0 + 1)) (k0 + 1)).isSome = true then -5 else nI k0), ξ) := by
      intro n
      induction n with
      | zero =>
        intro c k hc hk
        obtain ⟨k, rfl⟩ : ∃ k', k = k' + 1 := ⟨k - 1, by omega⟩
        show x0_goalOf_4b N g (x0_goalOf_4 N g k) (nI h) (-1) (nI c) ξ = _
        unfold x0_goalOf_4b
        rw [eH, if_pos (nI_le (by omega) (by omega))]
        rfl
      | succ n ih =>
        intro c k hc hk
        obtain ⟨k, rfl⟩ : ∃ k', k = k' + 1 := ⟨k - 1, by omega⟩
        show x0_goalOf_4b N g (x0_goalOf_4 N g k) (nI h) (-1) (nI c) ξ = _
        unfold x0_goalOf_4b
        simp only [eH, nI_ge (show c < H by omega) (show H < 2 ^ 31 by omega), if_false, in6 hh6, if_true, cl6 hh6, r3 h hh6, q, in6 (show c < 6 by omega), cl6 (show c < 6 by omega), r2 c (by omega), x0_goalOf_59, nx_ok, nI_1, fi]
        by_cases q2 : ow c = wo h
        · simp only [q2, if_true, decide_true]
          rw [k2 (H - (c + 1)) (c + 1) k c (by omega) (by omega) (by omega)]
        · simp only [q2, if_false, decide_false, Bool.false_eq_true]
          exact ih (c + 1) k (by omega) (by omega)
    have e1 : dueB ow wo H h = fi (fun k => decide (ow k = wo h)) H 0 := by unfold dueB; rw [if_neg q]
    unfold x0_goalOf
    rw [nx_ok, nx_ok]
    refine (k1 H 0 N (by omega) (by omega)).trans ?_
    unfold due2
    rw [e1]
    cases fi (fun k => decide (ow k = wo h)) H 0 with
    | none => rfl
    | some k0 => rfl
/-- rings -/
def ringS (due : Nat → Option Nat) (x : Nat) : Nat → Option Nat → Bool
  | 0, _ => false
  | _, none => false
  | k + 1, some y => if y = x then true else if y < x then false else ringS due x k (due y)
theorem ring_both {N : Nat} (hN : 1000 ≤ N) {g : XG} {ξ : XS} {σ : MS} {H A : Nat} (lH : H ≤ 6) (lA : A ≤ 6) (eHx : xF ξ 202 = nI H) (eH : gF σ 0 = nI H) (r2 : eqN 6 (xR ξ 1) (gR σ 4)) (r3 : eqN 6 (xR ξ 200) (gR σ 5)) (hw : ∀ h, h < H → hx (gR σ 5 h) A) (hi : cInj H (gR σ 5)) (hcl : ∀ h, h < H → due2 (gR σ 4) (gR σ 5) H h = none) {x : Nat} (hx6 : x < H) : ∃ z : Bool, x0_isRing N g (nI x) ξ = some (b2i z, ξ) ∧ m_isRing N (nI x) σ = some (b2i z, σ) := by
  have hg : ∀ h, h < H → x0_goalOf N g (nI h) ξ = some (optI (dueB (gR σ 4) (gR σ 5) H h) (-1), ξ) := by
    intro h hh
    rw [x0_goalOf_eq hN lH eHx r2 r3 hh, hcl h hh]
    rfl
  have hm : ∀ h, h < H → m_dueFor N (nI h) σ = some (optI (dueB (gR σ 4) (gR σ 5) H h) (-1), σ) := fun h hh => m_dueFor_eq hN lH eH lA hh (hw h hh)
  have key : ∀ (n : Nat) (V : List Nat) (k y w0 : Nat), V.length + n = H + 1 → n < k → V.Nodup → (∀ v ∈ V, x < v ∧ v < H) → w0 < H → (w0 = x ∧ V = [] ∨ ∃ V', V = w0 :: V') → (∀ v ∈ V, ∃ w, w < H ∧ (w = x ∨ w ∈ V.tail) ∧ dueB (gR σ 4) (gR σ 5) H w = some v) → ∃ z : Bool, x0_isRing_13 N g k (nI x) (optI (dueB (gR σ 4) (gR σ 5) H w0) (-1)) ξ = some (b2i z, ξ) ∧ m_isRing_13 N k (nI x) (optI (dueB (gR σ 4) (gR σ 5) H w0) (-1)) σ = some (b2i z, σ) := by
    intro n
    induction n with
    | zero =>
      intro V k y w0 hl hk hn hv _ _ _
      have := nodup_bound H V hn (fun v h => (hv v h).2)
      omega
    | succ n ih =>
      intro V k y w0 hl hk hn hv hw0 hV hpre
      obtain ⟨k, rfl⟩ : ∃ k', k = k' + 1 := ⟨k - 1, by omega⟩
      cases hd : dueB (gR σ 4) (gR σ 5) H w0 with
      | none =>
        refine ⟨false, ?_, ?_⟩
        · show x0_isRing_13b N g (x0_isRing_13 N g k) (nI x) (-1) ξ = _
          unfold x0_isRing_13b x0_isRing_39
          rw [if_pos rfl, if_neg (Ne.symm (nI_ne1 (by omega)))]
          rfl
        · show m_isRing_13b N (m_isRing_13 N k) (nI x) (-1) σ = _
          unfold m_isRing_13b
          have hle : (-1 : Int32) ≤ nI x := Int32.le_of_lt (Int32.lt_of_lt_of_le (show (-1 : Int32) < 0 by decide) (nI_pos' (by omega)))
          rw [if_pos hle, if_neg (Ne.symm (nI_ne1 (by omega)))]
          rfl
      | some v =>
        obtain ⟨hvH, -, -⟩ := dueB_some hd
        show ∃ z : Bool, x0_isRing_13b N g (x0_isRing_13 N g k) (nI x) (nI v) ξ = _ ∧ m_isRing_13b N (m_isRing_13 N k) (nI x) (nI v) σ = _
        unfold x0_isRing_13b x0_isRing_39 m_isRing_13b
        have hne1 : ¬ nI v = -1 := nI_ne1 (by omega)
        by_cases e : v = x
        · subst e
          refine ⟨true, ?_, ?_⟩
          · rw [if_neg hne1, if_pos rfl, if_pos rfl]; rfl
          · rw [if_pos (nI_le (by omega) (by omega)), if_pos rfl]; rfl
        · have hne : ¬ nI v = nI x := fun z => e (nI_inj (by omega) (by omega) z)
          by_cases lt : v < x
          · refine ⟨false, ?_, ?_⟩
            · rw [if_neg hne1, if_neg hne, if_neg (nI_ge (by omega) (by omega))]; rfl
            · rw [if_pos (nI_le (by omega) (by omega)), if_neg hne]; rfl
          · have hxv : x < v := by omega
            simp only [hne1, hne, if_false, nI_le (show x ≤ v by omega) (show v < 2 ^ 31 by omega), if_true, nI_ge (show x < v by omega) (show v < 2 ^ 31 by omega), hg v hvH, hm v hvH, bnd_ok, nx_ok]
            have hvn : v ∉ V := by
              intro hin
              obtain ⟨w, hwH, hw2, hw3⟩ := hpre v hin
              have hww : w = w0 := due_inj hi hwH hw0 hw3 hd
              subst hww
              rcases hV with ⟨e1, e2⟩ | ⟨V', rfl⟩
              · rw [e2] at hin; cases hin
              · rcases hw2 with e3 | e3
                · have := (hv w (by simp)).1
                  omega
                · exact (List.nodup_cons.mp hn).1 e3
            refine ih (v :: V) k 0 v (by simp; omega) (by omega) (List.nodup_cons.mpr ⟨hvn, hn⟩) (fun u hu => ?_) hvH (Or.inr ⟨V, rfl⟩) (fun u hu => ?_)
            · rcases List.mem_cons.mp hu with rfl | h
              · exact ⟨hxv, hvH⟩
              · exact hv u h
            · rcases List.mem_cons.mp hu with rfl | h
              · refine ⟨w0, hw0, ?_, hd⟩
                rcases hV with ⟨e1, -⟩ | ⟨V', rfl⟩
                · exact Or.inl e1
                · exact Or.inr (by simp)
              · obtain ⟨w, hwH, hw2, hw3⟩ := hpre u h
                refine ⟨w, hwH, ?_, hw3⟩
                rcases hw2 with e1 | e1
                · exact Or.inl e1
                · exact Or.inr (List.mem_of_mem_tail e1)
  unfold x0_isRing m_isRing
  rw [hg x hx6, hm x hx6]
  simp only [bnd_ok, nx_ok]
  by_cases e : optI (dueB (gR σ 4) (gR σ 5) H x) (-1) = nI x
  · simp only [e, if_true]
    exact ⟨false, rfl, rfl⟩
  · simp only [e, if_false]
    exact key (H + 1) [] N 0 x (by simp) (by omega) (by simp) (by simp) hx6 (Or.inl ⟨rfl, rfl⟩) (by simp)
theorem fi_first {p : Nat → Bool} : ∀ {n c h : Nat}, fi p n c = some h → ∀ i, c ≤ i → i < h → p i = false := by
  intro n
  induction n with
  | zero => intro c h e; cases e
  | succ n ih =>
    intro c h e i h1 h2
    simp only [fi] at e
    by_cases q : p c = true
    · rw [if_pos q] at e
      cases e
      omega
    · rw [if_neg q] at e
      by_cases e2 : i = c
      · subst e2; exact eq_false_of_ne_true q
      · exact ih e i (by omega) h2
def clB (ow wo : Nat → Int32) (H x1 : Nat) (n b : Nat) : Bool := anN (fun x2 => !decide (ow x1 = -1) && (decide (ow x1 = ow x2) && (hdOf wo H (ow x1)).isSome)) n b
def clA (ow wo : Nat → Int32) (H : Nat) (n b : Nat) : Bool := anN (fun x1 => clB ow wo H x1 (H - (x1 + 1)) (x1 + 1)) n b
theorem m_isClash_eq {N : Nat} (hN : 1000 ≤ N) {σ : MS} {H A : Nat} (lH : H ≤ 6) (lA : A ≤ 6) (eH : gF σ 0 = nI H) (ho : ∀ h, h < H → hx (gR σ 4 h) A) : m_isClash N σ = some (b2i (clA (gR σ 4) (gR σ 5) H H 0), σ) := by
  have key : ∀ (n c k : Nat), n + c = H → n < k → m_isClash_2 N k (nI c) σ = some (b2i (clA (gR σ 4) (gR σ 5) H n c), σ) := by
    intro n
    induction n with
    | zero =>
      intro c k hc hk
      obtain ⟨k, rfl⟩ : ∃ k', k = k' + 1 := ⟨k - 1, by omega⟩
      show m_isClash_2b N (m_isClash_2 N k) (nI c) σ = _
      unfold m_isClash_2b
      rw [eH, if_pos (nI_le (by omega) (by omega))]
      rfl
    | succ n ih =>
      intro c k hc hk
      obtain ⟨k, rfl⟩ : ∃ k', k = k' + 1 := ⟨k - 1, by omega⟩
      show m_isClash_2b N (m_isClash_2 N k) (nI c) σ = _
      unfold m_isClash_2b
      rw [eH, if_neg (nI_ge (by omega) (by omega)), nx_ok, nI_1]
      have es : clA (gR σ 4) (gR σ 5) H (n + 1) c = (clB (gR σ 4) (gR σ 5) H c (H - (c + 1)) (c + 1) || clA (gR σ 4) (gR σ 5) H n (c + 1)) := rfl
      rw [es]
      have inner : ∀ (m e j : Nat), m + e = H → m < j → m_isClash_14 N (m_isClash_2 N k) j (nI c) (nI e) σ = some (b2i (clB (gR σ 4) (gR σ 5) H c m e || clA (gR σ 4) (gR σ 5) H n (c + 1)), σ) := by
        intro m
        induction m with
        | zero =>
          intro e j he hj
          obtain ⟨j, rfl⟩ : ∃ j', j = j' + 1 := ⟨j - 1, by omega⟩
          show m_isClash_14b N (m_isClash_2 N k) (m_isClash_14 N (m_isClash_2 N k) j) (nI c) (nI e) σ = _
          unfold m_isClash_14b
          rw [eH, if_pos (nI_le (by omega) (by omega)), nx_ok, nI_1, ih (c + 1) k (by omega) (by omega)]
          rfl
        | succ m ihm =>
          intro e j he hj
          obtain ⟨j, rfl⟩ : ∃ j', j = j' + 1 := ⟨j - 1, by omega⟩
          show m_isClash_14b N (m_isClash_2 N k) (m_isClash_14 N (m_isClash_2 N k) j) (nI c) (nI e) σ = _
          unfold m_isClash_14b
          have es2 : clB (gR σ 4) (gR σ 5) H c (m + 1) e = ((!decide (gR σ 4 c = -1) && (decide (gR σ 4 c = gR σ 4 e) && (hdOf (gR σ 5) H (gR σ 4 c)).isSome)) || clB (gR σ 4) (gR σ 5) H c m (e + 1)) := rfl
          rw [es2]
          simp only [eH, nI_ge (show e < H by omega) (show H < 2 ^ 31 by omega), if_false, in6 (show c < 6 by omega), in6 (show e < 6 by omega), if_true, cl6 (show c < 6 by omega), cl6 (show e < 6 by omega), hx_neg (show A ≤ 100 by omega) (ho c (by omega)), m_headOf_eq hN σ eH lH, bnd_ok, m_isClash_61, nx_ok, nI_1, ihm (e + 1) j (by omega) (by omega)]
          by_cases q1 : gR σ 4 c = -1
          · simp [q1]
          · by_cases q2 : gR σ 4 c = gR σ 4 e
            · cases hd : hdOf (gR σ 5) H (gR σ 4 c) with
              | none =>
                rw [q2] at hd q1
                simp [q1, q2, hd, optI]
              | some h =>
                have hlt := (hdOf_some hd).1
                have hp := nI_pos (show h < 2 ^ 31 by omega)
                rw [q2] at hd q1
                simp [q1, q2, hd, optI, hp, b2i]
            · simp [q1, q2]
      exact inner (H - (c + 1)) (c + 1) N (by omega) (by omega)
  unfold m_isClash
  exact key H 0 N (by omega) (by omega)
theorem hdOf_ex {wo : Nat → Int32} {H h : Nat} {x : Int32} (hh : h < H) (e : wo h = x) : (hdOf wo H x).isSome = true := by
  cases hd : hdOf wo H x with
  | none => exact absurd e (hdOf_none hd h hh)
  | some _ => rfl
theorem clash_iff {ow wo : Nat → Int32} {H : Nat} : clA ow wo H H 0 = true ↔ ∃ h, h < H ∧ (due2 ow wo H h).isSome = true := by
  unfold clA
  rw [anN_true]
  constructor
  · rintro ⟨x1, -, h1, h2⟩
    unfold clB at h2
    rw [anN_true] at h2
    obtain ⟨x2, g1, g2, g3⟩ := h2
    simp only [Bool.and_eq_true, Bool.not_eq_true', decide_eq_false_iff_not, decide_eq_true_eq] at g3
    obtain ⟨g3, g4, g5⟩ := g3
    cases hd : hdOf wo H (ow x1) with
    | none => rw [hd] at g5; cases g5
    | some h =>
      obtain ⟨k1, k2⟩ := hdOf_some hd
      refine ⟨h, k1, ?_⟩
      unfold due2 dueB
      have hne : ¬ wo h = -1 := by rw [k2]; exact g3
      rw [if_neg hne]
      cases hf : fi (fun k => decide (ow k = wo h)) H 0 with
      | none =>
        have := fi_none _ _ hf x1 (by omega) (by omega)
        simp [k2] at this
      | some k0 =>
        obtain ⟨-, j2, j3⟩ := fi_some _ _ _ hf
        show (fi (fun k => decide (ow k = wo h)) (H - (k0 + 1)) (k0 + 1)).isSome = true
        cases hf2 : fi (fun k => decide (ow k = wo h)) (H - (k0 + 1)) (k0 + 1) with
        | some _ => rfl
        | none =>
          exfalso
          have n2 := fi_none _ _ hf2
          have a1 : x1 ≤ k0 := by
            refine Nat.le_of_not_lt fun z => ?_
            have := n2 x1 (by omega) (by omega)
            simp [k2] at this
          have a2 : x2 ≤ k0 := by
            refine Nat.le_of_not_lt fun z => ?_
            have := n2 x2 (by omega) (by omega)
            simp [k2, g4] at this
          have := fi_first hf x1 (by omega) (by omega)
          simp [k2] at this
  · rintro ⟨h, h1, h2⟩
    unfold due2 at h2
    cases hd : dueB ow wo H h with
    | none => rw [hd] at h2; cases h2
    | some k0 =>
      rw [hd] at h2
      obtain ⟨k1, k2, k3⟩ := dueB_some hd
      have h2 : (fi (fun k => decide (ow k = wo h)) (H - (k0 + 1)) (k0 + 1)).isSome = true := h2
      cases hf2 : fi (fun k => decide (ow k = wo h)) (H - (k0 + 1)) (k0 + 1) with
      | none => rw [hf2] at h2; cases h2
      | some k' =>
        obtain ⟨j1, j2, j3⟩ := fi_some _ _ _ hf2
        have j3 := of_decide_eq_true j3
        refine ⟨k0, by omega, by omega, ?_⟩
        unfold clB
        rw [anN_true]
        refine ⟨k', by omega, by omega, ?_⟩
        simp only [Bool.and_eq_true, Bool.not_eq_true', decide_eq_false_iff_not, decide_eq_true_eq]
        exact ⟨by rw [k2]; exact k3, k2.trans j3.symm, hdOf_ex h1 k2.symm⟩
set_option maxHeartbeats 2000000 in
theorem op_21 {N : Nat} (hN : 1000 ≤ N) (g : XG) : OP_21 N g (Cp g) := by
  intro ξ σ hC
  obtain ⟨H, A, D, S, B, T, F, R, wk, wi, hq, hr, hn, hs, hc, hrow, hby, hbw, hobj, hrw, hrd, hah, htx, hthe, htown, htr, htp, htd, him⟩ := id hC
  have eH : xF ξ 202 = nI H := hs.1.trans hn.1
  have eH2 : gF σ 0 = nI H := hn.1
  have eA : xF ξ 4 = nI A := hs.2.1.trans hn.2.1
  have eA2 : gF σ 1 = nI A := hn.2.1
  have eD : xF ξ 203 = nI D := hs.2.2.1.trans hn.2.2.1
  have eD2 : gF σ 2 = nI D := hn.2.2.1
  have eS : xF ξ 18 = nI S := hs.2.2.2.1.trans hn.2.2.2.1
  have eS2 : gF σ 43 = nI S := hn.2.2.2.1
  have eB : xF ξ 19 = nI B := hs.2.2.2.2.trans hn.2.2.2.2
  have eB2 : gF σ 47 = nI B := hn.2.2.2.2
  have lH : H ≤ 6 := hc.1
  have lA : A ≤ 6 := hc.2.1
  have lD : D ≤ 9999 := hc.2.2.1
  have lS : S ≤ 6 := hc.2.2.2.1
  have lB : B ≤ 8 := hc.2.2.2.2.1
  obtain ⟨lT, eT2, eT, lF, eF2, eF, htxt, hlet, hmu⟩ := id htx
  obtain ⟨lR, eR2, eR, hbod⟩ := id htr
  obtain ⟨c1, c2, c3, c4, c5, c6, c7, c8, c9, c10, c11⟩ := id hc
  obtain ⟨r1, r2, r3, r4, r5, r6, r7, r8, r9, r10⟩ := id hrow
  have hw : ∀ h, h < H → hx (gR σ 5 h) A := fun h hh => (c6 h hh).2.2
  have ho : ∀ h, h < H → hx (gR σ 4 h) A := fun h hh => (c6 h hh).2.1
  have hcl := m_isClash_eq hN lH lA eH2 ho
  unfold x0_back m_back
  rw [hcl, bnd_ok]
  simp only [nx_ok, b2i0]
  cases hq9 : clA (gR σ 4) (gR σ 5) H H 0
  · have hno : ∀ h, h < H → due2 (gR σ 4) (gR σ 5) H h = none := by
      intro h hh
      cases hd : due2 (gR σ 4) (gR σ 5) H h with
      | none => rfl
      | some k =>
        have := clash_iff.mpr ⟨h, hh, by rw [hd]; rfl⟩
        rw [hq9] at this; cases this
    simp only [if_true]
    have hg : ∀ h, h < H → x0_goalOf N g (nI h) ξ = some (optI (dueB (gR σ 4) (gR σ 5) H h) (-1), ξ) := by
      intro h hh
      rw [x0_goalOf_eq hN lH eH r2 r3 hh, hno h hh]
      rfl
    have hm : ∀ h, h < H → m_dueFor N (nI h) σ = some (optI (dueB (gR σ 4) (gR σ 5) H h) (-1), σ) := fun h hh => m_dueFor_eq hN lH eH2 lA hh (hw h hh)
    have hring := fun x hx6 => ring_both (g := g) hN lH lA eH eH2 r2 r3 hw c7 hno (x := x) hx6
    -- what counts, and what rings
    have hrg : ∃ rg : Nat → Bool, ∀ x, x < H → x0_isRing N g (nI x) ξ = some (b2i (rg x), ξ) ∧ m_isRing N (nI x) σ = some (b2i (rg x), σ) := by
      refine ⟨fun x => if hx6 : x < H then Classical.choose (hring x hx6) else false, fun x hx6 => ?_⟩
      simp only [hx6, dite_true]
      exact Classical.choose_spec (hring x hx6)
    obtain ⟨rg, hrg⟩ := hrg
    let cn : Nat → Bool := fun h => match dueB (gR σ 4) (gR σ 5) H h with | none => false | some k => !decide (k = h)
    have X1 : ∀ (n b k : Nat) (x : Int32), n + b = H → n < k → x0_back_4 N g k x (nI b) ξ = x0_back_51 N g N (x + sumL (List.range' b n) (fun h => b2i (cn h))) 0 ξ := by
      intro n
      induction n with
      | zero =>
        intro b k x hb hk
        obtain ⟨k, rfl⟩ : ∃ k', k = k' + 1 := ⟨k - 1, by omega⟩
        show x0_back_4b N g (x0_back_4 N g k) x (nI b) ξ = _
        unfold x0_back_4b
        rw [eH, if_pos (nI_le (by omega) (by omega)), nx_ok]
        show _ = x0_back_51 N g N (x + 0) 0 ξ
        rw [Int32.add_zero]
      | succ n ih =>
        intro b k x hb hk
        obtain ⟨k, rfl⟩ : ∃ k', k = k' + 1 := ⟨k - 1, by omega⟩
        show x0_back_4b N g (x0_back_4 N g k) x (nI b) ξ = _
        unfold x0_back_4b
        rw [List.range'_succ, sumL_cons, ← Int32.add_assoc]
        simp only [eH, nI_ge (show b < H by omega) (show H < 2 ^ 31 by omega), if_false, hg b (by omega), bnd_ok, nx_ok, x0_back_43, nI_1, ih (b + 1) k _ (by omega) (by omega)]
        show _ = x0_back_51 N g N (x + b2i (match dueB (gR σ 4) (gR σ 5) H b with | none => false | some k => !decide (k = b)) + sumL (List.range' (b + 1) n) (fun h => b2i (cn h))) 0 ξ
        cases hd : dueB (gR σ 4) (gR σ 5) H b with
        | none => simp [optI, b2i]
        | some v =>
          have hv := (dueB_some hd).1
          have g1 : ¬ nI v = -5 := fun z => nI_pos (show v < 2 ^ 31 by omega) (by rw [z]; decide)
          have g2 : ¬ nI v = -1 := nI_ne1 (by omega)
          by_cases e : v = b
          · subst e; simp [optI, g1, g2, b2i]
          · have g3 : ¬ nI v = nI b := fun z => e (nI_inj (by omega) (by omega) z)
            simp [optI, g1, g2, g3, b2i, e]
    have X2 : ∀ (n b k : Nat) (x : Int32), n + b = H → n < k → x0_back_51 N g k x (nI b) ξ = some (x - sumL (List.range' b n) (fun h => b2i (rg h)), ξ) := by
      intro n
      induction n with
      | zero =>
        intro b k x hb hk
        obtain ⟨k, rfl⟩ : ∃ k', k = k' + 1 := ⟨k - 1, by omega⟩
        show x0_back_51b N g (x0_back_51 N g k) x (nI b) ξ = _
        unfold x0_back_51b
        rw [eH, if_pos (nI_le (by omega) (by omega))]
        show _ = some (x - 0, ξ)
        rw [Int32.sub_zero]
      | succ n ih =>
        intro b k x hb hk
        obtain ⟨k, rfl⟩ : ∃ k', k = k' + 1 := ⟨k - 1, by omega⟩
        show x0_back_51b N g (x0_back_51 N g k) x (nI b) ξ = _
        unfold x0_back_51b
        rw [List.range'_succ, sumL_cons]
        simp only [eH, nI_ge (show b < H by omega) (show H < 2 ^ 31 by omega), if_false, (hrg b (by omega)).1, bnd_ok, b2i0, nx_ok, x0_back_73, nI_1, ih (b + 1) k _ (by omega) (by omega)]
        cases rg b
        · simp [b2i]
        · simp only [Bool.true_eq_false, if_false, show b2i true = 1 from rfl]
          rw [Int32.sub_eq_add_neg, Int32.sub_eq_add_neg, Int32.neg_add, Int32.add_assoc, Int32.sub_eq_add_neg]
    have M1 : ∀ (n b k : Nat) (x : Int32), n + b = H → n < k → m_back_14 N k x (nI b) σ = some (x + sumL (List.range' b n) (fun h => b2i (cn h)) - sumL (List.range' b n) (fun h => b2i (rg h)), σ) := by
      intro n
      induction n with
      | zero =>
        intro b k x hb hk
        obtain ⟨k, rfl⟩ : ∃ k', k = k' + 1 := ⟨k - 1, by omega⟩
        show m_back_14b N (m_back_14 N k) x (nI b) σ = _
        unfold m_back_14b
        rw [eH2, if_pos (nI_le (by omega) (by omega))]
        show _ = some (x + 0 - 0, σ)
        rw [Int32.sub_zero, Int32.add_zero]
      | succ n ih =>
        intro b k x hb hk
        obtain ⟨k, rfl⟩ : ∃ k', k = k' + 1 := ⟨k - 1, by omega⟩
        show m_back_14b N (m_back_14 N k) x (nI b) σ = _
        unfold m_back_14b
        rw [List.range'_succ, sumL_cons, sumL_cons]
        have tail : ∀ (z : Bool), m_back_45 N (m_back_14 N k) (nI b) (b2i z) x σ = some (x + (b2i z + sumL (List.range' (b + 1) n) (fun h => b2i (cn h))) - (b2i (rg b) + sumL (List.range' (b + 1) n) (fun h => b2i (rg h))), σ) := by
          intro z
          unfold m_back_45 m_back_61
          simp only [nx_ok, (hrg b (by omega)).2, bnd_ok, b2i0, nI_1, ih (b + 1) k _ (by omega) (by omega)]
          generalize sumL (List.range' (b + 1) n) (fun h => b2i (cn h)) = s1
          generalize sumL (List.range' (b + 1) n) (fun h => b2i (rg h)) = s2
          generalize b2i z = zz
          have alg : ∀ y : Int32, x + zz - y + s1 - s2 = x + (zz + s1) - (y + s2) := by
            intro y
            rw [Int32.sub_eq_add_neg, Int32.sub_eq_add_neg, Int32.sub_eq_add_neg, Int32.neg_add, Int32.sub_eq_add_neg]
            ac_rfl
          cases rg b
          · simp only [if_true, show b2i false = 0 from rfl]; rw [alg]
          · simp only [Bool.true_eq_false, if_false, show b2i true = 1 from rfl]; rw [alg]
        simp only [eH2, nI_ge (show b < H by omega) (show H < 2 ^ 31 by omega), if_false, hm b (by omega), bnd_ok, m_back_44]
        have t0 := tail false
        have t1 := tail true
        rw [show b2i false = 0 from rfl] at t0
        rw [show b2i true = 1 from rfl] at t1
        rw [t0, t1]
        show _ = some (x + (b2i (match dueB (gR σ 4) (gR σ 5) H b with | none => false | some k => !decide (k = b)) + _) - _, σ)
        cases hd : dueB (gR σ 4) (gR σ 5) H b with
        | none => simp [optI, b2i]
        | some v =>
          have hv := (dueB_some hd).1
          have g1 : ¬ nI v < 0 := nI_pos (by omega)
          by_cases e : v = b
          · subst e; simp [optI, g1, b2i]
          · have g3 : ¬ nI v = nI b := fun z => e (nI_inj (by omega) (by omega) z)
            simp [optI, g1, g3, b2i, e]
    refine ⟨_, ξ, σ, ?_, M1 H 0 N 0 (by omega) (by omega), hC⟩
    have := X1 H 0 N 0 (by omega) (by omega)
    rw [show nI 0 = (0 : Int32) from rfl] at this
    rw [this]
    exact X2 H 0 N _ (by omega) (by omega)
  · obtain ⟨h, hh, hd⟩ := clash_iff.mp hq9
    refine ⟨-5, ξ, σ, ?_, by simp, hC⟩
    have key : ∀ (n b k : Nat) (x : Int32), n + b = H → n < k → (∃ h, b ≤ h ∧ h < H ∧ (due2 (gR σ 4) (gR σ 5) H h).isSome = true) → x0_back_4 N g k x (nI b) ξ = some (-5, ξ) := by
      intro n
      induction n with
      | zero => intro b k x hb hk ⟨h, h1, h2, h3⟩; omega
      | succ n ih =>
        intro b k x hb hk ⟨h, h1, h2, h3⟩
        obtain ⟨k, rfl⟩ : ∃ k', k = k' + 1 := ⟨k - 1, by omega⟩
        show x0_back_4b N g (x0_back_4 N g k) x (nI b) ξ = _
        unfold x0_back_4b
        rw [eH, if_neg (nI_ge (by omega) (by omega)), x0_goalOf_eq hN lH eH r2 r3 (show b < H by omega), bnd_ok, nx_ok]
        by_cases q : (due2 (gR σ 4) (gR σ 5) H b).isSome = true
        · simp only [q, if_true]
        · have hb2 : b ≠ h := fun z => q (z ▸ h3)
          have nxt := fun x => ih (b + 1) k x (by omega) (by omega) ⟨h, by omega, h2, h3⟩
          simp only [q, if_false, x0_back_43, nx_ok, nI_1, nxt]
          repeat' split
          all_goals rfl
    exact key H 0 N 0 (by omega) (by omega) ⟨h, by omega, hh, hd⟩
