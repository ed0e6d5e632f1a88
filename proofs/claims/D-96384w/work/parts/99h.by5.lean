/-! PURE: by: the first best (plain) -/
set_option maxRecDepth 100000
theorem fo_snoc {α : Type} (f : Nat → α → α) : ∀ (n b : Nat) (x : α), fo f (n + 1) b x = f (b + n) (fo f n b x) := by
  intro n
  induction n with
  | zero => intro b x; rfl
  | succ n ih =>
    intro b x
    show fo f (n + 1) (b + 1) (f b x) = _
    rw [ih (b + 1) (f b x), show b + 1 + n = b + (n + 1) by omega]
    rfl
theorem fi_snoc (p : Nat → Bool) : ∀ (n b : Nat), fi p (n + 1) b = match fi p n b with | some z => some z | none => if p (b + n) = true then some (b + n) else none := by
  intro n
  induction n with
  | zero => intro b; simp only [fi]; rfl
  | succ n ih =>
    intro b
    show (if p b = true then some b else fi p (n + 1) (b + 1)) = match (if p b = true then some b else fi p n (b + 1)) with | some z => some z | none => if p (b + (n + 1)) = true then some (b + (n + 1)) else none
    by_cases q : p b = true
    · rw [if_pos q, if_pos q]
    · rw [if_neg q, if_neg q, ih (b + 1), show b + 1 + n = b + (n + 1) by omega]
def fcP (V : Option Nat → Option Nat) (c : Nat) (X : Option Nat) : Option Nat := if V none = X then none else fi (fun c => decide (V (some c) = X)) c 0
def foldV (V : Option Nat → Option Nat) (c : Nat) : Option Nat := fo (fun c x => omx x (V (some c))) c 0 (V none)
theorem foldV_succ (V : Option Nat → Option Nat) (c : Nat) : foldV V (c + 1) = omx (foldV V c) (V (some c)) := by
  unfold foldV
  rw [fo_snoc, Nat.zero_add]
def leO (a b : Option Nat) : Prop := ∀ v, a = some v → ∃ w, b = some w ∧ v ≤ w
theorem leO_omxL (a b : Option Nat) : leO a (omx a b) := by
  intro v hv
  subst hv
  cases b with
  | none => exact ⟨v, rfl, Nat.le_refl v⟩
  | some w => exact ⟨max v w, rfl, by omega⟩
theorem leO_omxR (a b : Option Nat) : leO b (omx a b) := by
  intro v hv
  subst hv
  cases a with
  | none => exact ⟨v, rfl, Nat.le_refl v⟩
  | some w => exact ⟨max w v, rfl, by omega⟩
theorem leO.trans {a b c : Option Nat} (h : leO a b) (h2 : leO b c) : leO a c := by
  intro v hv
  obtain ⟨w, hw, l⟩ := h v hv
  obtain ⟨x, hx, l2⟩ := h2 w hw
  exact ⟨x, hx, by omega⟩
theorem foldV_ub (V : Option Nat → Option Nat) : ∀ c, leO (V none) (foldV V c) ∧ ∀ c', c' < c → leO (V (some c')) (foldV V c) := by
  intro c
  induction c with
  | zero => exact ⟨fun v hv => ⟨v, hv, Nat.le_refl v⟩, fun c' h => by omega⟩
  | succ c ih =>
    rw [foldV_succ]
    refine ⟨ih.1.trans (leO_omxL _ _), fun c' h => ?_⟩
    by_cases e : c' = c
    · subst e; exact leO_omxR _ _
    · exact (ih.2 c' (by omega)).trans (leO_omxL _ _)
def imp (b o : Option Nat) (s : Nat) : Bool := match o, b with | none, _ => false | some _, none => true | some v, some w => decide (w < s + v)
theorem omx_imp (b o : Option Nat) (s : Nat) : omx b (oAdd o s) = if imp b o s = true then oAdd o s else b := by
  cases o with
  | none => cases b <;> rfl
  | some v =>
    cases b with
    | none => rfl
    | some w =>
      show some (max w (v + s)) = if decide (w < s + v) = true then some (v + s) else some w
      by_cases q : w < s + v
      · rw [if_pos (decide_eq_true q), show max w (v + s) = v + s by omega]
      · rw [if_neg (by simp [q]), show max w (v + s) = w by omega]
theorem omx_assoc3 (b X V' : Option Nat) (s : Nat) : omx (omx b (oAdd X s)) (oAdd V' s) = omx b (oAdd (omx X V') s) := by
  cases b <;> cases X <;> cases V' <;> simp only [omx, oAdd] <;> (try rfl) <;> congr 1 <;> omega
theorem step1 {V : Option Nat → Option Nat} {c s : Nat} {b : Option Nat} (h : imp (omx b (oAdd (foldV V c) s)) (V (some c)) s = true) : foldV V (c + 1) = V (some c) ∧ fcP V (c + 1) (foldV V (c + 1)) = some c ∧ imp b (foldV V (c + 1)) s = true := by
  obtain ⟨u1, u2⟩ := foldV_ub V c
  cases hv : V (some c) with
  | none => rw [hv] at h; cases h
  | some v =>
    rw [hv] at h
    -- all before is less
    have hlt : ∀ x, foldV V c = some x → x < v := by
      intro x hx
      rw [hx] at h
      cases b with
      | none =>
        have h : decide (x + s < s + v) = true := h
        have := of_decide_eq_true h
        omega
      | some w =>
        have h : decide (max w (x + s) < s + v) = true := h
        have := of_decide_eq_true h
        omega
    have hX : foldV V (c + 1) = some v := by
      rw [foldV_succ, hv]
      cases hx : foldV V c with
      | none => rfl
      | some x =>
        have := hlt x hx
        show some (max x v) = some v
        rw [show max x v = v by omega]
    have hno : ∀ o, leO o (foldV V c) → o ≠ some v := by
      intro o ho e
      obtain ⟨w, hw, l⟩ := ho v e
      have := hlt w hw
      omega
    refine ⟨hX, ?_, ?_⟩
    · rw [hX]
      unfold fcP
      rw [if_neg (hno _ u1), fi_snoc]
      have : fi (fun c => decide (V (some c) = some v)) c 0 = none := by
        cases hf : fi (fun c => decide (V (some c) = some v)) c 0 with
        | none => rfl
        | some z =>
          obtain ⟨a1, a2, a3⟩ := fi_some _ _ _ hf
          exact absurd (of_decide_eq_true a3) (hno _ (u2 z (by omega)))
      rw [this]
      simp only [Nat.zero_add]
      rw [if_pos (by simp [hv])]
    · rw [hX]
      cases b with
      | none => rfl
      | some w =>
        show decide (w < s + v) = true
        cases hx : foldV V c with
        | none =>
          rw [hx] at h
          exact h
        | some x =>
          rw [hx] at h
          have h : decide (max w (x + s) < s + v) = true := h
          have := of_decide_eq_true h
          exact decide_eq_true (by omega)
theorem step2 {V : Option Nat → Option Nat} {c s : Nat} {b : Option Nat} (h : imp (omx b (oAdd (foldV V c) s)) (V (some c)) s = false) (hi : imp b (foldV V (c + 1)) s = true) : foldV V (c + 1) = foldV V c ∧ imp b (foldV V c) s = true ∧ fcP V (c + 1) (foldV V (c + 1)) = fcP V c (foldV V c) := by
  have hX : foldV V (c + 1) = foldV V c := by
    rw [foldV_succ] at hi ⊢
    cases hv : V (some c) with
    | none => exact omx_none _
    | some v =>
      rw [hv] at h hi
      cases hx : foldV V c with
      | none =>
        rw [hx] at h hi
        cases b with
        | none => cases h
        | some w =>
          have h : decide (w < s + v) = false := h
          have hi : decide (w < s + v) = true := hi
          rw [h] at hi; cases hi
      | some x =>
        rw [hx] at h hi
        show some (max x v) = some x
        have hi : imp b (some (max x v)) s = true := hi
        cases b with
        | none =>
          have h : decide (x + s < s + v) = false := h
          have := of_decide_eq_false h
          rw [show max x v = x by omega]
        | some w =>
          have h : decide (max w (x + s) < s + v) = false := h
          have hi : decide (w < s + max x v) = true := hi
          have a1 := of_decide_eq_false h
          have a2 := of_decide_eq_true hi
          rw [show max x v = x by omega]
  refine ⟨hX, by rw [← hX]; exact hi, ?_⟩
  rw [hX]
  unfold fcP
  by_cases q : V none = foldV V c
  · rw [if_pos q, if_pos q]
  · rw [if_neg q, if_neg q, fi_snoc]
    cases hf : fi (fun c' => decide (V (some c') = foldV V c)) c 0 with
    | some z => rfl
    | none =>
      exfalso
      have h0 := fi_none _ _ hf
      rcases fold_mem (fun c => V (some c)) c 0 (V none) with e | ⟨z, h1, h2, h3⟩
      · exact q e.symm
      · have := h0 z h1 h2
        simp only [decide_eq_false_iff_not] at this
        exact this h3.symm
