/-! PURE: by: the way laid (M) -/
set_option maxRecDepth 100000
def byC (A K : Nat) (Dd : Nat → Nat → Nat) (n h u : Nat) : Option Nat := if onw A K Dd n h u none = byB A K Dd (n + 1) h u then none else fi (fun c => decide (onw A K Dd n h u (some c) = byB A K Dd (n + 1) h u)) A 0
def nxU (u : Nat) (c : Option Nat) : Nat := match c with | none => u | some c => u ||| 2 ^ c
def byV (A K : Nat) (Dd : Nat → Nat → Nat) : Nat → Nat → Nat → Nat → Option Nat
  | 0, _, _, _ => none
  | n + 1, h, u, i => if i = h then byC A K Dd n h u else byV A K Dd n (h + 1) (nxU u (byC A K Dd n h u)) i
theorem fold_mem (o : Nat → Option Nat) : ∀ (n b : Nat) (x : Option Nat), fo (fun c x => omx x (o c)) n b x = x ∨ ∃ c, b ≤ c ∧ c < b + n ∧ fo (fun c x => omx x (o c)) n b x = o c := by
  intro n
  induction n with
  | zero => intro b x; exact Or.inl rfl
  | succ n ih =>
    intro b x
    show fo _ n (b + 1) (omx x (o b)) = x ∨ ∃ c, b ≤ c ∧ c < b + (n + 1) ∧ fo _ n (b + 1) (omx x (o b)) = o c
    rcases ih (b + 1) (omx x (o b)) with h | ⟨c, h1, h2, h3⟩
    · have ho : omx x (o b) = x ∨ omx x (o b) = o b := by
        cases x with
        | none => exact Or.inr rfl
        | some v =>
          cases o b with
          | none => exact Or.inl rfl
          | some w =>
            by_cases q : v ≤ w
            · exact Or.inr (by show some (max v w) = some w; rw [show max v w = w by omega])
            · exact Or.inl (by show some (max v w) = some v; rw [show max v w = v by omega])
      rcases ho with e | e
      · exact Or.inl (h.trans e)
      · exact Or.inr ⟨b, by omega, by omega, h.trans e⟩
    · exact Or.inr ⟨c, by omega, by omega, h3⟩
theorem byC_some {A K : Nat} {Dd : Nat → Nat → Nat} {n h u : Nat} (hne : onw A K Dd n h u none ≠ byB A K Dd (n + 1) h u) : ∃ c, c < A ∧ fi (fun c => decide (onw A K Dd n h u (some c) = byB A K Dd (n + 1) h u)) A 0 = some c := by
  cases hf : fi (fun c => decide (onw A K Dd n h u (some c) = byB A K Dd (n + 1) h u)) A 0 with
  | some c => exact ⟨c, by have := (fi_some _ _ _ hf).2.1; omega, rfl⟩
  | none =>
    exfalso
    have h0 := fi_none _ _ hf
    rcases fold_mem (fun c => onw A K Dd n h u (some c)) A 0 (onw A K Dd n h u none) with e | ⟨c, h1, h2, h3⟩
    · rw [← byB_succ] at e
      exact hne e.symm
    · rw [← byB_succ] at h3
      have := h0 c h1 h2
      simp only [decide_eq_false_iff_not] at this
      exact this h3.symm
theorem sR_w2 (σ : MS) {k k' : Nat} (hk : k ≠ k') (r f : Nat → Int32) (i : Nat) (v : Int32) : sR (sRw (sRw σ k r) k' f) k i v = sRw (sRw σ k (upd r i v)) k' f := by
  unfold sR sRw
  congr 2
  funext j
  simp only [va_up_at]
  by_cases e : j = k
  · subst e
    simp [hk]
  · simp [e]
theorem lay_one {N : Nat} (hN : 1000 ≤ N) {τ : MS} {A H K h n u : Nat} (lA : A ≤ 6) (lH : H ≤ 6) (hh : h < H) (hn : n + (h + 1) = H) (hu : u < 64) (Dd : Nat → Nat → Nat) (hD : ∀ c h, c < A → h < H → gR τ 39 (6 * c + h) = nI (Dd c h) ∧ Dd c h ≤ 1058) (f : Nat → Int32) (hT : Tb A K H Dd 0 f) (rec164 : Int32 → Int32 → MS → Option MS) (r : Nat → Int32) : m_layBest_175 N rec164 N (nI u) (nI h) (-1) (sRw (sRw τ 38 r) 41 f) = rec164 (nI (nxU u (byC A K Dd n h u))) (nI (h + 1)) (sRw (sRw τ 38 (upd r h (optI (byC A K Dd n h u) (-1)))) 41 f) ∧ nxU u (byC A K Dd n h u) < 64 := by
  have hf1 : ∀ v, v < 64 → f (64 * (h + 1) + v) = optI (byB A K Dd n (h + 1) v) (-1) := fun v hv => by
    have := hT (h + 1) (by omega) (by omega) v hv
    rw [show H - (h + 1) = n by omega] at this
    exact this
  have hfh : ∀ r, gR (sRw (sRw τ 38 r) 41 f) 41 (64 * h + u) = optI (byB A K Dd (n + 1) h u) (-1) := fun r => by
    have := hT h (by omega) (by omega) u hu
    rw [show H - h = n + 1 by omega] at this
    exact this
  have hbb := byB_b (A := A) (K := K) (Dd := Dd) (H := H) (fun c h hc hh => (hD c h hc hh).2)
  have hB : ∀ z, byB A K Dd (n + 1) h u = some z → z < 2 ^ 30 := fun z hz => by have := hbb (n + 1) h u z (by omega) hz; omega
  have hO : ∀ c : Option Nat, (∀ z, c = some z → z < A) → ∀ z, onw A K Dd n h u c = some z → z < 2 ^ 30 := fun c hc z hz => by
    have := onw_b (K := K) (u := u) (fun c h hc hh => (hD c h hc hh).2) hn hc z hz
    omega
  have eo : ∀ c : Option Nat, (∀ z, c = some z → z < A) → m_onwardBy N (nI h) (nI u) (optI c (-1)) (sRw (sRw τ 38 r) 41 f) = some (optI (onw A K Dd n h u c) (-1), sRw (sRw τ 38 r) 41 f) := fun c hc => m_onwardBy_eq (N := N) (τ := sRw τ 38 r) (K := K) lA lH hh hn hu Dd hD f hf1 c hc
  have eqv : ∀ c : Option Nat, (∀ z, c = some z → z < A) → ((optI (onw A K Dd n h u c) (-1) = optI (byB A K Dd (n + 1) h u) (-1)) ↔ onw A K Dd n h u c = byB A K Dd (n + 1) h u) := fun c hc => ⟨fun e => optI_inj (hO c hc) hB e, fun e => by rw [e]⟩
  have loop : ∀ (m c k c9 : Nat), m + c = A → m ≤ k → fi (fun c => decide (onw A K Dd n h u (some c) = byB A K Dd (n + 1) h u)) m c = some c9 → m_layBest_175 N rec164 k (nI u) (nI h) (nI c) (sRw (sRw τ 38 r) 41 f) = rec164 (nI (u ||| 2 ^ c9)) (nI (h + 1)) (sRw (sRw τ 38 (upd r h (nI c9))) 41 f) := by
    intro m
    induction m with
    | zero => intro c k c9 _ _ e; cases e
    | succ m ih =>
      intro c k c9 hc hk e
      obtain ⟨k, rfl⟩ : ∃ k', k = k' + 1 := ⟨k - 1, by omega⟩
      show m_layBest_175b N rec164 (m_layBest_175 N rec164 k) (nI u) (nI h) (nI c) _ = _
      unfold m_layBest_175b m_layBest_225
      have hcA : ∀ z, some c = some z → z < A := fun z hz => by cases hz; omega
      have e1 := eo (some c) hcA
      rw [show optI (some c) (-1) = nI c from rfl] at e1
      rw [e1, bnd_ok, ix64, if_pos (inN (by omega) (show 64 * h + u < 448 by omega)), nI_clamp (by omega), hfh]
      simp only [fi] at e
      by_cases q : onw A K Dd n h u (some c) = byB A K Dd (n + 1) h u
      · rw [if_pos (decide_eq_true q)] at e
        cases e
        obtain ⟨v1, v2⟩ := d2 hu (show c < 6 by omega)
        rw [if_pos ((eqv (some c) hcA).mpr q), if_pos (in6 (by omega)), cl6 (by omega), nx_ok, if_pos (nI_pos' (by omega)), nx_ok, nx_ok, nI_1, v1, sR_w2 τ (by omega)]
      · rw [if_neg (by simp [q])] at e
        rw [if_neg (fun z => q ((eqv (some c) hcA).mp z)), nx_ok, nI_1]
        exact ih (c + 1) k c9 (by omega) (by omega) e
  obtain ⟨N9, hN9⟩ : ∃ k', N = k' + 1 := ⟨N - 1, by omega⟩
  have hnone : ∀ z, (none : Option Nat) = some z → z < A := fun z hz => by cases hz
  have e1 := eo none hnone
  rw [show optI none (-1) = (-1 : Int32) from rfl] at e1
  have first : ∀ k9, m_layBest_175 N rec164 (k9 + 1) (nI u) (nI h) (-1) (sRw (sRw τ 38 r) 41 f) = if onw A K Dd n h u none = byB A K Dd (n + 1) h u then rec164 (nI u) (nI (h + 1)) (sRw (sRw τ 38 (upd r h (-1))) 41 f) else m_layBest_175 N rec164 k9 (nI u) (nI h) (nI 0) (sRw (sRw τ 38 r) 41 f) := by
    intro k9
    show m_layBest_175b N rec164 (m_layBest_175 N rec164 k9) (nI u) (nI h) (-1) _ = _
    unfold m_layBest_175b m_layBest_225
    rw [e1, bnd_ok, ix64, if_pos (inN (by omega) (show 64 * h + u < 448 by omega)), nI_clamp (by omega), hfh]
    by_cases q : onw A K Dd n h u none = byB A K Dd (n + 1) h u
    · rw [if_pos ((eqv none hnone).mpr q), if_pos q, if_pos (in6 (by omega)), cl6 (by omega), nx_ok, if_neg (show ¬ (0 : Int32) ≤ -1 by decide), nx_ok, nx_ok, nI_1, Int32.or_zero, sR_w2 τ (by omega)]
    · rw [if_neg (fun z => q ((eqv none hnone).mp z)), if_neg q, nx_ok, show (-1 : Int32) + 1 = nI 0 by decide]
  have hfst := first N9
  rw [← hN9] at hfst
  rw [hfst]
  by_cases q : onw A K Dd n h u none = byB A K Dd (n + 1) h u
  · have ec : byC A K Dd n h u = none := by unfold byC; rw [if_pos q]
    rw [if_pos q, ec]
    exact ⟨rfl, hu⟩
  · obtain ⟨c, hc, hf⟩ := byC_some q
    have ec : byC A K Dd n h u = some c := by unfold byC; rw [if_neg q, hf]
    rw [if_neg q, ec, loop A 0 N9 c (by omega) (by omega) hf]
    exact ⟨rfl, (d2 hu (show c < 6 by omega)).2⟩
theorem m_layBest_164_eq {N : Nat} (hN : 1000 ≤ N) {τ : MS} {A H K : Nat} (lA : A ≤ 6) (lH : H ≤ 6) (eH : gF τ 0 = nI H) (Dd : Nat → Nat → Nat) (hD : ∀ c h, c < A → h < H → gR τ 39 (6 * c + h) = nI (Dd c h) ∧ Dd c h ≤ 1058) (f : Nat → Int32) (hT : Tb A K H Dd 0 f) : ∀ (n h u k : Nat) (r : Nat → Int32), n + h = H → n < k → u < 64 → ∃ r', m_layBest_164 N k (nI u) (nI h) (sRw (sRw τ 38 r) 41 f) = some (sRw (sRw τ 38 r') 41 f) ∧ (∀ i, i < h → r' i = r i) ∧ (∀ i, h ≤ i → i < H → r' i = optI (byV A K Dd n h u i) (-1)) := by
  intro n
  induction n with
  | zero =>
    intro h u k r hh hk hu
    obtain ⟨k, rfl⟩ : ∃ k', k = k' + 1 := ⟨k - 1, by omega⟩
    refine ⟨r, ?_, fun _ _ => rfl, fun i h1 h2 => by omega⟩
    show m_layBest_164b N (m_layBest_164 N k) (nI u) (nI h) _ = _
    unfold m_layBest_164b
    rw [gF_sRw, gF_sRw, eH, if_pos (nI_le (by omega) (by omega))]
  | succ n ih =>
    intro h u k r hh hk hu
    obtain ⟨k, rfl⟩ : ∃ k', k = k' + 1 := ⟨k - 1, by omega⟩
    show ∃ r', m_layBest_164b N (m_layBest_164 N k) (nI u) (nI h) _ = _ ∧ _
    unfold m_layBest_164b
    obtain ⟨e1, e2⟩ := lay_one (N := N) (K := K) hN lA lH (show h < H by omega) (show n + (h + 1) = H by omega) hu Dd hD f hT (m_layBest_164 N k) r
    rw [gF_sRw, gF_sRw, eH, if_neg (nI_ge (by omega) (by omega)), nx_ok, e1]
    obtain ⟨r', z1, z2, z3⟩ := ih (h + 1) _ k (upd r h (optI (byC A K Dd n h u) (-1))) (by omega) (by omega) e2
    refine ⟨r', z1, fun i hi => ?_, fun i h1 h2 => ?_⟩
    · rw [z2 i (by omega), upd_at, if_neg (by omega)]
    · show r' i = optI (if i = h then byC A K Dd n h u else byV A K Dd n (h + 1) (nxU u (byC A K Dd n h u)) i) (-1)
      by_cases e : i = h
      · subst e
        rw [if_pos rfl, z2 i (by omega), upd_at, if_pos rfl]
      · rw [if_neg e]; exact z3 i (by omega) h2
