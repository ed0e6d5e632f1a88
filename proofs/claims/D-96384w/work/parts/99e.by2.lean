/-! PURE: by: the table's loops (M) -/
set_option maxRecDepth 100000
theorem optI_inj {a b : Option Nat} (ha : ∀ z, a = some z → z < 2 ^ 30) (hb : ∀ z, b = some z → z < 2 ^ 30) (h : optI a (-1) = optI b (-1)) : a = b := by
  cases a with
  | none =>
    cases b with
    | none => rfl
    | some y => exact absurd h.symm (nI_ne1 (by have := hb y rfl; omega))
  | some x =>
    cases b with
    | none => exact absurd h (nI_ne1 (by have := ha x rfl; omega))
    | some y => rw [nI_inj (by have := ha x rfl; omega) (by have := hb y rfl; omega) h]
theorem most_opt2 {a b : Option Nat} (ha : ∀ z, a = some z → z < 2 ^ 30) (hb : ∀ z, b = some z → z < 2 ^ 30) : (if optI b (-1) < optI a (-1) then optI a (-1) else optI b (-1)) = optI (omx a b) (-1) := by
  cases b with
  | some y => exact most_opt ha (hb y rfl)
  | none =>
    rw [omx_none]
    cases a with
    | none => rw [if_neg (show ¬ optI none (-1) < optI none (-1) from Int32.lt_irrefl)]
    | some x =>
      have := ha x rfl
      rw [show optI none (-1) = (-1 : Int32) from rfl, show optI (some x) (-1) = nI x from rfl, if_pos (Int32.lt_of_lt_of_le (show (-1 : Int32) < 0 by decide) (nI_pos' (by omega)))]
theorem onw_b {A K H : Nat} {Dd : Nat → Nat → Nat} (hD : ∀ c h, c < A → h < H → Dd c h ≤ 1058) {n h u : Nat} (hn : n + (h + 1) = H) {c : Option Nat} (hc : ∀ z, c = some z → z < A) : ∀ z, onw A K Dd n h u c = some z → z ≤ 1058 * (n + 1) := by
  intro z hz
  have hb := byB_b (A := A) (K := K) (Dd := Dd) (H := H) hD
  cases c with
  | none =>
    have := hb n (h + 1) u z (by omega) hz
    omega
  | some c =>
    have hz : (if u.testBit c = true then none else oAdd (byB A K Dd n (h + 1) (u ||| 2 ^ c)) (Dd c h)) = some z := hz
    split at hz
    · cases hz
    · cases hbb : byB A K Dd n (h + 1) (u ||| 2 ^ c) with
      | none => rw [hbb] at hz; cases hz
      | some v =>
        rw [hbb] at hz
        have h1 := hb n (h + 1) _ v (by omega) hbb
        have h2 := hD c h (hc c rfl) (by omega)
        have hz : some (v + Dd c h) = some z := hz
        cases hz
        omega
/-- the table from head h on -/
def Tb (A K H : Nat) (Dd : Nat → Nat → Nat) (h : Nat) (f : Nat → Int32) : Prop := ∀ h', h ≤ h' → h' ≤ H → ∀ v, v < 64 → f (64 * h' + v) = optI (byB A K Dd (H - h') h' v) (-1)
theorem m_layBest_94_eq {N : Nat} {τ : MS} {A H K h n u : Nat} (lA : A ≤ 6) (lH : H ≤ 6) (eA : gF τ 1 = nI A) (hh : h < H) (hn : n + (h + 1) = H) (hu : u < 64) (Dd : Nat → Nat → Nat) (hD : ∀ c h, c < A → h < H → gR τ 39 (6 * c + h) = nI (Dd c h) ∧ Dd c h ≤ 1058) (f : Nat → Int32) (hf : ∀ v, v < 64 → f (64 * (h + 1) + v) = optI (byB A K Dd n (h + 1) v) (-1)) (rec76 : Int32 → MS → Option MS) (rec82 : Int32 → Int32 → MS → Option MS) : ∀ (m c k : Nat) (x : Option Nat), m + c = A → m < k → (∀ z, x = some z → z ≤ 1058 * (n + 1)) → m_layBest_94 N rec76 rec82 k (nI h) (nI u) (optI x (-1)) (nI c) (sRw τ 41 f) = rec82 (nI h) (nI (u + 1)) (sRw τ 41 (upd f (64 * h + u) (optI (fo (fun c x => omx x (onw A K Dd n h u (some c))) m c x) (-1)))) := by
  intro m
  induction m with
  | zero =>
    intro c k x hc hk hx
    obtain ⟨k, rfl⟩ : ∃ k', k = k' + 1 := ⟨k - 1, by omega⟩
    show m_layBest_94b N rec76 rec82 (m_layBest_94 N rec76 rec82 k) (nI h) (nI u) (optI x (-1)) (nI c) _ = _
    unfold m_layBest_94b
    rw [gF_sRw, eA, if_pos (nI_le (by omega) (by omega)), ix64, if_pos (inN (by omega) (show 64 * h + u < 448 by omega)), nI_clamp (by omega), nx_ok, nx_ok, nI_1, sR_sRw]
    rfl
  | succ m ih =>
    intro c k x hc hk hx
    obtain ⟨k, rfl⟩ : ∃ k', k = k' + 1 := ⟨k - 1, by omega⟩
    show m_layBest_94b N rec76 rec82 (m_layBest_94 N rec76 rec82 k) (nI h) (nI u) (optI x (-1)) (nI c) _ = _
    unfold m_layBest_94b
    have e1 := m_onwardBy_eq (N := N) (K := K) lA lH hh hn hu Dd hD f hf (some c) (fun z hz => by cases hz; omega)
    rw [show optI (some c) (-1) = nI c from rfl] at e1
    have hob := onw_b (K := K) (u := u) (fun c h hc hh => (hD c h hc hh).2) hn (c := some c) (fun z hz => by cases hz; omega)
    have hmo := most_opt2 (a := x) (b := onw A K Dd n h u (some c)) (fun z hz => by have := hx z hz; omega) (fun z hz => by have := hob z hz; omega)
    have es : ∀ (g : Nat → Option Nat → Option Nat), fo g (m + 1) c x = fo g m (c + 1) (g c x) := fun _ => rfl
    rw [gF_sRw, eA, if_neg (nI_ge (by omega) (by omega)), e1, bnd_ok, m_most_eq, bnd_ok, nx_ok, nx_ok, nI_1, hmo, es]
    refine ih (c + 1) k _ (by omega) (by omega) (fun z hz => ?_)
    cases x with
    | none => exact hob z hz
    | some w =>
      have hw := hx w rfl
      cases ho : onw A K Dd n h u (some c) with
      | none => rw [ho] at hz; cases hz; exact hw
      | some v =>
        have hv := hob v ho
        rw [ho] at hz
        have hz : some (max w v) = some z := hz
        cases hz
        omega
theorem m_layBest_82_eq {N : Nat} (hN : 1000 ≤ N) {τ : MS} {A H K h n : Nat} (lA : A ≤ 6) (lH : H ≤ 6) (eA : gF τ 1 = nI A) (hh : h < H) (hn : n + (h + 1) = H) (Dd : Nat → Nat → Nat) (hD : ∀ c h, c < A → h < H → gR τ 39 (6 * c + h) = nI (Dd c h) ∧ Dd c h ≤ 1058) (rec76 : Int32 → MS → Option MS) : ∀ (m u k : Nat) (f : Nat → Int32), m + u = 64 → m < k → Tb A K H Dd (h + 1) f → (∀ v, v < u → f (64 * h + v) = optI (byB A K Dd (n + 1) h v) (-1)) → ∃ f', m_layBest_82 N rec76 k (nI h) (nI u) (sRw τ 41 f) = rec76 (nI h + -1) (sRw τ 41 f') ∧ Tb A K H Dd h f' := by
  intro m
  induction m with
  | zero =>
    intro u k f hu hk hT hf
    obtain ⟨k, rfl⟩ : ∃ k', k = k' + 1 := ⟨k - 1, by omega⟩
    refine ⟨f, ?_, fun h' h1 h2 v hv => ?_⟩
    · show m_layBest_82b N rec76 (m_layBest_82 N rec76 k) (nI h) (nI u) _ = _
      unfold m_layBest_82b
      rw [if_pos (show (64 : Int32) ≤ nI u from nI_le (a := 64) (by omega) (by omega)), nx_ok]
    · by_cases e : h' = h
      · subst e
        rw [hf v (by omega), show H - h' = n + 1 by omega]
      · exact hT h' (by omega) h2 v hv
  | succ m ih =>
    intro u k f hu hk hT hf
    obtain ⟨k, rfl⟩ : ∃ k', k = k' + 1 := ⟨k - 1, by omega⟩
    show ∃ f', m_layBest_82b N rec76 (m_layBest_82 N rec76 k) (nI h) (nI u) (sRw τ 41 f) = _ ∧ _
    unfold m_layBest_82b
    have h9 : ¬ (64 : Int32) ≤ nI u := nI_ge (b := 64) (by omega) (by omega)
    have hf1 : ∀ v, v < 64 → f (64 * (h + 1) + v) = optI (byB A K Dd n (h + 1) v) (-1) := fun v hv => by
      have := hT (h + 1) (by omega) (by omega) v hv
      rw [show H - (h + 1) = n by omega] at this
      exact this
    rw [if_neg h9, nx_ok, nx_ok]
    have first : ∀ K9, 0 < K9 → m_layBest_94 N rec76 (m_layBest_82 N rec76 k) (K9 + 1) (nI h) (nI u) (-1) (-1) (sRw τ 41 f) = m_layBest_94 N rec76 (m_layBest_82 N rec76 k) K9 (nI h) (nI u) (optI (onw A K Dd n h u none) (-1)) (nI 0) (sRw τ 41 f) := by
      intro K9 _
      show m_layBest_94b N rec76 (m_layBest_82 N rec76 k) (m_layBest_94 N rec76 (m_layBest_82 N rec76 k) K9) (nI h) (nI u) (-1) (-1) _ = _
      unfold m_layBest_94b
      have e1 := m_onwardBy_eq (N := N) (K := K) lA lH hh hn (show u < 64 by omega) Dd hD f hf1 none (fun z hz => by cases hz)
      rw [show optI none (-1) = (-1 : Int32) from rfl] at e1
      have hob := onw_b (K := K) (u := u) (fun c h hc hh => (hD c h hc hh).2) hn (c := none) (fun z hz => by cases hz)
      have hmo := most_opt2 (a := none) (b := onw A K Dd n h u none) (fun z hz => by cases hz) (fun z hz => by have := hob z hz; omega)
      rw [show optI none (-1) = (-1 : Int32) from rfl] at hmo
      have hlt : ¬ nI A ≤ -1 := fun z => absurd (Int32.lt_of_le_of_lt z (show (-1 : Int32) < 0 by decide)) (nI_pos (by omega))
      rw [gF_sRw, eA, if_neg hlt, e1, bnd_ok, m_most_eq, bnd_ok, nx_ok, nx_ok, hmo, show (-1 : Int32) + 1 = nI 0 by decide]
      rfl
    obtain ⟨N9, hN9⟩ : ∃ k', N = k' + 1 := ⟨N - 1, by omega⟩
    have hfst := first N9 (by omega)
    rw [← hN9] at hfst
    rw [hfst]
    have hob := onw_b (K := K) (u := u) (fun c h hc hh => (hD c h hc hh).2) hn (c := none) (fun z hz => by cases hz)
    rw [m_layBest_94_eq (N := N) (K := K) lA lH eA hh hn (show u < 64 by omega) Dd hD f hf1 rec76 (m_layBest_82 N rec76 k) A 0 N9 (onw A K Dd n h u none) (by omega) (by omega) hob, ← byB_succ]
    refine ih (u + 1) k _ (by omega) (by omega) (fun h' h1 h2 v hv => ?_) (fun v hv => ?_)
    · rw [upd_at, if_neg (by omega)]; exact hT h' h1 h2 v hv
    · rw [upd_at]
      by_cases e : v = u
      · subst e; rw [if_pos rfl]
      · rw [if_neg (by omega)]; exact hf v (by omega)
theorem m_layBest_76_eq {N : Nat} (hN : 1000 ≤ N) {τ : MS} {A H K : Nat} (lA : A ≤ 6) (lH : H ≤ 6) (eA : gF τ 1 = nI A) (Dd : Nat → Nat → Nat) (hD : ∀ c h, c < A → h < H → gR τ 39 (6 * c + h) = nI (Dd c h) ∧ Dd c h ≤ 1058) : ∀ (c k : Nat) (f : Nat → Int32), c ≤ H → c < k → Tb A K H Dd c f → ∃ f', m_layBest_76 N k (yN c) (sRw τ 41 f) = m_layBest_164 N N 0 0 (sF (sRw τ 41 f') 40 (optI (byB A K Dd H 0 0) (-1))) ∧ Tb A K H Dd 0 f' := by
  intro c
  induction c with
  | zero =>
    intro k f _ hk hT
    obtain ⟨k, rfl⟩ : ∃ k', k = k' + 1 := ⟨k - 1, by omega⟩
    refine ⟨f, ?_, hT⟩
    show m_layBest_76b N (m_layBest_76 N k) (-1) _ = _
    unfold m_layBest_76b
    have h0 := hT 0 (by omega) (by omega) 0 (by omega)
    have h0' : gR (sRw τ 41 f) 41 (0 : Int32).toNatClampNeg = optI (byB A K Dd H 0 0) (-1) := h0
    rw [if_pos (show (-1 : Int32) < 0 by decide), if_pos (show inb (0 : Int32) 448 = true from inN (k := 0) (by omega) (by omega)), h0', nx_ok, nx_ok, nx_ok]
  | succ c ih =>
    intro k f hc hk hT
    obtain ⟨k, rfl⟩ : ∃ k', k = k' + 1 := ⟨k - 1, by omega⟩
    have ey : yN (c + 1) = nI c := by unfold yN; rw [if_neg (by omega), show c + 1 - 1 = c by omega]
    rw [ey]
    show ∃ f', m_layBest_76b N (m_layBest_76 N k) (nI c) (sRw τ 41 f) = _ ∧ _
    unfold m_layBest_76b
    rw [if_neg (nI_pos (by omega)), nx_ok]
    obtain ⟨f1, e1, hT1⟩ := m_layBest_82_eq (N := N) (K := K) hN lA lH eA (show c < H by omega) (show (H - (c + 1)) + (c + 1) = H by omega) Dd hD (m_layBest_76 N k) 64 0 N f (by omega) (by omega) hT (fun v hv => by omega)
    rw [show (0 : Int32) = nI 0 from rfl, e1, yN_m]
    exact ih k f1 (by omega) (by omega) hT1
