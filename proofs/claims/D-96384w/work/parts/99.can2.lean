/-! PURE: can -/
set_option maxRecDepth 100000
theorem sR_sPw (σ : MS) {k : Nat} (hk : k ≠ 32) (d p : Nat → Int32) (i : Nat) (v : Int32) : sR (sP (sRw σ k d) p) k i v = sP (sRw σ k (upd d i v)) p := by
  unfold sR sP sRw
  congr 2
  funext j
  simp only [va_up_at]
  by_cases e : j = k
  · subst e
    simp [hk]
  · simp [e]
theorem lay_eq {N : Nat} (hN : 1000 ≤ N) {g : XG} {ξ : XS} {σ : MS} {A H D T wk : Nat} {hq hr : Nat → Nat} (hT : Tp g 0 ξ σ A H D T wk hq hr) (eA : gF σ 1 = nI A) : ∃ f p, m_layDeeds N σ = some (sP (sRw σ 39 f) p) ∧ ∀ a h, a < A → h < H → f (6 * a + h) = deedM σ a h := by
  have lA : A ≤ 6 := hT.1.1
  have lH : H ≤ 6 := hT.1.2.1
  have eH : gF σ 0 = nI H := hT.2.1
  have key : ∀ (n a k : Nat) (f p : Nat → Int32), n + a = A → n < k → (∀ b h, b < a → h < H → f (6 * b + h) = deedM σ b h) → ∃ f' p', m_layDeeds_2 N k (nI a) (sP (sRw σ 39 f) p) = some (sP (sRw σ 39 f') p') ∧ ∀ b h, b < A → h < H → f' (6 * b + h) = deedM σ b h := by
    intro n
    induction n with
    | zero =>
      intro a k f p ha hk hf
      obtain ⟨k, rfl⟩ : ∃ k', k = k' + 1 := ⟨k - 1, by omega⟩
      refine ⟨f, p, ?_, fun b h hb hh => hf b h (by omega) hh⟩
      show m_layDeeds_2b N (m_layDeeds_2 N k) (nI a) _ = _
      unfold m_layDeeds_2b
      rw [gF_sP, gF_sRw, eA, if_pos (nI_le (by omega) (by omega))]
    | succ n ih =>
      intro a k f p ha hk hf
      obtain ⟨k, rfl⟩ : ∃ k', k = k' + 1 := ⟨k - 1, by omega⟩
      show ∃ f' p', m_layDeeds_2b N (m_layDeeds_2 N k) (nI a) _ = _ ∧ _
      unfold m_layDeeds_2b
      have inner : ∀ (m c j : Nat) (f p : Nat → Int32), m + c = H → m < j → (∀ b h, b < a → h < H → f (6 * b + h) = deedM σ b h) → (∀ h, h < c → f (6 * a + h) = deedM σ a h) → ∃ f' p', m_layDeeds_12 N (m_layDeeds_2 N k) j (nI a) (nI c) (sP (sRw σ 39 f) p) = some (sP (sRw σ 39 f') p') ∧ ∀ b h, b < A → h < H → f' (6 * b + h) = deedM σ b h := by
        intro m
        induction m with
        | zero =>
          intro c j f p hc hj hf hg
          obtain ⟨j, rfl⟩ : ∃ j', j = j' + 1 := ⟨j - 1, by omega⟩
          show ∃ f' p', m_layDeeds_12b N (m_layDeeds_2 N k) (m_layDeeds_12 N (m_layDeeds_2 N k) j) (nI a) (nI c) _ = _ ∧ _
          unfold m_layDeeds_12b
          rw [gF_sP, gF_sRw, eH, if_pos (nI_le (by omega) (by omega)), nx_ok, nI_1]
          refine ih (a + 1) k f p (by omega) (by omega) (fun b h hb hh => ?_)
          by_cases e : b = a
          · subst e; exact hg h (by omega)
          · exact hf b h (by omega) hh
        | succ m ihm =>
          intro c j f p hc hj hf hg
          obtain ⟨j, rfl⟩ : ∃ j', j = j' + 1 := ⟨j - 1, by omega⟩
          show ∃ f' p', m_layDeeds_12b N (m_layDeeds_2 N k) (m_layDeeds_12 N (m_layDeeds_2 N k) j) (nI a) (nI c) _ = _ ∧ _
          unfold m_layDeeds_12b
          have hd : Dp g 0 ξ (sRw σ 39 f) A H D T wk hq hr := hT.1
          obtain ⟨p1, e1⟩ := m_deed_at hN (by omega) (sRw σ 39 f) hd (show a < A by omega) (show c < H by omega) p
          have e1' : m_deed N (nI a) (nI c) (sP (sRw σ 39 f) p) = some (deedM σ a c, sP (sRw σ 39 f) p1) := e1
          rw [gF_sP, gF_sRw, eH, if_neg (nI_ge (by omega) (by omega)), e1', bnd_ok, ix36, if_pos (inN (by omega) (show 6 * a + c < 36 by omega)), nI_clamp (by omega), nx_ok, nI_1, nx_ok, sR_sPw σ (by omega)]
          refine ihm (c + 1) j _ p1 (by omega) (by omega) (fun b h hb hh => ?_) (fun h hh => ?_)
          · rw [upd_at, if_neg (by omega)]; exact hf b h hb hh
          · rw [upd_at]
            by_cases e : h = c
            · subst e; rw [if_pos rfl]
            · rw [if_neg (by omega)]; exact hg h (by omega)
      rw [gF_sP, gF_sRw, eA, if_neg (nI_ge (by omega) (by omega)), nx_ok]
      exact inner H 0 N f p (by omega) (by omega) hf (fun h hh => by omega)
  obtain ⟨f, p, e, h⟩ := key A 0 N (gR σ 39) (gR σ 32) (by omega) (by omega) (fun b h hb hh => by omega)
  rw [sRw_self, sP_self] at e
  exact ⟨f, p, e, h⟩
theorem nI_plus (a b : Nat) : nI a + nI b = nI (a + b) := (Int32.ofNat_add _ _).symm
theorem most_opt {x : Option Nat} {y : Nat} (hx : ∀ z, x = some z → z < 2 ^ 30) (hy : y < 2 ^ 30) : (if nI y < optI x (-1) then optI x (-1) else nI y) = optI (omx x (some y)) (-1) := by
  cases x with
  | none =>
    show (if nI y < -1 then (-1 : Int32) else nI y) = nI y
    rw [if_neg (fun z => nI_pos (show y < 2 ^ 31 by omega) (Int32.lt_trans z (by decide)))]
  | some z =>
    have hz := hx z rfl
    show (if nI y < nI z then nI z else nI y) = nI (max z y)
    by_cases q : y < z
    · rw [if_pos (nI_lt q (by omega)), show max z y = z by omega]
    · rw [if_neg (Int32.not_lt.mpr (nI_le (by omega) (by omega))), show max z y = y by omega]
theorem upd_self (e : Nat → Int32) (m : Nat) : upd e m (e m) = e := by
  funext j
  rw [upd_at]
  split
  · rename_i h; rw [h]
  · rfl
theorem upd_upd (e : Nat → Int32) (m : Nat) (x y : Int32) : upd (upd e m x) m y = upd e m y := by
  funext j
  simp only [upd_at]
  split <;> rfl
theorem m_mostOf_68_eq {N : Nat} {τ : MS} {H a m Y : Nat} (lH : H ≤ 6) (la : a < 6) (eH : gF τ 0 = nI H) (hm : m < 64) (rec31 : Int32 → Int32 → MS → Option (Int32 × MS)) (rec61 : Int32 → Int32 → Int32 → MS → Option (Int32 × MS)) (t : Int32) (Dd : Nat → Nat) (hD : ∀ h, h < H → gR τ 39 (6 * a + h) = nI (Dd h) ∧ Dd h ≤ 1058) (d : Nat → Option Nat) (hY : Y ≤ 100000) (hd : ∀ j y, j < 64 → d j = some y → y ≤ Y) (e : Nat → Int32) (he : ∀ j, j < m → e j = optI (d j) (-1)) : ∀ (n h k : Nat) (x : Option Nat), n + h = H → n < k → (∀ z, x = some z → z ≤ Y + 1058) → m_mostOf_68 N rec31 rec61 k t (nI a) (nI m) (nI h) (sRw τ 42 (upd e m (optI x (-1)))) = rec61 t (nI a) (nI m + -1) (sRw τ 42 (upd e m (optI (fo (fun h x => if m.testBit h = true then omx x (oAdd (d (m ^^^ 2 ^ h)) (Dd h)) else x) n h x) (-1)))) := by
  intro n
  induction n with
  | zero =>
    intro h k x hh hk _
    obtain ⟨k, rfl⟩ : ∃ k', k = k' + 1 := ⟨k - 1, by omega⟩
    show m_mostOf_68b N rec31 rec61 (m_mostOf_68 N rec31 rec61 k) t (nI a) (nI m) (nI h) _ = _
    unfold m_mostOf_68b
    rw [gF_sRw, eH, if_pos (nI_le (by omega) (by omega)), nx_ok]
    rfl
  | succ n ih =>
    intro h k x hh hk hx
    obtain ⟨k, rfl⟩ : ∃ k', k = k' + 1 := ⟨k - 1, by omega⟩
    show m_mostOf_68b N rec31 rec61 (m_mostOf_68 N rec31 rec61 k) t (nI a) (nI m) (nI h) _ = _
    unfold m_mostOf_68b
    have hh6 : h < 6 := by omega
    have es : ∀ (f : Nat → Option Nat → Option Nat), fo f (n + 1) h x = fo f n (h + 1) (f h x) := fun _ => rfl
    rw [es]
    simp only [gF_sRw, eH, nI_ge (show h < H by omega) (show H < 2 ^ 31 by omega), if_false, m_has_eq, bnd_ok, b0, d1 hm hh6, m_mostOf_152, nx_ok, nI_1]
    by_cases q1 : m.testBit h = true
    · obtain ⟨z1, z2⟩ := d3 hm hh6 q1
      have hne : ¬ m ^^^ 2 ^ h = m := by omega
      have hrd : gR (sRw τ 42 (upd e m (optI x (-1)))) 42 (m ^^^ 2 ^ h) = optI (d (m ^^^ 2 ^ h)) (-1) := by
        show upd e m (optI x (-1)) (m ^^^ 2 ^ h) = _
        rw [upd_at, if_neg hne, he _ z2]
      have hrm : gR (sRw τ 42 (upd e m (optI x (-1)))) 42 m = optI x (-1) := by
        show upd e m (optI x (-1)) m = _
        rw [upd_at, if_pos rfl]
      have h39 : gR (sRw τ 42 (upd e m (optI x (-1)))) 39 (6 * a + h) = nI (Dd h) := (hD h (by omega)).1
      simp only [q1, not_true, if_false, z1, inN (show 64 < 2 ^ 31 by omega) (show m ^^^ 2 ^ h < 64 by omega), if_true, nI_clamp (show m ^^^ 2 ^ h < 2 ^ 31 by omega), hrd]
      cases hdd : d (m ^^^ 2 ^ h) with
      | none =>
        have : omx x (oAdd none (Dd h)) = x := by cases x <;> rfl
        simp only [show optI none (-1) = (-1 : Int32) from rfl, show ¬ (0 : Int32) ≤ -1 by decide, if_false, this]
        exact ih (h + 1) k x (by omega) (by omega) hx
      | some y =>
        have hy := hd _ y (show m ^^^ 2 ^ h < 64 by omega) hdd
        have hDh := (hD h (by omega)).2
        have hmo := most_opt (x := x) (y := y + Dd h) (fun z hz => by have := hx z hz; omega) (by omega)
        simp only [show optI (some y) (-1) = nI y from rfl, nI_pos' (show y < 2 ^ 31 by omega), if_true, ix36, inN (show 36 < 2 ^ 31 by omega) (show 6 * a + h < 36 by omega), nI_clamp (show 6 * a + h < 2 ^ 31 by omega), h39, inN (show 64 < 2 ^ 31 by omega) hm, nI_clamp (show m < 2 ^ 31 by omega), hrm, m_most_eq, bnd_ok, nI_plus, hmo, sR_sRw, upd_upd]
        refine ih (h + 1) k _ (by omega) (by omega) (fun z hz => ?_)
        cases x with
        | none => cases hz; omega
        | some w =>
          have := hx w rfl
          have hz : some (max w (y + Dd h)) = some z := hz
          cases hz
          omega
    · simp only [q1, not_false_iff, if_true, if_false]
      exact ih (h + 1) k x (by omega) (by omega) hx
