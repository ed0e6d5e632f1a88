/-! PURE: can, the loops -/
set_option maxRecDepth 100000
theorem d7 {H h j : Nat} (lH : H ≤ 6) (hh : h < H) (hj : j < 64) (hi : 2 ^ H ≤ j) : 2 ^ H ≤ j ^^^ 2 ^ h ∧ j ^^^ 2 ^ h < 64 := by
  have h9 : ∀ (H : Fin 7) (h : Fin 6) (j : Fin 64), h.1 < H.1 → 2 ^ H.1 ≤ j.1 → 2 ^ H.1 ≤ j.1 ^^^ 2 ^ h.1 ∧ j.1 ^^^ 2 ^ h.1 < 64 := by decide +kernel
  exact h9 ⟨H, by omega⟩ ⟨h, by omega⟩ ⟨j, hj⟩ hh hi
theorem d8 {H : Nat} (lH : H ≤ 6) : ((1 : Int32) <<< (nI H &&& 31)) - 1 = nI (2 ^ H - 1) ∧ 2 ^ H ≤ 64 ∧ 1 ≤ 2 ^ H := by
  have h9 : ∀ H : Fin 7, ((1 : Int32) <<< (nI H.1 &&& 31)) - 1 = nI (2 ^ H.1 - 1) ∧ 2 ^ H.1 ≤ 64 ∧ 1 ≤ 2 ^ H.1 := by decide +kernel
  exact h9 ⟨H, by omega⟩
theorem d9 {u h : Nat} (hu : u < 64) (hh : h < 6) : ((nI u >>> (nI h &&& 31)) &&& 1 = 0) ↔ u.testBit h = false := by
  have h9 : ∀ (u : Fin 64) (h : Fin 6), ((nI u >>> (nI h &&& 31)) &&& 1 = 0) ↔ u.1.testBit h.1 = false := by decide +kernel
  exact h9 ⟨u, hu⟩ ⟨h, hh⟩
theorem stM_none {D : Nat → Nat} {H : Nat} (lH : H ≤ 6) {d : Nat → Option Nat} (hd : ∀ j, 2 ^ H ≤ j → j < 64 → d j = none) {j : Nat} (h1 : 2 ^ H ≤ j) (h2 : j < 64) : stM D H d j = none := by
  unfold stM
  refine fo_inv (fun x => x = none) _ _ _ _ (hd j h1 h2) (fun h x _ hh hx => ?_)
  have hx : x = none := hx
  subst hx
  show (if j.testBit h = true then omx none (oAdd (d (j ^^^ 2 ^ h)) (D h)) else none) = none
  obtain ⟨z1, z2⟩ := d7 lH (show h < H by omega) h2 h1
  rw [hd _ z1 z2]
  split <;> rfl
theorem stM_b {D : Nat → Nat} {H Y : Nat} (lH : H ≤ 6) (hD : ∀ h, h < H → D h ≤ 1058) {d : Nat → Option Nat} (hd : ∀ j y, j < 64 → d j = some y → y ≤ Y) {j : Nat} (hj : j < 64) : ∀ y, stM D H d j = some y → y ≤ Y + 1058 := by
  unfold stM
  refine fo_inv (fun x => ∀ y, x = some y → y ≤ Y + 1058) _ _ _ _ (fun y hy => by have := hd j y hj hy; omega) (fun h x _ hh hx => ?_)
  show ∀ y, (if j.testBit h = true then omx x (oAdd (d (j ^^^ 2 ^ h)) (D h)) else x) = some y → y ≤ Y + 1058
  intro y hy
  have hDh := hD h (by omega)
  split at hy
  · have hj2 := (d6 hj (show h < 6 by omega)).2.1
    cases hdd : d (j ^^^ 2 ^ h) with
    | none =>
      rw [hdd] at hy
      cases x with
      | none => cases hy
      | some w => exact hx y hy
    | some w =>
      have hw := hd _ w hj2 hdd
      rw [hdd] at hy
      cases x with
      | none =>
        have hy : some (w + D h) = some y := hy
        cases hy; omega
      | some v =>
        have := hx v rfl
        have hy : some (max v (w + D h)) = some y := hy
        cases hy; omega
  · exact hx y hy
theorem m_mostOf_61_eq {N : Nat} (hN : 1000 ≤ N) {τ : MS} {H a Y : Nat} (lH : H ≤ 6) (la : a < 6) (eH : gF τ 0 = nI H) (rec31 : Int32 → Int32 → MS → Option (Int32 × MS)) (t : Int32) (Dd : Nat → Nat) (hD : ∀ h, h < H → gR τ 39 (6 * a + h) = nI (Dd h) ∧ Dd h ≤ 1058) (d : Nat → Option Nat) (hY : Y ≤ 100000) (hd : ∀ j y, j < 64 → d j = some y → y ≤ Y) : ∀ (c k : Nat) (e : Nat → Int32), c ≤ 64 → c < k → (∀ j, j < c → e j = optI (d j) (-1)) → (∀ j, c ≤ j → j < 64 → e j = optI (stM Dd H d j) (-1)) → ∃ e', m_mostOf_61 N rec31 k t (nI a) (yN c) (sRw τ 42 e) = rec31 t (nI (a + 1)) (sRw τ 42 e') ∧ ∀ j, j < 64 → e' j = optI (stM Dd H d j) (-1) := by
  intro c
  induction c with
  | zero =>
    intro k e _ hk h1 h2
    obtain ⟨k, rfl⟩ : ∃ k', k = k' + 1 := ⟨k - 1, by omega⟩
    refine ⟨e, ?_, fun j hj => h2 j (by omega) hj⟩
    show m_mostOf_61b N rec31 (m_mostOf_61 N rec31 k) t (nI a) (-1) _ = _
    unfold m_mostOf_61b m_mostOf_164
    rw [if_pos (by decide), nx_ok, nI_1]
  | succ c ih =>
    intro k e hc hk h1 h2
    obtain ⟨k, rfl⟩ : ∃ k', k = k' + 1 := ⟨k - 1, by omega⟩
    show ∃ e', m_mostOf_61b N rec31 (m_mostOf_61 N rec31 k) t (nI a) (yN (c + 1)) (sRw τ 42 e) = _ ∧ _
    have ey : yN (c + 1) = nI c := by unfold yN; rw [if_neg (by omega), show c + 1 - 1 = c by omega]
    rw [ey]
    unfold m_mostOf_61b
    rw [if_neg (nI_pos (by omega)), nx_ok]
    have hec : upd e c (optI (d c) (-1)) = e := by rw [← h1 c (by omega)]; exact upd_self e c
    have := m_mostOf_68_eq (N := N) lH la eH (show c < 64 by omega) rec31 (m_mostOf_61 N rec31 k) t Dd hD d hY hd e (fun j hj => h1 j (by omega)) H 0 N (d c) (by omega) (by omega) (fun z hz => by have := hd c z (by omega) hz; omega)
    rw [hec] at this
    rw [show (0 : Int32) = nI 0 from rfl, this, yN_m]
    refine ih k _ (by omega) (by omega) (fun j hj => ?_) (fun j hj hj2 => ?_)
    · rw [upd_at, if_neg (by omega)]; exact h1 j (by omega)
    · rw [upd_at]
      by_cases ej : j = c
      · subst ej; rw [if_pos rfl]; rfl
      · rw [if_neg ej]; exact h2 j (by omega) hj2
def MFs (tr : Nat → Bool) (D : Nat → Nat → Nat) (H : Nat) : Nat → Nat → Nat → Nat
  | 0, _, _ => 0
  | n + 1, a, u => if tr a = true then mfS (D a) H (MFs tr D H n (a + 1)) u else MFs tr D H n (a + 1) u
theorem MFs_b {tr : Nat → Bool} {D : Nat → Nat → Nat} {H A : Nat} (hD : ∀ a h, a < A → h < H → D a h ≤ 1058) : ∀ (n a u : Nat), n + a ≤ A → MFs tr D H n a u ≤ 1058 * n := by
  intro n
  induction n with
  | zero => intro a u _; exact Nat.le_refl 0
  | succ n ih =>
    intro a u ha
    show (if tr a = true then mfS (D a) H (MFs tr D H n (a + 1)) u else MFs tr D H n (a + 1) u) ≤ _
    split
    · unfold mfS
      refine fo_inv (fun v => v ≤ 1058 * (n + 1)) _ _ _ _ (by have := ih (a + 1) u (by omega); omega) (fun h v _ hh hv => ?_)
      show (if u.testBit h = false then max v (D a h + MFs tr D H n (a + 1) (u ||| 2 ^ h)) else v) ≤ 1058 * (n + 1)
      have hv : v ≤ 1058 * (n + 1) := hv
      split
      · have := ih (a + 1) (u ||| 2 ^ h) (by omega)
        have := hD a h (by omega) (by omega)
        omega
      · exact hv
    · have := ih (a + 1) u (by omega)
      omega
theorem m_mostOf_174_eq {N : Nat} {τ : MS} {e : Nat → Int32} {d : Nat → Option Nat} {Y : Nat} (hY : Y ≤ 1000000) (he : ∀ j, j < 64 → e j = optI (d j) (-1)) (hd : ∀ j y, j < 64 → d j = some y → y ≤ Y) : ∀ (n c k v : Nat), n + c = 64 → n < k → v ≤ Y → m_mostOf_174 N k (nI v) (nI c) (sRw τ 42 e) = some (nI (max v (mxL (List.range' c n) (fun m => oF (d m) 0))), sRw τ 42 e) := by
  intro n
  induction n with
  | zero =>
    intro c k v hc hk hv
    obtain ⟨k, rfl⟩ : ∃ k', k = k' + 1 := ⟨k - 1, by omega⟩
    show m_mostOf_174b N (m_mostOf_174 N k) (nI v) (nI c) _ = _
    unfold m_mostOf_174b
    rw [if_pos (show (64 : Int32) ≤ nI c from nI_le (a := 64) (by omega) (by omega))]
    show some (nI v, _) = some (nI (max v 0), _)
    rw [show max v 0 = v by omega]
  | succ n ih =>
    intro c k v hc hk hv
    obtain ⟨k, rfl⟩ : ∃ k', k = k' + 1 := ⟨k - 1, by omega⟩
    show m_mostOf_174b N (m_mostOf_174 N k) (nI v) (nI c) _ = _
    unfold m_mostOf_174b
    have h9 : ¬ (64 : Int32) ≤ nI c := nI_ge (b := 64) (by omega) (by omega)
    have hr : gR (sRw τ 42 e) 42 c = optI (d c) (-1) := he c (by omega)
    rw [List.range'_succ, mxL_cons]
    simp only [h9, if_false, inN (show 64 < 2 ^ 31 by omega) (show c < 64 by omega), if_true, nI_clamp (show c < 2 ^ 31 by omega), hr, m_most_eq, bnd_ok, nx_ok, nI_1]
    have hm : (if optI (d c) (-1) < nI v then nI v else optI (d c) (-1)) = nI (max v (oF (d c) 0)) := by
      cases hdc : d c with
      | none =>
        show (if (-1 : Int32) < nI v then nI v else -1) = nI (max v 0)
        rw [if_pos (Int32.lt_of_lt_of_le (show (-1 : Int32) < 0 by decide) (nI_pos' (by omega))), show max v 0 = v by omega]
      | some y =>
        have hy := hd c y (by omega) hdc
        show (if nI y < nI v then nI v else nI y) = nI (max v (y + 0))
        by_cases q : y < v
        · rw [if_pos (nI_lt q (by omega)), show max v (y + 0) = v by omega]
        · rw [if_neg (Int32.not_lt.mpr (nI_le (by omega) (by omega))), show max v (y + 0) = y by omega]
    have hb : oF (d c) 0 ≤ Y := by
      cases hdc : d c with
      | none => exact Nat.zero_le Y
      | some y => have := hd c y (by omega) hdc; show y + 0 ≤ Y; omega
    rw [hm, ih (c + 1) k _ (by omega) (by omega) (by omega)]
    congr 3
    omega
theorem m_mostOf_31_eq {N : Nat} (hN : 1000 ≤ N) {τ : MS} {A H : Nat} (lA : A ≤ 6) (lH : H ≤ 6) (eA : gF τ 1 = nI A) (eH : gF τ 0 = nI H) (t : Int32) (D : Nat → Nat → Nat) (hD : ∀ a h, a < A → h < H → gR τ 39 (6 * a + h) = nI (D a h) ∧ D a h ≤ 1058) : ∀ (n a k Y : Nat) (d : Nat → Option Nat) (e : Nat → Int32), n + a = A → n < k → Y + 1058 * n ≤ 100000 → (∀ j, j < 64 → e j = optI (d j) (-1)) → (∀ j y, j < 64 → d j = some y → y ≤ Y) → (∀ j, 2 ^ H ≤ j → j < 64 → d j = none) → ∃ e', m_mostOf_31 N k t (nI a) (sRw τ 42 e) = some (nI (totM d (MFs (fun a => decide (gR τ 10 a = t)) D H n a)), sRw τ 42 e') := by
  intro n
  induction n with
  | zero =>
    intro a k Y d e ha hk hY he hd hz
    obtain ⟨k, rfl⟩ : ∃ k', k = k' + 1 := ⟨k - 1, by omega⟩
    refine ⟨e, ?_⟩
    show m_mostOf_31b N (m_mostOf_31 N k) t (nI a) _ = _
    unfold m_mostOf_31b
    rw [gF_sRw, eA, if_pos (nI_le (by omega) (by omega)), nx_ok, nx_ok]
    have := m_mostOf_174_eq (N := N) (τ := τ) (by omega) he hd 64 0 N 0 (by omega) (by omega) (by omega)
    rw [show (0 : Int32) = nI 0 from rfl, this]
    unfold totM
    rw [List.range_eq_range', show max 0 (mxL (List.range' 0 64) (fun m => oF (d m) 0)) = mxL (List.range' 0 64) (fun m => oF (d m) 0) from Nat.zero_max _]
    rfl
  | succ n ih =>
    intro a k Y d e ha hk hY he hd hz
    obtain ⟨k, rfl⟩ : ∃ k', k = k' + 1 := ⟨k - 1, by omega⟩
    show ∃ e', m_mostOf_31b N (m_mostOf_31 N k) t (nI a) (sRw τ 42 e) = _
    unfold m_mostOf_31b m_mostOf_164
    have ha6 : a < 6 := by omega
    obtain ⟨s1, s2, s3⟩ := d8 lH
    simp only [gF_sRw, eA, eH, nI_ge (show a < A by omega) (show A < 2 ^ 31 by omega), if_false, in6 ha6, cl6 ha6, if_true, nx_ok, nI_1, s1, show gR (sRw τ 42 e) 10 = gR τ 10 from rfl]
    by_cases q : gR τ 10 a = t
    · simp only [q, if_true]
      obtain ⟨e', x1, x2⟩ := m_mostOf_61_eq (N := N) hN lH ha6 eH (m_mostOf_31 N k) t (D a) (fun h hh => hD a h (by omega) hh) d (show Y ≤ 100000 by omega) hd (2 ^ H) N e s2 (by omega) (fun j hj => he j (by omega)) (fun j h1 h2 => by rw [he j h2, hz j h1 h2, stM_none lH hz h1 h2])
      have ey : yN (2 ^ H) = nI (2 ^ H - 1) := by unfold yN; rw [if_neg (by omega)]
      rw [ey] at x1
      rw [x1]
      obtain ⟨e2, x3⟩ := ih (a + 1) k (Y + 1058) (stM (D a) H d) e' (by omega) (by omega) (by omega) x2 (fun j y hj => stM_b lH (fun h hh => (hD a h (by omega) hh).2) hd hj y) (fun j h1 h2 => stM_none lH hz h1 h2)
      refine ⟨e2, ?_⟩
      rw [x3, totM_step (D a) lH d]
      have em : ∀ u, MFs (fun a => decide (gR τ 10 a = t)) D H (n + 1) a u = mfS (D a) H (MFs (fun a => decide (gR τ 10 a = t)) D H n (a + 1)) u := by
        intro u
        show (if decide (gR τ 10 a = t) = true then _ else _) = _
        rw [if_pos (decide_eq_true q)]
      rw [show MFs (fun a => decide (gR τ 10 a = t)) D H (n + 1) a = mfS (D a) H (MFs (fun a => decide (gR τ 10 a = t)) D H n (a + 1)) from funext em]
    · simp only [q, if_false]
      obtain ⟨e2, x3⟩ := ih (a + 1) k Y d e (by omega) (by omega) (by omega) he hd hz
      refine ⟨e2, ?_⟩
      rw [x3]
      have em : ∀ u, MFs (fun a => decide (gR τ 10 a = t)) D H (n + 1) a u = MFs (fun a => decide (gR τ 10 a = t)) D H n (a + 1) u := by
        intro u
        show (if decide (gR τ 10 a = t) = true then _ else _) = _
        rw [if_neg (by simp [q])]
      rw [show MFs (fun a => decide (gR τ 10 a = t)) D H (n + 1) a = MFs (fun a => decide (gR τ 10 a = t)) D H n (a + 1) from funext em]
theorem m_mostOf_2_eq {N : Nat} {τ : MS} (t : Int32) : ∀ (n c k : Nat) (e : Nat → Int32), n + c = 64 → n < k → (∀ j, j < c → e j = if j = 0 then 0 else -1) → ∃ e', m_mostOf_2 N k t (nI c) (sRw τ 42 e) = m_mostOf_31 N N t 0 (sRw τ 42 e') ∧ ∀ j, j < 64 → e' j = if j = 0 then 0 else -1 := by
  intro n
  induction n with
  | zero =>
    intro c k e hc hk h
    obtain ⟨k, rfl⟩ : ∃ k', k = k' + 1 := ⟨k - 1, by omega⟩
    refine ⟨e, ?_, fun j hj => h j (by omega)⟩
    show m_mostOf_2b N (m_mostOf_2 N k) t (nI c) _ = _
    unfold m_mostOf_2b
    rw [if_pos (show (64 : Int32) ≤ nI c from nI_le (a := 64) (by omega) (by omega)), nx_ok]
  | succ n ih =>
    intro c k e hc hk h
    obtain ⟨k, rfl⟩ : ∃ k', k = k' + 1 := ⟨k - 1, by omega⟩
    show ∃ e', m_mostOf_2b N (m_mostOf_2 N k) t (nI c) _ = _ ∧ _
    unfold m_mostOf_2b m_mostOf_22
    have h9 : ¬ (64 : Int32) ≤ nI c := nI_ge (b := 64) (by omega) (by omega)
    simp only [h9, if_false, nI_zero (show c < 2 ^ 31 by omega), inN (show 64 < 2 ^ 31 by omega) (show c < 64 by omega), if_true, nI_clamp (show c < 2 ^ 31 by omega), nx_ok, nI_1, sR_sRw]
    by_cases q : c = 0
    · simp only [q, if_true]
      subst q
      refine ih 1 k _ (by omega) (by omega) (fun j hj => ?_)
      rw [upd_at, if_pos (by omega), if_pos (by omega)]
    · simp only [q, if_false]
      refine ih (c + 1) k _ (by omega) (by omega) (fun j hj => ?_)
      rw [upd_at]
      by_cases e : j = c
      · rw [if_pos e, if_neg (by omega)]
      · rw [if_neg e]; exact h j (by omega)
theorem m_mostOf_eq {N : Nat} (hN : 1000 ≤ N) {τ : MS} {A H : Nat} (lA : A ≤ 6) (lH : H ≤ 6) (eA : gF τ 1 = nI A) (eH : gF τ 0 = nI H) (t : Int32) (D : Nat → Nat → Nat) (hD : ∀ a h, a < A → h < H → gR τ 39 (6 * a + h) = nI (D a h) ∧ D a h ≤ 1058) (e : Nat → Int32) : ∃ e', m_mostOf N t (sRw τ 42 e) = some (nI (MFs (fun a => decide (gR τ 10 a = t)) D H A 0 0), sRw τ 42 e') := by
  obtain ⟨e1, x1, x2⟩ := m_mostOf_2_eq (N := N) (τ := τ) t 64 0 N e (by omega) (by omega) (fun j hj => by omega)
  obtain ⟨s1, s2, s3⟩ := d8 lH
  obtain ⟨e2, x3⟩ := m_mostOf_31_eq (N := N) hN lA lH eA eH t D hD A 0 N 0 (fun j => if j = 0 then some 0 else none) e1 (by omega) (by omega) (by omega) (fun j hj => by rw [x2 j hj]; by_cases q : j = 0 <;> simp [q, optI] <;> rfl) (fun j y _ h => by
    by_cases q : j = 0
    · simp only [q, if_true] at h; cases h; omega
    · simp only [q, if_false] at h; cases h) (fun j h1 h2 => by
    show (if j = 0 then some 0 else none) = none
    rw [if_neg (by omega)])
  refine ⟨e2, ?_⟩
  unfold m_mostOf
  rw [nx_ok]
  have x1' : m_mostOf_2 N N t 0 (sRw τ 42 e) = m_mostOf_31 N N t 0 (sRw τ 42 e1) := x1
  have x3' : m_mostOf_31 N N t 0 (sRw τ 42 e1) = some (nI (totM (fun j => if j = 0 then some 0 else none) (MFs (fun a => decide (gR τ 10 a = t)) D H A 0)), sRw τ 42 e2) := x3
  rw [x1', x3']
  congr 3
  unfold totM
  rw [show List.range 64 = 0 :: List.range' 1 63 by decide, mxL_cons, mxL_congr (g := fun _ => 0) (fun m hm => ?_), mxL_zero]
  · show max (0 + _) 0 = _
    omega
  · have := List.mem_range'_1.mp hm
    show oF (if m = 0 then some 0 else none) _ = 0
    rw [if_neg (by omega)]
    rfl
