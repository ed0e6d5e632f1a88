/-! PURE: the rules of both states, the small functions -/
set_option maxRecDepth 100000
theorem bnd_ok {α β γ : Type} (a : α) (b : β) (k : α → β → Option γ) : bnd (some (a, b)) k = k a b := rfl
theorem bnv_ok {β γ : Type} (b : β) (k : β → Option γ) : bnv (some b) k = k b := rfl
theorem bno_ok {α γ : Type} (a : α) (k : α → Option γ) : bno (some a) k = k a := rfl
theorem nx_ok {α β : Type} (a : α) (k : α → β) : nx a k = k a := rfl
theorem bndp_ok {α β : Type} (a : α) (b : β) (k : α → β → Prop) : bndp (some (a, b)) k ↔ k a b := ⟨fun ⟨_, _, h, h2⟩ => by cases h; exact h2, fun h => ⟨a, b, rfl, h⟩⟩
theorem bnvp_ok {β : Type} (b : β) (k : β → Prop) : bnvp (some b) k ↔ k b := ⟨fun ⟨_, h, h2⟩ => by cases h; exact h2, fun h => ⟨b, rfl, h⟩⟩
theorem bnop_ok {α : Type} (a : α) (k : α → Prop) : bnop (some a) k ↔ k a := ⟨fun ⟨_, h, h2⟩ => by cases h; exact h2, fun h => ⟨a, rfl, h⟩⟩
theorem gF_sF (σ : MS) (k j : Nat) (v : Int32) : gF (sF σ k v) j = if j = k then v else gF σ j := rfl
theorem gF_sR (σ : MS) (k i j : Nat) (v : Int32) : gF (sR σ k i v) j = gF σ j := rfl
theorem gF_sJ (σ : MS) (k i j : Nat) (v : Int64) : gF (sJ σ k i v) j = gF σ j := rfl
theorem gR_sF (σ : MS) (k j : Nat) (v : Int32) : gR (sF σ k v) j = gR σ j := rfl
theorem gR_sR (σ : MS) (k i j : Nat) (v : Int32) : gR (sR σ k i v) j = if j = k then upd (gR σ k) i v else gR σ j := rfl
theorem gR_sJ (σ : MS) (k i j : Nat) (v : Int64) : gR (sJ σ k i v) j = gR σ j := rfl
theorem gJ_sF (σ : MS) (k j : Nat) (v : Int32) : gJ (sF σ k v) j = gJ σ j := rfl
theorem gJ_sR (σ : MS) (k i j : Nat) (v : Int32) : gJ (sR σ k i v) j = gJ σ j := rfl
theorem gJ_sJ (σ : MS) (k i j : Nat) (v : Int64) : gJ (sJ σ k i v) j = if j = k then vp_updL (gJ σ k) i v else gJ σ j := rfl
theorem upd_at (f : Nat → Int32) (k : Nat) (x : Int32) (j : Nat) : upd f k x j = if j = k then x else f j := rfl
theorem updL_at (f : Nat → Int64) (k : Nat) (x : Int64) (j : Nat) : vp_updL f k x j = if j = k then x else f j := rfl
theorem va_up_at {α : Type} (f : Nat → α) (k : Nat) (x : α) (j : Nat) : va_up f k x j = if j = k then x else f j := rfl
theorem xF_sXF (ξ : XS) (k j : Nat) (v : Int32) : xF (sXF ξ k v) j = if j = k then v else xF ξ j := rfl
theorem xF_sXC (ξ : XS) (k j : Nat) (f : Nat → Int32) : xF (sXC ξ k f) j = xF ξ j := rfl
theorem xF_sXR (ξ : XS) (k i j : Nat) (v : Int32) : xF (sXR ξ k i v) j = xF ξ j := rfl
theorem xF_sXQ (ξ : XS) (k j : Nat) (f : Nat → Option Nat) : xF (sXQ ξ k f) j = xF ξ j := rfl
theorem xF_sXo (ξ : XS) (k j : Nat) (v : Option Nat) : xF (sXo ξ k v) j = xF ξ j := rfl
theorem xF_sXd (ξ : XS) (a j : Nat) (e : va_E) : xF (sXd ξ a e) j = xF ξ j := rfl
theorem xF_pXd (ξ : XS) (a j : Nat) (e : va_E) : xF (pXd ξ a e) j = xF ξ j := rfl
theorem xR_sXF (ξ : XS) (k j : Nat) (v : Int32) : xR (sXF ξ k v) j = xR ξ j := rfl
theorem xR_sXC (ξ : XS) (k j : Nat) (f : Nat → Int32) : xR (sXC ξ k f) j = if j = k then f else xR ξ j := rfl
theorem xR_sXR (ξ : XS) (k i j : Nat) (v : Int32) : xR (sXR ξ k i v) j = if j = k then upd (xR ξ k) i v else xR ξ j := rfl
theorem xR_sXQ (ξ : XS) (k j : Nat) (f : Nat → Option Nat) : xR (sXQ ξ k f) j = xR ξ j := rfl
theorem xR_sXo (ξ : XS) (k j : Nat) (v : Option Nat) : xR (sXo ξ k v) j = xR ξ j := rfl
theorem xR_sXd (ξ : XS) (a j : Nat) (e : va_E) : xR (sXd ξ a e) j = xR ξ j := rfl
theorem xR_pXd (ξ : XS) (a j : Nat) (e : va_E) : xR (pXd ξ a e) j = xR ξ j := rfl
theorem xQ_sXF (ξ : XS) (k j : Nat) (v : Int32) : xQ (sXF ξ k v) j = xQ ξ j := rfl
theorem xQ_sXC (ξ : XS) (k j : Nat) (f : Nat → Int32) : xQ (sXC ξ k f) j = xQ ξ j := rfl
theorem xQ_sXR (ξ : XS) (k i j : Nat) (v : Int32) : xQ (sXR ξ k i v) j = xQ ξ j := rfl
theorem xQ_sXQ (ξ : XS) (k j : Nat) (f : Nat → Option Nat) : xQ (sXQ ξ k f) j = if j = k then f else xQ ξ j := rfl
theorem xQ_sXo (ξ : XS) (k j : Nat) (v : Option Nat) : xQ (sXo ξ k v) j = xQ ξ j := rfl
theorem xQ_sXd (ξ : XS) (a j : Nat) (e : va_E) : xQ (sXd ξ a e) j = xQ ξ j := rfl
theorem xQ_pXd (ξ : XS) (a j : Nat) (e : va_E) : xQ (pXd ξ a e) j = xQ ξ j := rfl
theorem xo_sXF (ξ : XS) (k j : Nat) (v : Int32) : xo (sXF ξ k v) j = xo ξ j := rfl
theorem xo_sXC (ξ : XS) (k j : Nat) (f : Nat → Int32) : xo (sXC ξ k f) j = xo ξ j := rfl
theorem xo_sXR (ξ : XS) (k i j : Nat) (v : Int32) : xo (sXR ξ k i v) j = xo ξ j := rfl
theorem xo_sXQ (ξ : XS) (k j : Nat) (f : Nat → Option Nat) : xo (sXQ ξ k f) j = xo ξ j := rfl
theorem xo_sXo (ξ : XS) (k j : Nat) (v : Option Nat) : xo (sXo ξ k v) j = if j = k then v else xo ξ j := rfl
theorem xo_sXd (ξ : XS) (a j : Nat) (e : va_E) : xo (sXd ξ a e) j = xo ξ j := rfl
theorem xo_pXd (ξ : XS) (a j : Nat) (e : va_E) : xo (pXd ξ a e) j = xo ξ j := rfl
theorem xL_sXF (ξ : XS) (k : Nat) (v : Int32) : xL (sXF ξ k v) = xL ξ := rfl
theorem xL_sXC (ξ : XS) (k : Nat) (f : Nat → Int32) : xL (sXC ξ k f) = xL ξ := rfl
theorem xL_sXR (ξ : XS) (k i : Nat) (v : Int32) : xL (sXR ξ k i v) = xL ξ := rfl
theorem xL_sXQ (ξ : XS) (k : Nat) (f : Nat → Option Nat) : xL (sXQ ξ k f) = xL ξ := rfl
theorem xL_sXo (ξ : XS) (k : Nat) (v : Option Nat) : xL (sXo ξ k v) = xL ξ := rfl
theorem xL_sXd (ξ : XS) (a : Nat) (e : va_E) : xL (sXd ξ a e) = xL ξ := rfl
theorem xL_pXd (ξ : XS) (a : Nat) (e : va_E) : xL (pXd ξ a e) = xL ξ ++ [a] := rfl
theorem dE_sXF (ξ : XS) (k j : Nat) (v : Int32) : dE (sXF ξ k v) j = dE ξ j := rfl
theorem dE_sXC (ξ : XS) (k j : Nat) (f : Nat → Int32) : dE (sXC ξ k f) j = dE ξ j := rfl
theorem dE_sXR (ξ : XS) (k i j : Nat) (v : Int32) : dE (sXR ξ k i v) j = dE ξ j := rfl
theorem dE_sXQ (ξ : XS) (k j : Nat) (f : Nat → Option Nat) : dE (sXQ ξ k f) j = dE ξ j := rfl
theorem dE_sXo (ξ : XS) (k j : Nat) (v : Option Nat) : dE (sXo ξ k v) j = dE ξ j := rfl
theorem dE_sXd (ξ : XS) (a j : Nat) (e : va_E) : dE (sXd ξ a e) j = if j = a then (if a ∈ xL ξ then some e else none) else dE ξ j := by
  unfold dE
  show (if j ∈ xL ξ then some (va_up (xd ξ) a e j) else none) = _
  by_cases h : j = a
  · subst h
    simp [va_up]
  · simp [va_up, h]
theorem dE_pXd (ξ : XS) (a j : Nat) (e : va_E) : dE (pXd ξ a e) j = if j = a then some e else dE ξ j := by
  unfold dE
  show (if j ∈ xL ξ ++ [a] then some (va_up (xd ξ) a e j) else none) = _
  by_cases h : j = a
  · subst h
    simp [va_up]
  · simp [va_up, h]
theorem nlit (k : Nat) : (OfNat.ofNat k : Int32) = nI k := rfl
theorem inb_nI {k n : Nat} (h : k < 2 ^ 31) : inb (nI k) n = decide (k < n) := by
  unfold inb
  rw [nI_clamp h]
  have h0 : ¬ nI k < 0 := nI_pos h
  simp only [h0, decide_false, Bool.false_or]
  by_cases hk : k < n
  · simp [hk]
  · simp [hk]; omega
theorem i32_nat {x : Int32} {n : Nat} (hn : n < 2 ^ 31) (h0 : 0 ≤ x) (h1 : x < nI n) : ∃ k, k < n ∧ x = nI k := by
  have a0 : (0 : Int) ≤ x.toInt := by simpa using Int32.le_iff_toInt_le.mp h0
  have a1 := Int32.lt_iff_toInt_lt.mp h1
  rw [nI_toInt hn] at a1
  refine ⟨x.toInt.toNat, by omega, ?_⟩
  apply Int32.toInt_inj.mp
  rw [nI_toInt (by omega)]
  omega
theorem i32_le_pred {x : Int32} {n : Nat} (hn : n < 2 ^ 31) : x ≤ nI n - 1 ↔ x < nI n := by
  rw [Int32.le_iff_toInt_le, Int32.lt_iff_toInt_lt, Int32.toInt_sub, nI_toInt hn, show (1 : Int32).toInt = 1 by decide]
  rw [Int.bmod_eq_of_le (by omega) (by omega)]
  omega
theorem m_in_eq (N : Nat) (x lo hi : Int32) (σ : MS) : m_in N x lo hi σ = some (if lo ≤ x ∧ x ≤ hi then 1 else 0, σ) := by
  unfold m_in
  by_cases h1 : x < lo
  · rw [if_pos h1, if_neg (fun h => Int32.not_le.mpr h1 h.1)]
  · rw [if_neg h1]
    by_cases h2 : hi < x
    · rw [if_pos h2, if_neg (fun h => Int32.not_le.mpr h2 h.2)]
    · rw [if_neg h2, if_pos ⟨Int32.not_lt.mp h1, Int32.not_lt.mp h2⟩]
theorem x0_in_eq (N : Nat) (g : XG) (x lo hi : Int32) (ξ : XS) : x0_in N g x lo hi ξ = some (if lo ≤ x ∧ x ≤ hi then 1 else 0, ξ) := by
  unfold x0_in
  by_cases h1 : x < lo
  · rw [if_pos h1, if_neg (fun h => Int32.not_le.mpr h1 h.1)]
  · rw [if_neg h1]
    by_cases h2 : hi < x
    · rw [if_pos h2, if_neg (fun h => Int32.not_le.mpr h2 h.2)]
    · rw [if_neg h2, if_pos ⟨Int32.not_lt.mp h1, Int32.not_lt.mp h2⟩]
theorem b01 (P : Prop) [Decidable P] : (if P then (1 : Int32) else 0) = 0 ∨ (if P then (1 : Int32) else 0) = 1 := by
  by_cases h : P
  · exact Or.inr (if_pos h)
  · exact Or.inl (if_neg h)
theorem b0 (P : Prop) [Decidable P] : (if P then (1 : Int32) else 0) = 0 ↔ ¬ P := by
  by_cases h : P
  · rw [if_pos h]; exact ⟨fun h9 => absurd h9 (by decide), fun h9 => absurd h h9⟩
  · rw [if_neg h]; exact ⟨fun _ => h, fun _ => rfl⟩
theorem m_isHat_eq (N : Nat) (x : Int32) (σ : MS) : m_isHat N x σ = some (if 0 ≤ x ∧ x ≤ gF σ 1 - 1 then 1 else 0, σ) := by
  unfold m_isHat; rw [m_in_eq, bnd_ok, if_pos (b01 _)]
theorem m_isHead_eq (N : Nat) (x : Int32) (σ : MS) : m_isHead N x σ = some (if 0 ≤ x ∧ x ≤ gF σ 0 - 1 then 1 else 0, σ) := by
  unfold m_isHead; rw [m_in_eq, bnd_ok, if_pos (b01 _)]
theorem m_isTrade_eq (N : Nat) (x : Int32) (σ : MS) : m_isTrade N x σ = some (if 0 ≤ x ∧ x ≤ 4 then 1 else 0, σ) := by
  unfold m_isTrade; rw [m_in_eq, bnd_ok, if_pos (b01 _)]
theorem m_isTape_eq (N : Nat) (x : Int32) (σ : MS) : m_isTape N x σ = some (if 0 ≤ x ∧ x ≤ 5 then 1 else 0, σ) := by
  unfold m_isTape; rw [m_in_eq, bnd_ok, if_pos (b01 _)]
theorem x0_isHat_eq (N : Nat) (g : XG) (x : Int32) (ξ : XS) : x0_isHat N g x ξ = some (if 0 ≤ x ∧ x ≤ xF ξ 4 - 1 then 1 else 0, ξ) := by
  unfold x0_isHat; rw [x0_in_eq, bnd_ok, if_pos (b01 _)]
theorem x0_isHead_eq (N : Nat) (g : XG) (x : Int32) (ξ : XS) : x0_isHead N g x ξ = some (if 0 ≤ x ∧ x ≤ xF ξ 202 - 1 then 1 else 0, ξ) := by
  unfold x0_isHead; rw [x0_in_eq, bnd_ok, if_pos (b01 _)]
theorem x0_isTrade_eq (N : Nat) (g : XG) (x : Int32) (ξ : XS) : x0_isTrade N g x ξ = some (if 0 ≤ x ∧ x ≤ 4 then 1 else 0, ξ) := by
  unfold x0_isTrade; rw [x0_in_eq, bnd_ok, if_pos (b01 _)]
theorem x0_isTape_eq (N : Nat) (g : XG) (x : Int32) (ξ : XS) : x0_isTape N g x ξ = some (if 0 ≤ x ∧ x ≤ 5 then 1 else 0, ξ) := by
  unfold x0_isTape; rw [x0_in_eq, bnd_ok, if_pos (b01 _)]
theorem m_orNone_eq (N : Nat) (x : Int32) (σ : MS) : m_orNone N x σ = some (if x < 0 then -5 else x, σ) := by
  unfold m_orNone
  by_cases h : 0 ≤ x
  · simp [h, Int32.not_lt.mpr h]
  · simp [h, Int32.not_le.mp h]
theorem x0_orNone_eq (N : Nat) (g : XG) (x : Int32) (ξ : XS) : x0_orNone N g x ξ = some (if x = -1 then -5 else x, ξ) := by
  unfold x0_orNone; split <;> simp_all
theorem m_has_eq (N : Nat) (x k : Int32) (σ : MS) : m_has N x k σ = some (if (x >>> (k &&& 31)) &&& 1 = 1 then 1 else 0, σ) := by
  unfold m_has; split <;> simp_all
theorem m_most_eq (N : Nat) (x y : Int32) (σ : MS) : m_most N x y σ = some (if y < x then x else y, σ) := by
  unfold m_most
  by_cases h : x ≤ y
  · simp [h, Int32.not_lt.mpr h]
  · simp [h, Int32.not_le.mp h]
