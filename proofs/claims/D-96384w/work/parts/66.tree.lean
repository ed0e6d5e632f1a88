/-! PURE: tests as trees and as signs -/
set_option maxRecDepth 100000
def b2i (b : Bool) : Int32 := if b then 1 else 0
def lk6 (a h k t u d : Int32) : Nat → Int32 := fun j => if j = 0 then a else if j = 1 then h else if j = 2 then k else if j = 3 then t else if j = 4 then u else d
def lkX (ξ : XS) : Nat → Int32 := lk6 (xF ξ 300) (xF ξ 301) (xF ξ 302) (xF ξ 303) (xF ξ 304) (xF ξ 305)
theorem x3_of_eq (N : Nat) (g : XG) (ξ : XS) {c : Int32} (h : c = 97 ∨ c = 101 ∨ c = 107 ∨ c = 116 ∨ c = 117 ∨ c = 100) : x3_of N g c ξ = some (lkX ξ (lett c), ξ) := by
  rcases h with rfl | rfl | rfl | rfl | rfl | rfl <;> rfl
theorem x20_eq {N : Nat} {g : XG} {self : Nat → XS → Option (Int32 × XS)} {ξ : XS} {t : Nat} {c s n : Int32} (h : dE ξ t = some (.inr (20, [.int c, .int s, .int n]))) (hc : c = 97 ∨ c = 101 ∨ c = 107 ∨ c = 116 ∨ c = 117 ∨ c = 100) (hs : s = 60 ∨ s = 61 ∨ s = 62) : x20_holds N g self t ξ = some (b2i (cmpS s (lkX ξ (lett c)) n), ξ) := by
  unfold x20_holds
  have e0 : dI ξ t 20 20 0 = some c := by simp [dI, h]
  have e1 : dI ξ t 20 20 1 = some s := by simp [dI, h]
  have e2 : dI ξ t 20 20 2 = some n := by simp [dI, h]
  simp only [e0, e1, e2, bno_ok, x3_of_eq N g ξ hc, bnd_ok]
  rcases hs with rfl | rfl | rfl
  · simp only [if_true, cmpS, b2i]
    by_cases h9 : n ≤ lkX ξ (lett c)
    · simp [h9, Int32.not_lt.mpr h9]
    · simp [h9, Int32.not_le.mp h9]
  · simp only [show ¬ (61 : Int32) = 60 by decide, if_true, if_false, cmpS, b2i]
    by_cases h9 : lkX ξ (lett c) = n <;> simp [h9]
  · simp only [show ¬ (62 : Int32) = 60 by decide, show ¬ (62 : Int32) = 61 by decide, if_false, cmpS, b2i]
    by_cases h9 : lkX ξ (lett c) ≤ n
    · simp [h9, Int32.not_lt.mpr h9]
    · simp [h9, Int32.not_le.mp h9]
theorem x2_size_eq {N : Nat} {g : XG} {ξ : XS} {al od : Nat} {mo sz : Int32} (h : dE ξ al = some (.inr (4, [.int mo, .ref od, .int sz]))) : x2_size N g al ξ = some (sz, ξ) := by
  unfold x2_size
  rw [show dI ξ al 4 4 2 = some sz by simp [dI, h], bno_ok]
theorem x2_get_eq {N : Nat} {g : XG} {ξ : XS} {al od sz len j u : Nat} {mo : Int32} {f : Nat → Option Nat} (h : dE ξ al = some (.inr (4, [.int mo, .ref od, .int (nI sz)]))) (h2 : dE ξ od = some (.inl (xc g 7, len, .inr (.inr (.inr (.inr f)))))) (hj : j < sz) (hl : sz ≤ len) (hl2 : len ≤ 200) (hu : f j = some u) : x2_get N g al (nI j) ξ = some (u, ξ) := by
  unfold x2_get x2_elementData x3_checkIndex x4_checkIndex
  rw [show dI ξ al 4 4 2 = some (nI sz) by simp [dI, h], bno_ok, if_neg (nI_pos (by omega)), if_pos (nI_lt hj (by omega))]
  simp only [bnd_ok]
  rw [if_pos (show isC ξ al 4 4 = true by simp [isC, dCi, h]), show dR ξ al 4 4 1 = some od by simp [dR, h], bno_ok, show dAq ξ od (xc g 7) = some (len, f) by simp [dAq, h2], bnd_ok, if_pos (inN (by omega) (by omega)), nI_clamp (by omega), hu, bno_ok, bnd_ok]
theorem tree_ci {g : XG} {ξ : XS} {d t : Nat} {F : (Nat → Int32) → Bool} (h : tree g (dE ξ) d t F) : isC ξ t 18 20 = true := by
  cases d with
  | zero => exact h.elim
  | succ d =>
    rcases h with ⟨c, s, n, h1, h2⟩ | ⟨u, G, h1, h2, h3⟩ | ⟨all, al, od, sz, len, mo, f, G, h1, h2⟩ <;> simp [isC, dCi, h1]
theorem b2i0 (b : Bool) : (b2i b = 0) ↔ b = false := by cases b <;> simp [b2i]
theorem b2i_eq (b c : Bool) : (b2i b = b2i c) ↔ b = c := by cases b <;> cases c <;> simp [b2i]
theorem xv_holds_eq {N : Nat} (hN : 1000 ≤ N) {g : XG} {ξ : XS} : ∀ (d dp t : Nat) (F : (Nat → Int32) → Bool), tree g (dE ξ) d t F → d ≤ dp → xv_holds N g dp t ξ = some (b2i (F (lkX ξ)), ξ) := by
  intro d
  induction d with
  | zero => intro dp t F h; exact h.elim
  | succ d ih =>
    intro dp t F h hd
    obtain ⟨dp, rfl⟩ : ∃ k, dp = k + 1 := ⟨dp - 1, by omega⟩
    rcases h with ⟨c, s, n, h1, h2, h3, rfl⟩ | ⟨u, G, h1, h2, rfl⟩ | ⟨all, al, od, sz, len, mo, f, G, h1, h2, h3, h4, h5, h6, rfl⟩
    · show bno (dCi ξ t) _ = _
      rw [show dCi ξ t = some 20 by simp [dCi, h1], bno_ok]
      exact x20_eq (self := xv_holds N g dp) h1 h2 h3
    · show bno (dCi ξ t) _ = _
      rw [show dCi ξ t = some 19 by simp [dCi, h1], bno_ok]
      show x19_holds N g (xv_holds N g dp) t ξ = _
      unfold x19_holds
      rw [show dR ξ t 19 19 0 = some u by simp [dR, h1], bno_ok, ih dp u G h2 (by omega), bnd_ok]
      cases hG : G (lkX ξ) <;> simp [b2i, hG]
    · show bno (dCi ξ t) _ = _
      rw [show dCi ξ t = some 18 by simp [dCi, h1], bno_ok]
      show x18_holds N g (xv_holds N g dp) t ξ = _
      have key : ∀ (n c k : Nat), n + c = sz → n < k → x18_holds_2 N g (xv_holds N g dp) t k (nI c) ξ = some (b2i (if all then (List.range' c n).all (fun j => G j (lkX ξ)) else (List.range' c n).any (fun j => G j (lkX ξ))), ξ) := by
        intro n
        induction n with
        | zero =>
          intro c k hc hk
          obtain ⟨k, rfl⟩ : ∃ k', k = k' + 1 := ⟨k - 1, by omega⟩
          show x18_holds_2b N g (xv_holds N g dp) t (x18_holds_2 N g (xv_holds N g dp) t k) (nI c) ξ = _
          unfold x18_holds_2b
          rw [show dR ξ t 18 18 1 = some al by simp [dR, h1], bno_ok, if_pos (show isC ξ al 4 4 = true by simp [isC, dCi, h2]), x2_size_eq h2, bnd_ok, if_pos (nI_le (by omega) (by omega)), show dI ξ t 18 18 0 = some (if all then 1 else 0) by simp [dI, h1], bno_ok]
          cases all <;> simp [b2i]
        | succ n ihn =>
          intro c k hc hk
          obtain ⟨k, rfl⟩ : ∃ k', k = k' + 1 := ⟨k - 1, by omega⟩
          show x18_holds_2b N g (xv_holds N g dp) t (x18_holds_2 N g (xv_holds N g dp) t k) (nI c) ξ = _
          unfold x18_holds_2b
          obtain ⟨u, hu, ht⟩ := h6 c (by omega)
          have hd : dR ξ t 18 18 1 = some al := by simp [dR, h1]
          rw [hd, bno_ok, if_pos (show isC ξ al 4 4 = true by simp [isC, dCi, h2]), x2_size_eq h2, bnd_ok, if_neg (nI_ge (by omega) (by omega)), hd, bno_ok, if_pos (show isC ξ al 4 4 = true by simp [isC, dCi, h2]), x2_get_eq h2 h3 (show c < sz by omega) h4 h5 hu, bnd_ok, if_pos (tree_ci ht), ih dp u (G c) ht (by omega), bnd_ok, show dI ξ t 18 18 0 = some (if all then 1 else 0) by simp [dI, h1]]
          simp only [bno_ok, nx_ok, nI_1]
          rw [ihn (c + 1) k (by omega) (by omega), List.range'_succ]
          cases all <;> cases hG : G c (lkX ξ) <;> simp only [List.all_cons, List.any_cons, hG, Bool.false_or, Bool.true_and, Bool.true_or, Bool.false_and] <;> simp [b2i] <;> rfl
      unfold x18_holds
      have := key sz 0 N (by omega) (by omega)
      rw [List.range_eq_range']
      exact this
/-- the pile -/
def sP (σ : MS) (p : Nat → Int32) : MS := (σ.1, va_up σ.2.1 32 p, σ.2.2)
theorem gF_sP (σ : MS) (p : Nat → Int32) (k : Nat) : gF (sP σ p) k = gF σ k := rfl
theorem gR_sP (σ : MS) (p : Nat → Int32) (k : Nat) : gR (sP σ p) k = if k = 32 then p else gR σ k := rfl
theorem sP_sP (σ : MS) (p q : Nat → Int32) : sP (sP σ p) q = sP σ q := by
  unfold sP
  congr 2
  funext k
  simp only [va_up_at]
  split <;> rfl
theorem sR_sP (σ : MS) (p : Nat → Int32) (i : Nat) (v : Int32) : sR (sP σ p) 32 i v = sP σ (upd p i v) := by
  unfold sR sP
  congr 2
  funext k
  simp only [va_up_at, if_true]
  split <;> rfl
theorem sP_self (σ : MS) : sP σ (gR σ 32) = σ := by
  unfold sP gR
  obtain ⟨a, b, c⟩ := σ
  congr 2
  funext k
  simp only [va_up_at]
  split
  · rename_i h; rw [h]
  · rfl
def piled (p : Nat → Int32) (st : List Bool) : Prop := ∀ i, i < st.length → p i = b2i (st.reverse.getD i false)
theorem piled_push {p : Nat → Int32} {st : List Bool} (b : Bool) (h : piled p st) : piled (upd p st.length (b2i b)) (b :: st) := by
  intro i hi
  simp only [upd_at, List.reverse_cons]
  by_cases e : i = st.length
  · subst e
    simp [List.getD_eq_getElem?_getD]
  · rw [if_neg e, h i (by simp at hi; omega)]
    simp only [List.getD_eq_getElem?_getD]
    rw [List.getElem?_append_left (by simp at hi ⊢; omega)]
theorem piled_top {p : Nat → Int32} {b : Bool} {st : List Bool} (h : piled p (b :: st)) : p st.length = b2i b := by
  rw [h st.length (by simp)]
  simp [List.getD_eq_getElem?_getD]
theorem piled_pop {p : Nat → Int32} {b : Bool} {st : List Bool} (h : piled p (b :: st)) : piled p st := by
  intro i hi
  rw [h i (by simp; omega)]
  simp only [List.reverse_cons, List.getD_eq_getElem?_getD]
  rw [List.getElem?_append_left (by simpa using hi)]
theorem narZ (b : Bool) : vp_nar .boolean (b2i b) = b2i b := by cases b <;> decide +kernel
/-- what a test looks at, M's way -/
def lkM (a h kd tr us dy : Int32) : Nat → Int32 := lk6 a h kd tr (us - us / 10 * 10) (dy - dy / 7 * 7)
theorem nI_div {a b : Nat} (ha : a < 2 ^ 31) (hb : b < 2 ^ 31) : nI a / nI b = nI (a / b) := by
  apply Int32.toInt_inj.mp
  have h1 : a / b ≤ a := Nat.div_le_self a b
  rw [Int32.toInt_div, nI_toInt ha, nI_toInt hb, ← Int.ofNat_tdiv]
  generalize a / b = q at h1 ⊢
  rw [nI_toInt (by omega), Int.bmod_eq_of_le (by omega) (by omega)]
theorem t1000 {t : Int32} (h0 : 0 ≤ t) (h1 : t ≤ 5299) : ∃ j, j ≤ 5 ∧ t / 1000 = nI j := by
  obtain ⟨m, hm, rfl⟩ := rg_of (n := 5299) (by omega) h0 h1
  exact ⟨m / 1000, by omega, nI_div (a := m) (b := 1000) (by omega) (by omega)⟩
theorem m_factOf_eq (N : Nat) (σ : MS) {a j : Nat} (ha : a < 6) (h : Int32) (hj : j ≤ 5) : m_factOf N (nI j) (nI a) h σ = some (lkM (nI a) h (gR σ 6 a) (gR σ 10 a) (gR σ 11 a) (gF σ 2) j, σ) := by
  unfold m_factOf
  have h7 : j = 0 ∨ j = 1 ∨ j = 2 ∨ j = 3 ∨ j = 4 ∨ j = 5 := by omega
  rcases h7 with rfl | rfl | rfl | rfl | rfl | rfl
  · rfl
  · rfl
  · simp [in6 ha, cl6 ha, lkM, lk6, show ¬ nI 2 = 0 by decide, show ¬ nI 2 = 1 by decide, show nI 2 = 2 by decide]
  · simp [in6 ha, cl6 ha, lkM, lk6, show nI 3 = 3 by decide]
  · simp [in6 ha, cl6 ha, lkM, lk6, show nI 4 = 4 by decide]
  · simp [lkM, lk6, show nI 5 = 5 by decide]
