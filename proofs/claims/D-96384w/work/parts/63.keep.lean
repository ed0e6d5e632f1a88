/-! PURE: what stays when cells are made or rows of numbers are written -/
set_option maxRecDepth 100000
def isPA (e : va_E) : Prop := (∃ c n f, e = .inl (c, n, .inl f)) ∨ ∃ c n f, e = .inl (c, n, .inr (.inl f))
/-- E' holds all of E that is no row of numbers -/
def keepW (E E' : Nat → Option va_E) : Prop := ∀ a e, E a = some e → ¬ isPA e → E' a = some e
theorem npa_o {ci : Nat} {fs : List Value} : ¬ isPA (.inr (ci, fs)) := by
  rintro (⟨c, n, f, h⟩ | ⟨c, n, f, h⟩) <;> cases h
theorem npa_q {c : ClassId} {n : Nat} {f : Nat → Option Nat} : ¬ isPA (.inl (c, n, .inr (.inr (.inr (.inr f))))) := by
  rintro (⟨c, n, f, h⟩ | ⟨c, n, f, h⟩) <;> cases h
theorem keepW_refl (E : Nat → Option va_E) : keepW E E := fun _ _ h _ => h
theorem tree_keep {g : XG} {E E' : Nat → Option va_E} (k : keepW E E') : ∀ (d t : Nat) (F : (Nat → Int32) → Bool), tree g E d t F → tree g E' d t F := by
  intro d
  induction d with
  | zero => intro t F h; exact h
  | succ d ih =>
    intro t F h
    rcases h with ⟨c, s, n, h1, h2⟩ | ⟨u, G, h1, h2, h3⟩ | ⟨all, al, od, sz, len, mo, f, G, h1, h2, h3, h4, h5, h6, h7⟩
    · exact Or.inl ⟨c, s, n, k _ _ h1 npa_o, h2⟩
    · exact Or.inr (Or.inl ⟨u, G, k _ _ h1 npa_o, ih u G h2, h3⟩)
    · refine Or.inr (Or.inr ⟨all, al, od, sz, len, mo, f, G, k _ _ h1 npa_o, k _ _ h2 npa_o, k _ _ h3 npa_q, h4, h5, fun j hj => ?_, h7⟩)
      obtain ⟨u, hu, ht⟩ := h6 j hj
      exact ⟨u, hu, ih u (G j) ht⟩
theorem cTown_keep {g : XG} {E E' : Nat → Option va_E} {w : Option Nat} {the : Int32} {cl wd nu as fr to sg : Nat → Int32} {wk : Nat} (k : keepW E E') (hw : ∀ e, E wk = some e → E' wk = some e) (h : cTown g E w the cl wd nu as fr to sg wk) : cTown g E' w the cl wd nu as fr to sg wk := by
  obtain ⟨w0, al, od, len, mo, many, f, fw, h1, h2, h3, h4, h5, h6, h7⟩ := h
  refine ⟨w0, al, od, len, mo, many, f, fw, h1, k _ _ h2 npa_o, hw _ h3, h4, k _ _ h5 npa_o, fun hz => ?_, fun j hj => ?_⟩
  · obtain ⟨q1, q2⟩ := h6 hz
    exact ⟨k _ _ q1 npa_q, q2⟩
  · obtain ⟨a, t, F, q1, q2, q3, q4⟩ := h7 j hj
    exact ⟨a, t, F, q1, k _ _ q2 npa_o, tree_keep k 12 t F q3, q4⟩
theorem cObj_keep {g : XG} {E E' : Nat → Option va_E} {Q : Nat → Option Nat} {A : Nat} {kd vv hs tr : Nat → Int32} {hq hr : Nat → Nat} (k : keepW E E') (h : cObj g E Q A kd vv hs tr hq hr) : cObj g E' Q A kd vv hs tr hq hr :=
  fun a ha => ⟨(h a ha).1, k _ _ (h a ha).2 npa_o⟩
theorem cAllH_keep {E E' : Nat → Option va_E} {Q : Nat → Option Nat} (k : keepW E E') (h : cAllH E Q) : cAllH E' Q := by
  intro i hi y hy
  obtain ⟨ci, fs, h1, h2⟩ := h i hi y hy
  exact ⟨ci, fs, k _ _ h1 npa_o, h2⟩
theorem img_keep {g : XG} {ξ ξ' : XS} {σ : MS} {H A D S B T wi : Nat} (k : keepW (dE ξ) (dE ξ')) (hw : ∀ e, dE ξ wi = some e → dE ξ' wi = some e) (e1 : xF ξ' = xF ξ) (e2 : xR ξ' = xR ξ) (e3 : xQ ξ' = xQ ξ) (e4 : xo ξ' 39 = xo ξ 39) (h : img g ξ σ H A D S B T wi) : img g ξ' σ H A D S B T wi := by
  unfold img at h ⊢
  rw [e1, e2, e3, e4]
  obtain ⟨h1, h2, h3, h4, h5, h6, h7, h8, h9, h10⟩ := h
  exact ⟨h1, h2, h3, h4, h5, h6, cAllH_keep k h7, h8, h9, cTown_keep k hw h10⟩
/-- E' holds all of E -/
def ext (E E' : Nat → Option va_E) : Prop := ∀ a e, E a = some e → E' a = some e
theorem ext.w {E E' : Nat → Option va_E} (h : ext E E') : keepW E E' := fun a e he _ => h a e he
theorem ext_pXd {ξ : XS} {q : Nat} {e : va_E} (hq : q ∉ xL ξ) : ext (dE ξ) (dE (pXd ξ q e)) := fun a e1 h => dE_pXn hq h
theorem ext.trans {E E' E'' : Nat → Option va_E} (h : ext E E') (h2 : ext E' E'') : ext E E'' := fun a e he => h2 a e (h a e he)
theorem ext_rfl {E : Nat → Option va_E} : ext E E := fun _ _ h => h
theorem cRow_ext {g : XG} {E E' : Nat → Option va_E} {A : Nat} {kd rw : Nat → Int32} {hr : Nat → Nat} (k : ext E E') (h : cRow g E A kd rw hr) : cRow g E' A kd rw hr := by
  intro a ha hk
  obtain ⟨f, h1, h2⟩ := h a ha hk
  exact ⟨f, k _ _ h1, h2⟩
theorem cTape_ext {g : XG} {E E' : Nat → Option va_E} {o : Nat → Option Nat} {so le : Nat → Int32} {it : Nat → Int64} (k : ext E E') (h : cTape g E o so le it) : cTape g E' o so le it := by
  intro t ht
  rcases h t ht with h | ⟨s, n, r, e, h1, h2, h3, h4, h5, h6, h7⟩
  · exact Or.inl h
  · exact Or.inr ⟨s, n, r, e, h1, h2, h3, h4, h5, k _ _ h6, h7⟩
/-- a row of numbers at r is written -/
theorem keep_sXd {ξ : XS} {r : Nat} {c : ClassId} {n : Nat} {f : Nat → Int32} {e' : va_E} (h : dE ξ r = some (.inl (c, n, .inl f))) : keepW (dE ξ) (dE (sXd ξ r e')) := by
  intro a e he hp
  rw [dE_sXd]
  by_cases e9 : a = r
  · subst e9
    rw [h] at he
    cases he
    exact absurd (Or.inl ⟨c, n, f, rfl⟩) hp
  · rw [if_neg e9]; exact he
theorem keep_sXdL {ξ : XS} {r : Nat} {c : ClassId} {n : Nat} {f : Nat → Int64} {e' : va_E} (h : dE ξ r = some (.inl (c, n, .inr (.inl f)))) : keepW (dE ξ) (dE (sXd ξ r e')) := by
  intro a e he hp
  rw [dE_sXd]
  by_cases e9 : a = r
  · subst e9
    rw [h] at he
    cases he
    exact absurd (Or.inr ⟨c, n, f, rfl⟩) hp
  · rw [if_neg e9]; exact he
theorem dE_sXd_ne {ξ : XS} {r a : Nat} {e' : va_E} (h : a ≠ r) : dE (sXd ξ r e') a = dE ξ a := by rw [dE_sXd, if_neg h]
theorem dE_sXd_eq {ξ : XS} {r : Nat} {e e' : va_E} (h : dE ξ r = some e) : dE (sXd ξ r e') r = some e' := by rw [dE_sXd, if_pos rfl, if_pos (dE_in h)]
/-! hats as objects -/
theorem hat_at {g : XG} {ξ : XS} {q k : Nat} {a v s t : Int32} {r : Nat} (hk : k ≤ 6) (h : dE ξ q = some (.inr (8 + k, hatL g k a v s t r))) :
    dI ξ q 8 14 0 = some a ∧ dI ξ q 8 14 1 = some v ∧ dI ξ q 8 14 2 = some s ∧ dI ξ q 8 14 3 = some t ∧ dCi ξ q = some (8 + k) ∧ isC ξ q 8 14 = true := by
  have h1 : (8 : Nat) ≤ 8 + k ∧ 8 + k ≤ 14 := by omega
  refine ⟨?_, ?_, ?_, ?_, ?_, ?_⟩
  · simp [dI, h, h1, hatL]
  · simp [dI, h, h1, hatL]
  · simp [dI, h, h1, hatL]
  · simp [dI, h, h1, hatL]
  · simp [dCi, h]
  · simp [isC, dCi, h, h1]
theorem hat_kind {g : XG} {ξ : XS} {N q k : Nat} {a v s t : Int32} {r : Nat} (hk : k ≤ 6) (h : dE ξ q = some (.inr (8 + k, hatL g k a v s t r))) : xv_kind N g q ξ = some (nI k, ξ) := by
  unfold xv_kind
  rw [(hat_at hk h).2.2.2.2.1, bno_ok]
  have h7 : k = 0 ∨ k = 1 ∨ k = 2 ∨ k = 3 ∨ k = 4 ∨ k = 5 ∨ k = 6 := by omega
  rcases h7 with rfl | rfl | rfl | rfl | rfl | rfl | rfl <;> rfl
