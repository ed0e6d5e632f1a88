/-! PURE: rows copied (M), printed by gen/copy.py -/
set_option maxRecDepth 100000
def cps (ps : List (Nat × Nat)) (i : Nat) (σ : MS) : MS := ps.foldl (fun s p => sR s p.1 i (gR s p.2 i)) σ
def okp : List (Nat × Nat) → Bool
  | [] => true
  | p :: ps => !((ps.map Prod.fst).contains p.1) && (!((p :: ps).map Prod.fst).contains p.2) && (!(ps.map Prod.snd).contains p.1) && okp ps
theorem cps_spec : ∀ (ps : List (Nat × Nat)) (i : Nat) (σ : MS), okp ps = true → (∀ k, gF (cps ps i σ) k = gF σ k) ∧ gJ (cps ps i σ) = gJ σ ∧ (∀ k, k ∉ ps.map Prod.fst → gR (cps ps i σ) k = gR σ k) ∧ (∀ p ∈ ps, gR (cps ps i σ) p.1 = upd (gR σ p.1) i (gR σ p.2 i)) := by
  intro ps
  induction ps with
  | nil => intro i σ _; exact ⟨fun _ => rfl, rfl, fun _ _ => rfl, fun p hp => absurd hp (by simp)⟩
  | cons p ps ih =>
    intro i σ hok
    simp only [okp, Bool.and_eq_true, Bool.not_eq_true', List.contains_eq_mem, decide_eq_false_iff_not] at hok
    obtain ⟨⟨⟨o1, o2⟩, o3⟩, o4⟩ := hok
    obtain ⟨h1, h2, h3, h4⟩ := ih i (sR σ p.1 i (gR σ p.2 i)) o4
    refine ⟨h1, h2, fun k hk => ?_, fun p' hp' => ?_⟩
    · simp only [List.map_cons, List.mem_cons, not_or] at hk
      have := h3 k hk.2
      rw [gR_sR, if_neg hk.1] at this
      exact this
    · rcases List.mem_cons.mp hp' with rfl | hm
      · have := h3 p'.1 o1
        rw [gR_sR, if_pos rfl] at this
        exact this
      · have := h4 p' hm
        have n1 : p'.1 ≠ p.1 := fun e => o1 (List.mem_map.mpr ⟨p', hm, e⟩)
        have n2 : p'.2 ≠ p.1 := fun e => o3 (List.mem_map.mpr ⟨p', hm, e⟩)
        rw [gR_sR, gR_sR, if_neg n1, if_neg n2] at this
        exact this
/-- rows are copied up to b -/
def cpI (ps : List (Nat × Nat)) (b : Nat) (σ0 σ : MS) : Prop := (∀ k, gF σ k = gF σ0 k) ∧ gJ σ = gJ σ0 ∧ (∀ k, k ∉ ps.map Prod.fst → gR σ k = gR σ0 k) ∧ ∀ p ∈ ps, ∀ i, i < b → gR σ p.1 i = gR σ0 p.2 i
theorem cpI_step {ps : List (Nat × Nat)} {b : Nat} {σ0 σ : MS} (hok : okp ps = true) (hs : ∀ p ∈ ps, p.2 ∉ ps.map Prod.fst) (h : cpI ps b σ0 σ) : cpI ps (b + 1) σ0 (cps ps b σ) := by
  obtain ⟨h1, h2, h3, h4⟩ := h
  obtain ⟨k1, k2, k3, k4⟩ := cps_spec ps b σ hok
  refine ⟨fun k => (k1 k).trans (h1 k), k2.trans h2, fun k hk => (k3 k hk).trans (h3 k hk), fun p hp i hi => ?_⟩
  rw [k4 p hp, upd_at]
  by_cases e : i = b
  · rw [if_pos e, e, h3 _ (hs p hp)]
  · rw [if_neg e]; exact h4 p hp i (by omega)
theorem cpI_0 (ps : List (Nat × Nat)) (σ : MS) : cpI ps 0 σ σ := ⟨fun _ => rfl, rfl, fun _ _ => rfl, fun _ _ i hi => by omega⟩
theorem m_image_55_cp {N : Nat} : ∀ (n b k : Nat) (σ0 σ : MS), n + b = 6 → n < k → cpI [(57, 3), (58, 4), (59, 5), (60, 6), (61, 7), (62, 8), (63, 9), (64, 10), (65, 11), (68, 44), (69, 45)] b σ0 σ → ∃ σ1, m_image_55 N k (nI b) σ = m_image_201 N N (0 : Int32) σ1 ∧ cpI [(57, 3), (58, 4), (59, 5), (60, 6), (61, 7), (62, 8), (63, 9), (64, 10), (65, 11), (68, 44), (69, 45)] 6 σ0 σ1 := by
  intro n
  induction n with
  | zero =>
    intro b k σ0 σ hb hk h
    obtain ⟨k, rfl⟩ : ∃ k', k = k' + 1 := ⟨k - 1, by omega⟩
    obtain rfl : b = 6 := by omega
    refine ⟨σ, ?_, h⟩
    show m_image_55b N (m_image_55 N k) (nI 6) σ = _
    unfold m_image_55b
    rw [if_pos (show (6 : Int32) ≤ nI 6 by decide)]
    rfl
  | succ n ih =>
    intro b k σ0 σ hb hk h
    obtain ⟨k, rfl⟩ : ∃ k', k = k' + 1 := ⟨k - 1, by omega⟩
    obtain ⟨σ1, e, h1⟩ := ih (b + 1) k σ0 _ (by omega) (by omega) (cpI_step (by decide) (by decide) h)
    refine ⟨σ1, ?_, h1⟩
    show m_image_55b N (m_image_55 N k) (nI b) σ = _
    unfold m_image_55b
    have h9 : ¬ (6 : Int32) ≤ nI b := nI_ge (b := 6) (by omega) (by omega)
    have hi : inb (nI b) 6 = true := inN (by omega) (by omega)
    have hcl : (nI b).toNatClampNeg = b := nI_clamp (by omega)
    simp only [h9, if_false, hi, if_true, hcl, nx_ok, nI_1]
    exact e
theorem m_image_201_cp {N : Nat} : ∀ (n b k : Nat) (σ0 σ : MS), n + b = 24 → n < k → cpI [(66, 12)] b σ0 σ → ∃ σ1, m_image_201 N k (nI b) σ = m_image_227 N N (0 : Int32) σ1 ∧ cpI [(66, 12)] 24 σ0 σ1 := by
  intro n
  induction n with
  | zero =>
    intro b k σ0 σ hb hk h
    obtain ⟨k, rfl⟩ : ∃ k', k = k' + 1 := ⟨k - 1, by omega⟩
    obtain rfl : b = 24 := by omega
    refine ⟨σ, ?_, h⟩
    show m_image_201b N (m_image_201 N k) (nI 24) σ = _
    unfold m_image_201b
    rw [if_pos (show (24 : Int32) ≤ nI 24 by decide)]
    rfl
  | succ n ih =>
    intro b k σ0 σ hb hk h
    obtain ⟨k, rfl⟩ : ∃ k', k = k' + 1 := ⟨k - 1, by omega⟩
    obtain ⟨σ1, e, h1⟩ := ih (b + 1) k σ0 _ (by omega) (by omega) (cpI_step (by decide) (by decide) h)
    refine ⟨σ1, ?_, h1⟩
    show m_image_201b N (m_image_201 N k) (nI b) σ = _
    unfold m_image_201b
    have h9 : ¬ (24 : Int32) ≤ nI b := nI_ge (b := 24) (by omega) (by omega)
    have hi : inb (nI b) 24 = true := inN (by omega) (by omega)
    have hcl : (nI b).toNatClampNeg = b := nI_clamp (by omega)
    simp only [h9, if_false, hi, if_true, hcl, nx_ok, nI_1]
    exact e
theorem m_image_227_cp {N : Nat} : ∀ (n b k : Nat) (σ0 σ : MS), n + b = 5 → n < k → cpI [(67, 13)] b σ0 σ → ∃ σ1, m_image_227 N k (nI b) σ = m_image_252 N N (0 : Int32) σ1 ∧ cpI [(67, 13)] 5 σ0 σ1 := by
  intro n
  induction n with
  | zero =>
    intro b k σ0 σ hb hk h
    obtain ⟨k, rfl⟩ : ∃ k', k = k' + 1 := ⟨k - 1, by omega⟩
    obtain rfl : b = 5 := by omega
    refine ⟨σ, ?_, h⟩
    show m_image_227b N (m_image_227 N k) (nI 5) σ = _
    unfold m_image_227b
    rw [if_pos (show (5 : Int32) ≤ nI 5 by decide)]
    rfl
  | succ n ih =>
    intro b k σ0 σ hb hk h
    obtain ⟨k, rfl⟩ : ∃ k', k = k' + 1 := ⟨k - 1, by omega⟩
    obtain ⟨σ1, e, h1⟩ := ih (b + 1) k σ0 _ (by omega) (by omega) (cpI_step (by decide) (by decide) h)
    refine ⟨σ1, ?_, h1⟩
    show m_image_227b N (m_image_227 N k) (nI b) σ = _
    unfold m_image_227b
    have h9 : ¬ (5 : Int32) ≤ nI b := nI_ge (b := 5) (by omega) (by omega)
    have hi : inb (nI b) 5 = true := inN (by omega) (by omega)
    have hcl : (nI b).toNatClampNeg = b := nI_clamp (by omega)
    simp only [h9, if_false, hi, if_true, hcl, nx_ok, nI_1]
    exact e
theorem m_image_252_cp {N : Nat} : ∀ (n b k : Nat) (σ0 σ : MS), n + b = 8 → n < k → cpI [(70, 48), (71, 49)] b σ0 σ → ∃ σ1, m_image_252 N k (nI b) σ = some (gF σ1 1, σ1) ∧ cpI [(70, 48), (71, 49)] 8 σ0 σ1 := by
  intro n
  induction n with
  | zero =>
    intro b k σ0 σ hb hk h
    obtain ⟨k, rfl⟩ : ∃ k', k = k' + 1 := ⟨k - 1, by omega⟩
    obtain rfl : b = 8 := by omega
    refine ⟨σ, ?_, h⟩
    show m_image_252b N (m_image_252 N k) (nI 8) σ = _
    unfold m_image_252b
    rw [if_pos (show (8 : Int32) ≤ nI 8 by decide)]
  | succ n ih =>
    intro b k σ0 σ hb hk h
    obtain ⟨k, rfl⟩ : ∃ k', k = k' + 1 := ⟨k - 1, by omega⟩
    obtain ⟨σ1, e, h1⟩ := ih (b + 1) k σ0 _ (by omega) (by omega) (cpI_step (by decide) (by decide) h)
    refine ⟨σ1, ?_, h1⟩
    show m_image_252b N (m_image_252 N k) (nI b) σ = _
    unfold m_image_252b
    have h9 : ¬ (8 : Int32) ≤ nI b := nI_ge (b := 8) (by omega) (by omega)
    have hi : inb (nI b) 8 = true := inN (by omega) (by omega)
    have hcl : (nI b).toNatClampNeg = b := nI_clamp (by omega)
    simp only [h9, if_false, hi, if_true, hcl, nx_ok, nI_1]
    exact e
theorem m_undo_60_cp {N : Nat} : ∀ (n b k : Nat) (σ0 σ : MS), n + b = 6 → n < k → cpI [(3, 57), (4, 58), (5, 59), (6, 60), (7, 61), (8, 62), (9, 63), (10, 64), (11, 65), (44, 68), (45, 69)] b σ0 σ → ∃ σ1, m_undo_60 N k (nI b) σ = m_undo_206 N N (0 : Int32) σ1 ∧ cpI [(3, 57), (4, 58), (5, 59), (6, 60), (7, 61), (8, 62), (9, 63), (10, 64), (11, 65), (44, 68), (45, 69)] 6 σ0 σ1 := by
  intro n
  induction n with
  | zero =>
    intro b k σ0 σ hb hk h
    obtain ⟨k, rfl⟩ : ∃ k', k = k' + 1 := ⟨k - 1, by omega⟩
    obtain rfl : b = 6 := by omega
    refine ⟨σ, ?_, h⟩
    show m_undo_60b N (m_undo_60 N k) (nI 6) σ = _
    unfold m_undo_60b
    rw [if_pos (show (6 : Int32) ≤ nI 6 by decide)]
    rfl
  | succ n ih =>
    intro b k σ0 σ hb hk h
    obtain ⟨k, rfl⟩ : ∃ k', k = k' + 1 := ⟨k - 1, by omega⟩
    obtain ⟨σ1, e, h1⟩ := ih (b + 1) k σ0 _ (by omega) (by omega) (cpI_step (by decide) (by decide) h)
    refine ⟨σ1, ?_, h1⟩
    show m_undo_60b N (m_undo_60 N k) (nI b) σ = _
    unfold m_undo_60b
    have h9 : ¬ (6 : Int32) ≤ nI b := nI_ge (b := 6) (by omega) (by omega)
    have hi : inb (nI b) 6 = true := inN (by omega) (by omega)
    have hcl : (nI b).toNatClampNeg = b := nI_clamp (by omega)
    simp only [h9, if_false, hi, if_true, hcl, nx_ok, nI_1]
    exact e
theorem m_undo_206_cp {N : Nat} : ∀ (n b k : Nat) (σ0 σ : MS), n + b = 24 → n < k → cpI [(12, 66)] b σ0 σ → ∃ σ1, m_undo_206 N k (nI b) σ = m_undo_232 N N (0 : Int32) σ1 ∧ cpI [(12, 66)] 24 σ0 σ1 := by
  intro n
  induction n with
  | zero =>
    intro b k σ0 σ hb hk h
    obtain ⟨k, rfl⟩ : ∃ k', k = k' + 1 := ⟨k - 1, by omega⟩
    obtain rfl : b = 24 := by omega
    refine ⟨σ, ?_, h⟩
    show m_undo_206b N (m_undo_206 N k) (nI 24) σ = _
    unfold m_undo_206b
    rw [if_pos (show (24 : Int32) ≤ nI 24 by decide)]
    rfl
  | succ n ih =>
    intro b k σ0 σ hb hk h
    obtain ⟨k, rfl⟩ : ∃ k', k = k' + 1 := ⟨k - 1, by omega⟩
    obtain ⟨σ1, e, h1⟩ := ih (b + 1) k σ0 _ (by omega) (by omega) (cpI_step (by decide) (by decide) h)
    refine ⟨σ1, ?_, h1⟩
    show m_undo_206b N (m_undo_206 N k) (nI b) σ = _
    unfold m_undo_206b
    have h9 : ¬ (24 : Int32) ≤ nI b := nI_ge (b := 24) (by omega) (by omega)
    have hi : inb (nI b) 24 = true := inN (by omega) (by omega)
    have hcl : (nI b).toNatClampNeg = b := nI_clamp (by omega)
    simp only [h9, if_false, hi, if_true, hcl, nx_ok, nI_1]
    exact e
theorem m_undo_232_cp {N : Nat} : ∀ (n b k : Nat) (σ0 σ : MS), n + b = 5 → n < k → cpI [(13, 67)] b σ0 σ → ∃ σ1, m_undo_232 N k (nI b) σ = m_undo_257 N N (0 : Int32) σ1 ∧ cpI [(13, 67)] 5 σ0 σ1 := by
  intro n
  induction n with
  | zero =>
    intro b k σ0 σ hb hk h
    obtain ⟨k, rfl⟩ : ∃ k', k = k' + 1 := ⟨k - 1, by omega⟩
    obtain rfl : b = 5 := by omega
    refine ⟨σ, ?_, h⟩
    show m_undo_232b N (m_undo_232 N k) (nI 5) σ = _
    unfold m_undo_232b
    rw [if_pos (show (5 : Int32) ≤ nI 5 by decide)]
    rfl
  | succ n ih =>
    intro b k σ0 σ hb hk h
    obtain ⟨k, rfl⟩ : ∃ k', k = k' + 1 := ⟨k - 1, by omega⟩
    obtain ⟨σ1, e, h1⟩ := ih (b + 1) k σ0 _ (by omega) (by omega) (cpI_step (by decide) (by decide) h)
    refine ⟨σ1, ?_, h1⟩
    show m_undo_232b N (m_undo_232 N k) (nI b) σ = _
    unfold m_undo_232b
    have h9 : ¬ (5 : Int32) ≤ nI b := nI_ge (b := 5) (by omega) (by omega)
    have hi : inb (nI b) 5 = true := inN (by omega) (by omega)
    have hcl : (nI b).toNatClampNeg = b := nI_clamp (by omega)
    simp only [h9, if_false, hi, if_true, hcl, nx_ok, nI_1]
    exact e
theorem m_undo_257_cp {N : Nat} : ∀ (n b k : Nat) (σ0 σ : MS), n + b = 8 → n < k → cpI [(48, 70), (49, 71)] b σ0 σ → ∃ σ1, m_undo_257 N k (nI b) σ = some (gF σ1 1, σ1) ∧ cpI [(48, 70), (49, 71)] 8 σ0 σ1 := by
  intro n
  induction n with
  | zero =>
    intro b k σ0 σ hb hk h
    obtain ⟨k, rfl⟩ : ∃ k', k = k' + 1 := ⟨k - 1, by omega⟩
    obtain rfl : b = 8 := by omega
    refine ⟨σ, ?_, h⟩
    show m_undo_257b N (m_undo_257 N k) (nI 8) σ = _
    unfold m_undo_257b
    rw [if_pos (show (8 : Int32) ≤ nI 8 by decide)]
  | succ n ih =>
    intro b k σ0 σ hb hk h
    obtain ⟨k, rfl⟩ : ∃ k', k = k' + 1 := ⟨k - 1, by omega⟩
    obtain ⟨σ1, e, h1⟩ := ih (b + 1) k σ0 _ (by omega) (by omega) (cpI_step (by decide) (by decide) h)
    refine ⟨σ1, ?_, h1⟩
    show m_undo_257b N (m_undo_257 N k) (nI b) σ = _
    unfold m_undo_257b
    have h9 : ¬ (8 : Int32) ≤ nI b := nI_ge (b := 8) (by omega) (by omega)
    have hi : inb (nI b) 8 = true := inN (by omega) (by omega)
    have hcl : (nI b).toNatClampNeg = b := nI_clamp (by omega)
    simp only [h9, if_false, hi, if_true, hcl, nx_ok, nI_1]
    exact e
theorem m_image_all {N : Nat} (hN : 1000 ≤ N) (σ : MS) : ∃ σ1, m_image_55 N N (0 : Int32) σ = some (gF σ 1, σ1) ∧ (∀ k, gF σ1 k = gF σ k) ∧ gJ σ1 = gJ σ ∧ (∀ k, k ∉ ([57, 58, 59, 60, 61, 62, 63, 64, 65, 68, 69, 66, 67, 70, 71] : List Nat) → gR σ1 k = gR σ k) ∧ (eqN 6 (gR σ1 57) (gR σ 3) ∧ eqN 6 (gR σ1 58) (gR σ 4) ∧ eqN 6 (gR σ1 59) (gR σ 5) ∧ eqN 6 (gR σ1 60) (gR σ 6) ∧ eqN 6 (gR σ1 61) (gR σ 7) ∧ eqN 6 (gR σ1 62) (gR σ 8) ∧ eqN 6 (gR σ1 63) (gR σ 9) ∧ eqN 6 (gR σ1 64) (gR σ 10) ∧ eqN 6 (gR σ1 65) (gR σ 11) ∧ eqN 6 (gR σ1 68) (gR σ 44) ∧ eqN 6 (gR σ1 69) (gR σ 45) ∧ eqN 24 (gR σ1 66) (gR σ 12) ∧ eqN 5 (gR σ1 67) (gR σ 13) ∧ eqN 8 (gR σ1 70) (gR σ 48) ∧ eqN 8 (gR σ1 71) (gR σ 49)) := by
  obtain ⟨s1, e1, a1, a2, a3, a4⟩ := m_image_55_cp (N := N) 6 0 N σ σ (by omega) (by omega) (cpI_0 _ σ)
  obtain ⟨s2, e2, b1, b2, b3, b4⟩ := m_image_201_cp (N := N) 24 0 N s1 s1 (by omega) (by omega) (cpI_0 _ s1)
  obtain ⟨s3, e3, c1, c2, c3, c4⟩ := m_image_227_cp (N := N) 5 0 N s2 s2 (by omega) (by omega) (cpI_0 _ s2)
  obtain ⟨s4, e4, d1, d2, d3, d4⟩ := m_image_252_cp (N := N) 8 0 N s3 s3 (by omega) (by omega) (cpI_0 _ s3)
  refine ⟨s4, ?_, fun k => (d1 k).trans ((c1 k).trans ((b1 k).trans (a1 k))), d2.trans (c2.trans (b2.trans a2)), fun k hk => ?_, ?_⟩
  · refine e1.trans (e2.trans (e3.trans (e4.trans ?_)))
    rw [d1, c1, b1, a1]
  · simp only [List.mem_cons, List.not_mem_nil, or_false, not_or] at hk
    rw [d3 k (by simp; omega), c3 k (by simp; omega), b3 k (by simp; omega), a3 k (by simp; omega)]
  · refine ⟨?_, ?_, ?_, ?_, ?_, ?_, ?_, ?_, ?_, ?_, ?_, ?_, ?_, ?_, ?_⟩
    · intro i hi
      rw [d3 57 (by decide), c3 57 (by decide), b3 57 (by decide), a4 (57, 3) (by decide) i hi]
    · intro i hi
      rw [d3 58 (by decide), c3 58 (by decide), b3 58 (by decide), a4 (58, 4) (by decide) i hi]
    · intro i hi
      rw [d3 59 (by decide), c3 59 (by decide), b3 59 (by decide), a4 (59, 5) (by decide) i hi]
    · intro i hi
      rw [d3 60 (by decide), c3 60 (by decide), b3 60 (by decide), a4 (60, 6) (by decide) i hi]
    · intro i hi
      rw [d3 61 (by decide), c3 61 (by decide), b3 61 (by decide), a4 (61, 7) (by decide) i hi]
    · intro i hi
      rw [d3 62 (by decide), c3 62 (by decide), b3 62 (by decide), a4 (62, 8) (by decide) i hi]
    · intro i hi
      rw [d3 63 (by decide), c3 63 (by decide), b3 63 (by decide), a4 (63, 9) (by decide) i hi]
    · intro i hi
      rw [d3 64 (by decide), c3 64 (by decide), b3 64 (by decide), a4 (64, 10) (by decide) i hi]
    · intro i hi
      rw [d3 65 (by decide), c3 65 (by decide), b3 65 (by decide), a4 (65, 11) (by decide) i hi]
    · intro i hi
      rw [d3 68 (by decide), c3 68 (by decide), b3 68 (by decide), a4 (68, 44) (by decide) i hi]
    · intro i hi
      rw [d3 69 (by decide), c3 69 (by decide), b3 69 (by decide), a4 (69, 45) (by decide) i hi]
    · intro i hi
      rw [d3 66 (by decide), c3 66 (by decide), b4 (66, 12) (by decide) i hi, a3 12 (by decide)]
    · intro i hi
      rw [d3 67 (by decide), c4 (67, 13) (by decide) i hi, b3 13 (by decide), a3 13 (by decide)]
    · intro i hi
      rw [d4 (70, 48) (by decide) i hi, c3 48 (by decide), b3 48 (by decide), a3 48 (by decide)]
    · intro i hi
      rw [d4 (71, 49) (by decide) i hi, c3 49 (by decide), b3 49 (by decide), a3 49 (by decide)]
theorem m_undo_all {N : Nat} (hN : 1000 ≤ N) (σ : MS) : ∃ σ1, m_undo_60 N N (0 : Int32) σ = some (gF σ 1, σ1) ∧ (∀ k, gF σ1 k = gF σ k) ∧ gJ σ1 = gJ σ ∧ (∀ k, k ∉ ([3, 4, 5, 6, 7, 8, 9, 10, 11, 44, 45, 12, 13, 48, 49] : List Nat) → gR σ1 k = gR σ k) ∧ (eqN 6 (gR σ1 3) (gR σ 57) ∧ eqN 6 (gR σ1 4) (gR σ 58) ∧ eqN 6 (gR σ1 5) (gR σ 59) ∧ eqN 6 (gR σ1 6) (gR σ 60) ∧ eqN 6 (gR σ1 7) (gR σ 61) ∧ eqN 6 (gR σ1 8) (gR σ 62) ∧ eqN 6 (gR σ1 9) (gR σ 63) ∧ eqN 6 (gR σ1 10) (gR σ 64) ∧ eqN 6 (gR σ1 11) (gR σ 65) ∧ eqN 6 (gR σ1 44) (gR σ 68) ∧ eqN 6 (gR σ1 45) (gR σ 69) ∧ eqN 24 (gR σ1 12) (gR σ 66) ∧ eqN 5 (gR σ1 13) (gR σ 67) ∧ eqN 8 (gR σ1 48) (gR σ 70) ∧ eqN 8 (gR σ1 49) (gR σ 71)) := by
  obtain ⟨s1, e1, a1, a2, a3, a4⟩ := m_undo_60_cp (N := N) 6 0 N σ σ (by omega) (by omega) (cpI_0 _ σ)
  obtain ⟨s2, e2, b1, b2, b3, b4⟩ := m_undo_206_cp (N := N) 24 0 N s1 s1 (by omega) (by omega) (cpI_0 _ s1)
  obtain ⟨s3, e3, c1, c2, c3, c4⟩ := m_undo_232_cp (N := N) 5 0 N s2 s2 (by omega) (by omega) (cpI_0 _ s2)
  obtain ⟨s4, e4, d1, d2, d3, d4⟩ := m_undo_257_cp (N := N) 8 0 N s3 s3 (by omega) (by omega) (cpI_0 _ s3)
  refine ⟨s4, ?_, fun k => (d1 k).trans ((c1 k).trans ((b1 k).trans (a1 k))), d2.trans (c2.trans (b2.trans a2)), fun k hk => ?_, ?_⟩
  · refine e1.trans (e2.trans (e3.trans (e4.trans ?_)))
    rw [d1, c1, b1, a1]
  · simp only [List.mem_cons, List.not_mem_nil, or_false, not_or] at hk
    rw [d3 k (by simp; omega), c3 k (by simp; omega), b3 k (by simp; omega), a3 k (by simp; omega)]
  · refine ⟨?_, ?_, ?_, ?_, ?_, ?_, ?_, ?_, ?_, ?_, ?_, ?_, ?_, ?_, ?_⟩
    · intro i hi
      rw [d3 3 (by decide), c3 3 (by decide), b3 3 (by decide), a4 (3, 57) (by decide) i hi]
    · intro i hi
      rw [d3 4 (by decide), c3 4 (by decide), b3 4 (by decide), a4 (4, 58) (by decide) i hi]
    · intro i hi
      rw [d3 5 (by decide), c3 5 (by decide), b3 5 (by decide), a4 (5, 59) (by decide) i hi]
    · intro i hi
      rw [d3 6 (by decide), c3 6 (by decide), b3 6 (by decide), a4 (6, 60) (by decide) i hi]
    · intro i hi
      rw [d3 7 (by decide), c3 7 (by decide), b3 7 (by decide), a4 (7, 61) (by decide) i hi]
    · intro i hi
      rw [d3 8 (by decide), c3 8 (by decide), b3 8 (by decide), a4 (8, 62) (by decide) i hi]
    · intro i hi
      rw [d3 9 (by decide), c3 9 (by decide), b3 9 (by decide), a4 (9, 63) (by decide) i hi]
    · intro i hi
      rw [d3 10 (by decide), c3 10 (by decide), b3 10 (by decide), a4 (10, 64) (by decide) i hi]
    · intro i hi
      rw [d3 11 (by decide), c3 11 (by decide), b3 11 (by decide), a4 (11, 65) (by decide) i hi]
    · intro i hi
      rw [d3 44 (by decide), c3 44 (by decide), b3 44 (by decide), a4 (44, 68) (by decide) i hi]
    · intro i hi
      rw [d3 45 (by decide), c3 45 (by decide), b3 45 (by decide), a4 (45, 69) (by decide) i hi]
    · intro i hi
      rw [d3 12 (by decide), c3 12 (by decide), b4 (12, 66) (by decide) i hi, a3 66 (by decide)]
    · intro i hi
      rw [d3 13 (by decide), c4 (13, 67) (by decide) i hi, b3 67 (by decide), a3 67 (by decide)]
    · intro i hi
      rw [d4 (48, 70) (by decide) i hi, c3 70 (by decide), b3 70 (by decide), a3 70 (by decide)]
    · intro i hi
      rw [d4 (49, 71) (by decide) i hi, c3 71 (by decide), b3 71 (by decide), a3 71 (by decide)]
