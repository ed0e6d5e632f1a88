/-! PURE: gust -/
set_option maxRecDepth 100000
theorem rot_inj {H x h h' : Nat} (lH : H ≤ 6) (hx : x ≤ 5) (h1 : h < H) (h2 : h' < H) (e : (h + x) % H = (h' + x) % H) : h = h' := by
  have h9 : ∀ (H : Fin 7) (x : Fin 6) (h h' : Fin 6), h.1 < H.1 → h'.1 < H.1 → (h.1 + x.1) % H.1 = (h'.1 + x.1) % H.1 → h.1 = h'.1 := by decide +kernel
  exact h9 ⟨H, by omega⟩ ⟨x, by omega⟩ ⟨h, by omega⟩ ⟨h', by omega⟩ h1 h2 e
theorem rot_sur {H x i : Nat} (lH : H ≤ 6) (hx : x ≤ 5) (h1 : i < H) : ∃ h, h < H ∧ (h + x) % H = i := by
  have h9 : ∀ (H : Fin 7) (x : Fin 6) (i : Fin 6), i.1 < H.1 → ∃ h : Fin 6, h.1 < H.1 ∧ (h.1 + x.1) % H.1 = i.1 := by decide +kernel
  obtain ⟨h, a, b⟩ := h9 ⟨H, by omega⟩ ⟨x, by omega⟩ ⟨i, by omega⟩ h1
  exact ⟨h.1, a, b⟩
def isRot (H x : Nat) (w r : Nat → Int32) : Prop := (∀ h, h < H → r ((h + x) % H) = w h) ∧ ∀ i, H ≤ i → i < 6 → r i = w i
theorem isRot_eq {H x : Nat} {w r w2 r2 : Nat → Int32} (lH : H ≤ 6) (hx : x ≤ 5) (h : isRot H x w r) (h2 : isRot H x w2 r2) (e : eqN 6 w w2) : eqN 6 r r2 := by
  intro i hi
  by_cases q : i < H
  · obtain ⟨h', a, rfl⟩ := rot_sur lH hx q
    rw [h.1 h' a, h2.1 h' a, e h' (by omega)]
  · rw [h.2 i (by omega) hi, h2.2 i (by omega) hi, e i hi]
theorem isRot_hx {H x A : Nat} {w r : Nat → Int32} (lH : H ≤ 6) (hx5 : x ≤ 5) (h : isRot H x w r) (hw : ∀ h, h < H → hx (w h) A) : ∀ h, h < H → hx (r h) A := by
  intro i hi
  obtain ⟨h', a, rfl⟩ := rot_sur lH hx5 hi
  rw [h.1 h' a]; exact hw h' a
theorem isRot_inj {H x : Nat} {w r : Nat → Int32} (lH : H ≤ 6) (hx5 : x ≤ 5) (h : isRot H x w r) (hw : cInj H w) : cInj H r := by
  intro i j hi hj he hne
  obtain ⟨a, ha, rfl⟩ := rot_sur lH hx5 hi
  obtain ⟨b, hb, rfl⟩ := rot_sur lH hx5 hj
  rw [h.1 a ha, h.1 b hb] at he
  rw [h.1 a ha] at hne
  rw [hw a b ha hb he hne]
theorem isRot_byte {H x : Nat} {w r : Nat → Int32} (lH : H ≤ 6) (hx5 : x ≤ 5) (h : isRot H x w r) (hw : cByte 6 w) : cByte 6 r := by
  intro i hi
  by_cases q : i < H
  · obtain ⟨h', a, rfl⟩ := rot_sur lH hx5 q
    rw [h.1 h' a]; exact hw h' (by omega)
  · rw [h.2 i (by omega) hi]; exact hw i hi
theorem nIm {b x H : Nat} (lH : H ≤ 6) (hb : b < 6) (hx : x ≤ 5) : nI b + nI x - (nI b + nI x) / nI H * nI H = nI ((b + x) % H) := by
  rw [show nI b + nI x = nI (b + x) from (Int32.ofNat_add _ _).symm, nI_mod (by omega) (by omega)]
/-- how many heads wear one -/
def cntS (wo : Nat → Int32) (n b : Nat) (x : Int32) : Int32 := fo (fun h x => if wo h = -1 then x else x + 1) n b x
theorem y1_gusts_eq {N : Nat} (hN : 1000 ≤ N) {g : XG} {τ x H A : Nat} (hx5 : x ≤ 5) (lH : H ≤ 6) (lA : A ≤ 6) {ξ : XS} (eH : xF ξ (202 + 10 * τ) = nI H) (hw : ∀ h, h < H → hx (xR ξ (200 + 10 * τ) h) A) (hby : cByte 6 (xR ξ (200 + 10 * τ))) {mc ms : Nat} (h1 : 1 ≤ mc) (h2 : 6 ≤ ms) {K : XS → Prop}
    (hK : ∀ q r, q ∉ xL ξ → isRot H x (xR ξ (200 + 10 * τ)) r → K (sXC (pXd ξ q (.inl (xc g 1, 6, .inl (xR ξ (200 + 10 * τ))))) (200 + 10 * τ) r)) : y1_gusts N g τ (nI x) ξ mc ms K := by
  have hfit : fitB (xR ξ (200 + 10 * τ)) 0 6 = true := by
    unfold fitB
    rw [List.all_eq_true]
    intro i hi
    rw [Nat.zero_add]
    exact hby i (List.mem_range.mp hi)
  unfold y1_gusts
  rw [if_pos hfit]
  refine ⟨h1, h2, fun q hq => ?_⟩
  have hE : dE (pXd ξ q (.inl (xc g 1, 6, .inl (xR ξ (200 + 10 * τ))))) q = some (.inl (xc g 1, 6, .inl (xR ξ (200 + 10 * τ)))) := by rw [dE_pXd, if_pos rfl]
  have hA : dA (pXd ξ q (.inl (xc g 1, 6, .inl (xR ξ (200 + 10 * τ))))) q (xc g 1) = some (6, xR ξ (200 + 10 * τ)) := by simp [dA, hE]
  simp only [hA, Option.isSome_some, if_true, nx_ok]
  have hK' := fun r => hK q r hq
  generalize hw0 : xR ξ (200 + 10 * τ) = w at *
  generalize hη : pXd ξ q (.inl (xc g 1, 6, .inl w)) = η at *
  have eη : xF η (202 + 10 * τ) = nI H := by rw [← hη]; exact eH
  have eR : xR η (200 + 10 * τ) = w := by rw [← hη]; exact hw0
  have key : ∀ (n b k : Nat) (r : Nat → Int32) (mc ms : Nat), n + b = H → n < k → (∀ h, h < b → r ((h + x) % H) = w h) → (∀ i, H ≤ i → i < 6 → r i = w i) → y1_gusts_13 N g τ K k (nI x) q (nI b) (sXC η (200 + 10 * τ) r) mc ms := by
    intro n
    induction n with
    | zero =>
      intro b k r mc ms hb hk i1 i2
      obtain ⟨k, rfl⟩ : ∃ k', k = k' + 1 := ⟨k - 1, by omega⟩
      show y1_gusts_13b N g τ K (y1_gusts_13 N g τ K k) (nI x) q (nI b) _ mc ms
      unfold y1_gusts_13b
      rw [xF_sXC, eη, if_pos (nI_le (by omega) (by omega))]
      obtain rfl : b = H := by omega
      exact hK' r ⟨i1, i2⟩
    | succ n ih =>
      intro b k r mc ms hb hk i1 i2
      obtain ⟨k, rfl⟩ : ∃ k', k = k' + 1 := ⟨k - 1, by omega⟩
      show y1_gusts_13b N g τ K (y1_gusts_13 N g τ K k) (nI x) q (nI b) _ mc ms
      unfold y1_gusts_13b
      have hH0 : ¬ nI H = 0 := fun z => absurd ((nI_zero (by omega)).mp z) (by omega)
      have hm : (b + x) % H < H := Nat.mod_lt _ (by omega)
      have hA' : dA (sXC η (200 + 10 * τ) r) q (xc g 1) = some (6, w) := hA
      simp only [xF_sXC, eη, nI_ge (show b < H by omega) (show H < 2 ^ 31 by omega), if_false, hH0, hA', bndp_ok, in6 (show b < 6 by omega), if_true, nIm lH (show b < 6 by omega) hx5, in6 (show (b + x) % H < 6 by omega), cl6 (show (b + x) % H < 6 by omega), cl6 (show b < 6 by omega), nx_ok, nI_1, sXR_sXC, hx_nar (show A ≤ 100 by omega) (hw b (by omega))]
      refine ih (b + 1) k _ mc ms (by omega) (by omega) (fun h hh => ?_) (fun i j1 j2 => ?_)
      · rw [upd_at]
        by_cases e : (h + x) % H = (b + x) % H
        · rw [if_pos e, rot_inj lH hx5 (by omega) (by omega) e]
        · rw [if_neg e]
          exact i1 h (by
            rcases Nat.lt_or_ge h b with z | z
            · exact z
            · exact absurd (by rw [show h = b by omega]) e)
      · rw [upd_at, if_neg (by omega)]
        exact i2 i j1 j2
  have := key H 0 N w (mc - 1) (ms - 6) (by omega) (by omega) (fun h hh => by omega) (fun i _ _ => rfl)
  rw [← eR, sXC_self] at this
  exact this
theorem m_goGust_eq {N : Nat} (hN : 1000 ≤ N) {σ : MS} {x H A : Nat} (hx5 : x ≤ 5) (lH : H ≤ 6) (lA : A ≤ 6) (eH : gF σ 0 = nI H) (hw : ∀ h, h < H → hx (gR σ 5 h) A) : ∃ f r, m_goGust N (nI x) σ = some (cntS (gR σ 5) H 0 0, sRw (sRw σ 34 f) 5 r) ∧ isRot H x (gR σ 5) r := by
  have key2 : ∀ (f : Nat → Int32) (v : Int32) (n b k : Nat) (r : Nat → Int32), n + b = H → n < k → (∀ h, h < b → r h = f h) → (∀ i, H ≤ i → i < 6 → r i = gR σ 5 i) → ∃ r', m_goGust_56 N k v (nI b) (sRw (sRw σ 34 f) 5 r) = some (v, sRw (sRw σ 34 f) 5 r') ∧ (∀ h, h < H → r' h = f h) ∧ (∀ i, H ≤ i → i < 6 → r' i = gR σ 5 i) := by
    intro f v n
    induction n with
    | zero =>
      intro b k r hb hk i1 i2
      obtain ⟨k, rfl⟩ : ∃ k', k = k' + 1 := ⟨k - 1, by omega⟩
      refine ⟨r, ?_, fun h hh => i1 h (by omega), i2⟩
      show m_goGust_56b N (m_goGust_56 N k) v (nI b) _ = _
      unfold m_goGust_56b
      rw [gF_sRw, gF_sRw, eH, if_pos (nI_le (by omega) (by omega))]
    | succ n ih =>
      intro b k r hb hk i1 i2
      obtain ⟨k, rfl⟩ : ∃ k', k = k' + 1 := ⟨k - 1, by omega⟩
      show ∃ r', m_goGust_56b N (m_goGust_56 N k) v (nI b) _ = _ ∧ _
      unfold m_goGust_56b
      simp only [gF_sRw, eH, nI_ge (show b < H by omega) (show H < 2 ^ 31 by omega), if_false, in6 (show b < 6 by omega), if_true, cl6 (show b < 6 by omega), gR_sRw, show ¬ (34 : Nat) = 5 by decide, nx_ok, nI_1, sR_sRw]
      refine ih (b + 1) k _ (by omega) (by omega) (fun h hh => ?_) (fun i j1 j2 => ?_)
      · rw [upd_at]
        split
        · rename_i e; rw [e]
        · exact i1 h (by omega)
      · rw [upd_at, if_neg (by omega)]; exact i2 i j1 j2
  have key : ∀ (n b k : Nat) (f : Nat → Int32) (v : Int32), n + b = H → n < k → (∀ h, h < b → f ((h + x) % H) = gR σ 5 h) → ∃ f' r, m_goGust_4 N k (nI x) v (nI b) (sRw σ 34 f) = some (cntS (gR σ 5) n b v, sRw (sRw σ 34 f') 5 r) ∧ isRot H x (gR σ 5) r := by
    intro n
    induction n with
    | zero =>
      intro b k f v hb hk i1
      obtain ⟨k, rfl⟩ : ∃ k', k = k' + 1 := ⟨k - 1, by omega⟩
      show ∃ f' r, m_goGust_4b N (m_goGust_4 N k) (nI x) v (nI b) _ = _ ∧ _
      unfold m_goGust_4b
      rw [gF_sRw, eH, if_pos (nI_le (by omega) (by omega))]
      obtain ⟨r', z1, z2, z3⟩ := key2 f v H 0 N (gR (sRw σ 34 f) 5) (by omega) (by omega) (fun h hh => by omega) (fun i _ _ => rfl)
      rw [sRw_self] at z1
      refine ⟨f, r', z1, fun h hh => ?_, z3⟩
      rw [z2 _ (Nat.mod_lt _ (by omega))]
      exact i1 h (by omega)
    | succ n ih =>
      intro b k f v hb hk i1
      obtain ⟨k, rfl⟩ : ∃ k', k = k' + 1 := ⟨k - 1, by omega⟩
      show ∃ f' r, m_goGust_4b N (m_goGust_4 N k) (nI x) v (nI b) _ = _ ∧ _
      unfold m_goGust_4b
      have hH0 : ¬ nI H = 0 := fun z => absurd ((nI_zero (by omega)).mp z) (by omega)
      have hm : (b + x) % H < H := Nat.mod_lt _ (by omega)
      simp only [gF_sRw, eH, nI_ge (show b < H by omega) (show H < 2 ^ 31 by omega), if_false, hH0, in6 (show b < 6 by omega), if_true, nIm lH (show b < 6 by omega) hx5, in6 (show (b + x) % H < 6 by omega), cl6 (show (b + x) % H < 6 by omega), cl6 (show b < 6 by omega), gR_sRw, show ¬ (5 : Nat) = 34 by decide, nx_ok, nI_1, sR_sRw, m_goGust_46, Int32.add_zero, hx_neg (show A ≤ 100 by omega) (hw b (by omega))]
      have i1' : ∀ h, h < b + 1 → upd f ((b + x) % H) (gR σ 5 b) ((h + x) % H) = gR σ 5 h := by
        intro h hh
        rw [upd_at]
        by_cases e : (h + x) % H = (b + x) % H
        · rw [if_pos e, rot_inj lH hx5 (by omega) (by omega) e]
        · rw [if_neg e]
          exact i1 h (by
            rcases Nat.lt_or_ge h b with z | z
            · exact z
            · exact absurd (by rw [show h = b by omega]) e)
      have es : cntS (gR σ 5) (n + 1) b v = cntS (gR σ 5) n (b + 1) (if gR σ 5 b = -1 then v else v + 1) := rfl
      rw [es]
      by_cases q : gR σ 5 b = -1
      · simp only [if_pos q]
        exact ih (b + 1) k _ v (by omega) (by omega) i1'
      · simp only [if_neg q]
        exact ih (b + 1) k _ (v + 1) (by omega) (by omega) i1'
  obtain ⟨f', r, z1, z2⟩ := key H 0 N (gR σ 34) 0 (by omega) (by omega) (fun h hh => by omega)
  rw [sRw_self] at z1
  exact ⟨f', r, z1, z2⟩
