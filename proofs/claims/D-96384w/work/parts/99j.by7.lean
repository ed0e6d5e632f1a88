/-! PURE: by: X's ways, the recursion -/
set_option maxRecDepth 100000
theorem bb {b o : Option Nat} {s : Nat} (hb : ∀ z, b = some z → z ≤ 20000) (ho : ∀ z, o = some z → z + s ≤ 20000) : ∀ z, omx b (oAdd o s) = some z → z ≤ 20000 := by
  intro z hz
  cases b with
  | none =>
    cases o with
    | none => cases hz
    | some v => have := ho v rfl; have hz : some (v + s) = some z := hz; cases hz; omega
  | some w =>
    have hw := hb w rfl
    cases o with
    | none => have hz : some w = some z := hz; cases hz; omega
    | some v => have := ho v rfl; have hz : some (max w (v + s)) = some z := hz; cases hz; omega
set_option maxHeartbeats 4000000 in
theorem x0_ways2 {N : Nat} (hN : 1000 ≤ N) {g : XG} {ξ : XS} {A H K : Nat} {Dd : Nat → Nat → Nat} (lA : A ≤ 6) (lH : H ≤ 6) (lK : K ≤ 6) (eA : xF ξ 4 = nI A) (eH : xF ξ 202 = nI H) (hD : ∀ c h, c < A → h < H → xR ξ 21 (6 * c + h) = nI (Dd c h) ∧ Dd c h ≤ 1058) : ∀ (n h u w x3 s dp : Nat) (r q : Nat → Int32) (b : Option Nat), n + h = H → n < dp → u < 64 → w < 64 → (∀ c, c < 6 → w.testBit c = (decide (c < A) && !u.testBit c)) → pcN u + x3 = K → s ≤ 1058 * h → cByte 6 r → (∀ z, b = some z → z ≤ 20000) →
    ∃ r' q', x0_waysFrom N g dp (nI h) (nI w) (nI x3) (nI s) (wS ξ r q b) = some (wS ξ r' q' (omx b (oAdd (byB A K Dd n h u) s))) ∧ (∀ i, i < h → r' i = r i) ∧ cByte 6 r' ∧ (imp b (byB A K Dd n h u) s = true → ∀ i, i < H → q' i = if i < h then r i else optI (byV A K Dd n h u i) (-1)) ∧ (imp b (byB A K Dd n h u) s = false → ∀ i, i < H → q' i = q i) := by
  have hbb := byB_b (A := A) (K := K) (Dd := Dd) (H := H) (fun c h hc hh => (hD c h hc hh).2)
  intro n
  induction n with
  | zero =>
    intro h u w x3 s dp r q b hh hdp hu hw hwb hx3 hs hr hb
    obtain ⟨dp, rfl⟩ : ∃ k, dp = k + 1 := ⟨dp - 1, by omega⟩
    show ∃ r' q', x0_waysFrom_s N g (x0_waysFrom N g dp) (nI h) (nI w) (nI x3) (nI s) (wS ξ r q b) = _ ∧ _
    unfold x0_waysFrom_s
    have e202 : xF (wS ξ r q b) 202 = nI H := eH
    have e24 : xF (wS ξ r q b) 24 = optI b (-1) := rfl
    obtain rfl : h = H := by omega
    rw [e202, e24, show nI h - nI h = nI 0 from Int32.sub_self _]
    by_cases q0 : x3 = 0
    · subst q0
      have eB : byB A K Dd 0 h u = some 0 := by unfold byB; rw [if_pos (by omega)]
      rw [if_pos (show nI 0 ≤ nI 0 from Int32.le_refl _), if_pos rfl, eB]
      have hil := imp_lt (b := b) (s := s) (fun z hz => by have := hb z hz; omega) (by omega)
      by_cases qi : imp b (some 0) s = true
      · rw [if_pos (hil.mpr qi)]
        have e22 : xR (sXF (wS ξ r q b) 24 (nI s)) 22 = r := rfl
        have e23 : xR (sXF (wS ξ r q b) 24 (nI s)) 23 = q := rfl
        have hfb : fitB r (0 : Int32).toNatClampNeg (6 : Int32).toNatClampNeg = true := by
          unfold fitB
          rw [List.all_eq_true]
          intro i hi
          show fits .byte (.int (r (0 + i))) = true
          rw [Nat.zero_add]
          exact hr i (List.mem_range.mp hi)
        rw [nx_ok, e22, e23, if_pos ⟨cpk66, hfb⟩, nx_ok]
        have hom : omx b (oAdd (some 0) s) = some s := by rw [omx_imp, if_pos qi]; show some (0 + s) = some s; rw [Nat.zero_add]
        have hst := wS_23 ξ r q (va_cpy r q 0 0 6) b (some s)
        rw [show optI (some s) (-1) = nI s from rfl] at hst
        refine ⟨r, va_cpy r q 0 0 6, ?_, fun _ _ => rfl, hr, fun _ i hi => ?_, fun z => ?_⟩
        · rw [hom, ← hst]; rfl
        · rw [if_pos hi]
          exact cpyN 6 i (by omega)
        · rw [qi] at z; cases z
      · have qi' := eq_false_of_ne_true qi
        rw [if_neg (fun z => qi (hil.mp z))]
        refine ⟨r, q, ?_, fun _ _ => rfl, hr, fun z => absurd z qi, fun _ _ _ => rfl⟩
        rw [omx_imp, if_neg qi]
    · have eB : byB A K Dd 0 h u = none := by unfold byB; rw [if_neg (by omega)]
      rw [if_neg (show ¬ nI x3 ≤ nI 0 from nI_ge (by omega) (by omega)), eB]
      exact ⟨r, q, by rw [show oAdd none s = none from rfl, omx_none], fun _ _ => rfl, hr, fun z => absurd z (by cases b <;> simp [imp]), fun _ _ _ => rfl⟩
  | succ n ih =>
    intro h u w x3 s dp r q b hh hdp hu hw hwb hx3 hs hr hb
    obtain ⟨dp, rfl⟩ : ∃ k, dp = k + 1 := ⟨dp - 1, by omega⟩
    show ∃ r' q', x0_waysFrom_s N g (x0_waysFrom N g dp) (nI h) (nI w) (nI x3) (nI s) (wS ξ r q b) = _ ∧ _
    unfold x0_waysFrom_s
    have e202 : ∀ r q b, xF (wS ξ r q b) 202 = nI H := fun _ _ _ => eH
    have e4 : ∀ r q b, xF (wS ξ r q b) 4 = nI A := fun _ _ _ => eA
    have esub : nI H - nI h = nI (n + 1) := by
      rw [show H = (n + 1) + h by omega, ← nI_plus, Int32.add_sub_cancel]
    rw [e202, esub]
    by_cases qp : x3 ≤ n + 1
    · rw [if_pos (nI_le qp (by omega)), if_neg (fun z => by have := nI_inj (a := h) (b := H) (by omega) (by omega) z; omega), if_pos (in6 (by omega)), cl6 (by omega), narM, wS_22, nx_ok, nI_1]
      -- nobody
      have hr0 : cByte 6 (upd r h (-1)) := cByte_upd hr fitM
      obtain ⟨r1, q1, e1, p1, p2, p3, p4⟩ := ih (h + 1) u w x3 s dp (upd r h (-1)) q b (by omega) (by omega) hu hw hwb hx3 (by omega) hr0 hb
      rw [e1, bnv_ok, nx_ok]
      generalize hV : onw A K Dd n h u = V
      have hV0 : V none = byB A K Dd n (h + 1) u := by rw [← hV]; rfl
      have hVc : ∀ c, V (some c) = if u.testBit c = true then none else oAdd (byB A K Dd n (h + 1) (u ||| 2 ^ c)) (Dd c h) := fun c => by rw [← hV]; rfl
      have hBf : byB A K Dd (n + 1) h u = foldV V A := by rw [byB_succ, hV]; rfl
      have hCf : byC A K Dd n h u = fcP V A (foldV V A) := by unfold byC fcP; rw [hV, hBf]
      have hob := fun (c : Option Nat) (hc : ∀ z, c = some z → z < A) => onw_b (K := K) (u := u) (fun c h hc hh => (hD c h hc hh).2) (show n + (h + 1) = H by omega) hc
      rw [hV] at hob
      -- the end, from an invariant at A
      have fin : ∀ (r2 q2 : Nat → Int32), (∀ i, i < h → r2 i = r i) → cByte 6 r2 → (imp b (foldV V A) s = true → ∀ i, i < H → q2 i = if i < h then r i else if i = h then optI (fcP V A (foldV V A)) (-1) else optI (byV A K Dd n (h + 1) (nxU u (fcP V A (foldV V A))) i) (-1)) → (imp b (foldV V A) s = false → ∀ i, i < H → q2 i = q i) → ∃ r' q', some (wS ξ r2 q2 (omx b (oAdd (foldV V A) s))) = some (wS ξ r' q' (omx b (oAdd (byB A K Dd (n + 1) h u) s))) ∧ (∀ i, i < h → r' i = r i) ∧ cByte 6 r' ∧ (imp b (byB A K Dd (n + 1) h u) s = true → ∀ i, i < H → q' i = if i < h then r i else optI (byV A K Dd (n + 1) h u i) (-1)) ∧ (imp b (byB A K Dd (n + 1) h u) s = false → ∀ i, i < H → q' i = q i) := by
        intro r2 q2 z1 z2 z3 z4
        refine ⟨r2, q2, by rw [hBf], z1, z2, fun z i hi => ?_, fun z => z4 (by rw [← hBf]; exact z)⟩
        rw [z3 (by rw [← hBf]; exact z) i hi]
        show _ = if i < h then r i else optI (if i = h then byC A K Dd n h u else byV A K Dd n (h + 1) (nxU u (byC A K Dd n h u)) i) (-1)
        rw [hCf]
        by_cases a1 : i < h
        · rw [if_pos a1, if_pos a1]
        · rw [if_neg a1, if_neg a1]
          by_cases a2 : i = h
          · rw [if_pos a2, if_pos a2]
          · rw [if_neg a2, if_neg a2]
      have p1' : ∀ i, i < h → r1 i = r i := fun i hi => by rw [p1 i (by omega), upd_at, if_neg (by omega)]
      have inv0 : imp b (foldV V 0) s = true → ∀ i, i < H → q1 i = if i < h then r i else if i = h then optI (fcP V 0 (foldV V 0)) (-1) else optI (byV A K Dd n (h + 1) (nxU u (fcP V 0 (foldV V 0))) i) (-1) := by
        intro z i hi
        have ef : fcP V 0 (foldV V 0) = none := by unfold fcP; rw [if_pos (show V none = foldV V 0 from rfl)]
        rw [ef, p3 (by rw [← hV0]; exact z) i hi]
        by_cases a1 : i < h
        · rw [if_pos (by omega), if_pos a1, upd_at, if_neg (by omega)]
        · rw [if_neg a1]
          by_cases a2 : i = h
          · rw [if_pos (by omega), if_pos a2, a2, upd_at, if_pos rfl]; rfl
          · rw [if_neg (by omega), if_neg a2]; rfl
      have inv0' : imp b (foldV V 0) s = false → ∀ i, i < H → q1 i = q i := fun z => p4 (by rw [← hV0]; exact z)
      rw [← hV0]
      by_cases q3 : x3 = 0
      · subst q3
        have hnone : ∀ c, c < A → V (some c) = none := by
          intro c hc
          rw [hVc]
          by_cases qb : u.testBit c = true
          · rw [if_pos qb]
          · rw [if_neg qb, byB_none2 lA n (h + 1) _ (d2 hu (show c < 6 by omega)).2 (by rw [dA2 hu (by omega) (eq_false_of_ne_true qb)]; omega)]
            rfl
        have hfA : foldV V A = V none := fo_none hnone (V none)
        have hstop : ∀ k, 0 < k → x0_waysFrom_78 N g (x0_waysFrom N g dp) k (nI h) (nI w) (nI 0) (nI s) 0 (wS ξ r1 q1 (omx b (oAdd (V none) s))) = some (wS ξ r1 q1 (omx b (oAdd (V none) s))) := by
          intro k hk
          obtain ⟨k, rfl⟩ : ∃ k', k = k' + 1 := ⟨k - 1, by omega⟩
          show x0_waysFrom_78b N g (x0_waysFrom N g dp) (x0_waysFrom_78 N g (x0_waysFrom N g dp) k) (nI h) (nI w) (nI 0) (nI s) 0 _ = _
          unfold x0_waysFrom_78b
          split
          · rfl
          · rw [if_pos (show nI 0 ≤ 0 by decide)]
        rw [hstop N (by omega), ← hfA]
        have ef : fcP V A (foldV V A) = fcP V 0 (foldV V 0) := by
          unfold fcP
          rw [if_pos hfA.symm, if_pos (show V none = foldV V 0 from rfl)]
        have e0 : foldV V 0 = foldV V A := hfA.symm
        exact fin r1 q1 p1' p2 (fun z => by rw [ef]; exact inv0 (by rw [e0]; exact z)) (fun z => inv0' (by rw [e0]; exact z))
      · have loop : ∀ (m c k : Nat) (r2 q2 : Nat → Int32), m + c = A → m < k → (∀ i, i < h → r2 i = r i) → cByte 6 r2 → (imp b (foldV V c) s = true → ∀ i, i < H → q2 i = if i < h then r i else if i = h then optI (fcP V c (foldV V c)) (-1) else optI (byV A K Dd n (h + 1) (nxU u (fcP V c (foldV V c))) i) (-1)) → (imp b (foldV V c) s = false → ∀ i, i < H → q2 i = q i) → ∃ r3 q3, x0_waysFrom_78 N g (x0_waysFrom N g dp) k (nI h) (nI w) (nI x3) (nI s) (nI c) (wS ξ r2 q2 (omx b (oAdd (foldV V c) s))) = some (wS ξ r3 q3 (omx b (oAdd (foldV V A) s))) ∧ (∀ i, i < h → r3 i = r i) ∧ cByte 6 r3 ∧ (imp b (foldV V A) s = true → ∀ i, i < H → q3 i = if i < h then r i else if i = h then optI (fcP V A (foldV V A)) (-1) else optI (byV A K Dd n (h + 1) (nxU u (fcP V A (foldV V A))) i) (-1)) ∧ (imp b (foldV V A) s = false → ∀ i, i < H → q3 i = q i) := by
          intro m
          induction m with
          | zero =>
            intro c k r2 q2 hc hk z1 z2 z3 z4
            obtain ⟨k, rfl⟩ : ∃ k', k = k' + 1 := ⟨k - 1, by omega⟩
            obtain rfl : c = A := by omega
            refine ⟨r2, q2, ?_, z1, z2, z3, z4⟩
            show x0_waysFrom_78b N g (x0_waysFrom N g dp) (x0_waysFrom_78 N g (x0_waysFrom N g dp) k) (nI h) (nI w) (nI x3) (nI s) (nI c) _ = _
            unfold x0_waysFrom_78b
            rw [e4, if_pos (Int32.le_refl _)]
          | succ m ihm =>
            intro c k r2 q2 hc hk z1 z2 z3 z4
            obtain ⟨k, rfl⟩ : ∃ k', k = k' + 1 := ⟨k - 1, by omega⟩
            show ∃ r3 q3, x0_waysFrom_78b N g (x0_waysFrom N g dp) (x0_waysFrom_78 N g (x0_waysFrom N g dp) k) (nI h) (nI w) (nI x3) (nI s) (nI c) (wS ξ r2 q2 (omx b (oAdd (foldV V c) s))) = _ ∧ _
            unfold x0_waysFrom_78b x0_waysFrom_145
            have hc6 : c < 6 := by omega
            have hbc : ∀ z, omx b (oAdd (foldV V c) s) = some z → z ≤ 20000 := by
              refine bb hb (fun z hz => ?_)
              have : ∀ y, foldV V c = some y → y ≤ 1058 * (n + 1) := by
                refine fo_inv (fun x => ∀ y, x = some y → y ≤ 1058 * (n + 1)) _ _ _ _ (fun y hy => hob none (fun z hz => by cases hz) y hy) (fun c' x _ hc' hx y hy => ?_)
                have hv := hob (some c') (fun z hz => by cases hz; omega)
                have hy : omx x (V (some c')) = some y := hy
                cases x with
                | none => exact hv y hy
                | some a =>
                  have ha := hx a rfl
                  cases hvv : V (some c') with
                  | none => rw [hvv] at hy; cases hy; exact ha
                  | some d =>
                    have hd := hv d hvv
                    rw [hvv] at hy
                    have hy : some (max a d) = some y := hy
                    cases hy; omega
              have := this z hz
              omega
            have hassoc : omx (omx b (oAdd (foldV V c) s)) (oAdd (V (some c)) s) = omx b (oAdd (foldV V (c + 1)) s) := by rw [foldV_succ, omx_assoc3]
            rw [e4, if_neg (nI_ge (by omega) (by omega)), if_neg (show ¬ nI x3 ≤ 0 from nI_ge (a := 0) (by omega) (by omega))]
            simp only [d9 hw hc6]
            by_cases qb : w.testBit c = false
            · rw [if_pos qb, nx_ok, nI_1]
              have hub : u.testBit c = true := by
                have := hwb c hc6
                rw [qb, decide_eq_true (show c < A by omega)] at this
                cases hq : u.testBit c
                · rw [hq] at this; cases this
                · rfl
              have hvn : V (some c) = none := by rw [hVc, if_pos hub]
              have hfc : foldV V (c + 1) = foldV V c := by rw [foldV_succ, hvn, omx_none]
              have hni : imp (omx b (oAdd (foldV V c) s)) (V (some c)) s = false := by rw [hvn]; rfl
              rw [← hfc]
              refine ihm (c + 1) k r2 q2 (by omega) (by omega) z1 z2 (fun z => ?_) (fun z => z4 (by rw [← hfc]; exact z))
              obtain ⟨-, y2, y3⟩ := step2 hni z
              rw [y3]
              exact z3 y2
            · rw [if_neg qb]
              have qb' : w.testBit c = true := by cases hq : w.testBit c; exact absurd hq qb; rfl
              have hub : u.testBit c = false := by
                have := hwb c hc6
                rw [qb', decide_eq_true (show c < A by omega)] at this
                cases hq : u.testBit c
                · rfl
                · rw [hq] at this; cases this
              obtain ⟨v1, v2⟩ := d3 hw hc6 qb'
              have hv : V (some c) = oAdd (byB A K Dd n (h + 1) (u ||| 2 ^ c)) (Dd c h) := by rw [hVc, if_neg (by rw [hub]; simp)]
              obtain ⟨w1, w2⟩ := hD c h (by omega) (by omega)
              have e21 : xR (wS ξ (upd r2 h (nI c)) q2 (omx b (oAdd (foldV V c) s))) 21 (6 * c + h) = nI (Dd c h) := w1
              rw [if_pos (in6 (by omega)), cl6 (by omega), i8N (by omega), narN (by omega), wS_22, nx_ok, ix36, if_pos (inN (by omega) (show 6 * c + h < 36 by omega)), nI_clamp (by omega), e21, v1, nI_1, nI_plus, show nI x3 - 1 = nI (x3 - 1) by rw [show x3 = (x3 - 1) + 1 by omega, nI_pred]; rfl]
              have hr2 : cByte 6 (upd r2 h (nI c)) := cByte_upd z2 (fitN (by omega))
              obtain ⟨r3, q3', e3, y1, y2, y3, y4⟩ := ih (h + 1) (u ||| 2 ^ c) (w ^^^ 2 ^ c) (x3 - 1) (s + Dd c h) dp (upd r2 h (nI c)) q2 (omx b (oAdd (foldV V c) s)) (by omega) (by omega) (d2 hu hc6).2 (by omega) (fun c' hc' => by
                rw [dB2 hw hc6 hc' qb', dB1 hu hc6 hc', hwb c' hc']
                cases u.testBit c' <;> cases decide (c' < A) <;> cases decide (c' = c) <;> rfl) (by rw [dA2 hu hc6 hub]; omega) (by omega) hr2 hbc
              rw [e3, bnv_ok, nx_ok, nI_1, ← oAdd_add, ← hv, hassoc]
              rw [← imp_add, ← hv] at y3 y4
              have t1 : ∀ i, i < h → r3 i = r i := fun i hi => by rw [y1 i (by omega), upd_at, if_neg (by omega)]; exact z1 i hi
              refine ihm (c + 1) k r3 q3' (by omega) (by omega) t1 y2 (fun z i hi => ?_) (fun z i hi => ?_)
              · by_cases qi : imp (omx b (oAdd (foldV V c) s)) (V (some c)) s = true
                · obtain ⟨-, k2, -⟩ := step1 qi
                  rw [k2, y3 qi i hi]
                  by_cases a1 : i < h
                  · rw [if_pos (by omega), if_pos a1, upd_at, if_neg (by omega)]; exact z1 i a1
                  · rw [if_neg a1]
                    by_cases a2 : i = h
                    · rw [if_pos (by omega), if_pos a2, a2, upd_at, if_pos rfl]; rfl
                    · rw [if_neg (by omega), if_neg a2]; rfl
                · have qi' := eq_false_of_ne_true qi
                  obtain ⟨-, k2, k3⟩ := step2 qi' z
                  rw [k3, y4 qi' i hi]
                  exact z3 k2 i hi
              · by_cases qi : imp (omx b (oAdd (foldV V c) s)) (V (some c)) s = true
                · have := (step1 qi).2.2
                  rw [z] at this; cases this
                · have qi' := eq_false_of_ne_true qi
                  rw [y4 qi' i hi]
                  refine z4 ?_ i hi
                  cases hx : imp b (foldV V c) s
                  · rfl
                  · exfalso
                    obtain ⟨v, hv9⟩ : ∃ v, foldV V c = some v := by
                      cases hf : foldV V c with
                      | none => rw [hf] at hx; cases hx
                      | some v => exact ⟨v, rfl⟩
                    obtain ⟨v', hv', hle⟩ := leO_omxL (foldV V c) (V (some c)) v hv9
                    rw [← foldV_succ] at hv'
                    rw [hv'] at z
                    rw [hv9] at hx
                    cases b with
                    | none => cases z
                    | some b9 =>
                      have z : decide (b9 < s + v') = false := z
                      have hx : decide (b9 < s + v) = true := hx
                      have := of_decide_eq_true hx
                      have := of_decide_eq_false z
                      omega
        obtain ⟨r3, q4, e3, f1, f2, f3, f4⟩ := loop A 0 N r1 q1 (by omega) (by omega) p1' p2 inv0 inv0'
        have e3' : x0_waysFrom_78 N g (x0_waysFrom N g dp) N (nI h) (nI w) (nI x3) (nI s) 0 (wS ξ r1 q1 (omx b (oAdd (V none) s))) = _ := e3
        rw [e3']
        exact fin r3 q4 f1 f2 f3 f4
    · have eB : byB A K Dd (n + 1) h u = none := byB_none1 lA (n + 1) h u hu (by omega)
      rw [if_neg (nI_ge (by omega) (by omega)), eB]
      exact ⟨r, q, by rw [show oAdd none s = none from rfl, omx_none], fun _ _ => rfl, hr, fun z => absurd z (by cases b <;> simp [imp]), fun _ _ _ => rfl⟩
