/-! PURE: who -/
set_option maxRecDepth 100000
def anN (p : Nat → Bool) : Nat → Nat → Bool
  | 0, _ => false
  | n + 1, b => p b || anN p n (b + 1)
def snM (σ : MS) (S a : Nat) : Bool := anN (fun k => decide (gR σ 44 k = nI a)) S 0
def woN (σ : MS) (S a : Nat) (n b x : Nat) : Nat := fo (fun h x => if seenB σ a h S 0 = true then x ||| 2 ^ h else x) n b x
theorem woreS_N (σ : MS) (S a : Nat) : ∀ (n b x : Nat), n + b ≤ 6 → x < 64 → woreS σ S a n b (nI x) = nI (woN σ S a n b x) ∧ woN σ S a n b x < 64 := by
  intro n
  induction n with
  | zero => intro b x _ hx; exact ⟨rfl, hx⟩
  | succ n ih =>
    intro b x hb hx
    rw [woreS_succ]
    have e : woN σ S a (n + 1) b x = woN σ S a n (b + 1) (if seenB σ a b S 0 = true then x ||| 2 ^ b else x) := rfl
    rw [e]
    obtain ⟨z1, z2⟩ := d2 hx (show b < 6 by omega)
    split
    · rw [z1]; exact ih (b + 1) _ (by omega) z2
    · exact ih (b + 1) x (by omega) hx
theorem x0_isSeen_eq {N : Nat} (hN : 1000 ≤ N) {g : XG} {ξ : XS} {σ : MS} {S a : Nat} (eS : xF ξ 18 = nI S) (lS : S ≤ 6) (e14 : eqN 6 (xR ξ 14) (gR σ 44)) : x0_isSeen N g (nI a) ξ = some (b2i (snM σ S a), ξ) := by
  have key : ∀ (n c k : Nat), n + c = S → n < k → x0_isSeen_2 N g k (nI a) (nI c) ξ = some (b2i (anN (fun k => decide (gR σ 44 k = nI a)) n c), ξ) := by
    intro n
    induction n with
    | zero =>
      intro c k hc hk
      obtain ⟨k, rfl⟩ : ∃ k', k = k' + 1 := ⟨k - 1, by omega⟩
      show x0_isSeen_2b N g (x0_isSeen_2 N g k) (nI a) (nI c) ξ = _
      unfold x0_isSeen_2b
      rw [eS, if_pos (nI_le (by omega) (by omega))]
      rfl
    | succ n ih =>
      intro c k hc hk
      obtain ⟨k, rfl⟩ : ∃ k', k = k' + 1 := ⟨k - 1, by omega⟩
      show x0_isSeen_2b N g (x0_isSeen_2 N g k) (nI a) (nI c) ξ = _
      unfold x0_isSeen_2b
      simp only [eS, nI_ge (show c < S by omega) (show S < 2 ^ 31 by omega), if_false, in6 (show c < 6 by omega), cl6 (show c < 6 by omega), if_true, e14 c (by omega), nx_ok, nI_1, ih (c + 1) k (by omega) (by omega), anN]
      by_cases q : gR σ 44 c = nI a
      · simp [q, b2i]
      · simp [q]
  unfold x0_isSeen
  exact key S 0 N (by omega) (by omega)
theorem x0_ways_eq {N : Nat} (hN : 1000 ≤ N) {g : XG} {ξ : XS} {σ : MS} {A H S : Nat} (lA : A ≤ 6) (lH : H ≤ 6) (eA : xF ξ 4 = nI A) (eH : xF ξ 202 = nI H) (eS : xF ξ 18 = nI S) (lS : S ≤ 6) (e14 : eqN 6 (xR ξ 14) (gR σ 44)) (e15 : eqN 6 (xR ξ 15) (gR σ 45)) (hf : ∀ a h, a < A → h < H → xR ξ 21 (6 * a + h) = deedM σ a h) : ∀ (n a u dp : Nat), n + a = A → n < dp → u < 64 → x0_waysSeen N g dp (nI a) (nI u) ξ = some (wy (snM σ S) (fun a => woN σ S a H 0 0) H n a u, ξ) := by
  intro n
  induction n with
  | zero =>
    intro a u dp ha hdp hu
    obtain ⟨dp, rfl⟩ : ∃ k, dp = k + 1 := ⟨dp - 1, by omega⟩
    show x0_waysSeen_s N g (x0_waysSeen N g dp) (nI a) (nI u) ξ = _
    unfold x0_waysSeen_s
    rw [eA, if_pos (by rw [show a = A by omega])]
    rfl
  | succ n ih =>
    intro a u dp ha hdp hu
    obtain ⟨dp, rfl⟩ : ∃ k, dp = k + 1 := ⟨dp - 1, by omega⟩
    show x0_waysSeen_s N g (x0_waysSeen N g dp) (nI a) (nI u) ξ = _
    unfold x0_waysSeen_s
    have hne : ¬ nI a = nI A := fun z => by have := nI_inj (by omega) (by omega) z; omega
    rw [eA, if_neg hne, x0_isSeen_eq hN eS lS e14, bnd_ok]
    simp only [b2i0, nI_1]
    have ew : wy (snM σ S) (fun a => woN σ S a H 0 0) H (n + 1) a u = if snM σ S a = true then fo (fun h x => if ((woN σ S a H 0 0).testBit h && !u.testBit h) = true then x + wy (snM σ S) (fun a => woN σ S a H 0 0) H n (a + 1) (u ||| 2 ^ h) else x) H 0 0 else wy (snM σ S) (fun a => woN σ S a H 0 0) H n (a + 1) u := rfl
    rw [ew]
    cases hs : snM σ S a
    · rw [if_pos rfl, if_neg (by simp), ih (a + 1) u dp (by omega) (by omega) hu, bnd_ok]
    · rw [if_neg (by simp), if_pos rfl, x0_woreOf_eq hN lA lH eH eS lS e14 e15 hf (show a < A by omega), bnd_ok]
      obtain ⟨w1, w2⟩ := woreS_N σ S a H 0 0 (by omega) (by omega)
      rw [show (0 : Int32) = nI 0 from rfl, w1]
      generalize woN σ S a H 0 0 = w at *
      obtain ⟨x1, x2⟩ := d4 w2 hu
      simp only [nx_ok, x1]
      have key : ∀ (m h k : Nat) (x : Int32), m + h = H → m < k → x0_waysSeen_43 N g (x0_waysSeen N g dp) k (nI a) (nI u) (nI (w &&& (63 ^^^ u))) x (nI h) ξ = some (fo (fun h x => if (w.testBit h && !u.testBit h) = true then x + wy (snM σ S) (fun a => woN σ S a H 0 0) H n (a + 1) (u ||| 2 ^ h) else x) m h x, ξ) := by
        intro m
        induction m with
        | zero =>
          intro h k x hh hk
          obtain ⟨k, rfl⟩ : ∃ k', k = k' + 1 := ⟨k - 1, by omega⟩
          show x0_waysSeen_43b N g (x0_waysSeen N g dp) (x0_waysSeen_43 N g (x0_waysSeen N g dp) k) (nI a) (nI u) (nI (w &&& (63 ^^^ u))) x (nI h) ξ = _
          unfold x0_waysSeen_43b
          rw [eH, if_pos (nI_le (by omega) (by omega))]
          rfl
        | succ m ihm =>
          intro h k x hh hk
          obtain ⟨k, rfl⟩ : ∃ k', k = k' + 1 := ⟨k - 1, by omega⟩
          show x0_waysSeen_43b N g (x0_waysSeen N g dp) (x0_waysSeen_43 N g (x0_waysSeen N g dp) k) (nI a) (nI u) (nI (w &&& (63 ^^^ u))) x (nI h) ξ = _
          unfold x0_waysSeen_43b
          obtain ⟨v1, v2⟩ := d2 hu (show h < 6 by omega)
          simp only [eH, nI_ge (show h < H by omega) (show H < 2 ^ 31 by omega), if_false, d1 x2 (show h < 6 by omega), d5 (w := w) (u := u) (show h < 6 by omega), v1, nI_1, ih (a + 1) (u ||| 2 ^ h) dp (by omega) (by omega) v2, bnd_ok, nx_ok, x0_waysSeen_83, ihm (h + 1) k _ (by omega) (by omega)]
          have es : ∀ (f : Nat → Int32 → Int32), fo f (m + 1) h x = fo f m (h + 1) (f h x) := fun _ => rfl
          rw [es]
          split <;> rfl
      exact key H 0 N 0 (by omega) (by omega)
theorem sR_46 (σ : MS) (d p : Nat → Int32) (i : Nat) (v : Int32) : sR (sP (sRw σ 46 d) p) 46 i v = sP (sRw σ 46 (upd d i v)) p := by
  unfold sR sP sRw
  congr 2
  funext k
  simp only [va_up_at]
  by_cases e : k = 46
  · subst e; simp
  · simp [e]
theorem gR_46 (σ : MS) (d p : Nat → Int32) : gR (sP (sRw σ 46 d) p) 46 = d := rfl
theorem woreS_46 (σ : MS) (d : Nat → Int32) (S a n b : Nat) (x : Int32) : woreS (sRw σ 46 d) S a n b x = woreS σ S a n b x := rfl
theorem m_who_105_eq {N : Nat} {σ : MS} {H : Nat} (lH : H ≤ 6) (eH : gF σ 0 = nI H) (rec31 : Int32 → MS → Option (Int32 × MS)) (rec94 : Int32 → Int32 → Int32 → MS → Option (Int32 × MS)) {a w m : Nat} (hw : w < 64) (hm : m < 64) (d p : Nat → Int32) : ∀ (n h k : Nat) (x : Int32), n + h = H → n < k → m_who_105 N rec31 rec94 k (nI a) (nI w) (nI m) x (nI h) (sP (sRw σ 46 d) p) = rec94 (nI a) (nI w) (nI m + -1) (sP (sRw σ 46 (upd d m (fo (fun h x => if (m.testBit h && w.testBit h) = true then x + d (m ^^^ 2 ^ h) else x) n h x))) p) := by
  intro n
  induction n with
  | zero =>
    intro h k x hh hk
    obtain ⟨k, rfl⟩ : ∃ k', k = k' + 1 := ⟨k - 1, by omega⟩
    show m_who_105b N rec31 rec94 (m_who_105 N rec31 rec94 k) (nI a) (nI w) (nI m) x (nI h) _ = _
    unfold m_who_105b
    rw [gF_sP, gF_sRw, eH, if_pos (nI_le (by omega) (by omega)), if_pos (inN (by omega) hm), nI_clamp (by omega), nx_ok, nx_ok, sR_46]
    rfl
  | succ n ih =>
    intro h k x hh hk
    obtain ⟨k, rfl⟩ : ∃ k', k = k' + 1 := ⟨k - 1, by omega⟩
    show m_who_105b N rec31 rec94 (m_who_105 N rec31 rec94 k) (nI a) (nI w) (nI m) x (nI h) _ = _
    unfold m_who_105b
    have hh6 : h < 6 := by omega
    have es : ∀ (f : Nat → Int32 → Int32), fo f (n + 1) h x = fo f n (h + 1) (f h x) := fun _ => rfl
    rw [es]
    simp only [gF_sP, gF_sRw, eH, nI_ge (show h < H by omega) (show H < 2 ^ 31 by omega), if_false, m_has_eq, bnd_ok, b0, d1 hm hh6, d1 hw hh6, m_who_154, m_who_155, nx_ok, nI_1, Int32.add_zero, gR_46]
    by_cases q1 : m.testBit h = true
    · obtain ⟨z1, z2⟩ := d3 hm hh6 q1
      by_cases q2 : w.testBit h = true
      · simp only [q1, q2, not_true, if_false, z1, inN (show 64 < 2 ^ 31 by omega) (show m ^^^ 2 ^ h < 64 by omega), if_true, nI_clamp (show m ^^^ 2 ^ h < 2 ^ 31 by omega), Bool.and_self]
        exact ih (h + 1) k _ (by omega) (by omega)
      · have q2' := eq_false_of_ne_true q2
        simp only [q1, q2', Bool.and_false, Bool.false_eq_true, not_true, not_false_iff, if_false, if_true]
        exact ih (h + 1) k x (by omega) (by omega)
    · have q1' := eq_false_of_ne_true q1
      simp only [q1', Bool.false_and, Bool.false_eq_true, not_false_iff, if_false, if_true]
      exact ih (h + 1) k x (by omega) (by omega)
def yN (c : Nat) : Int32 := if c = 0 then -1 else nI (c - 1)
theorem yN_m (m : Nat) : nI m + -1 = yN m := by
  unfold yN
  cases m with
  | zero => rfl
  | succ m => rw [if_neg (by omega)]; exact nIm1 m
theorem m_who_94_eq {N : Nat} (hN : 1000 ≤ N) {σ : MS} {H : Nat} (lH : H ≤ 6) (eH : gF σ 0 = nI H) (rec31 : Int32 → MS → Option (Int32 × MS)) {a w : Nat} (hw : w < 64) (d p : Nat → Int32) : ∀ (c k : Nat) (e : Nat → Int32), c ≤ 64 → c < k → (∀ j, j < c → e j = d j) → (∀ j, c ≤ j → j < 64 → e j = stepD w H d j) → ∃ e', m_who_94 N rec31 k (nI a) (nI w) (yN c) (sP (sRw σ 46 e) p) = rec31 (nI (a + 1)) (sP (sRw σ 46 e') p) ∧ ∀ j, j < 64 → e' j = stepD w H d j := by
  intro c
  induction c with
  | zero =>
    intro k e _ hk h1 h2
    obtain ⟨k, rfl⟩ : ∃ k', k = k' + 1 := ⟨k - 1, by omega⟩
    refine ⟨e, ?_, fun j hj => h2 j (by omega) hj⟩
    show m_who_94b N rec31 (m_who_94 N rec31 k) (nI a) (nI w) (-1) _ = _
    unfold m_who_94b m_who_179
    rw [if_pos (by decide), nx_ok, nI_1]
  | succ c ih =>
    intro k e hc hk h1 h2
    obtain ⟨k, rfl⟩ : ∃ k', k = k' + 1 := ⟨k - 1, by omega⟩
    show ∃ e', m_who_94b N rec31 (m_who_94 N rec31 k) (nI a) (nI w) (yN (c + 1)) (sP (sRw σ 46 e) p) = _ ∧ _
    have ey : yN (c + 1) = nI c := by unfold yN; rw [if_neg (by omega), show c + 1 - 1 = c by omega]
    rw [ey]
    unfold m_who_94b
    rw [if_neg (nI_pos (by omega)), nx_ok, nx_ok]
    have := m_who_105_eq (N := N) lH eH rec31 (m_who_94 N rec31 k) (a := a) hw (show c < 64 by omega) e p H 0 N 0 (by omega) (by omega)
    rw [show (0 : Int32) = nI 0 from rfl] at this ⊢
    rw [this, yN_m]
    refine ih k _ (by omega) (by omega) (fun j hj => ?_) (fun j hj hj2 => ?_)
    · rw [upd_at, if_neg (by omega)]; exact h1 j (by omega)
    · rw [upd_at]
      by_cases ej : j = c
      · subst ej
        rw [if_pos rfl]
        -- only smaller sets are read
        unfold stepD
        have hcong : ∀ (n b : Nat) (x : Int32), n + b ≤ 6 → fo (fun h x => if (j.testBit h && w.testBit h) = true then x + e (j ^^^ 2 ^ h) else x) n b x = fo (fun h x => if (j.testBit h && w.testBit h) = true then x + d (j ^^^ 2 ^ h) else x) n b x := by
          intro n
          induction n with
          | zero => intro b x _; rfl
          | succ n ihn =>
            intro b x hb
            have hst : (if (j.testBit b && w.testBit b) = true then x + e (j ^^^ 2 ^ b) else x) = (if (j.testBit b && w.testBit b) = true then x + d (j ^^^ 2 ^ b) else x) := by
              by_cases hq : j.testBit b = true
              · rw [h1 (j ^^^ 2 ^ b) (Nat.lt_succ_of_lt (d3 (show j < 64 by omega) (show b < 6 by omega) hq).2)]
              · simp [hq]
            have ea : ∀ (f : Nat → Int32 → Int32), fo f (n + 1) b x = fo f n (b + 1) (f b x) := fun _ => rfl
            rw [ea, ea, ihn (b + 1) _ (by omega), hst]
        exact hcong H 0 _ (by omega)
      · rw [if_neg ej]; exact h2 j (by omega) hj2
theorem m_who_43_eq {N : Nat} {σ : MS} {S : Nat} (lS : S ≤ 6) (eS : gF σ 43 = nI S) (rec31 : Int32 → MS → Option (Int32 × MS)) {a : Nat} (d p : Nat → Int32) : ∀ (n c k : Nat) (z : Bool), n + c = S → n < k → m_who_43 N rec31 k (nI a) (b2i z) (nI c) (sP (sRw σ 46 d) p) = if (z || anN (fun k => decide (gR σ 44 k = nI a)) n c) = true then (bnd (m_woreOn N (nI a) (sP (sRw σ 46 d) p)) fun v s => m_who_94 N rec31 N (nI a) v 63 s) else rec31 (nI (a + 1)) (sP (sRw σ 46 d) p) := by
  intro n
  induction n with
  | zero =>
    intro c k z hc hk
    obtain ⟨k, rfl⟩ : ∃ k', k = k' + 1 := ⟨k - 1, by omega⟩
    show m_who_43b N rec31 (m_who_43 N rec31 k) (nI a) (b2i z) (nI c) _ = _
    unfold m_who_43b m_who_179
    rw [gF_sP, gF_sRw, eS, if_pos (nI_le (by omega) (by omega))]
    simp only [b2i0, nx_ok, nI_1, anN, Bool.or_false]
    cases z <;> simp
  | succ n ih =>
    intro c k z hc hk
    obtain ⟨k, rfl⟩ : ∃ k', k = k' + 1 := ⟨k - 1, by omega⟩
    show m_who_43b N rec31 (m_who_43 N rec31 k) (nI a) (b2i z) (nI c) _ = _
    unfold m_who_43b
    have h1 := ih (c + 1) k true (by omega) (by omega)
    have h0 := ih (c + 1) k false (by omega) (by omega)
    rw [show b2i true = 1 from rfl] at h1
    rw [show b2i false = 0 from rfl] at h0
    simp only [gF_sP, gF_sRw, eS, nI_ge (show c < S by omega) (show S < 2 ^ 31 by omega), if_false, b2i0, in6 (show c < 6 by omega), cl6 (show c < 6 by omega), if_true, m_who_65, m_who_70, nx_ok, nI_1, h1, h0, anN, show gR (sP (sRw σ 46 d) p) 44 = gR σ 44 from rfl]
    cases z
    · by_cases q : gR σ 44 c = nI a
      · simp [q]
      · simp [q]
    · simp
theorem m_who_189_eq {N : Nat} (σ : MS) : ∀ (n b k : Nat) (x : Int32), n + b = 64 → n < k → m_who_189 N k x (nI b) σ = some (fo (fun m x => x + gR σ 46 m) n b x, σ) := by
  intro n
  induction n with
  | zero =>
    intro b k x hb hk
    obtain ⟨k, rfl⟩ : ∃ k', k = k' + 1 := ⟨k - 1, by omega⟩
    show m_who_189b N (m_who_189 N k) x (nI b) σ = _
    unfold m_who_189b
    rw [if_pos (show (64 : Int32) ≤ nI b from nI_le (a := 64) (by omega) (by omega))]
    rfl
  | succ n ih =>
    intro b k x hb hk
    obtain ⟨k, rfl⟩ : ∃ k', k = k' + 1 := ⟨k - 1, by omega⟩
    show m_who_189b N (m_who_189 N k) x (nI b) σ = _
    unfold m_who_189b
    have h9 : ¬ (64 : Int32) ≤ nI b := nI_ge (b := 64) (by omega) (by omega)
    simp only [h9, if_false, inN (show 64 < 2 ^ 31 by omega) (show b < 64 by omega), if_true, nI_clamp (show b < 2 ^ 31 by omega), nx_ok, nI_1]
    exact ih (b + 1) k _ (by omega) (by omega)
theorem fo_sum1 (t : Nat → Int32) : ∀ (n b : Nat) (x : Int32), fo (fun h x => x + t h) n b x = x + sumL (List.range' b n) t := by
  intro n
  induction n with
  | zero => intro b x; exact (Int32.add_zero x).symm
  | succ n ih =>
    intro b x
    rw [List.range'_succ, sumL_cons]
    show fo _ n (b + 1) (x + t b) = _
    rw [ih, Int32.add_assoc]
theorem tot_end (sn : Nat → Bool) (W : Nat → Nat) (H a : Nat) (d : Nat → Int32) : totD d (wy sn W H 0 a) = nI 0 + sumL (List.range' 0 64) d := by
  unfold totD
  rw [List.range_eq_range', show nI 0 = (0 : Int32) from rfl, Int32.zero_add]
  apply sumL_congr
  intro m _
  show d m * 1 = d m
  exact Int32.mul_one _
theorem m_who_31_eq {N : Nat} (hN : 1000 ≤ N) {g : XG} {ξ : XS} {σ : MS} {A H D T wk S : Nat} {hq hr : Nat → Nat} (hT : Tp g 0 ξ σ A H D T wk hq hr) (eA : gF σ 1 = nI A) (eS : gF σ 43 = nI S) (lS : S ≤ 6) : ∀ (n a k : Nat) (d p : Nat → Int32), n + a = A → n < k → ∃ d' p', m_who_31 N k (nI a) (sP (sRw σ 46 d) p) = some (totD d (wy (snM σ S) (fun a => woN σ S a H 0 0) H n a), sP (sRw σ 46 d') p') := by
  have lA : A ≤ 6 := hT.1.1
  have lH : H ≤ 6 := hT.1.2.1
  have eH : gF σ 0 = nI H := hT.2.1
  intro n
  induction n with
  | zero =>
    intro a k d p ha hk
    obtain ⟨k, rfl⟩ : ∃ k', k = k' + 1 := ⟨k - 1, by omega⟩
    refine ⟨d, p, ?_⟩
    show m_who_31b N (m_who_31 N k) (nI a) _ = _
    unfold m_who_31b
    rw [gF_sP, gF_sRw, eA, if_pos (nI_le (by omega) (by omega)), nx_ok, nx_ok]
    have := m_who_189_eq (N := N) (sP (sRw σ 46 d) p) 64 0 N 0 (by omega) (by omega)
    rw [show (0 : Int32) = nI 0 from rfl] at this ⊢
    rw [this, gR_46, fo_sum1 d, tot_end]
  | succ n ih =>
    intro a k d p ha hk
    obtain ⟨k, rfl⟩ : ∃ k', k = k' + 1 := ⟨k - 1, by omega⟩
    show ∃ d' p', m_who_31b N (m_who_31 N k) (nI a) (sP (sRw σ 46 d) p) = _
    unfold m_who_31b
    rw [gF_sP, gF_sRw, eA, if_neg (nI_ge (by omega) (by omega)), nx_ok, nx_ok]
    have h43 := m_who_43_eq (N := N) lS eS (m_who_31 N k) (a := a) d p S 0 N false (by omega) (by omega)
    rw [show b2i false = (0 : Int32) from rfl, show nI 0 = (0 : Int32) from rfl] at h43
    rw [h43, Bool.false_or]
    cases hs : snM σ S a
    · have hs' : anN (fun k => decide (gR σ 44 k = nI a)) S 0 = false := hs
      rw [hs', if_neg (by simp)]
      rw [← tot_skip (snM σ S) (fun a => woN σ S a H 0 0) H d n a hs]
      exact ih (a + 1) k d p (by omega) (by omega)
    · have hs' : anN (fun k => decide (gR σ 44 k = nI a)) S 0 = true := hs
      rw [hs', if_pos rfl]
      have hT' : Tp g 0 ξ (sRw σ 46 d) A H D T wk hq hr := hT
      obtain ⟨p1, e1⟩ := m_woreOn_eq hN hT' eS lS (show a < A by omega) p
      rw [e1, bnd_ok, woreS_46]
      obtain ⟨w1, w2⟩ := woreS_N σ S a H 0 0 (by omega) (by omega)
      rw [show (0 : Int32) = nI 0 from rfl, w1]
      obtain ⟨e', x1, x2⟩ := m_who_94_eq (N := N) hN lH eH (m_who_31 N k) (a := a) w2 d p1 64 N d (by omega) (by omega) (fun j _ => rfl) (fun j h1 h2 => by omega)
      rw [show yN 64 = (63 : Int32) from rfl] at x1
      rw [x1]
      rw [← tot_step (snM σ S) (fun a => woN σ S a H 0 0) lH d n a hs]
      obtain ⟨d2, p2, y⟩ := ih (a + 1) k e' p1 (by omega) (by omega)
      refine ⟨d2, p2, ?_⟩
      have htt : totD e' (wy (snM σ S) (fun a => woN σ S a H 0 0) H n (a + 1)) = totD (stepD (woN σ S a H 0 0) H d) (wy (snM σ S) (fun a => woN σ S a H 0 0) H n (a + 1)) := by
        unfold totD
        apply sumL_congr
        intro m hm
        rw [x2 m (List.mem_range.mp hm)]
      rw [← htt]
      exact y
theorem m_who_2_eq {N : Nat} {σ : MS} : ∀ (n c k : Nat) (d : Nat → Int32), n + c = 64 → n < k → (∀ j, j < c → d j = if j = 0 then 1 else 0) → ∃ d', m_who_2 N k (nI c) (sP (sRw σ 46 d) (gR σ 32)) = m_who_31 N N 0 (sP (sRw σ 46 d') (gR σ 32)) ∧ ∀ j, j < 64 → d' j = if j = 0 then 1 else 0 := by
  intro n
  induction n with
  | zero =>
    intro c k d hc hk h
    obtain ⟨k, rfl⟩ : ∃ k', k = k' + 1 := ⟨k - 1, by omega⟩
    refine ⟨d, ?_, fun j hj => h j (by omega)⟩
    show m_who_2b N (m_who_2 N k) (nI c) _ = _
    unfold m_who_2b
    rw [if_pos (show (64 : Int32) ≤ nI c from nI_le (a := 64) (by omega) (by omega)), nx_ok]
  | succ n ih =>
    intro c k d hc hk h
    obtain ⟨k, rfl⟩ : ∃ k', k = k' + 1 := ⟨k - 1, by omega⟩
    show ∃ d', m_who_2b N (m_who_2 N k) (nI c) _ = _ ∧ _
    unfold m_who_2b m_who_22
    have h9 : ¬ (64 : Int32) ≤ nI c := nI_ge (b := 64) (by omega) (by omega)
    simp only [h9, if_false, nI_zero (show c < 2 ^ 31 by omega), inN (show 64 < 2 ^ 31 by omega) (show c < 64 by omega), if_true, nI_clamp (show c < 2 ^ 31 by omega), nx_ok, nI_1, sR_46]
    by_cases q : c = 0
    · simp only [q, if_true]
      subst q
      refine ih 1 k _ (by omega) (by omega) (fun j hj => ?_)
      rw [upd_at, if_pos (by omega), if_pos (by omega)]
    · simp only [q, if_false]
      refine ih (c + 1) k _ (by omega) (by omega) (fun j hj => ?_)
      rw [upd_at]
      by_cases e : j = c
      · rw [if_pos e, if_neg (by omega)]
      · rw [if_neg e]; exact h j (by omega)
theorem op_29 {N : Nat} (hN : 1000 ≤ N) (g : XG) : OP_29 N g (Cp g) := by
  intro ξ σ hC
  obtain ⟨A, H, D, T, wk, hq, hr, hT, eA, eA2, hby, hin, lD, hus⟩ := Cp_all hC
  obtain ⟨S, lS, eS, eS2, e14, e15⟩ := Cp_S hC
  have lA : A ≤ 6 := hT.1.1
  have lH : H ≤ 6 := hT.1.2.1
  have eH : xF ξ 202 = nI H := hT.2.2.1
  obtain ⟨f, ξ', e2, hl, hf⟩ := looks_eq hN hT eA
  have hx := x0_ways_eq (N := N) hN (g := g) (ξ := ξ') (σ := σ) lA lH (by rw [hl.1 4 (by omega)]; exact eA) (by rw [hl.1 202 (by omega)]; exact eH) (by rw [hl.1 18 (by omega)]; exact eS) lS (by rw [hl.2.1]; exact e14) (by rw [hl.2.1]; exact e15) (fun a h ha hh => by rw [hl.2.1]; exact hf a h ha hh) A 0 0 8 (by omega) (by omega) (by omega)
  obtain ⟨d0, m1, hd0⟩ := m_who_2_eq (N := N) (σ := σ) 64 0 N (gR σ 46) (by omega) (by omega) (fun j hj => by omega)
  rw [sRw_self, sP_self] at m1
  obtain ⟨d1, p1, m2⟩ := m_who_31_eq hN hT eA2 eS2 lS A 0 N d0 (gR σ 32) (by omega) (by omega)
  have ht : totD d0 (wy (snM σ S) (fun a => woN σ S a H 0 0) H A 0) = wy (snM σ S) (fun a => woN σ S a H 0 0) H A 0 0 := by
    unfold totD
    rw [show List.range 64 = 0 :: List.range' 1 63 by decide, sumL_cons, hd0 0 (by omega), if_pos rfl, Int32.one_mul]
    rw [sumL_congr (g := fun _ => 0) (fun m hm => ?_), sumL_zero, Int32.add_zero]
    have := List.mem_range'_1.mp hm
    rw [hd0 m (by omega), if_neg (by omega), Int32.zero_mul]
  unfold x0_who m_who
  rw [e2, bnv_ok, show (0 : Int32) = nI 0 from rfl, hx, bnd_ok, nx_ok]
  refine ⟨_, ξ', sP (sRw σ 46 d1) p1, rfl, ?_, Cp_keep hC (keepX_21 hl) ⟨fun _ _ => rfl, fun k hk => ?_, fun _ _ => rfl, fun _ _ => rfl, rfl⟩⟩
  · rw [m1, show (0 : Int32) = nI 0 from rfl, m2, ht]
  · rw [gR_sP, if_neg (kRm_32 hk), gR_sRw, if_neg (kRm_n hk rfl)]
