/-! PURE: sums; sets of heads as numbers -/
set_option maxRecDepth 100000
def sumL (l : List Nat) (f : Nat → Int32) : Int32 := l.foldr (fun m x => f m + x) 0
theorem sumL_nil (f : Nat → Int32) : sumL [] f = 0 := rfl
theorem sumL_cons (a : Nat) (l : List Nat) (f : Nat → Int32) : sumL (a :: l) f = f a + sumL l f := rfl
theorem sumL_congr {l : List Nat} {f g : Nat → Int32} (h : ∀ m ∈ l, f m = g m) : sumL l f = sumL l g := by
  induction l with
  | nil => rfl
  | cons a l ih => rw [sumL_cons, sumL_cons, h a (by simp), ih (fun m hm => h m (by simp [hm]))]
theorem sumL_perm {l l' : List Nat} (h : l.Perm l') (f : Nat → Int32) : sumL l f = sumL l' f := by
  induction h with
  | nil => rfl
  | cons a _ ih => rw [sumL_cons, sumL_cons, ih]
  | swap a b l => rw [sumL_cons, sumL_cons, sumL_cons, sumL_cons, ← Int32.add_assoc, ← Int32.add_assoc, Int32.add_comm (f b)]
  | trans _ _ ih1 ih2 => rw [ih1, ih2]
theorem sumL_map (l : List Nat) (φ : Nat → Nat) (f : Nat → Int32) : sumL (l.map φ) f = sumL l (fun m => f (φ m)) := by
  induction l with
  | nil => rfl
  | cons a l ih => rw [List.map_cons, sumL_cons, sumL_cons, ih]
theorem sumL_add (l : List Nat) (f g : Nat → Int32) : sumL l (fun m => f m + g m) = sumL l f + sumL l g := by
  induction l with
  | nil => rfl
  | cons a l ih =>
    rw [sumL_cons, sumL_cons, sumL_cons, ih]
    rw [Int32.add_assoc, Int32.add_assoc, ← Int32.add_assoc (g a), Int32.add_comm (g a), Int32.add_assoc]
theorem sumL_zero (l : List Nat) : sumL l (fun _ => 0) = 0 := by
  induction l with
  | nil => rfl
  | cons a l ih => rw [sumL_cons, ih]; rfl
theorem sumL_mulR (l : List Nat) (f : Nat → Int32) (c : Int32) : sumL l f * c = sumL l (fun m => f m * c) := by
  induction l with
  | nil => exact Int32.zero_mul
  | cons a l ih => rw [sumL_cons, sumL_cons, Int32.add_mul, ih]
theorem sumL_mulL (l : List Nat) (f : Nat → Int32) (c : Int32) : c * sumL l f = sumL l (fun m => c * f m) := by
  induction l with
  | nil => exact Int32.mul_zero
  | cons a l ih => rw [sumL_cons, sumL_cons, Int32.mul_add, ih]
theorem sumL_swap (l l' : List Nat) (f : Nat → Nat → Int32) : sumL l (fun m => sumL l' (fun h => f m h)) = sumL l' (fun h => sumL l (fun m => f m h)) := by
  induction l with
  | nil => rw [sumL_nil]; exact (sumL_zero l').symm
  | cons a l ih =>
    rw [sumL_cons, ih, ← sumL_add]
    rfl
theorem fo_sum (c : Nat → Bool) (t : Nat → Int32) : ∀ (n b : Nat) (x : Int32), fo (fun h x => if c h = true then x + t h else x) n b x = x + sumL (List.range' b n) (fun h => if c h = true then t h else 0) := by
  intro n
  induction n with
  | zero => intro b x; exact (Int32.add_zero x).symm
  | succ n ih =>
    intro b x
    rw [List.range'_succ, sumL_cons]
    show fo _ n (b + 1) (if c b = true then x + t b else x) = _
    rw [ih]
    split
    · rw [Int32.add_assoc]
    · rw [Int32.zero_add]
theorem d1 {u h : Nat} (hu : u < 64) (hh : h < 6) : ((nI u >>> (nI h &&& 31)) &&& 1 = 1) ↔ u.testBit h = true := by
  have h9 : ∀ (u : Fin 64) (h : Fin 6), ((nI u >>> (nI h &&& 31)) &&& 1 = 1) ↔ u.1.testBit h.1 = true := by decide +kernel
  exact h9 ⟨u, hu⟩ ⟨h, hh⟩
theorem d2 {u h : Nat} (hu : u < 64) (hh : h < 6) : nI u ||| ((1 : Int32) <<< (nI h &&& 31)) = nI (u ||| 2 ^ h) ∧ u ||| 2 ^ h < 64 := by
  have h9 : ∀ (u : Fin 64) (h : Fin 6), nI u ||| ((1 : Int32) <<< (nI h &&& 31)) = nI (u.1 ||| 2 ^ h.1) ∧ u.1 ||| 2 ^ h.1 < 64 := by decide +kernel
  exact h9 ⟨u, hu⟩ ⟨h, hh⟩
theorem d3 {u h : Nat} (hu : u < 64) (hh : h < 6) (hb : u.testBit h = true) : nI u &&& (((1 : Int32) <<< (nI h &&& 31)) ^^^ (-1)) = nI (u ^^^ 2 ^ h) ∧ u ^^^ 2 ^ h < u := by
  have h9 : ∀ (u : Fin 64) (h : Fin 6), u.1.testBit h.1 = true → nI u &&& (((1 : Int32) <<< (nI h &&& 31)) ^^^ (-1)) = nI (u.1 ^^^ 2 ^ h.1) ∧ u.1 ^^^ 2 ^ h.1 < u.1 := by decide +kernel
  exact h9 ⟨u, hu⟩ ⟨h, hh⟩ hb
theorem d4 {w u : Nat} (hw : w < 64) (hu : u < 64) : nI w &&& (nI u ^^^ (-1)) = nI (w &&& (63 ^^^ u)) ∧ w &&& (63 ^^^ u) < 64 := by
  have h9 : ∀ (w u : Fin 64), nI w &&& (nI u ^^^ (-1)) = nI (w.1 &&& (63 ^^^ u.1)) ∧ w.1 &&& (63 ^^^ u.1) < 64 := by decide +kernel
  exact h9 ⟨w, hw⟩ ⟨u, hu⟩
theorem d5 {w u h : Nat} (hh : h < 6) : (w &&& (63 ^^^ u)).testBit h = (w.testBit h && !u.testBit h) := by
  rw [Nat.testBit_and, Nat.testBit_xor]
  have : (63 : Nat).testBit h = true := by
    have h9 : ∀ h : Fin 6, (63 : Nat).testBit h.1 = true := by decide
    exact h9 ⟨h, hh⟩
  rw [this]
  simp
theorem d6 {u h : Nat} (hu : u < 64) (hh : h < 6) : (u ^^^ 2 ^ h).testBit h = !u.testBit h ∧ u ^^^ 2 ^ h < 64 ∧ (u ^^^ 2 ^ h) ^^^ 2 ^ h = u ∧ (u.testBit h = false → u ^^^ 2 ^ h = u ||| 2 ^ h) := by
  have h9 : ∀ (u : Fin 64) (h : Fin 6), (u.1 ^^^ 2 ^ h.1).testBit h.1 = !u.1.testBit h.1 ∧ u.1 ^^^ 2 ^ h.1 < 64 ∧ (u.1 ^^^ 2 ^ h.1) ^^^ 2 ^ h.1 = u.1 ∧ (u.1.testBit h.1 = false → u.1 ^^^ 2 ^ h.1 = u.1 ||| 2 ^ h.1) := by decide +kernel
  exact h9 ⟨u, hu⟩ ⟨h, hh⟩
theorem permX {h : Nat} (hh : h < 6) : (List.range 64).Perm ((List.range 64).map (fun m => m ^^^ 2 ^ h)) := by
  have h9 : ∀ h : Fin 6, (List.range 64).isPerm ((List.range 64).map (fun m => m ^^^ 2 ^ h.1)) = true := by decide +kernel
  exact List.isPerm_iff.mp (h9 ⟨h, hh⟩)
/-- in how many ways: hats from a on, heads u taken -/
def wy (sn : Nat → Bool) (W : Nat → Nat) (H : Nat) : Nat → Nat → Nat → Int32
  | 0, _, _ => 1
  | n + 1, a, u => if sn a = true then fo (fun h x => if ((W a).testBit h && !u.testBit h) = true then x + wy sn W H n (a + 1) (u ||| 2 ^ h) else x) H 0 0 else wy sn W H n (a + 1) u
/-- one hat more, by sets -/
def stepD (W : Nat) (H : Nat) (d : Nat → Int32) (m : Nat) : Int32 := fo (fun h x => if (m.testBit h && W.testBit h) = true then x + d (m ^^^ 2 ^ h) else x) H 0 0
def totD (d : Nat → Int32) (F : Nat → Int32) : Int32 := sumL (List.range 64) (fun m => d m * F m)
theorem ite_mul0 (c : Bool) (x y : Int32) : (if c = true then x else 0) * y = if c = true then x * y else 0 := by
  cases c
  · simp
  · simp
theorem mul_ite0 (c : Bool) (x y : Int32) : y * (if c = true then x else 0) = if c = true then y * x else 0 := by
  cases c
  · simp
  · simp
theorem tot_step (sn : Nat → Bool) (W : Nat → Nat) {H : Nat} (lH : H ≤ 6) (d : Nat → Int32) (n a : Nat) (hs : sn a = true) : totD (stepD (W a) H d) (wy sn W H n (a + 1)) = totD d (wy sn W H (n + 1) a) := by
  unfold totD
  have e1 : ∀ m, stepD (W a) H d m = sumL (List.range' 0 H) (fun h => if (m.testBit h && (W a).testBit h) = true then d (m ^^^ 2 ^ h) else 0) := by
    intro m
    unfold stepD
    rw [fo_sum (fun h => m.testBit h && (W a).testBit h) (fun h => d (m ^^^ 2 ^ h))]
    exact Int32.zero_add _
  have e2 : ∀ m, wy sn W H (n + 1) a m = sumL (List.range' 0 H) (fun h => if ((W a).testBit h && !m.testBit h) = true then wy sn W H n (a + 1) (m ||| 2 ^ h) else 0) := by
    intro m
    show (if sn a = true then _ else _) = _
    rw [if_pos hs, fo_sum (fun h => (W a).testBit h && !m.testBit h) (fun h => wy sn W H n (a + 1) (m ||| 2 ^ h))]
    exact Int32.zero_add _
  simp only [e1, e2, sumL_mulR, sumL_mulL, ite_mul0, mul_ite0]
  rw [sumL_swap, sumL_swap (List.range 64)]
  apply sumL_congr
  intro h hh
  have hh6 : h < 6 := by
    have := List.mem_range'_1.mp hh
    omega
  rw [sumL_perm (permX hh6), sumL_map]
  apply sumL_congr
  intro m hm
  have hm64 : m < 64 := List.mem_range.mp hm
  obtain ⟨z1, z2, z3, z4⟩ := d6 hm64 hh6
  rw [z1, z3]
  cases hb : m.testBit h
  · rw [z4 hb]
    cases (W a).testBit h <;> simp
  · cases (W a).testBit h <;> simp
theorem tot_skip (sn : Nat → Bool) (W : Nat → Nat) (H : Nat) (d : Nat → Int32) (n a : Nat) (hs : sn a = false) : totD d (wy sn W H n (a + 1)) = totD d (wy sn W H (n + 1) a) := by
  have : ∀ m, wy sn W H (n + 1) a m = wy sn W H n (a + 1) m := by
    intro m
    show (if sn a = true then _ else _) = _
    rw [hs]
    rfl
  unfold totD
  simp only [this]
