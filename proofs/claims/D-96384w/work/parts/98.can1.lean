/-! PURE: the most, by sets (plain) -/
set_option maxRecDepth 100000
def mxL (l : List Nat) (f : Nat → Nat) : Nat := l.foldr (fun m x => max (f m) x) 0
theorem mxL_cons (a : Nat) (l : List Nat) (f : Nat → Nat) : mxL (a :: l) f = max (f a) (mxL l f) := rfl
theorem mxL_congr {l : List Nat} {f g : Nat → Nat} (h : ∀ m ∈ l, f m = g m) : mxL l f = mxL l g := by
  induction l with
  | nil => rfl
  | cons a l ih => rw [mxL_cons, mxL_cons, h a (by simp), ih (fun m hm => h m (by simp [hm]))]
theorem mxL_perm {l l' : List Nat} (h : l.Perm l') (f : Nat → Nat) : mxL l f = mxL l' f := by
  induction h with
  | nil => rfl
  | cons a _ ih => rw [mxL_cons, mxL_cons, ih]
  | swap a b l => simp only [mxL_cons]; omega
  | trans _ _ ih1 ih2 => rw [ih1, ih2]
theorem mxL_map (l : List Nat) (φ : Nat → Nat) (f : Nat → Nat) : mxL (l.map φ) f = mxL l (fun m => f (φ m)) := by
  induction l with
  | nil => rfl
  | cons a l ih => rw [List.map_cons, mxL_cons, mxL_cons, ih]
theorem mxL_max (l : List Nat) (f g : Nat → Nat) : mxL l (fun m => max (f m) (g m)) = max (mxL l f) (mxL l g) := by
  induction l with
  | nil => rfl
  | cons a l ih => rw [mxL_cons, mxL_cons, mxL_cons, ih]; omega
theorem mxL_zero (l : List Nat) : mxL l (fun _ => 0) = 0 := by
  induction l with
  | nil => rfl
  | cons a l ih => rw [mxL_cons, ih]; rfl
theorem mxL_swap (l l' : List Nat) (f : Nat → Nat → Nat) : mxL l (fun m => mxL l' (fun h => f m h)) = mxL l' (fun h => mxL l (fun m => f m h)) := by
  induction l with
  | nil => exact (mxL_zero l').symm
  | cons a l ih =>
    rw [mxL_cons, ih, ← mxL_max]
    rfl
theorem mxL_le {l : List Nat} {f : Nat → Nat} {b : Nat} (h : ∀ m ∈ l, f m ≤ b) : mxL l f ≤ b := by
  induction l with
  | nil => exact Nat.zero_le b
  | cons a l ih =>
    rw [mxL_cons]
    have := h a (by simp)
    have := ih (fun m hm => h m (by simp [hm]))
    omega
def oF (o : Option Nat) (y : Nat) : Nat := match o with | none => 0 | some x => x + y
def omx (a b : Option Nat) : Option Nat := match a, b with | none, b => b | a, none => a | some x, some y => some (max x y)
theorem oF_omx (a b : Option Nat) (y : Nat) : oF (omx a b) y = max (oF a y) (oF b y) := by
  cases a <;> cases b <;> simp only [oF, omx] <;> omega
theorem oF_max (o : Option Nat) (a b : Nat) : oF o (max a b) = max (oF o a) (oF o b) := by
  cases o <;> simp only [oF] <;> omega
def oAdd (o : Option Nat) (d : Nat) : Option Nat := match o with | none => none | some x => some (x + d)
theorem oF_add (o : Option Nat) (d y : Nat) : oF (oAdd o d) y = oF o (d + y) := by
  cases o <;> simp only [oF, oAdd] <;> omega
/-- one hat more of the trade: d by sets, D the deeds -/
def stM (D : Nat → Nat) (H : Nat) (d : Nat → Option Nat) (m : Nat) : Option Nat := fo (fun h x => if m.testBit h = true then omx x (oAdd (d (m ^^^ 2 ^ h)) (D h)) else x) H 0 (d m)
/-- the best from here: F the best behind -/
def mfS (D : Nat → Nat) (H : Nat) (F : Nat → Nat) (u : Nat) : Nat := fo (fun h v => if u.testBit h = false then max v (D h + F (u ||| 2 ^ h)) else v) H 0 (F u)
theorem fo_omx (c : Nat → Bool) (t : Nat → Option Nat) (y : Nat) : ∀ (n b : Nat) (x : Option Nat), oF (fo (fun h x => if c h = true then omx x (t h) else x) n b x) y = max (oF x y) (mxL (List.range' b n) (fun h => if c h = true then oF (t h) y else 0)) := by
  intro n
  induction n with
  | zero => intro b x; show oF x y = max (oF x y) 0; omega
  | succ n ih =>
    intro b x
    rw [List.range'_succ, mxL_cons]
    show oF (fo _ n (b + 1) (if c b = true then omx x (t b) else x)) y = _
    rw [ih]
    by_cases q : c b = true
    · rw [if_pos q, if_pos q, oF_omx]; omega
    · rw [if_neg q, if_neg q]; omega
theorem fo_max (c : Nat → Bool) (t : Nat → Nat) : ∀ (n b x : Nat), fo (fun h v => if c h = true then max v (t h) else v) n b x = max x (mxL (List.range' b n) (fun h => if c h = true then t h else 0)) := by
  intro n
  induction n with
  | zero => intro b x; show x = max x 0; omega
  | succ n ih =>
    intro b x
    rw [List.range'_succ, mxL_cons]
    show fo _ n (b + 1) (if c b = true then max x (t b) else x) = _
    rw [ih]
    by_cases q : c b = true
    · rw [if_pos q, if_pos q]; omega
    · rw [if_neg q, if_neg q]; omega
theorem oF_mxL (o : Option Nat) (x : Nat) (l : List Nat) (f : Nat → Nat) : oF o (max x (mxL l f)) = max (oF o x) (mxL l (fun h => match o with | none => 0 | some z => if f h = 0 then 0 else z + f h)) := by
  cases o with
  | none =>
    simp only [oF]
    rw [mxL_zero]
    rfl
  | some z =>
    simp only [oF]
    induction l with
    | nil => show z + max x 0 = max (z + x) 0; omega
    | cons a l ih =>
      rw [mxL_cons, mxL_cons]
      by_cases q : f a = 0
      · rw [if_pos q, q]; omega
      · rw [if_neg q]; omega
def totM (d : Nat → Option Nat) (F : Nat → Nat) : Nat := mxL (List.range 64) (fun m => oF (d m) (F m))
theorem totM_step (D : Nat → Nat) {H : Nat} (lH : H ≤ 6) (d : Nat → Option Nat) (F : Nat → Nat) : totM (stM D H d) F = totM d (mfS D H F) := by
  unfold totM
  have e1 : ∀ m, oF (stM D H d m) (F m) = max (oF (d m) (F m)) (mxL (List.range' 0 H) (fun h => if m.testBit h = true then oF (d (m ^^^ 2 ^ h)) (D h + F m) else 0)) := by
    intro m
    unfold stM
    rw [fo_omx (fun h => m.testBit h) (fun h => oAdd (d (m ^^^ 2 ^ h)) (D h))]
    simp only [oF_add]
  have e2 : ∀ m, oF (d m) (mfS D H F m) = max (oF (d m) (F m)) (mxL (List.range' 0 H) (fun h => if m.testBit h = false then oF (d m) (D h + F (m ||| 2 ^ h)) else 0)) := by
    intro m
    unfold mfS
    have := fo_max (fun h => !m.testBit h) (fun h => D h + F (m ||| 2 ^ h)) H 0 (F m)
    simp only [Bool.not_eq_true'] at this
    rw [this]
    generalize List.range' 0 H = l
    induction l with
    | nil => show oF (d m) (max (F m) 0) = max (oF (d m) (F m)) 0; cases d m <;> simp only [oF] <;> omega
    | cons a l ih =>
      rw [mxL_cons, mxL_cons]
      by_cases q : m.testBit a = false
      · rw [if_pos q, if_pos q]
        cases hd : d m with
        | none => rw [hd] at ih; simp only [oF] at ih ⊢; omega
        | some z => rw [hd] at ih; simp only [oF] at ih ⊢; omega
      · rw [if_neg q, if_neg q]
        cases hd : d m with
        | none => rw [hd] at ih; simp only [oF] at ih ⊢; omega
        | some z => rw [hd] at ih; simp only [oF] at ih ⊢; omega
  simp only [e1, e2, mxL_max]
  congr 1
  rw [mxL_swap, mxL_swap (List.range 64)]
  apply mxL_congr
  intro h hh
  have hh6 : h < 6 := by
    have := List.mem_range'_1.mp hh
    omega
  rw [mxL_perm (permX hh6), mxL_map]
  apply mxL_congr
  intro m hm
  have hm64 : m < 64 := List.mem_range.mp hm
  obtain ⟨z1, z2, z3, z4⟩ := d6 hm64 hh6
  rw [z1, z3]
  cases hb : m.testBit h
  · rw [z4 hb]; simp
  · simp
