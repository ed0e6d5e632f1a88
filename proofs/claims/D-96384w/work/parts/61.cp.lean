/-! PURE: what ties the two states together -/
set_option maxRecDepth 100000
def rg (x : Int32) (n : Nat) : Prop := ∃ k, k ≤ n ∧ x = nI k
def hx (x : Int32) (n : Nat) : Prop := x = -1 ∨ ∃ k, k < n ∧ x = nI k
def eqN (n : Nat) (f g : Nat → Int32) : Prop := ∀ i, i < n → f i = g i
def fo {α : Type} (f : Nat → α → α) : Nat → Nat → α → α
  | 0, _, x => x
  | n + 1, b, x => fo f n (b + 1) (f b x)
def fi (p : Nat → Bool) : Nat → Nat → Option Nat
  | 0, _ => none
  | n + 1, b => if p b then some b else fi p n (b + 1)
def cHeads (H A : Nat) (sz ow wo : Nat → Int32) : Prop := ∀ h, h < H → rg (sz h) 9 ∧ hx (ow h) A ∧ hx (wo h) A
def cInj (H : Nat) (wo : Nat → Int32) : Prop := ∀ h h', h < H → h' < H → wo h = wo h' → wo h ≠ -1 → h = h'
def cHats (A : Nat) (kd vv hs sk tr us rw : Nat → Int32) : Prop := ∀ a, a < A → rg (kd a) 6 ∧ rg (vv a) 9 ∧ rg (hs a) 9 ∧ rg (sk a) 50 ∧ rg (tr a) 4 ∧ rg (us a) 9999 ∧ ∀ i, i < 4 → rg (rw (4 * a + i)) 9
def cDone (dn : Nat → Int32) : Prop := ∀ t, t < 5 → rg (dn t) 999999
def cSeen (S A : Nat) (sw sd : Nat → Int32) : Prop := ∀ k, k < S → (∃ a, a < A ∧ sw k = nI a) ∧ rg (sd k) 999
def cBook (B A H : Nat) (bw bo : Nat → Int32) : Prop := ∀ k, k < B → (∃ a, a < A ∧ bw k = nI a) ∧ ∃ h, h < H ∧ bo k = nI h
/-- a state's core: sizes and ranges -/
def core (H A D S B : Nat) (sz ow wo kd vv hs sk tr us rw dn sw sd bw bo : Nat → Int32) : Prop :=
  H ≤ 6 ∧ A ≤ 6 ∧ D ≤ 9999 ∧ S ≤ 6 ∧ B ≤ 8 ∧ cHeads H A sz ow wo ∧ cInj H wo ∧ cHats A kd vv hs sk tr us rw ∧ cDone dn ∧ cSeen S A sw sd ∧ cBook B A H bw bo
def nums (H A D S B : Nat) (h a d s b : Int32) : Prop := h = nI H ∧ a = nI A ∧ d = nI D ∧ s = nI S ∧ b = nI B
def cByte (n : Nat) (f : Nat → Int32) : Prop := ∀ i, i < n → fits .byte (.int (f i)) = true
/-- X's numbers and rows are M's -/
def same (xh xa xd xs xb h a d s b : Int32) : Prop := xh = h ∧ xa = a ∧ xd = d ∧ xs = s ∧ xb = b
def rows (sz' ow' wo' sk' us' dn' sw' sd' bw' bo' sz ow wo sk us dn sw sd bw bo : Nat → Int32) : Prop :=
  eqN 6 sz' sz ∧ eqN 6 ow' ow ∧ eqN 6 wo' wo ∧ eqN 6 sk' sk ∧ eqN 6 us' us ∧ eqN 5 dn' dn ∧ eqN 6 sw' sw ∧ eqN 6 sd' sd ∧ eqN 8 bw' bw ∧ eqN 8 bo' bo
def hatL (g : XG) (k : Nat) (a v s t : Int32) (r : Nat) : List Value :=
  [.int a, .int v, .int s, .int t, .ref (xa g 0)] ++ (if k = 0 then [] else if k ≤ 3 then [.ref (xa g 0)] else if k ≤ 5 then [.ref (xa g 0), .ref (xa g 0)] else [.ref (xa g 0), .ref r, .ref (xa g 0)])
def cObj (g : XG) (E : Nat → Option va_E) (Q : Nat → Option Nat) (A : Nat) (kd vv hs tr : Nat → Int32) (hq hr : Nat → Nat) : Prop :=
  ∀ a, a < A → Q a = some (hq a) ∧ E (hq a) = some (.inr (8 + (kd a).toNatClampNeg, hatL g (kd a).toNatClampNeg (nI a) (vv a) (hs a) (tr a) (hr a)))
def cRow (g : XG) (E : Nat → Option va_E) (A : Nat) (kd rw : Nat → Int32) (hr : Nat → Nat) : Prop :=
  ∀ a, a < A → kd a = 6 → ∃ f, E (hr a) = some (.inl (xc g 1, 4, .inl f)) ∧ ∀ i, i < 4 → f i = rw (4 * a + i)
def cRowD (A : Nat) (kd : Nat → Int32) (hr : Nat → Nat) : Prop := ∀ a b, a < A → b < A → kd a = 6 → kd b = 6 → hr a = hr b → a = b
def cAllH (E : Nat → Option va_E) (Q : Nat → Option Nat) : Prop := ∀ i, i < 6 → ∀ y, Q i = some y → ∃ ci fs, E y = some (.inr (ci, fs)) ∧ 8 ≤ ci ∧ ci ≤ 14
/-- tapes: the class of a sort -/
def tCls (s : Nat) : Nat := if s = 0 then 1 else if s = 1 then 4 else if s = 2 then 0 else if s = 3 then 3 else 2
def tEnt (g : XG) (s n : Nat) (it : Nat → Int64) (e : va_E) : Prop :=
  (s = 3 ∧ ∃ f, e = .inl (xc g 3, n, .inr (.inl f)) ∧ ∀ i, i < n → f i = it i) ∨
  (s ≠ 3 ∧ ∃ f, e = .inl (xc g (tCls s), n, .inl f) ∧ ∀ i, i < n → (f i).toInt64 = it i ∧ fits (FTj (tCls s)) (.int (f i)) = true)
def cTape (g : XG) (E : Nat → Option va_E) (o : Nat → Option Nat) (so le : Nat → Int32) (it : Nat → Int64) : Prop :=
  ∀ t, t < 6 → (so t = -1 ∧ o (100 + t) = none) ∨ ∃ s n r e, s ≤ 4 ∧ n ≤ 60 ∧ so t = nI s ∧ le t = nI n ∧ o (100 + t) = some r ∧ E r = some e ∧ tEnt g s n (fun i => it (60 * t + i)) e
def cTapeD (A : Nat) (o : Nat → Option Nat) (kd : Nat → Int32) (hr : Nat → Nat) (wk wi : Nat) : Prop :=
  ∀ t, t < 6 → ∀ r, o (100 + t) = some r → (∀ u, u < 6 → o (100 + u) = some r → t = u) ∧ (∀ a, a < A → kd a = 6 → r ≠ hr a) ∧ r ≠ wk ∧ r ≠ wi
/-- signs of a test, worked out on a pile -/
def fact (L : Nat → Int32) (t : Int32) : Bool :=
  let is := L (t / 1000).toNatClampNeg
  let s := t / 100 - t / 100 / 10 * 10
  let n := t - t / 100 * 100
  if s = 0 then decide (is < n) else if s = 1 then decide (is = n) else decide (n < is)
def ev1 (L : Nat → Int32) (t : Int32) (st : List Bool) : Option (List Bool) :=
  if t = -33 then (match st with | b :: r => some ((!b) :: r) | [] => none)
  else if t < 0 then (match st with | b :: a :: r => some ((if t = -38 then a && b else a || b) :: r) | _ => none)
  else some (fact L t :: st)
def evs (L : Nat → Int32) (sg : Nat → Int32) : Nat → Nat → List Bool → Option (List Bool)
  | 0, _, st => some st
  | n + 1, b, st => match ev1 L (sg b) st with | none => none | some st1 => evs L sg n (b + 1) st1
/-- a tree of tests at an address answers as F -/
def lett (c : Int32) : Nat := if c = 97 then 0 else if c = 101 then 1 else if c = 107 then 2 else if c = 116 then 3 else if c = 117 then 4 else 5
def cmpS (s : Int32) (x n : Int32) : Bool := if s = 60 then decide (x < n) else if s = 61 then decide (x = n) else decide (n < x)
def tree (g : XG) (E : Nat → Option va_E) : Nat → Nat → ((Nat → Int32) → Bool) → Prop
  | 0, _, _ => False
  | d + 1, t, F =>
    (∃ c s n, E t = some (.inr (20, [.int c, .int s, .int n])) ∧ (c = 97 ∨ c = 101 ∨ c = 107 ∨ c = 116 ∨ c = 117 ∨ c = 100) ∧ (s = 60 ∨ s = 61 ∨ s = 62) ∧ F = fun L => cmpS s (L (lett c)) n) ∨
    (∃ u G, E t = some (.inr (19, [.ref u])) ∧ tree g E d u G ∧ F = fun L => !G L) ∨
    (∃ (all : Bool) (al od sz len : Nat) (mo : Int32) (f : Nat → Option Nat) (G : Nat → (Nat → Int32) → Bool), E t = some (.inr (18, [.int (if all then 1 else 0), .ref al])) ∧ E al = some (.inr (4, [.int mo, .ref od, .int (nI sz)])) ∧ E od = some (.inl (xc g 7, len, .inr (.inr (.inr (.inr f))))) ∧ sz ≤ len ∧ len ≤ 200 ∧ (∀ j, j < sz → ∃ u, f j = some u ∧ tree g E d u (G j)) ∧
      F = fun L => if all then (List.range sz).all (fun j => G j L) else (List.range sz).any (fun j => G j L))
def mBeg (the : Int32) : Nat := if the < 0 then 0 else 10 * the.toNatClampNeg
def mCnt (the : Int32) (cl : Nat → Int32) : Nat := if the < 0 then 0 else (cl the.toNatClampNeg).toNatClampNeg
def mothS (wd nu : Nat → Int32) (n b : Nat) : Int32 := fo (fun c x => if wd c = 2 then nu c else x) n b 0
def workS (wd nu as : Nat → Int32) (n b : Nat) (t : Int32) : Int32 := fo (fun c x => if wd c = 3 ∧ nu c = t then as c else x) n b 10
def clsS (wd : Nat → Int32) (n b : Nat) : List Nat := (List.range' b n).filter (fun c => decide (wd c ≤ 1))
def cCl (g : XG) (E : Nat → Option va_E) (q : Option Nat) (c : Nat) (wd nu fr to sg : Nat → Int32) : Prop :=
  ∃ a t F, q = some a ∧ E a = some (.inr (17, [.int (if wd c = 0 then nu c else -nu c), .ref t])) ∧ tree g E 12 t F ∧ (∃ b n, fr c = nI b ∧ to c = nI (b + n) ∧ b + n ≤ 600 ∧ n ≤ 100 ∧ (∀ j, j < n → -124 ≤ sg (b + j) ∧ sg (b + j) ≤ 5299) ∧ ∀ L, evs L sg n b [] = some [F L]) ∧ (to c).toNatClampNeg ≤ 100 * (c / 10) + 100
def cTown (g : XG) (E : Nat → Option va_E) (w : Option Nat) (the : Int32) (cl wd nu as fr to sg : Nat → Int32) (wk : Nat) : Prop :=
  ∃ (w0 al od len : Nat) (mo many : Int32) (f : Nat → Option Nat) (fw : Nat → Int32), w = some w0 ∧ E w0 = some (.inr (3, [.ref al, .ref wk, .int many, .int (mothS wd nu (mCnt the cl) (mBeg the))])) ∧ E wk = some (.inl (xc g 0, 5, .inl fw)) ∧ (∀ t, t < 5 → fw t = workS wd nu as (mCnt the cl) (mBeg the) (nI t)) ∧
    E al = some (.inr (4, [.int mo, .ref od, .int (nI (clsS wd (mCnt the cl) (mBeg the)).length)])) ∧ (0 < (clsS wd (mCnt the cl) (mBeg the)).length → E od = some (.inl (xc g 7, len, .inr (.inr (.inr (.inr f))))) ∧ (clsS wd (mCnt the cl) (mBeg the)).length ≤ len ∧ len ≤ 200) ∧
    ∀ j (h : j < (clsS wd (mCnt the cl) (mBeg the)).length), cCl g E (f j) ((clsS wd (mCnt the cl) (mBeg the))[j]) wd nu fr to sg
/-- which town: none yet, or one of those read -/
def cThe (T : Nat) (the : Int32) (cl wd nu as : Nat → Int32) : Prop := the = -1 ∨ ∃ f, f < T ∧ the = nI f ∧ ∃ n, n ≤ 10 ∧ cl f = nI n ∧ ∀ c, 10 * f ≤ c → c < 10 * f + n → rg (wd c) 3 ∧ rg (nu c) 99 ∧ rg (as c) 99
def cText (F : Nat) (tx' tx : Nat → Int32) : Prop := ∀ i, i < F → tx' i = tx i ∧ rg (tx i) 127
def cLett (l : Nat → Int32) : Prop := ∀ i, i < 16 → l i = ([115, 117, 105, 116, 103, 97, 108, 108, 109, 111, 116, 104, 119, 111, 114, 107] : List Int32).getD i 0
def img (g : XG) (ξ : XS) (σ : MS) (H A D S B T wi : Nat) : Prop :=
  nums H A D S B (gF σ 52) (gF σ 53) (gF σ 54) (gF σ 55) (gF σ 56) ∧ same (xF ξ 222) (xF ξ 36) (xF ξ 223) (xF ξ 37) (xF ξ 38) (gF σ 52) (gF σ 53) (gF σ 54) (gF σ 55) (gF σ 56) ∧
  core H A D S B (gR σ 57) (gR σ 58) (gR σ 59) (gR σ 60) (gR σ 61) (gR σ 62) (gR σ 63) (gR σ 64) (gR σ 65) (gR σ 66) (gR σ 67) (gR σ 68) (gR σ 69) (gR σ 70) (gR σ 71) ∧
  rows (xR ξ 28) (xR ξ 29) (xR ξ 220) (xR ξ 30) (xR ξ 221) (xR ξ 31) (xR ξ 32) (xR ξ 33) (xR ξ 34) (xR ξ 35) (gR σ 57) (gR σ 58) (gR σ 59) (gR σ 63) (gR σ 65) (gR σ 67) (gR σ 68) (gR σ 69) (gR σ 70) (gR σ 71) ∧
  (∀ a, a < A → xQ ξ 26 a = xQ ξ 3 a ∧ gR σ 60 a = gR σ 6 a ∧ gR σ 61 a = gR σ 7 a ∧ gR σ 62 a = gR σ 8 a ∧ gR σ 64 a = gR σ 10 a) ∧
  (∀ a, a < A → gR σ 6 a = 6 → ∀ i, i < 4 → xR ξ 27 (4 * a + i) = gR σ 66 (4 * a + i)) ∧
  cAllH (dE ξ) (xQ ξ 26) ∧ cByte 6 (xR ξ 220) ∧ cThe T (gF σ 51) (gR σ 20) (gR σ 21) (gR σ 22) (gR σ 23) ∧
  cTown g (dE ξ) (xo ξ 39) (gF σ 51) (gR σ 20) (gR σ 21) (gR σ 22) (gR σ 23) (gR σ 24) (gR σ 25) (gR σ 26) wi
def Cp (g : XG) (ξ : XS) (σ : MS) : Prop := ∃ (H A D S B T F R wk wi : Nat) (hq hr : Nat → Nat),
  nums H A D S B (gF σ 0) (gF σ 1) (gF σ 2) (gF σ 43) (gF σ 47) ∧ same (xF ξ 202) (xF ξ 4) (xF ξ 203) (xF ξ 18) (xF ξ 19) (gF σ 0) (gF σ 1) (gF σ 2) (gF σ 43) (gF σ 47) ∧
  core H A D S B (gR σ 3) (gR σ 4) (gR σ 5) (gR σ 6) (gR σ 7) (gR σ 8) (gR σ 9) (gR σ 10) (gR σ 11) (gR σ 12) (gR σ 13) (gR σ 44) (gR σ 45) (gR σ 48) (gR σ 49) ∧
  rows (xR ξ 0) (xR ξ 1) (xR ξ 200) (xR ξ 2) (xR ξ 201) (xR ξ 7) (xR ξ 14) (xR ξ 15) (xR ξ 16) (xR ξ 17) (gR σ 3) (gR σ 4) (gR σ 5) (gR σ 9) (gR σ 11) (gR σ 13) (gR σ 44) (gR σ 45) (gR σ 48) (gR σ 49) ∧
  cByte 6 (xR ξ 200) ∧ cByte 6 (xR ξ 22) ∧
  cObj g (dE ξ) (xQ ξ 3) A (gR σ 6) (gR σ 7) (gR σ 8) (gR σ 10) hq hr ∧ cRow g (dE ξ) A (gR σ 6) (gR σ 12) hr ∧ cRowD A (gR σ 6) hr ∧ cAllH (dE ξ) (xQ ξ 3) ∧
  (T ≤ 6 ∧ gF σ 14 = nI T ∧ xF ξ 10 = nI T ∧ F ≤ 100 ∧ gF σ 16 = nI F ∧ xF ξ 9 = nI F ∧ cText F (xR ξ 8) (gR σ 19) ∧ cLett (gR σ 31) ∧ gF σ 33 = 9999) ∧
  cThe T (gF σ 15) (gR σ 20) (gR σ 21) (gR σ 22) (gR σ 23) ∧ cTown g (dE ξ) (xo ξ 11) (gF σ 15) (gR σ 20) (gR σ 21) (gR σ 22) (gR σ 23) (gR σ 24) (gR σ 25) (gR σ 26) wk ∧
  (R ≤ 1000 ∧ gF σ 72 = nI R ∧ xF ξ 311 = nI R ∧ eqN 20 (xR ξ 310) (gR σ 73)) ∧
  cTape g (dE ξ) (xo ξ) (gR σ 74) (gR σ 75) (gJ σ 76) ∧ cTapeD A (xo ξ) (gR σ 6) hr wk wi ∧
  ((gF σ 50 = 0 ∧ xo ξ 39 = none) ∨ (gF σ 50 = 1 ∧ ∃ H' A' D' S' B' : Nat, A' ≤ A ∧ img g ξ σ H' A' D' S' B' T wi))
theorem eqN_upd {n i : Nat} {f g : Nat → Int32} {v : Int32} (h : eqN n f g) : eqN n (upd f i v) (upd g i v) := by
  intro j hj
  unfold upd
  by_cases e : j = i
  · simp [e]
  · simp [e, h j hj]
theorem rg_nI {k n : Nat} (h : k ≤ n) : rg (nI k) n := ⟨k, h, rfl⟩
theorem fitN {k : Nat} (h : k < 128) : fits .byte (.int (nI k)) = true := by
  have h9 : ∀ k : Fin 128, fits .byte (.int (nI k)) = true := by decide +kernel
  exact h9 ⟨k, h⟩
theorem fitM : fits .byte (.int (-1 : Int32)) = true := by decide +kernel
theorem narN {k : Nat} (h : k < 128) : vp_nar .byte (nI k) = nI k := by
  have h9 : ∀ k : Fin 128, vp_nar .byte (nI k) = nI k := by decide +kernel
  exact h9 ⟨k, h⟩
theorem narM : vp_nar .byte (-1 : Int32) = -1 := by decide +kernel
theorem i8N {k : Nat} (h : k < 128) : (nI k).toInt8.toInt32 = nI k := by
  have h9 : ∀ k : Fin 128, (nI k).toInt8.toInt32 = nI k := by decide +kernel
  exact h9 ⟨k, h⟩
theorem cByte_upd {n i : Nat} {f : Nat → Int32} {v : Int32} (h : cByte n f) (hv : fits .byte (.int v) = true) : cByte n (upd f i v) := by
  intro j hj
  unfold upd
  by_cases e : j = i
  · simp [e, hv]
  · simp [e, h j hj]
theorem rg_of {x : Int32} {n : Nat} (hn : n < 2 ^ 30) (h0 : 0 ≤ x) (h1 : x ≤ nI n) : rg x n := by
  obtain ⟨k, hk, rfl⟩ := i32_nat (n := n + 1) (by omega) h0 (Int32.lt_of_le_of_lt h1 (nI_lt (by omega) (by omega)))
  exact ⟨k, by omega, rfl⟩
