/-! THE WORLD OF HatsDecide: printed by gen/xworld.py -/
set_option maxRecDepth 100000
abbrev XS : Type := (Nat → Int32) × (Nat → Nat → Int32) × (Nat → Nat → Option Nat) × (Nat → Option Nat) × List Nat × (Nat → va_E)
def xF (ξ : XS) (k : Nat) : Int32 := ξ.1 k
def xR (ξ : XS) (k : Nat) : Nat → Int32 := ξ.2.1 k
def xQ (ξ : XS) (k : Nat) : Nat → Option Nat := ξ.2.2.1 k
def xo (ξ : XS) (k : Nat) : Option Nat := ξ.2.2.2.1 k
def xL (ξ : XS) : List Nat := ξ.2.2.2.2.1
def xd (ξ : XS) : Nat → va_E := ξ.2.2.2.2.2
def sXF (ξ : XS) (k : Nat) (v : Int32) : XS := (va_up ξ.1 k v, ξ.2)
def sXC (ξ : XS) (k : Nat) (f : Nat → Int32) : XS := (ξ.1, va_up ξ.2.1 k f, ξ.2.2)
def sXR (ξ : XS) (k i : Nat) (v : Int32) : XS := sXC ξ k (upd (ξ.2.1 k) i v)
def sXQ (ξ : XS) (k : Nat) (f : Nat → Option Nat) : XS := (ξ.1, ξ.2.1, va_up ξ.2.2.1 k f, ξ.2.2.2)
def sXo (ξ : XS) (k : Nat) (v : Option Nat) : XS := (ξ.1, ξ.2.1, ξ.2.2.1, va_up ξ.2.2.2.1 k v, ξ.2.2.2.2)
def sXd (ξ : XS) (a : Nat) (e : va_E) : XS := (ξ.1, ξ.2.1, ξ.2.2.1, ξ.2.2.2.1, ξ.2.2.2.2.1, va_up ξ.2.2.2.2.2 a e)
def pXd (ξ : XS) (a : Nat) (e : va_E) : XS := (ξ.1, ξ.2.1, ξ.2.2.1, ξ.2.2.2.1, ξ.2.2.2.2.1 ++ [a], va_up ξ.2.2.2.2.2 a e)
abbrev XG : Type := va_G × (Nat → Nat) × (Nat → ClassId)
def xa (g : XG) (k : Nat) : Nat := g.2.1 k
def xc (g : XG) (k : Nat) : ClassId := g.2.2 k
abbrev xty (g : XG) : List (ClassId × FieldType) := [(xc g 0, .int), (xc g 1, .byte), (xc g 2, .boolean), (xc g 3, .long), (xc g 4, .short), (xc g 5, .object "HatsDecide$Hat"), (xc g 6, .object "HatsDecide$Tape"), (xc g 7, .object "java/lang/Object")]
abbrev vwCl : List vw_C := [(RX6, TX6, 78), (RX0, TX0, 40), (RX1, TX1, 4), (RX2, TX2, 4), (RJ2, TJ2, 3), (RX3, TX3, 6), (RX4, TX4, 2), (RX5, TX5, 1), (RX7, TX7, 5), (RX8, TX8, 6), (RX9, TX9, 6), (RX10, TX10, 6), (RX11, TX11, 7), (RX12, TX12, 7), (RX13, TX13, 8), (RX14, TX14, 5), (RX15, TX15, 7), (RX16, TX16, 2), (RX18, TX18, 2), (RX19, TX19, 1), (RX20, TX20, 3)]
def xfs (g : XG) (ξ : XS) : List Value := [.ref (xa g 100), .ref (xa g 101), .ref (xa g 102), .ref (xa g 103), .int (xF ξ 4), .ref (xa g 200), .ref (xa g 210), .ref (xa g 107), .ref (xa g 108), .int (xF ξ 9), .int (xF ξ 10), va_rf (xo ξ 11), .ref (xa g 300), .ref (xa g 310), .ref (xa g 114), .ref (xa g 115), .ref (xa g 116), .ref (xa g 117), .int (xF ξ 18), .int (xF ξ 19), .ref (xa g 120), .ref (xa g 121), .ref (xa g 122), .ref (xa g 123), .int (xF ξ 24), .ref (xa g 220), .ref (xa g 126), .ref (xa g 127), .ref (xa g 128), .ref (xa g 129), .ref (xa g 130), .ref (xa g 131), .ref (xa g 132), .ref (xa g 133), .ref (xa g 134), .ref (xa g 135), .int (xF ξ 36), .int (xF ξ 37), .int (xF ξ 38), va_rf (xo ξ 39)]
def xst (g : XG) (ξ : XS) : va_W := [(xa g 0, .inr (1, xfs g ξ)), (xa g 100, .inl (xc g 0, 6, .inl (xR ξ 0))), (xa g 101, .inl (xc g 0, 6, .inl (xR ξ 1))), (xa g 102, .inl (xc g 0, 6, .inl (xR ξ 2))), (xa g 103, .inl (xc g 5, 6, .inr (.inr (.inr (.inr (xQ ξ 3)))))), (xa g 107, .inl (xc g 0, 5, .inl (xR ξ 7))), (xa g 108, .inl (xc g 1, 100, .inl (xR ξ 8))), (xa g 114, .inl (xc g 0, 6, .inl (xR ξ 14))), (xa g 115, .inl (xc g 0, 6, .inl (xR ξ 15))), (xa g 116, .inl (xc g 0, 8, .inl (xR ξ 16))), (xa g 117, .inl (xc g 0, 8, .inl (xR ξ 17))), (xa g 120, .inl (xc g 6, 6, .inr (.inr (.inr (.inr (fun j => some (xa g (320 + j)))))))), (xa g 121, .inl (xc g 0, 36, .inl (xR ξ 21))), (xa g 122, .inl (xc g 1, 6, .inl (xR ξ 22))), (xa g 123, .inl (xc g 1, 6, .inl (xR ξ 23))), (xa g 126, .inl (xc g 5, 6, .inr (.inr (.inr (.inr (xQ ξ 26)))))), (xa g 127, .inl (xc g 1, 24, .inl (xR ξ 27))), (xa g 128, .inl (xc g 0, 6, .inl (xR ξ 28))), (xa g 129, .inl (xc g 0, 6, .inl (xR ξ 29))), (xa g 130, .inl (xc g 0, 6, .inl (xR ξ 30))), (xa g 131, .inl (xc g 0, 5, .inl (xR ξ 31))), (xa g 132, .inl (xc g 0, 6, .inl (xR ξ 32))), (xa g 133, .inl (xc g 0, 6, .inl (xR ξ 33))), (xa g 134, .inl (xc g 0, 8, .inl (xR ξ 34))), (xa g 135, .inl (xc g 0, 8, .inl (xR ξ 35))), (xa g 200, .inr (2, [.ref (xa g 201), .ref (xa g 202), .int (xF ξ 202), .int (xF ξ 203)])), (xa g 201, .inl (xc g 1, 6, .inl (xR ξ 200))), (xa g 202, .inl (xc g 0, 6, .inl (xR ξ 201))), (xa g 210, .inr (2, [.ref (xa g 211), .ref (xa g 212), .int (xF ξ 212), .int (xF ξ 213)])), (xa g 211, .inl (xc g 1, 6, .inl (xR ξ 210))), (xa g 212, .inl (xc g 0, 6, .inl (xR ξ 211))), (xa g 220, .inr (2, [.ref (xa g 221), .ref (xa g 222), .int (xF ξ 222), .int (xF ξ 223)])), (xa g 221, .inl (xc g 1, 6, .inl (xR ξ 220))), (xa g 222, .inl (xc g 0, 6, .inl (xR ξ 221))), (xa g 300, .inr (5, [.int (xF ξ 300), .int (xF ξ 301), .int (xF ξ 302), .int (xF ξ 303), .int (xF ξ 304), .int (xF ξ 305)])), (xa g 310, .inr (6, [.ref (xa g 311), .int (xF ξ 311)])), (xa g 311, .inl (xc g 0, 20, .inl (xR ξ 310))), (xa g 320, .inr (7, [va_rf (xo ξ 100)])), (xa g 321, .inr (7, [va_rf (xo ξ 101)])), (xa g 322, .inr (7, [va_rf (xo ξ 102)])), (xa g 323, .inr (7, [va_rf (xo ξ 103)])), (xa g 324, .inr (7, [va_rf (xo ξ 104)])), (xa g 325, .inr (7, [va_rf (xo ξ 105)]))]
def xcs (g : XG) (ξ : XS) : va_W := xst g ξ ++ va_pl (xL ξ) (xd ξ)
/-- words that don't ride in the lists -/
def isN : Cond → Bool
  | .fieldLinkNest .. => true
  | .methodLinkNest .. => true
  | .castable .. => true
  | .declares .. => true
  | _ => false
def NW (U : State) : Prop := ∀ w ∈ lw_tbl, isN w = true → va_Nw w U
theorem NW.warm {s U : State} (hW : s.WarmedH U.vm) (h : NW s) : NW U := by
  intro w hw hn
  have h1 := h w hw hn
  cases w <;> first | (cases hn; done) | exact va_Nw.warmF hW h1 | exact va_Nw.warmM hW h1 | exact va_Nw.warmC hW h1 | exact va_Nw.warmD hW h1
theorem NW.same {u U : State} (e : u.vm = U.vm) (h : NW u) : NW U := by
  intro w hw hn
  have h1 := h w hw hn
  cases w <;> first | (cases hn; done) | exact va_Nw.same rfl e h1
/-- pairs of classes that are not castable: what the walks need of them -/
def ncs : List (String × String) := [("HatsDecide$Hat", "HatsDecide$Tight"), ("HatsDecide$Hat", "HatsDecide$Worn"), ("HatsDecide$Hat", "HatsDecide$Crown"), ("HatsDecide$Hat", "HatsDecide$Stiff"), ("HatsDecide$Hat", "HatsDecide$Frayed"), ("HatsDecide$Hat", "HatsDecide$Told"), ("HatsDecide$Tight", "HatsDecide$Worn"), ("HatsDecide$Tight", "HatsDecide$Crown"), ("HatsDecide$Tight", "HatsDecide$Stiff"), ("HatsDecide$Tight", "HatsDecide$Frayed"), ("HatsDecide$Tight", "HatsDecide$Told"), ("HatsDecide$Worn", "HatsDecide$Tight"), ("HatsDecide$Worn", "HatsDecide$Crown"), ("HatsDecide$Worn", "HatsDecide$Stiff"), ("HatsDecide$Worn", "HatsDecide$Frayed"), ("HatsDecide$Worn", "HatsDecide$Told"), ("HatsDecide$Crown", "HatsDecide$Tight"), ("HatsDecide$Crown", "HatsDecide$Worn"), ("HatsDecide$Crown", "HatsDecide$Stiff"), ("HatsDecide$Crown", "HatsDecide$Frayed"), ("HatsDecide$Crown", "HatsDecide$Told"), ("HatsDecide$Stiff", "HatsDecide$Worn"), ("HatsDecide$Stiff", "HatsDecide$Crown"), ("HatsDecide$Stiff", "HatsDecide$Frayed"), ("HatsDecide$Stiff", "HatsDecide$Told"), ("HatsDecide$Frayed", "HatsDecide$Tight"), ("HatsDecide$Frayed", "HatsDecide$Crown"), ("HatsDecide$Frayed", "HatsDecide$Stiff"), ("HatsDecide$Frayed", "HatsDecide$Told"), ("HatsDecide$Told", "HatsDecide$Tight"), ("HatsDecide$Told", "HatsDecide$Worn"), ("HatsDecide$Told", "HatsDecide$Stiff"), ("HatsDecide$Told", "HatsDecide$Frayed"), ("[B", "[S"), ("[B", "[I"), ("[B", "[J"), ("[B", "[Z"), ("[S", "[B"), ("[S", "[I"), ("[S", "[J"), ("[S", "[Z"), ("[I", "[B"), ("[I", "[S"), ("[I", "[J"), ("[I", "[Z"), ("[J", "[B"), ("[J", "[S"), ("[J", "[I"), ("[J", "[Z"), ("[Z", "[B"), ("[Z", "[S"), ("[Z", "[I"), ("[Z", "[J"), ("java/lang/ClassCastException", "java/lang/NullPointerException"), ("HatsDecide$Off", "java/lang/NullPointerException"), ("java/lang/ArrayStoreException", "java/lang/NullPointerException"), ("java/lang/ArrayIndexOutOfBoundsException", "java/lang/NullPointerException"), ("java/lang/ArrayIndexOutOfBoundsException", "java/lang/ArrayStoreException")]
/-- what is given of the JDK's statics and constants, untouched by A -/
abbrev strL : List Nat := [5, 5, 5, 5]
abbrev strB : List (List Int32) := [[115, 117, 105, 116, 32], [103, 97, 108, 108, 32], [109, 111, 116, 104, 32], [119, 111, 114, 107, 32]]
def STR (g : XG) (U : State) : Prop := vk_R "HatsDecide$Reader" 120 "suit " (xa g 410) U ∧ vk_R "HatsDecide$Reader" 126 "gall " (xa g 411) U ∧ vk_R "HatsDecide$Reader" 128 "moth " (xa g 412) U ∧ vk_R "HatsDecide$Reader" 114 "work " (xa g 413) U
theorem MR_same {s U : State} (e : U.vm.modules = s.vm.modules) (h : modulesRight_1 s = true) : modulesRight_1 U = true := by
  unfold modulesRight_1 at h ⊢
  rw [e]; exact h
def SG (g : XG) (A : Nat → Prop) (U : State) (H : Heap) : Prop := vx_Zq Bundle.tN "UNASSIGNED_STACK" Bundle.steD A U H ∧ vx_Zq Bundle.tN "SUPPRESSED_SENTINEL" Bundle.listD A U H ∧ va_Z "java/util/ArrayList" "DEFAULTCAPACITY_EMPTY_ELEMENTDATA" "[Ljava/lang/Object;" (.ref (xa g 400)) A U H ∧ va_T (.object "java/lang/Object") (xa g 400) 0 (fun _ => .null) A U H ∧ va_Z "java/lang/String" "COMPACT_STRINGS" "Z" (.int 1) A U H ∧ vk_S 4 strL strB (fun i => xa g (410 + i)) (fun i => xa g (420 + i)) A U H ∧ STR g U ∧ modulesRight_1 U = true ∧ va_AO "java/lang/Object" U ∧ va_Mi "[Ljava/lang/Object;" (xa g 401) U ∧ va_Zq "jdk/internal/util/Preconditions" "SIOOBE_FORMATTER" "Ljava/util/function/BiFunction;" A U H ∧ va_AO "HatsDecide$Hat" U ∧ va_AO "HatsDecide$Tape" U
theorem SG.warm {g : XG} {A : Nat → Prop} {s U : State} {H : Heap} (hW : s.WarmedH U.vm) (h : SG g A s H) : SG g A U H := ⟨vx_Zq.moved hW.alike h.1, vx_Zq.moved hW.alike h.2.1, va_Z.moved hW.alike h.2.2.1, va_T.moved hW.alike h.2.2.2.1, va_Z.moved hW.alike h.2.2.2.2.1, vk_S.moved hW.alike h.2.2.2.2.2.1, ⟨vk_R.warm hW h.2.2.2.2.2.2.1.1, vk_R.warm hW h.2.2.2.2.2.2.1.2.1, vk_R.warm hW h.2.2.2.2.2.2.1.2.2.1, vk_R.warm hW h.2.2.2.2.2.2.1.2.2.2⟩, MR_same (show U.vm.modules = s.vm.modules from (by rw [hW.alike.1])) h.2.2.2.2.2.2.2.1, va_AO.moved hW.alike h.2.2.2.2.2.2.2.2.1, va_Mi.moved hW.alike h.2.2.2.2.2.2.2.2.2.1, va_Zq.moved hW.alike h.2.2.2.2.2.2.2.2.2.2.1, va_AO.moved hW.alike h.2.2.2.2.2.2.2.2.2.2.2.1, va_AO.moved hW.alike h.2.2.2.2.2.2.2.2.2.2.2.2⟩
theorem SG.same {g : XG} {A : Nat → Prop} {s U : State} {H : Heap} (e : s.vm = U.vm) (h : SG g A s H) : SG g A U H := ⟨vx_Zq.moved (show s.vm.Alike U.vm by rw [← e]; exact (State.WarmedH.refl s).alike) h.1, vx_Zq.moved (show s.vm.Alike U.vm by rw [← e]; exact (State.WarmedH.refl s).alike) h.2.1, va_Z.moved (show s.vm.Alike U.vm by rw [← e]; exact (State.WarmedH.refl s).alike) h.2.2.1, va_T.moved (show s.vm.Alike U.vm by rw [← e]; exact (State.WarmedH.refl s).alike) h.2.2.2.1, va_Z.moved (show s.vm.Alike U.vm by rw [← e]; exact (State.WarmedH.refl s).alike) h.2.2.2.2.1, vk_S.moved (show s.vm.Alike U.vm by rw [← e]; exact (State.WarmedH.refl s).alike) h.2.2.2.2.2.1, ⟨vk_R.same e.symm h.2.2.2.2.2.2.1.1, vk_R.same e.symm h.2.2.2.2.2.2.1.2.1, vk_R.same e.symm h.2.2.2.2.2.2.1.2.2.1, vk_R.same e.symm h.2.2.2.2.2.2.1.2.2.2⟩, MR_same (by rw [e]) h.2.2.2.2.2.2.2.1, va_AO.moved (show s.vm.Alike U.vm by rw [← e]; exact (State.WarmedH.refl s).alike) h.2.2.2.2.2.2.2.2.1, va_Mi.moved (show s.vm.Alike U.vm by rw [← e]; exact (State.WarmedH.refl s).alike) h.2.2.2.2.2.2.2.2.2.1, va_Zq.moved (show s.vm.Alike U.vm by rw [← e]; exact (State.WarmedH.refl s).alike) h.2.2.2.2.2.2.2.2.2.2.1, va_AO.moved (show s.vm.Alike U.vm by rw [← e]; exact (State.WarmedH.refl s).alike) h.2.2.2.2.2.2.2.2.2.2.2.1, va_AO.moved (show s.vm.Alike U.vm by rw [← e]; exact (State.WarmedH.refl s).alike) h.2.2.2.2.2.2.2.2.2.2.2.2⟩
theorem SG.kept {g : XG} {A : Nat → Prop} {U : State} {H H1 : Heap} (h : SG g A U H) (hq : ∀ a : Nat, a < H.size → ¬ A a → H1[a]? = H[a]?) : SG g A U H1 := ⟨h.1.kept hq, h.2.1.kept hq, h.2.2.1.kept hq, h.2.2.2.1.kept hq, h.2.2.2.2.1.kept hq, h.2.2.2.2.2.1.kept hq, h.2.2.2.2.2.2.1, h.2.2.2.2.2.2.2.1, h.2.2.2.2.2.2.2.2.1, h.2.2.2.2.2.2.2.2.2.1, h.2.2.2.2.2.2.2.2.2.2.1.kept hq, h.2.2.2.2.2.2.2.2.2.2.2⟩
theorem SG.narrow {g : XG} {A B : Nat → Prop} {U : State} {H : Heap} (h : SG g A U H) (hAB : ∀ q, B q → A q) : SG g B U H := ⟨h.1.narrow hAB, h.2.1.narrow hAB, h.2.2.1.narrow hAB, h.2.2.2.1.narrow hAB, h.2.2.2.2.1.narrow hAB, h.2.2.2.2.2.1.narrow hAB, h.2.2.2.2.2.2.1, h.2.2.2.2.2.2.2.1, h.2.2.2.2.2.2.2.2.1, h.2.2.2.2.2.2.2.2.2.1, h.2.2.2.2.2.2.2.2.2.2.1.narrow hAB, h.2.2.2.2.2.2.2.2.2.2.2⟩
def GV (g : XG) (A : Nat → Prop) (U : State) : Prop := NW U ∧ (∀ q ∈ ncs, va_Nc q.1 q.2 U) ∧ SG g A U U.heap
theorem GV.same {g : XG} {A : Nat → Prop} {s U : State} (e : s.vm = U.vm) (eh : s.heap = U.heap) (h : GV g A s) : GV g A U := ⟨NW.same e h.1, fun q hq => by obtain ⟨c, t, h1, h2, h3⟩ := h.2.1 q hq; exact ⟨c, t, by rw [← e]; exact h1, by rw [← e]; exact h2, by rw [← e]; exact h3⟩, by rw [← eh]; exact SG.same e h.2.2⟩
theorem GV.go {g : XG} {A B : Nat → Prop} {s U : State} {H : Heap} {locs : List Loc} (hW : s.WarmedH U.vm) (hS : va_S A s.heap H locs) (hU : U.heap = H) (hAB : ∀ q, B q → A q) (h : GV g A s) : GV g B U := ⟨NW.warm hW h.1, fun q hq => (h.2.1 q hq).moved hW.alike, by rw [hU]; exact ((h.2.2.warm hW).kept (fun a h1 h2 => hS.2.1 a h1 h2)).narrow hAB⟩
def XB (g : XG) (A : Nat → Prop) (s : State) (ξ : XS) (H : Heap) (locs : List Loc) : Prop :=
  va_P g.1 vwCl (xcs g ξ) H ∧ va_D A (xcs g ξ) ∧ va_S A s.heap H locs ∧ va_K g.1 vwCl (xty g) s ∧ (∀ q, s.heap.size ≤ q → A q) ∧ GV g A s
def XPc (g : XG) (ξ : XS) (As : List Value) (sz : Nat) : Array Value → State → Prop := va_Pc As (fun U => U.heap.size = sz ∧ va_P g.1 vwCl (xcs g ξ) U.heap ∧ va_K g.1 vwCl (xty g) U ∧ va_D (fun _ => True) (xcs g ξ) ∧ GV g (va_A (xcs g ξ) sz) U)
def XBt (g : XG) (A : Nat → Prop) (u : XS) (t : State) : Prop := va_P g.1 vwCl (xcs g u) t.heap ∧ va_K g.1 vwCl (xty g) t ∧ va_D A (xcs g u)
def XQi (g : XG) (ξ : XS) (sz : Nat) (v : Int32) (ξ1 : XS) : Array Value → State → Outcome → State → Prop := va_Qi (fun (r : Int32) (u : XS) => r = v ∧ u = ξ1) (XBt g (va_A (xcs g ξ) sz)) (va_A (xcs g ξ) sz)
def XQl (g : XG) (ξ : XS) (sz : Nat) (v : Int64) (ξ1 : XS) : Array Value → State → Outcome → State → Prop := va_Ql (fun (r : Int64) (u : XS) => r = v ∧ u = ξ1) (XBt g (va_A (xcs g ξ) sz)) (va_A (xcs g ξ) sz)
def XQv (g : XG) (ξ : XS) (sz : Nat) (ξ1 : XS) : Array Value → State → Outcome → State → Prop := va_Qv (fun (u : XS) => u = ξ1) (XBt g (va_A (xcs g ξ) sz)) (va_A (xcs g ξ) sz)
def MetXi (l : Launch) (g : XG) (y : MethodName) (ws : List Cond) (rm : Room) (As : List Value) (ξ : XS) (v : Int32) (ξ1 : XS) (mc ms : Nat) : Prop := ∀ sz, Met l y ws rm (XPc g ξ As sz) (XQi g ξ sz v ξ1) mc ms (va_A (xcs g ξ) sz)
def MetXl (l : Launch) (g : XG) (y : MethodName) (ws : List Cond) (rm : Room) (As : List Value) (ξ : XS) (v : Int64) (ξ1 : XS) (mc ms : Nat) : Prop := ∀ sz, Met l y ws rm (XPc g ξ As sz) (XQl g ξ sz v ξ1) mc ms (va_A (xcs g ξ) sz)
def MetXv (l : Launch) (g : XG) (y : MethodName) (ws : List Cond) (rm : Room) (As : List Value) (ξ : XS) (ξ1 : XS) (mc ms : Nat) : Prop := ∀ sz, Met l y ws rm (XPc g ξ As sz) (XQv g ξ sz ξ1) mc ms (va_A (xcs g ξ) sz)
def dE (ξ : XS) (a : Nat) : Option va_E := if a ∈ xL ξ then some (xd ξ a) else none
/-- an int field of a made object whose class is one of lo..hi -/
def dI (ξ : XS) (a lo hi k : Nat) : Option Int32 := match dE ξ a with
  | some (.inr (ci, fs)) => if lo ≤ ci ∧ ci ≤ hi then (match fs[k]? with | some (.int v) => some v | _ => none) else none
  | _ => none
/-- a reference field, not null -/
def dR (ξ : XS) (a lo hi k : Nat) : Option Nat := match dE ξ a with
  | some (.inr (ci, fs)) => if lo ≤ ci ∧ ci ≤ hi then (match fs[k]? with | some (.ref v) => some v | _ => none) else none
  | _ => none
/-- a made array of ints (bytes ..) -/
def dA (ξ : XS) (a : Nat) (c : ClassId) : Option (Nat × (Nat → Int32)) := match dE ξ a with
  | some (.inl (cA, n, .inl f)) => if cA = c then some (n, f) else none
  | _ => none
def dCi (ξ : XS) (a : Nat) : Option Nat := match dE ξ a with
  | some (.inr (ci, _)) => some ci
  | _ => none
def bno {α γ : Type} (o : Option α) (k : α → Option γ) : Option γ := match o with
  | none => none
  | some q => k q
theorem bno_some {α γ : Type} {o : Option α} {k : α → Option γ} {r : γ} (h : bno o k = some r) : ∃ a, o = some a ∧ k a = some r := by
  cases o with
  | none => cases h
  | some q => exact ⟨q, rfl, h⟩
theorem dE_at {g : XG} {ξ : XS} {a : Nat} {e : va_E} (h : dE ξ a = some e) : ∃ q0 : Nat, (xcs g ξ)[q0]? = some (a, e) := by
  unfold dE at h
  by_cases ha : a ∈ xL ξ
  · rw [if_pos ha] at h
    cases h
    obtain ⟨k, hk⟩ := va_pl_get (X := xst g ξ) (f := xd ξ) ha
    exact ⟨k, hk⟩
  · rw [if_neg ha] at h; cases h
theorem dI_at {ξ : XS} {a lo hi k : Nat} {v : Int32} (h : dI ξ a lo hi k = some v) : ∃ ci fs, dE ξ a = some (.inr (ci, fs)) ∧ lo ≤ ci ∧ ci ≤ hi ∧ fs[k]? = some (.int v) := by
  unfold dI at h
  split at h
  · rename_i ci fs he
    split at h
    · rename_i hc
      split at h
      · rename_i w hw
        cases h
        exact ⟨ci, fs, he, hc.1, hc.2, hw⟩
      · cases h
    · cases h
  · cases h
theorem dR_at {ξ : XS} {a lo hi k : Nat} {v : Nat} (h : dR ξ a lo hi k = some v) : ∃ ci fs, dE ξ a = some (.inr (ci, fs)) ∧ lo ≤ ci ∧ ci ≤ hi ∧ fs[k]? = some (.ref v) := by
  unfold dR at h
  split at h
  · rename_i ci fs he
    split at h
    · rename_i hc
      split at h
      · rename_i w hw
        cases h
        exact ⟨ci, fs, he, hc.1, hc.2, hw⟩
      · cases h
    · cases h
  · cases h
theorem dA_at {ξ : XS} {a : Nat} {c : ClassId} {n : Nat} {f : Nat → Int32} (h : dA ξ a c = some (n, f)) : dE ξ a = some (.inl (c, n, .inl f)) := by
  unfold dA at h
  split at h
  · rename_i cA n' f' he
    split at h
    · rename_i hc
      cases h
      rw [he, hc]
    · cases h
  · cases h
theorem t3 {τ : Nat} (h : τ < 3) : τ = 0 ∨ τ = 1 ∨ τ = 2 := by omega
def fitB (f : Nat → Int32) (sp n : Nat) : Bool := (List.range n).all (fun i => fits .byte (.int (f (sp + i))))
theorem fitB_at {f : Nat → Int32} {sp n : Nat} (h : fitB f sp n = true) : ∀ i, i < n → fits .byte (.int (f (sp + i))) = true := fun i hi => List.all_eq_true.mp h i (List.mem_range.mpr hi)
def cpk (sp dp n : Int32) (n0 n1 : Nat) : Bool := decide (¬ sp < 0) && (decide (¬ dp < 0) && (decide (¬ n < 0) && (decide (sp.toNatClampNeg + n.toNatClampNeg ≤ n0) && decide (dp.toNatClampNeg + n.toNatClampNeg ≤ n1))))
theorem cpk_at {sp dp n : Int32} {n0 n1 : Nat} (h : cpk sp dp n n0 n1 = true) : ¬ sp < 0 ∧ ¬ dp < 0 ∧ ¬ n < 0 ∧ sp.toNatClampNeg + n.toNatClampNeg ≤ n0 ∧ dp.toNatClampNeg + n.toNatClampNeg ≤ n1 := by
  simp only [cpk, Bool.and_eq_true, decide_eq_true_eq] at h
  exact h
