/-! WHAT THE MACHINE THROWS: printed by gen/xvm.py -/
set_option maxRecDepth 100000
theorem wl_at {L : List Cond} {ps : List Nat} {args : Array Value} {s : State} (hp : L = ps.filterMap (fun i => lw_tbl[i]?)) (hok : L.all (fun w => goodWord w || (isN w && w.onTables)) = true) (hts : ∀ w ∈ lw_all, w.before args s = true) (hN : NW s) : ∀ w ∈ L, w.before args s = true := by
  intro w hw
  have h1 := List.all_eq_true.mp hok w hw
  have h2 : w ∈ lw_tbl := by
    rw [hp] at hw
    obtain ⟨i, -, hi⟩ := List.mem_filterMap.mp hw
    exact List.mem_of_getElem? hi
  simp only [Bool.or_eq_true, Bool.and_eq_true] at h1
  rcases h1 with h1 | ⟨h1, h3⟩
  · exact hts w (lw_g h2 h1)
  · exact va_tabs h3 rfl (hN w h2 h1)
theorem wl_ot {L : List Cond} (hok : L.all (fun w => goodWord w || (isN w && w.onTables)) = true) : ∀ w ∈ L, vx_ot w = true := by
  intro w hw
  have h1 := List.all_eq_true.mp hok w hw
  simp only [Bool.or_eq_true, Bool.and_eq_true] at h1
  simp only [vx_ot, Bool.or_eq_true]
  rcases h1 with h1 | ⟨h1, h3⟩
  · exact Or.inr h1
  · exact Or.inl h3
def bnulx {α : Type} (v : Option Nat) (z : α) (k : Nat → α) : α := match v with
  | some b => k b
  | none => z
def mkX (c n mc ms : Nat) (kk : Nat → Prop) : Prop := c ≤ mc ∧ n ≤ ms ∧ ∀ q, kk q
theorem npeL_tbl : vx_atN 8 = ([120, 840, 849, 869, 872, 874, 841, 842, 144, 145, 843, 848, 870, 889, 830, 890, 832, 891, 834, 844, 846, 836, 866, 856, 857, 1283, 1285, 863, 864, 1297, 1280, 1281, 1282, 879, 821, 879, 880, 881, 882, 823, 882, 883, 884, 841, 825, 133, 861, 1295, 1296, 855, 1291, 1292, 1294, 839, 838, 1289] : List Nat).filterMap (fun i => lw_tbl[i]?) := by decide +kernel
theorem npeL_ok : (vx_atN 8).all (fun w => goodWord w || (isN w && w.onTables)) = true := by decide +kernel
theorem cceL_tbl : vx_atM "java/lang/ClassCastException" ["java/lang/RuntimeException", "java/lang/Exception"] = ([120, 840, 849, 869, 872, 874, 841, 842, 144, 145, 843, 848, 870, 889, 830, 890, 832, 891, 834, 844, 846, 836, 1255, 1256, 888, 836, 1246, 1247, 1248, 1249, 822, 1249, 1250, 1251, 1252, 824, 1252, 1253, 1254, 1255, 826, 117, 1266, 172, 1267, 1269, 1268, 1270, 132, 1245, 1264, 1265, 853, 1259, 1260, 1262, 1258, 839, 838, 1257] : List Nat).filterMap (fun i => lw_tbl[i]?) := by decide +kernel
theorem cceL_ok : (vx_atM "java/lang/ClassCastException" ["java/lang/RuntimeException", "java/lang/Exception"]).all (fun w => goodWord w || (isN w && w.onTables)) = true := by decide +kernel
theorem nasL_tbl : vx_atM "java/lang/NegativeArraySizeException" ["java/lang/RuntimeException", "java/lang/Exception"] = ([120, 840, 849, 869, 872, 874, 841, 842, 144, 145, 843, 848, 870, 889, 830, 890, 832, 891, 834, 844, 846, 836, 1255, 1256, 888, 836, 1411, 1412, 1413, 1249, 822, 1249, 1250, 1251, 1252, 824, 1252, 1253, 1254, 1255, 826, 117, 1266, 172, 1267, 1269, 1268, 1270, 134, 1410, 1421, 1422, 854, 1416, 1417, 1419, 1415, 839, 838, 1414] : List Nat).filterMap (fun i => lw_tbl[i]?) := by decide +kernel
theorem nasL_ok : (vx_atM "java/lang/NegativeArraySizeException" ["java/lang/RuntimeException", "java/lang/Exception"]).all (fun w => goodWord w || (isN w && w.onTables)) = true := by decide +kernel
theorem aseL_tbl : vx_atM "java/lang/ArrayStoreException" ["java/lang/RuntimeException", "java/lang/Exception"] = ([120, 840, 849, 869, 872, 874, 841, 842, 144, 145, 843, 848, 870, 889, 830, 890, 832, 891, 834, 844, 846, 836, 1255, 1256, 888, 836, 1464, 1465, 1466, 1249, 822, 1249, 1250, 1251, 1252, 824, 1252, 1253, 1254, 1255, 826, 117, 1266, 172, 1267, 1269, 1268, 1270, 135, 1463, 1474, 1475, 852, 1469, 1470, 1472, 1468, 839, 838, 1467] : List Nat).filterMap (fun i => lw_tbl[i]?) := by decide +kernel
theorem aseL_ok : (vx_atM "java/lang/ArrayStoreException" ["java/lang/RuntimeException", "java/lang/Exception"]).all (fun w => goodWord w || (isN w && w.onTables)) = true := by decide +kernel
theorem iobL_tbl : vx_atM "java/lang/ArrayIndexOutOfBoundsException" ["java/lang/IndexOutOfBoundsException", "java/lang/RuntimeException", "java/lang/Exception"] = ([120, 840, 849, 869, 872, 874, 841, 842, 144, 145, 843, 848, 870, 889, 830, 890, 832, 891, 834, 844, 846, 836, 1255, 1256, 888, 836, 1478, 1479, 1480, 1481, 1493, 1481, 1482, 1483, 1249, 822, 1249, 1250, 1251, 1252, 824, 1252, 1253, 1254, 1255, 826, 117, 1266, 172, 1267, 1269, 1268, 1270, 137, 1477, 1491, 1494, 851, 1486, 1487, 1489, 1485, 839, 838, 1484] : List Nat).filterMap (fun i => lw_tbl[i]?) := by decide +kernel
theorem iobL_ok : (vx_atM "java/lang/ArrayIndexOutOfBoundsException" ["java/lang/IndexOutOfBoundsException", "java/lang/RuntimeException", "java/lang/Exception"]).all (fun w => goodWord w || (isN w && w.onTables)) = true := by decide +kernel
section XC
variable {p : Program} {l : Launch} {e : Env} {R : Room} {s : State} {m : MethodId} {args : Array Value} {below : List Frame} {meth : Method} {c : Code} {nL cells slots : Nat} {A : Nat → Prop} {g : XG} {ξ : XS} {Q : State → Prop} {pc n : Nat} {lv : List (Nat × Value)} {st : List Value} {cc : ByteArray} {ρ : Type} {res : ρ}
theorem xbgrow {H H1 : Heap} {locs : List Loc} (hB : XB g A s ξ H locs) (h2 : ∀ q : Nat, q < H.size → H1[q]? = H[q]?) (hS : va_S A s.heap H1 locs) : XB g A s ξ H1 locs := ⟨hB.1.kept (fun k x hx => h2 x.1 ((hB.1 k x hx).lt)), hB.2.1, hS, hB.2.2.2⟩
theorem cx_npe {own : String} (E : EV p s m args c cc nL own) (hlt : l.stackTraces = false) (hlk : meth.locks = false) {mc ms : Nat} (hb : cells + mc ≤ R.cells ∧ slots + ms ≤ R.slots) (hm : 1 ≤ mc) (hs : 8 ≤ ms) (hR : 8 ≤ R.frames ∧ 10248 ≤ R.locals) (hcat : (st.map fun v => v.category).sum ≤ 8)
    (k : ∀ q, (cells + 1 + (mc - 1) ≤ R.cells ∧ slots + 8 + (ms - 8) ≤ R.slots) → CX p l e R s m args below meth c nL (cells + 1) (slots + 8) (XB g A s ξ) Q pc lv "java/lang/NullPointerException" q) {H : Heap} {locs : List Loc} {ls : Array Slot} (hB : XB g A s ξ H locs) (hl : lv_has ls nL lv) : vx_NoteN p l e R s m args below meth c H locs cells slots Q (F0 m pc ls st) := by
  have hSG : SG g A s s.heap := hB.2.2.2.2.2.2.2
  refine vx_npe (nb := 8) E.1 hlt (wl_at npeL_tbl npeL_ok E.2.2.2.2 hB.2.2.2.2.2.1) (wl_ot npeL_ok) hSG.1 hSG.2.1 hB.2.2.1 (by rw [E.2.2.1]; exact hl.1) (by have := hR.1; omega) (by have := hR.2; omega) (by omega) (by omega) hlk (fun H1 q9 ce h1 h2 hS hc1 hc2 hc3 => ?_)
  exact k q9 ⟨by omega, by omega⟩ H1 locs ls st ce (xbgrow hB h2 hS) hl hc1 hc2 hc3
theorem cx_cce {own : String} (E : EV p s m args c cc nL own) (hlt : l.stackTraces = false) (hlk : meth.locks = false) {mc ms nb : Nat} {text : String} (htext : (text == notModelled) = false) (hnb : (stringBytes (stringToUtf16 text)).size ≤ nb) (hnb1 : nb ≤ 1000) (hb : cells + mc ≤ R.cells ∧ slots + ms ≤ R.slots) (hm : 3 ≤ mc) (hs : nb + 10 ≤ ms) (hR : 8 ≤ R.frames ∧ 10248 ≤ R.locals) (hcat : (st.map fun v => v.category).sum ≤ 8)
    (k : ∀ q, (cells + 3 + (mc - 3) ≤ R.cells ∧ slots + (nb + 10) + (ms - (nb + 10)) ≤ R.slots) → CX p l e R s m args below meth c nL (cells + 3) (slots + (nb + 10)) (XB g A s ξ) Q pc lv "java/lang/ClassCastException" q) {H : Heap} {locs : List Loc} {ls : Array Slot} (hB : XB g A s ξ H locs) (hl : lv_has ls nL lv) : vx_Note p l e R s m args below meth c H locs cells slots Q (F0 m pc ls st) "java/lang/ClassCastException" text := by
  have hSG : SG g A s s.heap := hB.2.2.2.2.2.2.2
  refine vx_vm (nb := nb) (names := ["java/lang/RuntimeException", "java/lang/Exception"]) E.1 hlt (by decide +kernel) (by decide +kernel) (by decide +kernel) (by decide +kernel) (wl_at cceL_tbl cceL_ok E.2.2.2.2 hB.2.2.2.2.2.1) (wl_ot cceL_ok) hSG.1 hSG.2.1 hB.2.2.1 (by rw [E.2.2.1]; exact hl.1) htext hnb hnb1 (by have := hR.1; show 2 + 4 < _; omega) (by have := hR.2; omega) (by decide) (by omega) (by omega) hlk (fun H1 q9 ce h1 h2 hS hc1 hc2 hc3 => ?_)
  exact k q9 ⟨by omega, by omega⟩ H1 locs ls st ce (xbgrow hB h2 hS) hl hc1 hc2 hc3
theorem cx_nas {own : String} (E : EV p s m args c cc nL own) (hlt : l.stackTraces = false) (hlk : meth.locks = false) {mc ms nb : Nat} {text : String} (htext : (text == notModelled) = false) (hnb : (stringBytes (stringToUtf16 text)).size ≤ nb) (hnb1 : nb ≤ 1000) (hb : cells + mc ≤ R.cells ∧ slots + ms ≤ R.slots) (hm : 3 ≤ mc) (hs : nb + 10 ≤ ms) (hR : 8 ≤ R.frames ∧ 10248 ≤ R.locals) (hcat : (st.map fun v => v.category).sum ≤ 8)
    (k : ∀ q, (cells + 3 + (mc - 3) ≤ R.cells ∧ slots + (nb + 10) + (ms - (nb + 10)) ≤ R.slots) → CX p l e R s m args below meth c nL (cells + 3) (slots + (nb + 10)) (XB g A s ξ) Q pc lv "java/lang/NegativeArraySizeException" q) {H : Heap} {locs : List Loc} {ls : Array Slot} (hB : XB g A s ξ H locs) (hl : lv_has ls nL lv) : vx_Note p l e R s m args below meth c H locs cells slots Q (F0 m pc ls st) "java/lang/NegativeArraySizeException" text := by
  have hSG : SG g A s s.heap := hB.2.2.2.2.2.2.2
  refine vx_vm (nb := nb) (names := ["java/lang/RuntimeException", "java/lang/Exception"]) E.1 hlt (by decide +kernel) (by decide +kernel) (by decide +kernel) (by decide +kernel) (wl_at nasL_tbl nasL_ok E.2.2.2.2 hB.2.2.2.2.2.1) (wl_ot nasL_ok) hSG.1 hSG.2.1 hB.2.2.1 (by rw [E.2.2.1]; exact hl.1) htext hnb hnb1 (by have := hR.1; show 2 + 4 < _; omega) (by have := hR.2; omega) (by decide) (by omega) (by omega) hlk (fun H1 q9 ce h1 h2 hS hc1 hc2 hc3 => ?_)
  exact k q9 ⟨by omega, by omega⟩ H1 locs ls st ce (xbgrow hB h2 hS) hl hc1 hc2 hc3
theorem cx_ase {own : String} (E : EV p s m args c cc nL own) (hlt : l.stackTraces = false) (hlk : meth.locks = false) {mc ms nb : Nat} {text : String} (htext : (text == notModelled) = false) (hnb : (stringBytes (stringToUtf16 text)).size ≤ nb) (hnb1 : nb ≤ 1000) (hb : cells + mc ≤ R.cells ∧ slots + ms ≤ R.slots) (hm : 3 ≤ mc) (hs : nb + 10 ≤ ms) (hR : 8 ≤ R.frames ∧ 10248 ≤ R.locals) (hcat : (st.map fun v => v.category).sum ≤ 8)
    (k : ∀ q, (cells + 3 + (mc - 3) ≤ R.cells ∧ slots + (nb + 10) + (ms - (nb + 10)) ≤ R.slots) → CX p l e R s m args below meth c nL (cells + 3) (slots + (nb + 10)) (XB g A s ξ) Q pc lv "java/lang/ArrayStoreException" q) {H : Heap} {locs : List Loc} {ls : Array Slot} (hB : XB g A s ξ H locs) (hl : lv_has ls nL lv) : vx_Note p l e R s m args below meth c H locs cells slots Q (F0 m pc ls st) "java/lang/ArrayStoreException" text := by
  have hSG : SG g A s s.heap := hB.2.2.2.2.2.2.2
  refine vx_vm (nb := nb) (names := ["java/lang/RuntimeException", "java/lang/Exception"]) E.1 hlt (by decide +kernel) (by decide +kernel) (by decide +kernel) (by decide +kernel) (wl_at aseL_tbl aseL_ok E.2.2.2.2 hB.2.2.2.2.2.1) (wl_ot aseL_ok) hSG.1 hSG.2.1 hB.2.2.1 (by rw [E.2.2.1]; exact hl.1) htext hnb hnb1 (by have := hR.1; show 2 + 4 < _; omega) (by have := hR.2; omega) (by decide) (by omega) (by omega) hlk (fun H1 q9 ce h1 h2 hS hc1 hc2 hc3 => ?_)
  exact k q9 ⟨by omega, by omega⟩ H1 locs ls st ce (xbgrow hB h2 hS) hl hc1 hc2 hc3
theorem cx_iob {own : String} (E : EV p s m args c cc nL own) (hlt : l.stackTraces = false) (hlk : meth.locks = false) {mc ms nb : Nat} {text : String} (htext : (text == notModelled) = false) (hnb : (stringBytes (stringToUtf16 text)).size ≤ nb) (hnb1 : nb ≤ 1000) (hb : cells + mc ≤ R.cells ∧ slots + ms ≤ R.slots) (hm : 3 ≤ mc) (hs : nb + 10 ≤ ms) (hR : 8 ≤ R.frames ∧ 10248 ≤ R.locals) (hcat : (st.map fun v => v.category).sum ≤ 8)
    (k : ∀ q, (cells + 3 + (mc - 3) ≤ R.cells ∧ slots + (nb + 10) + (ms - (nb + 10)) ≤ R.slots) → CX p l e R s m args below meth c nL (cells + 3) (slots + (nb + 10)) (XB g A s ξ) Q pc lv "java/lang/ArrayIndexOutOfBoundsException" q) {H : Heap} {locs : List Loc} {ls : Array Slot} (hB : XB g A s ξ H locs) (hl : lv_has ls nL lv) : vx_Note p l e R s m args below meth c H locs cells slots Q (F0 m pc ls st) "java/lang/ArrayIndexOutOfBoundsException" text := by
  have hSG : SG g A s s.heap := hB.2.2.2.2.2.2.2
  refine vx_vm (nb := nb) (names := ["java/lang/IndexOutOfBoundsException", "java/lang/RuntimeException", "java/lang/Exception"]) E.1 hlt (by decide +kernel) (by decide +kernel) (by decide +kernel) (by decide +kernel) (wl_at iobL_tbl iobL_ok E.2.2.2.2 hB.2.2.2.2.2.1) (wl_ot iobL_ok) hSG.1 hSG.2.1 hB.2.2.1 (by rw [E.2.2.1]; exact hl.1) htext hnb hnb1 (by have := hR.1; show 3 + 4 < _; omega) (by have := hR.2; omega) (by decide) (by omega) (by omega) hlk (fun H1 q9 ce h1 h2 hS hc1 hc2 hc3 => ?_)
  exact k q9 ⟨by omega, by omega⟩ H1 locs ls st ce (xbgrow hB h2 hS) hl hc1 hc2 hc3
theorem xlenN {own : String} (E : EV p s m args c cc nL own) (hlt : l.stackTraces = false) (hlk : meth.locks = false) {mc ms : Nat} {kk : Nat → Prop} (hb : cells + mc ≤ R.cells ∧ slots + ms ≤ R.slots) (hR : 8 ≤ R.frames ∧ 10248 ≤ R.locals) (hcat : (st.map fun v => v.category).sum ≤ 8) (d : decode cc pc = .ok (.arraylength, 1)) (h : mkX 1 8 mc ms kk)
    (k : ∀ q, (cells + 1 + (mc - 1) ≤ R.cells ∧ slots + 8 + (ms - 8) ≤ R.slots) → kk q → CX p l e R s m args below meth c nL (cells + 1) (slots + 8) (XB g A s ξ) Q pc lv "java/lang/NullPointerException" q) : CF p l e R s m args below meth c nL cells slots (XB g A s ξ) Q pc lv (.null :: st) :=
  fun H locs ls hB hl => vx_arraylengthN E.1 E.2.1 d (cx_npe E hlt hlk hb h.1 h.2.1 hR hcat (fun q hq => k q hq (h.2.2 q)) hB hl)
theorem xsplitx {v : Option Nat} {A9 : Nat → Prop} {B9 : Prop} (h : bnulx v B9 A9) (kn : v = none → B9 → CF p l e R s m args below meth c nL cells slots (XB g A s ξ) Q pc lv (.null :: st)) (ks : ∀ b, v = some b → A9 b → CF p l e R s m args below meth c nL cells slots (XB g A s ξ) Q pc lv (.ref b :: st)) : CF p l e R s m args below meth c nL cells slots (XB g A s ξ) Q pc lv (va_rf v :: st) := by
  cases v with
  | none => exact kn rfl h
  | some b => exact ks b rfl h
theorem xsplit {v : Option Nat} {A9 : Nat → Prop} {B9 : Prop} (h : bnul v A9 B9) (ks : ∀ b, v = some b → A9 b → CF p l e R s m args below meth c nL cells slots (XB g A s ξ) Q pc lv (.ref b :: st)) (kn : v = none → B9 → CF p l e R s m args below meth c nL cells slots (XB g A s ξ) Q pc lv (.null :: st)) : CF p l e R s m args below meth c nL cells slots (XB g A s ξ) Q pc lv (va_rf v :: st) := by
  cases v with
  | none => exact kn rfl h
  | some b => exact ks b rfl h
theorem xnewaZ_0 {own : String} (E : EV p s m args c cc nL own) (hlt : l.stackTraces = false) (hlk : meth.locks = false) {i : Int32} {mc ms : Nat} {kk : Nat → Prop} (h0 : i < 0) (hb : cells + mc ≤ R.cells ∧ slots + ms ≤ R.slots) (hR : 8 ≤ R.frames ∧ 10248 ≤ R.locals) (hcat : (st.map fun v => v.category).sum ≤ 8) (d : decode cc pc = .ok (.newarray .int, 2)) (h : mkX 3 54 mc ms kk)
    (k : ∀ q, (cells + 3 + (mc - 3) ≤ R.cells ∧ slots + 54 + (ms - 54) ≤ R.slots) → kk q → CX p l e R s m args below meth c nL (cells + 3) (slots + 54) (XB g A s ξ) Q pc lv "java/lang/NegativeArraySizeException" q) : CF p l e R s m args below meth c nL cells slots (XB g A s ξ) Q pc lv (.int i :: st) :=
  fun H locs ls hB hl => vx_newarrayZ E.1 E.2.1 h0 d (fun tx htx => by
    subst htx
    exact cx_nas E hlt hlk (nb := 44) (negative_text_modelled h0) (negative_text_bytes i) (by decide) hb h.1 h.2.1 hR hcat (fun q hq => k q hq (h.2.2 q)) hB hl)
theorem xnewaZ_1 {own : String} (E : EV p s m args c cc nL own) (hlt : l.stackTraces = false) (hlk : meth.locks = false) {i : Int32} {mc ms : Nat} {kk : Nat → Prop} (h0 : i < 0) (hb : cells + mc ≤ R.cells ∧ slots + ms ≤ R.slots) (hR : 8 ≤ R.frames ∧ 10248 ≤ R.locals) (hcat : (st.map fun v => v.category).sum ≤ 8) (d : decode cc pc = .ok (.newarray .byte, 2)) (h : mkX 3 54 mc ms kk)
    (k : ∀ q, (cells + 3 + (mc - 3) ≤ R.cells ∧ slots + 54 + (ms - 54) ≤ R.slots) → kk q → CX p l e R s m args below meth c nL (cells + 3) (slots + 54) (XB g A s ξ) Q pc lv "java/lang/NegativeArraySizeException" q) : CF p l e R s m args below meth c nL cells slots (XB g A s ξ) Q pc lv (.int i :: st) :=
  fun H locs ls hB hl => vx_newarrayZ E.1 E.2.1 h0 d (fun tx htx => by
    subst htx
    exact cx_nas E hlt hlk (nb := 44) (negative_text_modelled h0) (negative_text_bytes i) (by decide) hb h.1 h.2.1 hR hcat (fun q hq => k q hq (h.2.2 q)) hB hl)
theorem xnewaZ_2 {own : String} (E : EV p s m args c cc nL own) (hlt : l.stackTraces = false) (hlk : meth.locks = false) {i : Int32} {mc ms : Nat} {kk : Nat → Prop} (h0 : i < 0) (hb : cells + mc ≤ R.cells ∧ slots + ms ≤ R.slots) (hR : 8 ≤ R.frames ∧ 10248 ≤ R.locals) (hcat : (st.map fun v => v.category).sum ≤ 8) (d : decode cc pc = .ok (.newarray .boolean, 2)) (h : mkX 3 54 mc ms kk)
    (k : ∀ q, (cells + 3 + (mc - 3) ≤ R.cells ∧ slots + 54 + (ms - 54) ≤ R.slots) → kk q → CX p l e R s m args below meth c nL (cells + 3) (slots + 54) (XB g A s ξ) Q pc lv "java/lang/NegativeArraySizeException" q) : CF p l e R s m args below meth c nL cells slots (XB g A s ξ) Q pc lv (.int i :: st) :=
  fun H locs ls hB hl => vx_newarrayZ E.1 E.2.1 h0 d (fun tx htx => by
    subst htx
    exact cx_nas E hlt hlk (nb := 44) (negative_text_modelled h0) (negative_text_bytes i) (by decide) hb h.1 h.2.1 hR hcat (fun q hq => k q hq (h.2.2 q)) hB hl)
theorem xnewaZ_3 {own : String} (E : EV p s m args c cc nL own) (hlt : l.stackTraces = false) (hlk : meth.locks = false) {i : Int32} {mc ms : Nat} {kk : Nat → Prop} (h0 : i < 0) (hb : cells + mc ≤ R.cells ∧ slots + ms ≤ R.slots) (hR : 8 ≤ R.frames ∧ 10248 ≤ R.locals) (hcat : (st.map fun v => v.category).sum ≤ 8) (d : decode cc pc = .ok (.newarray .long, 2)) (h : mkX 3 54 mc ms kk)
    (k : ∀ q, (cells + 3 + (mc - 3) ≤ R.cells ∧ slots + 54 + (ms - 54) ≤ R.slots) → kk q → CX p l e R s m args below meth c nL (cells + 3) (slots + 54) (XB g A s ξ) Q pc lv "java/lang/NegativeArraySizeException" q) : CF p l e R s m args below meth c nL cells slots (XB g A s ξ) Q pc lv (.int i :: st) :=
  fun H locs ls hB hl => vx_newarrayZ E.1 E.2.1 h0 d (fun tx htx => by
    subst htx
    exact cx_nas E hlt hlk (nb := 44) (negative_text_modelled h0) (negative_text_bytes i) (by decide) hb h.1 h.2.1 hR hcat (fun q hq => k q hq (h.2.2 q)) hB hl)
theorem xnewaZ_4 {own : String} (E : EV p s m args c cc nL own) (hlt : l.stackTraces = false) (hlk : meth.locks = false) {i : Int32} {mc ms : Nat} {kk : Nat → Prop} (h0 : i < 0) (hb : cells + mc ≤ R.cells ∧ slots + ms ≤ R.slots) (hR : 8 ≤ R.frames ∧ 10248 ≤ R.locals) (hcat : (st.map fun v => v.category).sum ≤ 8) (d : decode cc pc = .ok (.newarray .short, 2)) (h : mkX 3 54 mc ms kk)
    (k : ∀ q, (cells + 3 + (mc - 3) ≤ R.cells ∧ slots + 54 + (ms - 54) ≤ R.slots) → kk q → CX p l e R s m args below meth c nL (cells + 3) (slots + 54) (XB g A s ξ) Q pc lv "java/lang/NegativeArraySizeException" q) : CF p l e R s m args below meth c nL cells slots (XB g A s ξ) Q pc lv (.int i :: st) :=
  fun H locs ls hB hl => vx_newarrayZ E.1 E.2.1 h0 d (fun tx htx => by
    subst htx
    exact cx_nas E hlt hlk (nb := 44) (negative_text_modelled h0) (negative_text_bytes i) (by decide) hb h.1 h.2.1 hR hcat (fun q hq => k q hq (h.2.2 q)) hB hl)
end XC
