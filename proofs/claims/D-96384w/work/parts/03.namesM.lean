/-! HatsDecideModel -/
set_option maxRecDepth 100000
def RX6 : String := "HatsDecideModel"
def TX6 : u_T := fun k => match k with
  | 0 => ("HatsDecideModel", "heads", "I", false)
  | 1 => ("HatsDecideModel", "hats", "I", false)
  | 2 => ("HatsDecideModel", "days", "I", false)
  | 3 => ("HatsDecideModel", "headSize", "[I", true)
  | 4 => ("HatsDecideModel", "owned", "[I", true)
  | 5 => ("HatsDecideModel", "worn", "[I", true)
  | 6 => ("HatsDecideModel", "kind", "[I", true)
  | 7 => ("HatsDecideModel", "v", "[I", true)
  | 8 => ("HatsDecideModel", "hatSize", "[I", true)
  | 9 => ("HatsDecideModel", "skill", "[I", true)
  | 10 => ("HatsDecideModel", "trade", "[I", true)
  | 11 => ("HatsDecideModel", "used", "[I", true)
  | 12 => ("HatsDecideModel", "rows", "[I", true)
  | 13 => ("HatsDecideModel", "done", "[I", true)
  | 14 => ("HatsDecideModel", "towns", "I", false)
  | 15 => ("HatsDecideModel", "the", "I", false)
  | 16 => ("HatsDecideModel", "fed", "I", false)
  | 17 => ("HatsDecideModel", "at", "I", false)
  | 18 => ("HatsDecideModel", "digits", "I", false)
  | 19 => ("HatsDecideModel", "text", "[I", true)
  | 20 => ("HatsDecideModel", "clauses", "[I", true)
  | 21 => ("HatsDecideModel", "word", "[I", true)
  | 22 => ("HatsDecideModel", "number", "[I", true)
  | 23 => ("HatsDecideModel", "asked", "[I", true)
  | 24 => ("HatsDecideModel", "from", "[I", true)
  | 25 => ("HatsDecideModel", "to", "[I", true)
  | 26 => ("HatsDecideModel", "sign", "[I", true)
  | 27 => ("HatsDecideModel", "waits", "[I", true)
  | 28 => ("HatsDecideModel", "signs", "I", false)
  | 29 => ("HatsDecideModel", "waiting", "I", false)
  | 30 => ("HatsDecideModel", "open", "I", false)
  | 31 => ("HatsDecideModel", "letters", "[I", true)
  | 32 => ("HatsDecideModel", "pile", "[Z", true)
  | 33 => ("HatsDecideModel", "mostUsed", "I", false)
  | 34 => ("HatsDecideModel", "blown", "[I", true)
  | 35 => ("HatsDecideModel", "keptDays", "I", false)
  | 36 => ("HatsDecideModel", "keptUsed", "[I", true)
  | 37 => ("HatsDecideModel", "keptWorn", "[I", true)
  | 38 => ("HatsDecideModel", "bestWay", "[I", true)
  | 39 => ("HatsDecideModel", "deeds", "[I", true)
  | 40 => ("HatsDecideModel", "bestSum", "I", false)
  | 41 => ("HatsDecideModel", "onward", "[I", true)
  | 42 => ("HatsDecideModel", "top", "[I", true)
  | 43 => ("HatsDecideModel", "seen", "I", false)
  | 44 => ("HatsDecideModel", "seenWho", "[I", true)
  | 45 => ("HatsDecideModel", "seenDeed", "[I", true)
  | 46 => ("HatsDecideModel", "ways", "[I", true)
  | 47 => ("HatsDecideModel", "books", "I", false)
  | 48 => ("HatsDecideModel", "bookWhat", "[I", true)
  | 49 => ("HatsDecideModel", "bookWho", "[I", true)
  | 50 => ("HatsDecideModel", "hasImage", "Z", false)
  | 51 => ("HatsDecideModel", "imageThe", "I", false)
  | 52 => ("HatsDecideModel", "imageHeads", "I", false)
  | 53 => ("HatsDecideModel", "imageHats", "I", false)
  | 54 => ("HatsDecideModel", "imageDays", "I", false)
  | 55 => ("HatsDecideModel", "imageSeen", "I", false)
  | 56 => ("HatsDecideModel", "imageBooks", "I", false)
  | 57 => ("HatsDecideModel", "imageHeadSize", "[I", true)
  | 58 => ("HatsDecideModel", "imageOwned", "[I", true)
  | 59 => ("HatsDecideModel", "imageWorn", "[I", true)
  | 60 => ("HatsDecideModel", "imageKind", "[I", true)
  | 61 => ("HatsDecideModel", "imageV", "[I", true)
  | 62 => ("HatsDecideModel", "imageHatSize", "[I", true)
  | 63 => ("HatsDecideModel", "imageSkill", "[I", true)
  | 64 => ("HatsDecideModel", "imageTrade", "[I", true)
  | 65 => ("HatsDecideModel", "imageUsed", "[I", true)
  | 66 => ("HatsDecideModel", "imageRows", "[I", true)
  | 67 => ("HatsDecideModel", "imageDone", "[I", true)
  | 68 => ("HatsDecideModel", "imageWho", "[I", true)
  | 69 => ("HatsDecideModel", "imageDeed", "[I", true)
  | 70 => ("HatsDecideModel", "imageWhat", "[I", true)
  | 71 => ("HatsDecideModel", "imageBookWho", "[I", true)
  | 72 => ("HatsDecideModel", "ran", "I", false)
  | 73 => ("HatsDecideModel", "bodies", "[I", true)
  | 74 => ("HatsDecideModel", "sort", "[I", true)
  | 75 => ("HatsDecideModel", "length", "[I", true)
  | 76 => ("HatsDecideModel", "item", "[J", true)
  | _ => ("HatsDecideModel", "aside", "[J", true)
def tyX6 : Nat → FieldType := fun k => match k with
  | 0 => .int
  | 1 => .int
  | 2 => .int
  | 3 => .array .int
  | 4 => .array .int
  | 5 => .array .int
  | 6 => .array .int
  | 7 => .array .int
  | 8 => .array .int
  | 9 => .array .int
  | 10 => .array .int
  | 11 => .array .int
  | 12 => .array .int
  | 13 => .array .int
  | 14 => .int
  | 15 => .int
  | 16 => .int
  | 17 => .int
  | 18 => .int
  | 19 => .array .int
  | 20 => .array .int
  | 21 => .array .int
  | 22 => .array .int
  | 23 => .array .int
  | 24 => .array .int
  | 25 => .array .int
  | 26 => .array .int
  | 27 => .array .int
  | 28 => .int
  | 29 => .int
  | 30 => .int
  | 31 => .array .int
  | 32 => .array .boolean
  | 33 => .int
  | 34 => .array .int
  | 35 => .int
  | 36 => .array .int
  | 37 => .array .int
  | 38 => .array .int
  | 39 => .array .int
  | 40 => .int
  | 41 => .array .int
  | 42 => .array .int
  | 43 => .int
  | 44 => .array .int
  | 45 => .array .int
  | 46 => .array .int
  | 47 => .int
  | 48 => .array .int
  | 49 => .array .int
  | 50 => .boolean
  | 51 => .int
  | 52 => .int
  | 53 => .int
  | 54 => .int
  | 55 => .int
  | 56 => .int
  | 57 => .array .int
  | 58 => .array .int
  | 59 => .array .int
  | 60 => .array .int
  | 61 => .array .int
  | 62 => .array .int
  | 63 => .array .int
  | 64 => .array .int
  | 65 => .array .int
  | 66 => .array .int
  | 67 => .array .int
  | 68 => .array .int
  | 69 => .array .int
  | 70 => .array .int
  | 71 => .array .int
  | 72 => .int
  | 73 => .array .int
  | 74 => .array .int
  | 75 => .array .int
  | 76 => .array .long
  | _ => .array .long
abbrev wsX60 : List Cond := u_ws RX6 TX6 78
set_option maxRecDepth 100000 in
theorem nmX6 : ∀ a, a < 78 → ∀ b, b < 78 → a ≠ b → (TX6 a).2.1 ≠ (TX6 b).2.1 := by decide +kernel
set_option maxRecDepth 100000 in
theorem tyX6_ok : ∀ k, k < 78 → parseFieldDescriptor (TX6 k).2.2.1 = some (tyX6 k) := by decide +kernel
abbrev cX6_init : ByteArray := prog_23_method_1_code
def yX6_init : MethodName := ⟨RX6, "<init>", "()V"⟩
def dkwX6_init_28 : List UInt8 := [188, 11, 181, 0, 241, 42, 16, 60, 188, 11, 181, 0, 245, 177]
abbrev dktX6_init_28 : List UInt8 := dkwX6_init_28 ++ []
def dkwX6_init_27 : List UInt8 := [89, 7, 2, 79, 89, 8, 2, 79, 181, 0, 235, 42, 16, 6, 188, 10, 181, 0, 238, 42, 17, 1, 104]
abbrev dktX6_init_27 : List UInt8 := dkwX6_init_27 ++ dktX6_init_28
def dkwX6_init_26 : List UInt8 := [181, 0, 232, 42, 16, 6, 188, 10, 89, 3, 2, 79, 89, 4, 2, 79, 89, 5, 2, 79, 89, 6, 2, 79]
abbrev dktX6_init_26 : List UInt8 := dkwX6_init_26 ++ dktX6_init_27
def dkwX6_init_25 : List UInt8 := [188, 10, 181, 0, 223, 42, 16, 8, 188, 10, 181, 0, 226, 42, 3, 181, 0, 229, 42, 16, 20, 188, 10]
abbrev dktX6_init_25 : List UInt8 := dkwX6_init_25 ++ dktX6_init_26
def dkwX6_init_24 : List UInt8 := [188, 10, 181, 0, 214, 42, 16, 6, 188, 10, 181, 0, 217, 42, 16, 6, 188, 10, 181, 0, 220, 42, 16, 8]
abbrev dktX6_init_24 : List UInt8 := dkwX6_init_24 ++ dktX6_init_25
def dkwX6_init_23 : List UInt8 := [188, 10, 181, 0, 205, 42, 16, 6, 188, 10, 181, 0, 208, 42, 16, 24, 188, 10, 181, 0, 211, 42, 8]
abbrev dktX6_init_23 : List UInt8 := dkwX6_init_23 ++ dktX6_init_24
def dkwX6_init_22 : List UInt8 := [188, 10, 181, 0, 196, 42, 16, 6, 188, 10, 181, 0, 199, 42, 16, 6, 188, 10, 181, 0, 202, 42, 16, 6]
abbrev dktX6_init_22 : List UInt8 := dkwX6_init_22 ++ dktX6_init_23
def dkwX6_init_21 : List UInt8 := [188, 10, 181, 0, 187, 42, 16, 6, 188, 10, 181, 0, 190, 42, 16, 6, 188, 10, 181, 0, 193, 42, 16, 6]
abbrev dktX6_init_21 : List UInt8 := dkwX6_init_21 ++ dktX6_init_22
def dkwX6_init_20 : List UInt8 := [181, 0, 175, 42, 3, 181, 0, 178, 42, 3, 181, 0, 181, 42, 16, 6, 188, 10, 181, 0, 184, 42, 16, 6]
abbrev dktX6_init_20 : List UInt8 := dkwX6_init_20 ++ dktX6_init_21
def dkwX6_init_19 : List UInt8 := [42, 3, 181, 0, 162, 42, 2, 181, 0, 166, 42, 3, 181, 0, 169, 42, 3, 181, 0, 172, 42, 3]
abbrev dktX6_init_19 : List UInt8 := dkwX6_init_19 ++ dktX6_init_20
def dkwX6_init_18 : List UInt8 := [181, 0, 150, 42, 3, 181, 0, 153, 42, 16, 8, 188, 10, 181, 0, 156, 42, 16, 8, 188, 10, 181, 0, 159]
abbrev dktX6_init_18 : List UInt8 := dkwX6_init_18 ++ dktX6_init_19
def dkwX6_init_17 : List UInt8 := [181, 0, 141, 42, 16, 6, 188, 10, 181, 0, 144, 42, 16, 6, 188, 10, 181, 0, 147, 42, 16, 64, 188, 10]
abbrev dktX6_init_17 : List UInt8 := dkwX6_init_17 ++ dktX6_init_18
def dkwX6_init_16 : List UInt8 := [42, 3, 181, 0, 132, 42, 17, 1, 192, 188, 10, 181, 0, 135, 42, 16, 64, 188, 10, 181, 0, 138, 42, 3]
abbrev dktX6_init_16 : List UInt8 := dkwX6_init_16 ++ dktX6_init_17
def dkwX6_init_15 : List UInt8 := [42, 16, 6, 188, 10, 181, 0, 123, 42, 16, 6, 188, 10, 181, 0, 126, 42, 16, 36, 188, 10, 181, 0, 129]
abbrev dktX6_init_15 : List UInt8 := dkwX6_init_15 ++ dktX6_init_16
def dkwX6_init_14 : List UInt8 := [181, 0, 111, 42, 16, 6, 188, 10, 181, 0, 114, 42, 3, 181, 0, 117, 42, 16, 6, 188, 10, 181, 0, 120]
abbrev dktX6_init_14 : List UInt8 := dkwX6_init_14 ++ dktX6_init_15
def dkwX6_init_13 : List UInt8 := [79, 89, 16, 15, 16, 107, 79, 181, 0, 104, 42, 16, 100, 188, 4, 181, 0, 107, 42, 17, 39, 15]
abbrev dktX6_init_13 : List UInt8 := dkwX6_init_13 ++ dktX6_init_14
def dkwX6_init_12 : List UInt8 := [79, 89, 16, 11, 16, 104, 79, 89, 16, 12, 16, 119, 79, 89, 16, 13, 16, 111, 79, 89, 16, 14, 16, 114]
abbrev dktX6_init_12 : List UInt8 := dkwX6_init_12 ++ dktX6_init_13
def dkwX6_init_11 : List UInt8 := [79, 89, 16, 7, 16, 108, 79, 89, 16, 8, 16, 109, 79, 89, 16, 9, 16, 111, 79, 89, 16, 10, 16, 116]
abbrev dktX6_init_11 : List UInt8 := dkwX6_init_11 ++ dktX6_init_12
def dkwX6_init_10 : List UInt8 := [5, 16, 105, 79, 89, 6, 16, 116, 79, 89, 7, 16, 103, 79, 89, 8, 16, 97, 79, 89, 16, 6, 16, 108]
abbrev dktX6_init_10 : List UInt8 := dkwX6_init_10 ++ dktX6_init_11
def dkwX6_init_9 : List UInt8 := [181, 0, 98, 42, 3, 181, 0, 101, 42, 16, 16, 188, 10, 89, 3, 16, 115, 79, 89, 4, 16, 117, 79, 89]
abbrev dktX6_init_9 : List UInt8 := dkwX6_init_9 ++ dktX6_init_10
def dkwX6_init_8 : List UInt8 := [17, 2, 88, 188, 10, 181, 0, 89, 42, 16, 101, 188, 10, 181, 0, 92, 42, 3, 181, 0, 95, 42, 3]
abbrev dktX6_init_8 : List UInt8 := dkwX6_init_8 ++ dktX6_init_9
def dkwX6_init_7 : List UInt8 := [188, 10, 181, 0, 80, 42, 16, 60, 188, 10, 181, 0, 83, 42, 16, 60, 188, 10, 181, 0, 86, 42]
abbrev dktX6_init_7 : List UInt8 := dkwX6_init_7 ++ dktX6_init_8
def dkwX6_init_6 : List UInt8 := [188, 10, 181, 0, 71, 42, 16, 60, 188, 10, 181, 0, 74, 42, 16, 60, 188, 10, 181, 0, 77, 42, 16, 60]
abbrev dktX6_init_6 : List UInt8 := dkwX6_init_6 ++ dktX6_init_7
def dkwX6_init_5 : List UInt8 := [181, 0, 59, 42, 3, 181, 0, 62, 42, 3, 181, 0, 65, 42, 16, 100, 188, 10, 181, 0, 68, 42, 16, 6]
abbrev dktX6_init_5 : List UInt8 := dkwX6_init_5 ++ dktX6_init_6
def dkwX6_init_4 : List UInt8 := [181, 0, 47, 42, 8, 188, 10, 181, 0, 50, 42, 3, 181, 0, 53, 42, 2, 181, 0, 56, 42, 3]
abbrev dktX6_init_4 : List UInt8 := dkwX6_init_4 ++ dktX6_init_5
def dkwX6_init_3 : List UInt8 := [181, 0, 38, 42, 16, 6, 188, 10, 181, 0, 41, 42, 16, 6, 188, 10, 181, 0, 44, 42, 16, 24, 188, 10]
abbrev dktX6_init_3 : List UInt8 := dkwX6_init_3 ++ dktX6_init_4
def dkwX6_init_2 : List UInt8 := [181, 0, 29, 42, 16, 6, 188, 10, 181, 0, 32, 42, 16, 6, 188, 10, 181, 0, 35, 42, 16, 6, 188, 10]
abbrev dktX6_init_2 : List UInt8 := dkwX6_init_2 ++ dktX6_init_3
def dkwX6_init_1 : List UInt8 := [181, 0, 19, 42, 16, 6, 188, 10, 181, 0, 23, 42, 16, 6, 188, 10, 181, 0, 26, 42, 16, 6, 188, 10]
abbrev dktX6_init_1 : List UInt8 := dkwX6_init_1 ++ dktX6_init_2
def dkwX6_init_0 : List UInt8 := [42, 183, 0, 1, 42, 3, 181, 0, 7, 42, 3, 181, 0, 13, 42, 3, 181, 0, 16, 42, 16, 6, 188, 10]
abbrev dktX6_init_0 : List UInt8 := dkwX6_init_0 ++ dktX6_init_1
theorem dksX6_init_0 : cX6_init.data.toList.drop 0 = dktX6_init_0 := by decide +kernel
theorem dksX6_init_1 : cX6_init.data.toList.drop 24 = dktX6_init_1 := dk_seg dksX6_init_0 24 rfl rfl
theorem dksX6_init_2 : cX6_init.data.toList.drop 48 = dktX6_init_2 := dk_seg dksX6_init_1 24 rfl rfl
theorem dksX6_init_3 : cX6_init.data.toList.drop 72 = dktX6_init_3 := dk_seg dksX6_init_2 24 rfl rfl
theorem dksX6_init_4 : cX6_init.data.toList.drop 96 = dktX6_init_4 := dk_seg dksX6_init_3 24 rfl rfl
theorem dksX6_init_5 : cX6_init.data.toList.drop 118 = dktX6_init_5 := dk_seg dksX6_init_4 22 rfl rfl
theorem dksX6_init_6 : cX6_init.data.toList.drop 142 = dktX6_init_6 := dk_seg dksX6_init_5 24 rfl rfl
theorem dksX6_init_7 : cX6_init.data.toList.drop 166 = dktX6_init_7 := dk_seg dksX6_init_6 24 rfl rfl
theorem dksX6_init_8 : cX6_init.data.toList.drop 188 = dktX6_init_8 := dk_seg dksX6_init_7 22 rfl rfl
theorem dksX6_init_9 : cX6_init.data.toList.drop 211 = dktX6_init_9 := dk_seg dksX6_init_8 23 rfl rfl
theorem dksX6_init_10 : cX6_init.data.toList.drop 235 = dktX6_init_10 := dk_seg dksX6_init_9 24 rfl rfl
theorem dksX6_init_11 : cX6_init.data.toList.drop 259 = dktX6_init_11 := dk_seg dksX6_init_10 24 rfl rfl
theorem dksX6_init_12 : cX6_init.data.toList.drop 283 = dktX6_init_12 := dk_seg dksX6_init_11 24 rfl rfl
theorem dksX6_init_13 : cX6_init.data.toList.drop 307 = dktX6_init_13 := dk_seg dksX6_init_12 24 rfl rfl
theorem dksX6_init_14 : cX6_init.data.toList.drop 329 = dktX6_init_14 := dk_seg dksX6_init_13 22 rfl rfl
theorem dksX6_init_15 : cX6_init.data.toList.drop 353 = dktX6_init_15 := dk_seg dksX6_init_14 24 rfl rfl
theorem dksX6_init_16 : cX6_init.data.toList.drop 377 = dktX6_init_16 := dk_seg dksX6_init_15 24 rfl rfl
theorem dksX6_init_17 : cX6_init.data.toList.drop 401 = dktX6_init_17 := dk_seg dksX6_init_16 24 rfl rfl
theorem dksX6_init_18 : cX6_init.data.toList.drop 425 = dktX6_init_18 := dk_seg dksX6_init_17 24 rfl rfl
theorem dksX6_init_19 : cX6_init.data.toList.drop 449 = dktX6_init_19 := dk_seg dksX6_init_18 24 rfl rfl
theorem dksX6_init_20 : cX6_init.data.toList.drop 471 = dktX6_init_20 := dk_seg dksX6_init_19 22 rfl rfl
theorem dksX6_init_21 : cX6_init.data.toList.drop 495 = dktX6_init_21 := dk_seg dksX6_init_20 24 rfl rfl
theorem dksX6_init_22 : cX6_init.data.toList.drop 519 = dktX6_init_22 := dk_seg dksX6_init_21 24 rfl rfl
theorem dksX6_init_23 : cX6_init.data.toList.drop 543 = dktX6_init_23 := dk_seg dksX6_init_22 24 rfl rfl
theorem dksX6_init_24 : cX6_init.data.toList.drop 566 = dktX6_init_24 := dk_seg dksX6_init_23 23 rfl rfl
theorem dksX6_init_25 : cX6_init.data.toList.drop 590 = dktX6_init_25 := dk_seg dksX6_init_24 24 rfl rfl
theorem dksX6_init_26 : cX6_init.data.toList.drop 613 = dktX6_init_26 := dk_seg dksX6_init_25 23 rfl rfl
theorem dksX6_init_27 : cX6_init.data.toList.drop 637 = dktX6_init_27 := dk_seg dksX6_init_26 24 rfl rfl
theorem dksX6_init_28 : cX6_init.data.toList.drop 660 = dktX6_init_28 := dk_seg dksX6_init_27 23 rfl rfl
theorem dX6_init_0 : decode cX6_init 0 = .ok (.aload_n 0, 1) := dk_42 (dk_at dksX6_init_0 0 rfl rfl)
theorem dX6_init_1 : decode cX6_init 1 = .ok (.invokespecial 1, 3) := dk_183 0 1 (dk_at dksX6_init_0 1 rfl rfl)
theorem dX6_init_4 : decode cX6_init 4 = .ok (.aload_n 0, 1) := dk_42 (dk_at dksX6_init_0 4 rfl rfl)
theorem dX6_init_5 : decode cX6_init 5 = .ok (.iconst 0, 1) := dk_3 (dk_at dksX6_init_0 5 rfl rfl)
theorem dX6_init_6 : decode cX6_init 6 = .ok (.putfield 7, 3) := dk_181 0 7 (dk_at dksX6_init_0 6 rfl rfl)
theorem dX6_init_9 : decode cX6_init 9 = .ok (.aload_n 0, 1) := dk_42 (dk_at dksX6_init_0 9 rfl rfl)
theorem dX6_init_10 : decode cX6_init 10 = .ok (.iconst 0, 1) := dk_3 (dk_at dksX6_init_0 10 rfl rfl)
theorem dX6_init_11 : decode cX6_init 11 = .ok (.putfield 13, 3) := dk_181 0 13 (dk_at dksX6_init_0 11 rfl rfl)
theorem dX6_init_14 : decode cX6_init 14 = .ok (.aload_n 0, 1) := dk_42 (dk_at dksX6_init_0 14 rfl rfl)
theorem dX6_init_15 : decode cX6_init 15 = .ok (.iconst 0, 1) := dk_3 (dk_at dksX6_init_0 15 rfl rfl)
theorem dX6_init_16 : decode cX6_init 16 = .ok (.putfield 16, 3) := dk_181 0 16 (dk_at dksX6_init_0 16 rfl rfl)
theorem dX6_init_19 : decode cX6_init 19 = .ok (.aload_n 0, 1) := dk_42 (dk_at dksX6_init_0 19 rfl rfl)
theorem dX6_init_20 : decode cX6_init 20 = .ok (.bipush 6, 2) := dk_16 6 (dk_at dksX6_init_0 20 rfl rfl)
theorem dX6_init_22 : decode cX6_init 22 = .ok (.newarray .int, 2) := dk_188_10 (dk_at dksX6_init_0 22 rfl rfl)
theorem dX6_init_24 : decode cX6_init 24 = .ok (.putfield 19, 3) := dk_181 0 19 (dk_at dksX6_init_1 0 rfl rfl)
theorem dX6_init_27 : decode cX6_init 27 = .ok (.aload_n 0, 1) := dk_42 (dk_at dksX6_init_1 3 rfl rfl)
theorem dX6_init_28 : decode cX6_init 28 = .ok (.bipush 6, 2) := dk_16 6 (dk_at dksX6_init_1 4 rfl rfl)
theorem dX6_init_30 : decode cX6_init 30 = .ok (.newarray .int, 2) := dk_188_10 (dk_at dksX6_init_1 6 rfl rfl)
theorem dX6_init_32 : decode cX6_init 32 = .ok (.putfield 23, 3) := dk_181 0 23 (dk_at dksX6_init_1 8 rfl rfl)
theorem dX6_init_35 : decode cX6_init 35 = .ok (.aload_n 0, 1) := dk_42 (dk_at dksX6_init_1 11 rfl rfl)
theorem dX6_init_36 : decode cX6_init 36 = .ok (.bipush 6, 2) := dk_16 6 (dk_at dksX6_init_1 12 rfl rfl)
theorem dX6_init_38 : decode cX6_init 38 = .ok (.newarray .int, 2) := dk_188_10 (dk_at dksX6_init_1 14 rfl rfl)
theorem dX6_init_40 : decode cX6_init 40 = .ok (.putfield 26, 3) := dk_181 0 26 (dk_at dksX6_init_1 16 rfl rfl)
theorem dX6_init_43 : decode cX6_init 43 = .ok (.aload_n 0, 1) := dk_42 (dk_at dksX6_init_1 19 rfl rfl)
theorem dX6_init_44 : decode cX6_init 44 = .ok (.bipush 6, 2) := dk_16 6 (dk_at dksX6_init_1 20 rfl rfl)
theorem dX6_init_46 : decode cX6_init 46 = .ok (.newarray .int, 2) := dk_188_10 (dk_at dksX6_init_1 22 rfl rfl)
theorem dX6_init_48 : decode cX6_init 48 = .ok (.putfield 29, 3) := dk_181 0 29 (dk_at dksX6_init_2 0 rfl rfl)
theorem dX6_init_51 : decode cX6_init 51 = .ok (.aload_n 0, 1) := dk_42 (dk_at dksX6_init_2 3 rfl rfl)
theorem dX6_init_52 : decode cX6_init 52 = .ok (.bipush 6, 2) := dk_16 6 (dk_at dksX6_init_2 4 rfl rfl)
theorem dX6_init_54 : decode cX6_init 54 = .ok (.newarray .int, 2) := dk_188_10 (dk_at dksX6_init_2 6 rfl rfl)
theorem dX6_init_56 : decode cX6_init 56 = .ok (.putfield 32, 3) := dk_181 0 32 (dk_at dksX6_init_2 8 rfl rfl)
theorem dX6_init_59 : decode cX6_init 59 = .ok (.aload_n 0, 1) := dk_42 (dk_at dksX6_init_2 11 rfl rfl)
theorem dX6_init_60 : decode cX6_init 60 = .ok (.bipush 6, 2) := dk_16 6 (dk_at dksX6_init_2 12 rfl rfl)
theorem dX6_init_62 : decode cX6_init 62 = .ok (.newarray .int, 2) := dk_188_10 (dk_at dksX6_init_2 14 rfl rfl)
theorem dX6_init_64 : decode cX6_init 64 = .ok (.putfield 35, 3) := dk_181 0 35 (dk_at dksX6_init_2 16 rfl rfl)
theorem dX6_init_67 : decode cX6_init 67 = .ok (.aload_n 0, 1) := dk_42 (dk_at dksX6_init_2 19 rfl rfl)
theorem dX6_init_68 : decode cX6_init 68 = .ok (.bipush 6, 2) := dk_16 6 (dk_at dksX6_init_2 20 rfl rfl)
theorem dX6_init_70 : decode cX6_init 70 = .ok (.newarray .int, 2) := dk_188_10 (dk_at dksX6_init_2 22 rfl rfl)
theorem dX6_init_72 : decode cX6_init 72 = .ok (.putfield 38, 3) := dk_181 0 38 (dk_at dksX6_init_3 0 rfl rfl)
theorem dX6_init_75 : decode cX6_init 75 = .ok (.aload_n 0, 1) := dk_42 (dk_at dksX6_init_3 3 rfl rfl)
theorem dX6_init_76 : decode cX6_init 76 = .ok (.bipush 6, 2) := dk_16 6 (dk_at dksX6_init_3 4 rfl rfl)
theorem dX6_init_78 : decode cX6_init 78 = .ok (.newarray .int, 2) := dk_188_10 (dk_at dksX6_init_3 6 rfl rfl)
theorem dX6_init_80 : decode cX6_init 80 = .ok (.putfield 41, 3) := dk_181 0 41 (dk_at dksX6_init_3 8 rfl rfl)
theorem dX6_init_83 : decode cX6_init 83 = .ok (.aload_n 0, 1) := dk_42 (dk_at dksX6_init_3 11 rfl rfl)
theorem dX6_init_84 : decode cX6_init 84 = .ok (.bipush 6, 2) := dk_16 6 (dk_at dksX6_init_3 12 rfl rfl)
theorem dX6_init_86 : decode cX6_init 86 = .ok (.newarray .int, 2) := dk_188_10 (dk_at dksX6_init_3 14 rfl rfl)
theorem dX6_init_88 : decode cX6_init 88 = .ok (.putfield 44, 3) := dk_181 0 44 (dk_at dksX6_init_3 16 rfl rfl)
theorem dX6_init_91 : decode cX6_init 91 = .ok (.aload_n 0, 1) := dk_42 (dk_at dksX6_init_3 19 rfl rfl)
theorem dX6_init_92 : decode cX6_init 92 = .ok (.bipush 24, 2) := dk_16 24 (dk_at dksX6_init_3 20 rfl rfl)
theorem dX6_init_94 : decode cX6_init 94 = .ok (.newarray .int, 2) := dk_188_10 (dk_at dksX6_init_3 22 rfl rfl)
theorem dX6_init_96 : decode cX6_init 96 = .ok (.putfield 47, 3) := dk_181 0 47 (dk_at dksX6_init_4 0 rfl rfl)
theorem dX6_init_99 : decode cX6_init 99 = .ok (.aload_n 0, 1) := dk_42 (dk_at dksX6_init_4 3 rfl rfl)
theorem dX6_init_100 : decode cX6_init 100 = .ok (.iconst 5, 1) := dk_8 (dk_at dksX6_init_4 4 rfl rfl)
theorem dX6_init_101 : decode cX6_init 101 = .ok (.newarray .int, 2) := dk_188_10 (dk_at dksX6_init_4 5 rfl rfl)
theorem dX6_init_103 : decode cX6_init 103 = .ok (.putfield 50, 3) := dk_181 0 50 (dk_at dksX6_init_4 7 rfl rfl)
theorem dX6_init_106 : decode cX6_init 106 = .ok (.aload_n 0, 1) := dk_42 (dk_at dksX6_init_4 10 rfl rfl)
theorem dX6_init_107 : decode cX6_init 107 = .ok (.iconst 0, 1) := dk_3 (dk_at dksX6_init_4 11 rfl rfl)
theorem dX6_init_108 : decode cX6_init 108 = .ok (.putfield 53, 3) := dk_181 0 53 (dk_at dksX6_init_4 12 rfl rfl)
theorem dX6_init_111 : decode cX6_init 111 = .ok (.aload_n 0, 1) := dk_42 (dk_at dksX6_init_4 15 rfl rfl)
theorem dX6_init_112 : decode cX6_init 112 = .ok (.iconst (-1), 1) := dk_2 (dk_at dksX6_init_4 16 rfl rfl)
theorem dX6_init_113 : decode cX6_init 113 = .ok (.putfield 56, 3) := dk_181 0 56 (dk_at dksX6_init_4 17 rfl rfl)
theorem dX6_init_116 : decode cX6_init 116 = .ok (.aload_n 0, 1) := dk_42 (dk_at dksX6_init_4 20 rfl rfl)
theorem dX6_init_117 : decode cX6_init 117 = .ok (.iconst 0, 1) := dk_3 (dk_at dksX6_init_4 21 rfl rfl)
theorem dX6_init_118 : decode cX6_init 118 = .ok (.putfield 59, 3) := dk_181 0 59 (dk_at dksX6_init_5 0 rfl rfl)
theorem dX6_init_121 : decode cX6_init 121 = .ok (.aload_n 0, 1) := dk_42 (dk_at dksX6_init_5 3 rfl rfl)
theorem dX6_init_122 : decode cX6_init 122 = .ok (.iconst 0, 1) := dk_3 (dk_at dksX6_init_5 4 rfl rfl)
theorem dX6_init_123 : decode cX6_init 123 = .ok (.putfield 62, 3) := dk_181 0 62 (dk_at dksX6_init_5 5 rfl rfl)
theorem dX6_init_126 : decode cX6_init 126 = .ok (.aload_n 0, 1) := dk_42 (dk_at dksX6_init_5 8 rfl rfl)
theorem dX6_init_127 : decode cX6_init 127 = .ok (.iconst 0, 1) := dk_3 (dk_at dksX6_init_5 9 rfl rfl)
theorem dX6_init_128 : decode cX6_init 128 = .ok (.putfield 65, 3) := dk_181 0 65 (dk_at dksX6_init_5 10 rfl rfl)
theorem dX6_init_131 : decode cX6_init 131 = .ok (.aload_n 0, 1) := dk_42 (dk_at dksX6_init_5 13 rfl rfl)
theorem dX6_init_132 : decode cX6_init 132 = .ok (.bipush 100, 2) := dk_16 100 (dk_at dksX6_init_5 14 rfl rfl)
theorem dX6_init_134 : decode cX6_init 134 = .ok (.newarray .int, 2) := dk_188_10 (dk_at dksX6_init_5 16 rfl rfl)
theorem dX6_init_136 : decode cX6_init 136 = .ok (.putfield 68, 3) := dk_181 0 68 (dk_at dksX6_init_5 18 rfl rfl)
theorem dX6_init_139 : decode cX6_init 139 = .ok (.aload_n 0, 1) := dk_42 (dk_at dksX6_init_5 21 rfl rfl)
theorem dX6_init_140 : decode cX6_init 140 = .ok (.bipush 6, 2) := dk_16 6 (dk_at dksX6_init_5 22 rfl rfl)
theorem dX6_init_142 : decode cX6_init 142 = .ok (.newarray .int, 2) := dk_188_10 (dk_at dksX6_init_6 0 rfl rfl)
theorem dX6_init_144 : decode cX6_init 144 = .ok (.putfield 71, 3) := dk_181 0 71 (dk_at dksX6_init_6 2 rfl rfl)
theorem dX6_init_147 : decode cX6_init 147 = .ok (.aload_n 0, 1) := dk_42 (dk_at dksX6_init_6 5 rfl rfl)
theorem dX6_init_148 : decode cX6_init 148 = .ok (.bipush 60, 2) := dk_16 60 (dk_at dksX6_init_6 6 rfl rfl)
theorem dX6_init_150 : decode cX6_init 150 = .ok (.newarray .int, 2) := dk_188_10 (dk_at dksX6_init_6 8 rfl rfl)
theorem dX6_init_152 : decode cX6_init 152 = .ok (.putfield 74, 3) := dk_181 0 74 (dk_at dksX6_init_6 10 rfl rfl)
theorem dX6_init_155 : decode cX6_init 155 = .ok (.aload_n 0, 1) := dk_42 (dk_at dksX6_init_6 13 rfl rfl)
theorem dX6_init_156 : decode cX6_init 156 = .ok (.bipush 60, 2) := dk_16 60 (dk_at dksX6_init_6 14 rfl rfl)
theorem dX6_init_158 : decode cX6_init 158 = .ok (.newarray .int, 2) := dk_188_10 (dk_at dksX6_init_6 16 rfl rfl)
theorem dX6_init_160 : decode cX6_init 160 = .ok (.putfield 77, 3) := dk_181 0 77 (dk_at dksX6_init_6 18 rfl rfl)
theorem dX6_init_163 : decode cX6_init 163 = .ok (.aload_n 0, 1) := dk_42 (dk_at dksX6_init_6 21 rfl rfl)
theorem dX6_init_164 : decode cX6_init 164 = .ok (.bipush 60, 2) := dk_16 60 (dk_at dksX6_init_6 22 rfl rfl)
theorem dX6_init_166 : decode cX6_init 166 = .ok (.newarray .int, 2) := dk_188_10 (dk_at dksX6_init_7 0 rfl rfl)
theorem dX6_init_168 : decode cX6_init 168 = .ok (.putfield 80, 3) := dk_181 0 80 (dk_at dksX6_init_7 2 rfl rfl)
theorem dX6_init_171 : decode cX6_init 171 = .ok (.aload_n 0, 1) := dk_42 (dk_at dksX6_init_7 5 rfl rfl)
theorem dX6_init_172 : decode cX6_init 172 = .ok (.bipush 60, 2) := dk_16 60 (dk_at dksX6_init_7 6 rfl rfl)
theorem dX6_init_174 : decode cX6_init 174 = .ok (.newarray .int, 2) := dk_188_10 (dk_at dksX6_init_7 8 rfl rfl)
theorem dX6_init_176 : decode cX6_init 176 = .ok (.putfield 83, 3) := dk_181 0 83 (dk_at dksX6_init_7 10 rfl rfl)
theorem dX6_init_179 : decode cX6_init 179 = .ok (.aload_n 0, 1) := dk_42 (dk_at dksX6_init_7 13 rfl rfl)
theorem dX6_init_180 : decode cX6_init 180 = .ok (.bipush 60, 2) := dk_16 60 (dk_at dksX6_init_7 14 rfl rfl)
theorem dX6_init_182 : decode cX6_init 182 = .ok (.newarray .int, 2) := dk_188_10 (dk_at dksX6_init_7 16 rfl rfl)
theorem dX6_init_184 : decode cX6_init 184 = .ok (.putfield 86, 3) := dk_181 0 86 (dk_at dksX6_init_7 18 rfl rfl)
theorem dX6_init_187 : decode cX6_init 187 = .ok (.aload_n 0, 1) := dk_42 (dk_at dksX6_init_7 21 rfl rfl)
theorem dX6_init_188 : decode cX6_init 188 = .ok (.sipush 600, 3) := dk_17 2 88 (dk_at dksX6_init_8 0 rfl rfl)
theorem dX6_init_191 : decode cX6_init 191 = .ok (.newarray .int, 2) := dk_188_10 (dk_at dksX6_init_8 3 rfl rfl)
theorem dX6_init_193 : decode cX6_init 193 = .ok (.putfield 89, 3) := dk_181 0 89 (dk_at dksX6_init_8 5 rfl rfl)
theorem dX6_init_196 : decode cX6_init 196 = .ok (.aload_n 0, 1) := dk_42 (dk_at dksX6_init_8 8 rfl rfl)
theorem dX6_init_197 : decode cX6_init 197 = .ok (.bipush 101, 2) := dk_16 101 (dk_at dksX6_init_8 9 rfl rfl)
theorem dX6_init_199 : decode cX6_init 199 = .ok (.newarray .int, 2) := dk_188_10 (dk_at dksX6_init_8 11 rfl rfl)
theorem dX6_init_201 : decode cX6_init 201 = .ok (.putfield 92, 3) := dk_181 0 92 (dk_at dksX6_init_8 13 rfl rfl)
theorem dX6_init_204 : decode cX6_init 204 = .ok (.aload_n 0, 1) := dk_42 (dk_at dksX6_init_8 16 rfl rfl)
theorem dX6_init_205 : decode cX6_init 205 = .ok (.iconst 0, 1) := dk_3 (dk_at dksX6_init_8 17 rfl rfl)
theorem dX6_init_206 : decode cX6_init 206 = .ok (.putfield 95, 3) := dk_181 0 95 (dk_at dksX6_init_8 18 rfl rfl)
theorem dX6_init_209 : decode cX6_init 209 = .ok (.aload_n 0, 1) := dk_42 (dk_at dksX6_init_8 21 rfl rfl)
theorem dX6_init_210 : decode cX6_init 210 = .ok (.iconst 0, 1) := dk_3 (dk_at dksX6_init_8 22 rfl rfl)
theorem dX6_init_211 : decode cX6_init 211 = .ok (.putfield 98, 3) := dk_181 0 98 (dk_at dksX6_init_9 0 rfl rfl)
theorem dX6_init_214 : decode cX6_init 214 = .ok (.aload_n 0, 1) := dk_42 (dk_at dksX6_init_9 3 rfl rfl)
theorem dX6_init_215 : decode cX6_init 215 = .ok (.iconst 0, 1) := dk_3 (dk_at dksX6_init_9 4 rfl rfl)
theorem dX6_init_216 : decode cX6_init 216 = .ok (.putfield 101, 3) := dk_181 0 101 (dk_at dksX6_init_9 5 rfl rfl)
theorem dX6_init_219 : decode cX6_init 219 = .ok (.aload_n 0, 1) := dk_42 (dk_at dksX6_init_9 8 rfl rfl)
theorem dX6_init_220 : decode cX6_init 220 = .ok (.bipush 16, 2) := dk_16 16 (dk_at dksX6_init_9 9 rfl rfl)
theorem dX6_init_222 : decode cX6_init 222 = .ok (.newarray .int, 2) := dk_188_10 (dk_at dksX6_init_9 11 rfl rfl)
theorem dX6_init_224 : decode cX6_init 224 = .ok (.dup, 1) := dk_89 (dk_at dksX6_init_9 13 rfl rfl)
theorem dX6_init_225 : decode cX6_init 225 = .ok (.iconst 0, 1) := dk_3 (dk_at dksX6_init_9 14 rfl rfl)
theorem dX6_init_226 : decode cX6_init 226 = .ok (.bipush 115, 2) := dk_16 115 (dk_at dksX6_init_9 15 rfl rfl)
theorem dX6_init_228 : decode cX6_init 228 = .ok (.iastore, 1) := dk_79 (dk_at dksX6_init_9 17 rfl rfl)
theorem dX6_init_229 : decode cX6_init 229 = .ok (.dup, 1) := dk_89 (dk_at dksX6_init_9 18 rfl rfl)
theorem dX6_init_230 : decode cX6_init 230 = .ok (.iconst 1, 1) := dk_4 (dk_at dksX6_init_9 19 rfl rfl)
theorem dX6_init_231 : decode cX6_init 231 = .ok (.bipush 117, 2) := dk_16 117 (dk_at dksX6_init_9 20 rfl rfl)
theorem dX6_init_233 : decode cX6_init 233 = .ok (.iastore, 1) := dk_79 (dk_at dksX6_init_9 22 rfl rfl)
theorem dX6_init_234 : decode cX6_init 234 = .ok (.dup, 1) := dk_89 (dk_at dksX6_init_9 23 rfl rfl)
theorem dX6_init_235 : decode cX6_init 235 = .ok (.iconst 2, 1) := dk_5 (dk_at dksX6_init_10 0 rfl rfl)
theorem dX6_init_236 : decode cX6_init 236 = .ok (.bipush 105, 2) := dk_16 105 (dk_at dksX6_init_10 1 rfl rfl)
theorem dX6_init_238 : decode cX6_init 238 = .ok (.iastore, 1) := dk_79 (dk_at dksX6_init_10 3 rfl rfl)
theorem dX6_init_239 : decode cX6_init 239 = .ok (.dup, 1) := dk_89 (dk_at dksX6_init_10 4 rfl rfl)
theorem dX6_init_240 : decode cX6_init 240 = .ok (.iconst 3, 1) := dk_6 (dk_at dksX6_init_10 5 rfl rfl)
theorem dX6_init_241 : decode cX6_init 241 = .ok (.bipush 116, 2) := dk_16 116 (dk_at dksX6_init_10 6 rfl rfl)
theorem dX6_init_243 : decode cX6_init 243 = .ok (.iastore, 1) := dk_79 (dk_at dksX6_init_10 8 rfl rfl)
theorem dX6_init_244 : decode cX6_init 244 = .ok (.dup, 1) := dk_89 (dk_at dksX6_init_10 9 rfl rfl)
theorem dX6_init_245 : decode cX6_init 245 = .ok (.iconst 4, 1) := dk_7 (dk_at dksX6_init_10 10 rfl rfl)
theorem dX6_init_246 : decode cX6_init 246 = .ok (.bipush 103, 2) := dk_16 103 (dk_at dksX6_init_10 11 rfl rfl)
theorem dX6_init_248 : decode cX6_init 248 = .ok (.iastore, 1) := dk_79 (dk_at dksX6_init_10 13 rfl rfl)
theorem dX6_init_249 : decode cX6_init 249 = .ok (.dup, 1) := dk_89 (dk_at dksX6_init_10 14 rfl rfl)
theorem dX6_init_250 : decode cX6_init 250 = .ok (.iconst 5, 1) := dk_8 (dk_at dksX6_init_10 15 rfl rfl)
theorem dX6_init_251 : decode cX6_init 251 = .ok (.bipush 97, 2) := dk_16 97 (dk_at dksX6_init_10 16 rfl rfl)
theorem dX6_init_253 : decode cX6_init 253 = .ok (.iastore, 1) := dk_79 (dk_at dksX6_init_10 18 rfl rfl)
theorem dX6_init_254 : decode cX6_init 254 = .ok (.dup, 1) := dk_89 (dk_at dksX6_init_10 19 rfl rfl)
theorem dX6_init_255 : decode cX6_init 255 = .ok (.bipush 6, 2) := dk_16 6 (dk_at dksX6_init_10 20 rfl rfl)
theorem dX6_init_257 : decode cX6_init 257 = .ok (.bipush 108, 2) := dk_16 108 (dk_at dksX6_init_10 22 rfl rfl)
theorem dX6_init_259 : decode cX6_init 259 = .ok (.iastore, 1) := dk_79 (dk_at dksX6_init_11 0 rfl rfl)
theorem dX6_init_260 : decode cX6_init 260 = .ok (.dup, 1) := dk_89 (dk_at dksX6_init_11 1 rfl rfl)
theorem dX6_init_261 : decode cX6_init 261 = .ok (.bipush 7, 2) := dk_16 7 (dk_at dksX6_init_11 2 rfl rfl)
theorem dX6_init_263 : decode cX6_init 263 = .ok (.bipush 108, 2) := dk_16 108 (dk_at dksX6_init_11 4 rfl rfl)
theorem dX6_init_265 : decode cX6_init 265 = .ok (.iastore, 1) := dk_79 (dk_at dksX6_init_11 6 rfl rfl)
theorem dX6_init_266 : decode cX6_init 266 = .ok (.dup, 1) := dk_89 (dk_at dksX6_init_11 7 rfl rfl)
theorem dX6_init_267 : decode cX6_init 267 = .ok (.bipush 8, 2) := dk_16 8 (dk_at dksX6_init_11 8 rfl rfl)
theorem dX6_init_269 : decode cX6_init 269 = .ok (.bipush 109, 2) := dk_16 109 (dk_at dksX6_init_11 10 rfl rfl)
theorem dX6_init_271 : decode cX6_init 271 = .ok (.iastore, 1) := dk_79 (dk_at dksX6_init_11 12 rfl rfl)
theorem dX6_init_272 : decode cX6_init 272 = .ok (.dup, 1) := dk_89 (dk_at dksX6_init_11 13 rfl rfl)
theorem dX6_init_273 : decode cX6_init 273 = .ok (.bipush 9, 2) := dk_16 9 (dk_at dksX6_init_11 14 rfl rfl)
theorem dX6_init_275 : decode cX6_init 275 = .ok (.bipush 111, 2) := dk_16 111 (dk_at dksX6_init_11 16 rfl rfl)
theorem dX6_init_277 : decode cX6_init 277 = .ok (.iastore, 1) := dk_79 (dk_at dksX6_init_11 18 rfl rfl)
theorem dX6_init_278 : decode cX6_init 278 = .ok (.dup, 1) := dk_89 (dk_at dksX6_init_11 19 rfl rfl)
theorem dX6_init_279 : decode cX6_init 279 = .ok (.bipush 10, 2) := dk_16 10 (dk_at dksX6_init_11 20 rfl rfl)
theorem dX6_init_281 : decode cX6_init 281 = .ok (.bipush 116, 2) := dk_16 116 (dk_at dksX6_init_11 22 rfl rfl)
theorem dX6_init_283 : decode cX6_init 283 = .ok (.iastore, 1) := dk_79 (dk_at dksX6_init_12 0 rfl rfl)
theorem dX6_init_284 : decode cX6_init 284 = .ok (.dup, 1) := dk_89 (dk_at dksX6_init_12 1 rfl rfl)
theorem dX6_init_285 : decode cX6_init 285 = .ok (.bipush 11, 2) := dk_16 11 (dk_at dksX6_init_12 2 rfl rfl)
theorem dX6_init_287 : decode cX6_init 287 = .ok (.bipush 104, 2) := dk_16 104 (dk_at dksX6_init_12 4 rfl rfl)
theorem dX6_init_289 : decode cX6_init 289 = .ok (.iastore, 1) := dk_79 (dk_at dksX6_init_12 6 rfl rfl)
theorem dX6_init_290 : decode cX6_init 290 = .ok (.dup, 1) := dk_89 (dk_at dksX6_init_12 7 rfl rfl)
theorem dX6_init_291 : decode cX6_init 291 = .ok (.bipush 12, 2) := dk_16 12 (dk_at dksX6_init_12 8 rfl rfl)
theorem dX6_init_293 : decode cX6_init 293 = .ok (.bipush 119, 2) := dk_16 119 (dk_at dksX6_init_12 10 rfl rfl)
theorem dX6_init_295 : decode cX6_init 295 = .ok (.iastore, 1) := dk_79 (dk_at dksX6_init_12 12 rfl rfl)
theorem dX6_init_296 : decode cX6_init 296 = .ok (.dup, 1) := dk_89 (dk_at dksX6_init_12 13 rfl rfl)
theorem dX6_init_297 : decode cX6_init 297 = .ok (.bipush 13, 2) := dk_16 13 (dk_at dksX6_init_12 14 rfl rfl)
theorem dX6_init_299 : decode cX6_init 299 = .ok (.bipush 111, 2) := dk_16 111 (dk_at dksX6_init_12 16 rfl rfl)
theorem dX6_init_301 : decode cX6_init 301 = .ok (.iastore, 1) := dk_79 (dk_at dksX6_init_12 18 rfl rfl)
theorem dX6_init_302 : decode cX6_init 302 = .ok (.dup, 1) := dk_89 (dk_at dksX6_init_12 19 rfl rfl)
theorem dX6_init_303 : decode cX6_init 303 = .ok (.bipush 14, 2) := dk_16 14 (dk_at dksX6_init_12 20 rfl rfl)
theorem dX6_init_305 : decode cX6_init 305 = .ok (.bipush 114, 2) := dk_16 114 (dk_at dksX6_init_12 22 rfl rfl)
theorem dX6_init_307 : decode cX6_init 307 = .ok (.iastore, 1) := dk_79 (dk_at dksX6_init_13 0 rfl rfl)
theorem dX6_init_308 : decode cX6_init 308 = .ok (.dup, 1) := dk_89 (dk_at dksX6_init_13 1 rfl rfl)
theorem dX6_init_309 : decode cX6_init 309 = .ok (.bipush 15, 2) := dk_16 15 (dk_at dksX6_init_13 2 rfl rfl)
theorem dX6_init_311 : decode cX6_init 311 = .ok (.bipush 107, 2) := dk_16 107 (dk_at dksX6_init_13 4 rfl rfl)
theorem dX6_init_313 : decode cX6_init 313 = .ok (.iastore, 1) := dk_79 (dk_at dksX6_init_13 6 rfl rfl)
theorem dX6_init_314 : decode cX6_init 314 = .ok (.putfield 104, 3) := dk_181 0 104 (dk_at dksX6_init_13 7 rfl rfl)
theorem dX6_init_317 : decode cX6_init 317 = .ok (.aload_n 0, 1) := dk_42 (dk_at dksX6_init_13 10 rfl rfl)
theorem dX6_init_318 : decode cX6_init 318 = .ok (.bipush 100, 2) := dk_16 100 (dk_at dksX6_init_13 11 rfl rfl)
theorem dX6_init_320 : decode cX6_init 320 = .ok (.newarray .boolean, 2) := dk_188_4 (dk_at dksX6_init_13 13 rfl rfl)
theorem dX6_init_322 : decode cX6_init 322 = .ok (.putfield 107, 3) := dk_181 0 107 (dk_at dksX6_init_13 15 rfl rfl)
theorem dX6_init_325 : decode cX6_init 325 = .ok (.aload_n 0, 1) := dk_42 (dk_at dksX6_init_13 18 rfl rfl)
theorem dX6_init_326 : decode cX6_init 326 = .ok (.sipush 9999, 3) := dk_17 39 15 (dk_at dksX6_init_13 19 rfl rfl)
theorem dX6_init_329 : decode cX6_init 329 = .ok (.putfield 111, 3) := dk_181 0 111 (dk_at dksX6_init_14 0 rfl rfl)
theorem dX6_init_332 : decode cX6_init 332 = .ok (.aload_n 0, 1) := dk_42 (dk_at dksX6_init_14 3 rfl rfl)
theorem dX6_init_333 : decode cX6_init 333 = .ok (.bipush 6, 2) := dk_16 6 (dk_at dksX6_init_14 4 rfl rfl)
theorem dX6_init_335 : decode cX6_init 335 = .ok (.newarray .int, 2) := dk_188_10 (dk_at dksX6_init_14 6 rfl rfl)
theorem dX6_init_337 : decode cX6_init 337 = .ok (.putfield 114, 3) := dk_181 0 114 (dk_at dksX6_init_14 8 rfl rfl)
theorem dX6_init_340 : decode cX6_init 340 = .ok (.aload_n 0, 1) := dk_42 (dk_at dksX6_init_14 11 rfl rfl)
theorem dX6_init_341 : decode cX6_init 341 = .ok (.iconst 0, 1) := dk_3 (dk_at dksX6_init_14 12 rfl rfl)
theorem dX6_init_342 : decode cX6_init 342 = .ok (.putfield 117, 3) := dk_181 0 117 (dk_at dksX6_init_14 13 rfl rfl)
theorem dX6_init_345 : decode cX6_init 345 = .ok (.aload_n 0, 1) := dk_42 (dk_at dksX6_init_14 16 rfl rfl)
theorem dX6_init_346 : decode cX6_init 346 = .ok (.bipush 6, 2) := dk_16 6 (dk_at dksX6_init_14 17 rfl rfl)
theorem dX6_init_348 : decode cX6_init 348 = .ok (.newarray .int, 2) := dk_188_10 (dk_at dksX6_init_14 19 rfl rfl)
theorem dX6_init_350 : decode cX6_init 350 = .ok (.putfield 120, 3) := dk_181 0 120 (dk_at dksX6_init_14 21 rfl rfl)
theorem dX6_init_353 : decode cX6_init 353 = .ok (.aload_n 0, 1) := dk_42 (dk_at dksX6_init_15 0 rfl rfl)
theorem dX6_init_354 : decode cX6_init 354 = .ok (.bipush 6, 2) := dk_16 6 (dk_at dksX6_init_15 1 rfl rfl)
theorem dX6_init_356 : decode cX6_init 356 = .ok (.newarray .int, 2) := dk_188_10 (dk_at dksX6_init_15 3 rfl rfl)
theorem dX6_init_358 : decode cX6_init 358 = .ok (.putfield 123, 3) := dk_181 0 123 (dk_at dksX6_init_15 5 rfl rfl)
theorem dX6_init_361 : decode cX6_init 361 = .ok (.aload_n 0, 1) := dk_42 (dk_at dksX6_init_15 8 rfl rfl)
theorem dX6_init_362 : decode cX6_init 362 = .ok (.bipush 6, 2) := dk_16 6 (dk_at dksX6_init_15 9 rfl rfl)
theorem dX6_init_364 : decode cX6_init 364 = .ok (.newarray .int, 2) := dk_188_10 (dk_at dksX6_init_15 11 rfl rfl)
theorem dX6_init_366 : decode cX6_init 366 = .ok (.putfield 126, 3) := dk_181 0 126 (dk_at dksX6_init_15 13 rfl rfl)
theorem dX6_init_369 : decode cX6_init 369 = .ok (.aload_n 0, 1) := dk_42 (dk_at dksX6_init_15 16 rfl rfl)
theorem dX6_init_370 : decode cX6_init 370 = .ok (.bipush 36, 2) := dk_16 36 (dk_at dksX6_init_15 17 rfl rfl)
theorem dX6_init_372 : decode cX6_init 372 = .ok (.newarray .int, 2) := dk_188_10 (dk_at dksX6_init_15 19 rfl rfl)
theorem dX6_init_374 : decode cX6_init 374 = .ok (.putfield 129, 3) := dk_181 0 129 (dk_at dksX6_init_15 21 rfl rfl)
theorem dX6_init_377 : decode cX6_init 377 = .ok (.aload_n 0, 1) := dk_42 (dk_at dksX6_init_16 0 rfl rfl)
theorem dX6_init_378 : decode cX6_init 378 = .ok (.iconst 0, 1) := dk_3 (dk_at dksX6_init_16 1 rfl rfl)
theorem dX6_init_379 : decode cX6_init 379 = .ok (.putfield 132, 3) := dk_181 0 132 (dk_at dksX6_init_16 2 rfl rfl)
theorem dX6_init_382 : decode cX6_init 382 = .ok (.aload_n 0, 1) := dk_42 (dk_at dksX6_init_16 5 rfl rfl)
theorem dX6_init_383 : decode cX6_init 383 = .ok (.sipush 448, 3) := dk_17 1 192 (dk_at dksX6_init_16 6 rfl rfl)
theorem dX6_init_386 : decode cX6_init 386 = .ok (.newarray .int, 2) := dk_188_10 (dk_at dksX6_init_16 9 rfl rfl)
theorem dX6_init_388 : decode cX6_init 388 = .ok (.putfield 135, 3) := dk_181 0 135 (dk_at dksX6_init_16 11 rfl rfl)
theorem dX6_init_391 : decode cX6_init 391 = .ok (.aload_n 0, 1) := dk_42 (dk_at dksX6_init_16 14 rfl rfl)
theorem dX6_init_392 : decode cX6_init 392 = .ok (.bipush 64, 2) := dk_16 64 (dk_at dksX6_init_16 15 rfl rfl)
theorem dX6_init_394 : decode cX6_init 394 = .ok (.newarray .int, 2) := dk_188_10 (dk_at dksX6_init_16 17 rfl rfl)
theorem dX6_init_396 : decode cX6_init 396 = .ok (.putfield 138, 3) := dk_181 0 138 (dk_at dksX6_init_16 19 rfl rfl)
theorem dX6_init_399 : decode cX6_init 399 = .ok (.aload_n 0, 1) := dk_42 (dk_at dksX6_init_16 22 rfl rfl)
theorem dX6_init_400 : decode cX6_init 400 = .ok (.iconst 0, 1) := dk_3 (dk_at dksX6_init_16 23 rfl rfl)
theorem dX6_init_401 : decode cX6_init 401 = .ok (.putfield 141, 3) := dk_181 0 141 (dk_at dksX6_init_17 0 rfl rfl)
theorem dX6_init_404 : decode cX6_init 404 = .ok (.aload_n 0, 1) := dk_42 (dk_at dksX6_init_17 3 rfl rfl)
theorem dX6_init_405 : decode cX6_init 405 = .ok (.bipush 6, 2) := dk_16 6 (dk_at dksX6_init_17 4 rfl rfl)
theorem dX6_init_407 : decode cX6_init 407 = .ok (.newarray .int, 2) := dk_188_10 (dk_at dksX6_init_17 6 rfl rfl)
theorem dX6_init_409 : decode cX6_init 409 = .ok (.putfield 144, 3) := dk_181 0 144 (dk_at dksX6_init_17 8 rfl rfl)
theorem dX6_init_412 : decode cX6_init 412 = .ok (.aload_n 0, 1) := dk_42 (dk_at dksX6_init_17 11 rfl rfl)
theorem dX6_init_413 : decode cX6_init 413 = .ok (.bipush 6, 2) := dk_16 6 (dk_at dksX6_init_17 12 rfl rfl)
theorem dX6_init_415 : decode cX6_init 415 = .ok (.newarray .int, 2) := dk_188_10 (dk_at dksX6_init_17 14 rfl rfl)
theorem dX6_init_417 : decode cX6_init 417 = .ok (.putfield 147, 3) := dk_181 0 147 (dk_at dksX6_init_17 16 rfl rfl)
theorem dX6_init_420 : decode cX6_init 420 = .ok (.aload_n 0, 1) := dk_42 (dk_at dksX6_init_17 19 rfl rfl)
theorem dX6_init_421 : decode cX6_init 421 = .ok (.bipush 64, 2) := dk_16 64 (dk_at dksX6_init_17 20 rfl rfl)
theorem dX6_init_423 : decode cX6_init 423 = .ok (.newarray .int, 2) := dk_188_10 (dk_at dksX6_init_17 22 rfl rfl)
theorem dX6_init_425 : decode cX6_init 425 = .ok (.putfield 150, 3) := dk_181 0 150 (dk_at dksX6_init_18 0 rfl rfl)
theorem dX6_init_428 : decode cX6_init 428 = .ok (.aload_n 0, 1) := dk_42 (dk_at dksX6_init_18 3 rfl rfl)
theorem dX6_init_429 : decode cX6_init 429 = .ok (.iconst 0, 1) := dk_3 (dk_at dksX6_init_18 4 rfl rfl)
theorem dX6_init_430 : decode cX6_init 430 = .ok (.putfield 153, 3) := dk_181 0 153 (dk_at dksX6_init_18 5 rfl rfl)
theorem dX6_init_433 : decode cX6_init 433 = .ok (.aload_n 0, 1) := dk_42 (dk_at dksX6_init_18 8 rfl rfl)
theorem dX6_init_434 : decode cX6_init 434 = .ok (.bipush 8, 2) := dk_16 8 (dk_at dksX6_init_18 9 rfl rfl)
theorem dX6_init_436 : decode cX6_init 436 = .ok (.newarray .int, 2) := dk_188_10 (dk_at dksX6_init_18 11 rfl rfl)
theorem dX6_init_438 : decode cX6_init 438 = .ok (.putfield 156, 3) := dk_181 0 156 (dk_at dksX6_init_18 13 rfl rfl)
theorem dX6_init_441 : decode cX6_init 441 = .ok (.aload_n 0, 1) := dk_42 (dk_at dksX6_init_18 16 rfl rfl)
theorem dX6_init_442 : decode cX6_init 442 = .ok (.bipush 8, 2) := dk_16 8 (dk_at dksX6_init_18 17 rfl rfl)
theorem dX6_init_444 : decode cX6_init 444 = .ok (.newarray .int, 2) := dk_188_10 (dk_at dksX6_init_18 19 rfl rfl)
theorem dX6_init_446 : decode cX6_init 446 = .ok (.putfield 159, 3) := dk_181 0 159 (dk_at dksX6_init_18 21 rfl rfl)
theorem dX6_init_449 : decode cX6_init 449 = .ok (.aload_n 0, 1) := dk_42 (dk_at dksX6_init_19 0 rfl rfl)
theorem dX6_init_450 : decode cX6_init 450 = .ok (.iconst 0, 1) := dk_3 (dk_at dksX6_init_19 1 rfl rfl)
theorem dX6_init_451 : decode cX6_init 451 = .ok (.putfield 162, 3) := dk_181 0 162 (dk_at dksX6_init_19 2 rfl rfl)
theorem dX6_init_454 : decode cX6_init 454 = .ok (.aload_n 0, 1) := dk_42 (dk_at dksX6_init_19 5 rfl rfl)
theorem dX6_init_455 : decode cX6_init 455 = .ok (.iconst (-1), 1) := dk_2 (dk_at dksX6_init_19 6 rfl rfl)
theorem dX6_init_456 : decode cX6_init 456 = .ok (.putfield 166, 3) := dk_181 0 166 (dk_at dksX6_init_19 7 rfl rfl)
theorem dX6_init_459 : decode cX6_init 459 = .ok (.aload_n 0, 1) := dk_42 (dk_at dksX6_init_19 10 rfl rfl)
theorem dX6_init_460 : decode cX6_init 460 = .ok (.iconst 0, 1) := dk_3 (dk_at dksX6_init_19 11 rfl rfl)
theorem dX6_init_461 : decode cX6_init 461 = .ok (.putfield 169, 3) := dk_181 0 169 (dk_at dksX6_init_19 12 rfl rfl)
theorem dX6_init_464 : decode cX6_init 464 = .ok (.aload_n 0, 1) := dk_42 (dk_at dksX6_init_19 15 rfl rfl)
theorem dX6_init_465 : decode cX6_init 465 = .ok (.iconst 0, 1) := dk_3 (dk_at dksX6_init_19 16 rfl rfl)
theorem dX6_init_466 : decode cX6_init 466 = .ok (.putfield 172, 3) := dk_181 0 172 (dk_at dksX6_init_19 17 rfl rfl)
theorem dX6_init_469 : decode cX6_init 469 = .ok (.aload_n 0, 1) := dk_42 (dk_at dksX6_init_19 20 rfl rfl)
theorem dX6_init_470 : decode cX6_init 470 = .ok (.iconst 0, 1) := dk_3 (dk_at dksX6_init_19 21 rfl rfl)
theorem dX6_init_471 : decode cX6_init 471 = .ok (.putfield 175, 3) := dk_181 0 175 (dk_at dksX6_init_20 0 rfl rfl)
theorem dX6_init_474 : decode cX6_init 474 = .ok (.aload_n 0, 1) := dk_42 (dk_at dksX6_init_20 3 rfl rfl)
theorem dX6_init_475 : decode cX6_init 475 = .ok (.iconst 0, 1) := dk_3 (dk_at dksX6_init_20 4 rfl rfl)
theorem dX6_init_476 : decode cX6_init 476 = .ok (.putfield 178, 3) := dk_181 0 178 (dk_at dksX6_init_20 5 rfl rfl)
theorem dX6_init_479 : decode cX6_init 479 = .ok (.aload_n 0, 1) := dk_42 (dk_at dksX6_init_20 8 rfl rfl)
theorem dX6_init_480 : decode cX6_init 480 = .ok (.iconst 0, 1) := dk_3 (dk_at dksX6_init_20 9 rfl rfl)
theorem dX6_init_481 : decode cX6_init 481 = .ok (.putfield 181, 3) := dk_181 0 181 (dk_at dksX6_init_20 10 rfl rfl)
theorem dX6_init_484 : decode cX6_init 484 = .ok (.aload_n 0, 1) := dk_42 (dk_at dksX6_init_20 13 rfl rfl)
theorem dX6_init_485 : decode cX6_init 485 = .ok (.bipush 6, 2) := dk_16 6 (dk_at dksX6_init_20 14 rfl rfl)
theorem dX6_init_487 : decode cX6_init 487 = .ok (.newarray .int, 2) := dk_188_10 (dk_at dksX6_init_20 16 rfl rfl)
theorem dX6_init_489 : decode cX6_init 489 = .ok (.putfield 184, 3) := dk_181 0 184 (dk_at dksX6_init_20 18 rfl rfl)
theorem dX6_init_492 : decode cX6_init 492 = .ok (.aload_n 0, 1) := dk_42 (dk_at dksX6_init_20 21 rfl rfl)
theorem dX6_init_493 : decode cX6_init 493 = .ok (.bipush 6, 2) := dk_16 6 (dk_at dksX6_init_20 22 rfl rfl)
theorem dX6_init_495 : decode cX6_init 495 = .ok (.newarray .int, 2) := dk_188_10 (dk_at dksX6_init_21 0 rfl rfl)
theorem dX6_init_497 : decode cX6_init 497 = .ok (.putfield 187, 3) := dk_181 0 187 (dk_at dksX6_init_21 2 rfl rfl)
theorem dX6_init_500 : decode cX6_init 500 = .ok (.aload_n 0, 1) := dk_42 (dk_at dksX6_init_21 5 rfl rfl)
theorem dX6_init_501 : decode cX6_init 501 = .ok (.bipush 6, 2) := dk_16 6 (dk_at dksX6_init_21 6 rfl rfl)
theorem dX6_init_503 : decode cX6_init 503 = .ok (.newarray .int, 2) := dk_188_10 (dk_at dksX6_init_21 8 rfl rfl)
theorem dX6_init_505 : decode cX6_init 505 = .ok (.putfield 190, 3) := dk_181 0 190 (dk_at dksX6_init_21 10 rfl rfl)
theorem dX6_init_508 : decode cX6_init 508 = .ok (.aload_n 0, 1) := dk_42 (dk_at dksX6_init_21 13 rfl rfl)
theorem dX6_init_509 : decode cX6_init 509 = .ok (.bipush 6, 2) := dk_16 6 (dk_at dksX6_init_21 14 rfl rfl)
theorem dX6_init_511 : decode cX6_init 511 = .ok (.newarray .int, 2) := dk_188_10 (dk_at dksX6_init_21 16 rfl rfl)
theorem dX6_init_513 : decode cX6_init 513 = .ok (.putfield 193, 3) := dk_181 0 193 (dk_at dksX6_init_21 18 rfl rfl)
theorem dX6_init_516 : decode cX6_init 516 = .ok (.aload_n 0, 1) := dk_42 (dk_at dksX6_init_21 21 rfl rfl)
theorem dX6_init_517 : decode cX6_init 517 = .ok (.bipush 6, 2) := dk_16 6 (dk_at dksX6_init_21 22 rfl rfl)
theorem dX6_init_519 : decode cX6_init 519 = .ok (.newarray .int, 2) := dk_188_10 (dk_at dksX6_init_22 0 rfl rfl)
theorem dX6_init_521 : decode cX6_init 521 = .ok (.putfield 196, 3) := dk_181 0 196 (dk_at dksX6_init_22 2 rfl rfl)
theorem dX6_init_524 : decode cX6_init 524 = .ok (.aload_n 0, 1) := dk_42 (dk_at dksX6_init_22 5 rfl rfl)
theorem dX6_init_525 : decode cX6_init 525 = .ok (.bipush 6, 2) := dk_16 6 (dk_at dksX6_init_22 6 rfl rfl)
theorem dX6_init_527 : decode cX6_init 527 = .ok (.newarray .int, 2) := dk_188_10 (dk_at dksX6_init_22 8 rfl rfl)
theorem dX6_init_529 : decode cX6_init 529 = .ok (.putfield 199, 3) := dk_181 0 199 (dk_at dksX6_init_22 10 rfl rfl)
theorem dX6_init_532 : decode cX6_init 532 = .ok (.aload_n 0, 1) := dk_42 (dk_at dksX6_init_22 13 rfl rfl)
theorem dX6_init_533 : decode cX6_init 533 = .ok (.bipush 6, 2) := dk_16 6 (dk_at dksX6_init_22 14 rfl rfl)
theorem dX6_init_535 : decode cX6_init 535 = .ok (.newarray .int, 2) := dk_188_10 (dk_at dksX6_init_22 16 rfl rfl)
theorem dX6_init_537 : decode cX6_init 537 = .ok (.putfield 202, 3) := dk_181 0 202 (dk_at dksX6_init_22 18 rfl rfl)
theorem dX6_init_540 : decode cX6_init 540 = .ok (.aload_n 0, 1) := dk_42 (dk_at dksX6_init_22 21 rfl rfl)
theorem dX6_init_541 : decode cX6_init 541 = .ok (.bipush 6, 2) := dk_16 6 (dk_at dksX6_init_22 22 rfl rfl)
theorem dX6_init_543 : decode cX6_init 543 = .ok (.newarray .int, 2) := dk_188_10 (dk_at dksX6_init_23 0 rfl rfl)
theorem dX6_init_545 : decode cX6_init 545 = .ok (.putfield 205, 3) := dk_181 0 205 (dk_at dksX6_init_23 2 rfl rfl)
theorem dX6_init_548 : decode cX6_init 548 = .ok (.aload_n 0, 1) := dk_42 (dk_at dksX6_init_23 5 rfl rfl)
theorem dX6_init_549 : decode cX6_init 549 = .ok (.bipush 6, 2) := dk_16 6 (dk_at dksX6_init_23 6 rfl rfl)
theorem dX6_init_551 : decode cX6_init 551 = .ok (.newarray .int, 2) := dk_188_10 (dk_at dksX6_init_23 8 rfl rfl)
theorem dX6_init_553 : decode cX6_init 553 = .ok (.putfield 208, 3) := dk_181 0 208 (dk_at dksX6_init_23 10 rfl rfl)
theorem dX6_init_556 : decode cX6_init 556 = .ok (.aload_n 0, 1) := dk_42 (dk_at dksX6_init_23 13 rfl rfl)
theorem dX6_init_557 : decode cX6_init 557 = .ok (.bipush 24, 2) := dk_16 24 (dk_at dksX6_init_23 14 rfl rfl)
theorem dX6_init_559 : decode cX6_init 559 = .ok (.newarray .int, 2) := dk_188_10 (dk_at dksX6_init_23 16 rfl rfl)
theorem dX6_init_561 : decode cX6_init 561 = .ok (.putfield 211, 3) := dk_181 0 211 (dk_at dksX6_init_23 18 rfl rfl)
theorem dX6_init_564 : decode cX6_init 564 = .ok (.aload_n 0, 1) := dk_42 (dk_at dksX6_init_23 21 rfl rfl)
theorem dX6_init_565 : decode cX6_init 565 = .ok (.iconst 5, 1) := dk_8 (dk_at dksX6_init_23 22 rfl rfl)
theorem dX6_init_566 : decode cX6_init 566 = .ok (.newarray .int, 2) := dk_188_10 (dk_at dksX6_init_24 0 rfl rfl)
theorem dX6_init_568 : decode cX6_init 568 = .ok (.putfield 214, 3) := dk_181 0 214 (dk_at dksX6_init_24 2 rfl rfl)
theorem dX6_init_571 : decode cX6_init 571 = .ok (.aload_n 0, 1) := dk_42 (dk_at dksX6_init_24 5 rfl rfl)
theorem dX6_init_572 : decode cX6_init 572 = .ok (.bipush 6, 2) := dk_16 6 (dk_at dksX6_init_24 6 rfl rfl)
theorem dX6_init_574 : decode cX6_init 574 = .ok (.newarray .int, 2) := dk_188_10 (dk_at dksX6_init_24 8 rfl rfl)
theorem dX6_init_576 : decode cX6_init 576 = .ok (.putfield 217, 3) := dk_181 0 217 (dk_at dksX6_init_24 10 rfl rfl)
theorem dX6_init_579 : decode cX6_init 579 = .ok (.aload_n 0, 1) := dk_42 (dk_at dksX6_init_24 13 rfl rfl)
theorem dX6_init_580 : decode cX6_init 580 = .ok (.bipush 6, 2) := dk_16 6 (dk_at dksX6_init_24 14 rfl rfl)
theorem dX6_init_582 : decode cX6_init 582 = .ok (.newarray .int, 2) := dk_188_10 (dk_at dksX6_init_24 16 rfl rfl)
theorem dX6_init_584 : decode cX6_init 584 = .ok (.putfield 220, 3) := dk_181 0 220 (dk_at dksX6_init_24 18 rfl rfl)
theorem dX6_init_587 : decode cX6_init 587 = .ok (.aload_n 0, 1) := dk_42 (dk_at dksX6_init_24 21 rfl rfl)
theorem dX6_init_588 : decode cX6_init 588 = .ok (.bipush 8, 2) := dk_16 8 (dk_at dksX6_init_24 22 rfl rfl)
theorem dX6_init_590 : decode cX6_init 590 = .ok (.newarray .int, 2) := dk_188_10 (dk_at dksX6_init_25 0 rfl rfl)
theorem dX6_init_592 : decode cX6_init 592 = .ok (.putfield 223, 3) := dk_181 0 223 (dk_at dksX6_init_25 2 rfl rfl)
theorem dX6_init_595 : decode cX6_init 595 = .ok (.aload_n 0, 1) := dk_42 (dk_at dksX6_init_25 5 rfl rfl)
theorem dX6_init_596 : decode cX6_init 596 = .ok (.bipush 8, 2) := dk_16 8 (dk_at dksX6_init_25 6 rfl rfl)
theorem dX6_init_598 : decode cX6_init 598 = .ok (.newarray .int, 2) := dk_188_10 (dk_at dksX6_init_25 8 rfl rfl)
theorem dX6_init_600 : decode cX6_init 600 = .ok (.putfield 226, 3) := dk_181 0 226 (dk_at dksX6_init_25 10 rfl rfl)
theorem dX6_init_603 : decode cX6_init 603 = .ok (.aload_n 0, 1) := dk_42 (dk_at dksX6_init_25 13 rfl rfl)
theorem dX6_init_604 : decode cX6_init 604 = .ok (.iconst 0, 1) := dk_3 (dk_at dksX6_init_25 14 rfl rfl)
theorem dX6_init_605 : decode cX6_init 605 = .ok (.putfield 229, 3) := dk_181 0 229 (dk_at dksX6_init_25 15 rfl rfl)
theorem dX6_init_608 : decode cX6_init 608 = .ok (.aload_n 0, 1) := dk_42 (dk_at dksX6_init_25 18 rfl rfl)
theorem dX6_init_609 : decode cX6_init 609 = .ok (.bipush 20, 2) := dk_16 20 (dk_at dksX6_init_25 19 rfl rfl)
theorem dX6_init_611 : decode cX6_init 611 = .ok (.newarray .int, 2) := dk_188_10 (dk_at dksX6_init_25 21 rfl rfl)
theorem dX6_init_613 : decode cX6_init 613 = .ok (.putfield 232, 3) := dk_181 0 232 (dk_at dksX6_init_26 0 rfl rfl)
theorem dX6_init_616 : decode cX6_init 616 = .ok (.aload_n 0, 1) := dk_42 (dk_at dksX6_init_26 3 rfl rfl)
theorem dX6_init_617 : decode cX6_init 617 = .ok (.bipush 6, 2) := dk_16 6 (dk_at dksX6_init_26 4 rfl rfl)
theorem dX6_init_619 : decode cX6_init 619 = .ok (.newarray .int, 2) := dk_188_10 (dk_at dksX6_init_26 6 rfl rfl)
theorem dX6_init_621 : decode cX6_init 621 = .ok (.dup, 1) := dk_89 (dk_at dksX6_init_26 8 rfl rfl)
theorem dX6_init_622 : decode cX6_init 622 = .ok (.iconst 0, 1) := dk_3 (dk_at dksX6_init_26 9 rfl rfl)
theorem dX6_init_623 : decode cX6_init 623 = .ok (.iconst (-1), 1) := dk_2 (dk_at dksX6_init_26 10 rfl rfl)
theorem dX6_init_624 : decode cX6_init 624 = .ok (.iastore, 1) := dk_79 (dk_at dksX6_init_26 11 rfl rfl)
theorem dX6_init_625 : decode cX6_init 625 = .ok (.dup, 1) := dk_89 (dk_at dksX6_init_26 12 rfl rfl)
theorem dX6_init_626 : decode cX6_init 626 = .ok (.iconst 1, 1) := dk_4 (dk_at dksX6_init_26 13 rfl rfl)
theorem dX6_init_627 : decode cX6_init 627 = .ok (.iconst (-1), 1) := dk_2 (dk_at dksX6_init_26 14 rfl rfl)
theorem dX6_init_628 : decode cX6_init 628 = .ok (.iastore, 1) := dk_79 (dk_at dksX6_init_26 15 rfl rfl)
theorem dX6_init_629 : decode cX6_init 629 = .ok (.dup, 1) := dk_89 (dk_at dksX6_init_26 16 rfl rfl)
theorem dX6_init_630 : decode cX6_init 630 = .ok (.iconst 2, 1) := dk_5 (dk_at dksX6_init_26 17 rfl rfl)
theorem dX6_init_631 : decode cX6_init 631 = .ok (.iconst (-1), 1) := dk_2 (dk_at dksX6_init_26 18 rfl rfl)
theorem dX6_init_632 : decode cX6_init 632 = .ok (.iastore, 1) := dk_79 (dk_at dksX6_init_26 19 rfl rfl)
theorem dX6_init_633 : decode cX6_init 633 = .ok (.dup, 1) := dk_89 (dk_at dksX6_init_26 20 rfl rfl)
theorem dX6_init_634 : decode cX6_init 634 = .ok (.iconst 3, 1) := dk_6 (dk_at dksX6_init_26 21 rfl rfl)
theorem dX6_init_635 : decode cX6_init 635 = .ok (.iconst (-1), 1) := dk_2 (dk_at dksX6_init_26 22 rfl rfl)
theorem dX6_init_636 : decode cX6_init 636 = .ok (.iastore, 1) := dk_79 (dk_at dksX6_init_26 23 rfl rfl)
theorem dX6_init_637 : decode cX6_init 637 = .ok (.dup, 1) := dk_89 (dk_at dksX6_init_27 0 rfl rfl)
theorem dX6_init_638 : decode cX6_init 638 = .ok (.iconst 4, 1) := dk_7 (dk_at dksX6_init_27 1 rfl rfl)
theorem dX6_init_639 : decode cX6_init 639 = .ok (.iconst (-1), 1) := dk_2 (dk_at dksX6_init_27 2 rfl rfl)
theorem dX6_init_640 : decode cX6_init 640 = .ok (.iastore, 1) := dk_79 (dk_at dksX6_init_27 3 rfl rfl)
theorem dX6_init_641 : decode cX6_init 641 = .ok (.dup, 1) := dk_89 (dk_at dksX6_init_27 4 rfl rfl)
theorem dX6_init_642 : decode cX6_init 642 = .ok (.iconst 5, 1) := dk_8 (dk_at dksX6_init_27 5 rfl rfl)
theorem dX6_init_643 : decode cX6_init 643 = .ok (.iconst (-1), 1) := dk_2 (dk_at dksX6_init_27 6 rfl rfl)
theorem dX6_init_644 : decode cX6_init 644 = .ok (.iastore, 1) := dk_79 (dk_at dksX6_init_27 7 rfl rfl)
theorem dX6_init_645 : decode cX6_init 645 = .ok (.putfield 235, 3) := dk_181 0 235 (dk_at dksX6_init_27 8 rfl rfl)
theorem dX6_init_648 : decode cX6_init 648 = .ok (.aload_n 0, 1) := dk_42 (dk_at dksX6_init_27 11 rfl rfl)
theorem dX6_init_649 : decode cX6_init 649 = .ok (.bipush 6, 2) := dk_16 6 (dk_at dksX6_init_27 12 rfl rfl)
theorem dX6_init_651 : decode cX6_init 651 = .ok (.newarray .int, 2) := dk_188_10 (dk_at dksX6_init_27 14 rfl rfl)
theorem dX6_init_653 : decode cX6_init 653 = .ok (.putfield 238, 3) := dk_181 0 238 (dk_at dksX6_init_27 16 rfl rfl)
theorem dX6_init_656 : decode cX6_init 656 = .ok (.aload_n 0, 1) := dk_42 (dk_at dksX6_init_27 19 rfl rfl)
theorem dX6_init_657 : decode cX6_init 657 = .ok (.sipush 360, 3) := dk_17 1 104 (dk_at dksX6_init_27 20 rfl rfl)
theorem dX6_init_660 : decode cX6_init 660 = .ok (.newarray .long, 2) := dk_188_11 (dk_at dksX6_init_28 0 rfl rfl)
theorem dX6_init_662 : decode cX6_init 662 = .ok (.putfield 241, 3) := dk_181 0 241 (dk_at dksX6_init_28 2 rfl rfl)
theorem dX6_init_665 : decode cX6_init 665 = .ok (.aload_n 0, 1) := dk_42 (dk_at dksX6_init_28 5 rfl rfl)
theorem dX6_init_666 : decode cX6_init 666 = .ok (.bipush 60, 2) := dk_16 60 (dk_at dksX6_init_28 6 rfl rfl)
theorem dX6_init_668 : decode cX6_init 668 = .ok (.newarray .long, 2) := dk_188_11 (dk_at dksX6_init_28 8 rfl rfl)
theorem dX6_init_670 : decode cX6_init 670 = .ok (.putfield 245, 3) := dk_181 0 245 (dk_at dksX6_init_28 10 rfl rfl)
theorem dX6_init_673 : decode cX6_init 673 = .ok (.return_, 1) := dk_177 (dk_at dksX6_init_28 13 rfl rfl)
abbrev cX6_head : ByteArray := prog_23_method_9_code
def yX6_head : MethodName := ⟨RX6, "head", "(I)I"⟩
def dkwX6_head_3 : List UInt8 := [100, 172]
abbrev dktX6_head_3 : List UInt8 := dkwX6_head_3 ++ []
def dkwX6_head_2 : List UInt8 := [180, 0, 26, 42, 180, 0, 7, 2, 79, 42, 89, 180, 0, 7, 4, 96, 181, 0, 7, 42, 180, 0, 7, 4]
abbrev dktX6_head_2 : List UInt8 := dkwX6_head_2 ++ dktX6_head_3
def dkwX6_head_1 : List UInt8 := [16, 252, 172, 42, 180, 0, 19, 42, 180, 0, 7, 27, 79, 42, 180, 0, 23, 42, 180, 0, 7, 2, 79, 42]
abbrev dktX6_head_1 : List UInt8 := dkwX6_head_1 ++ dktX6_head_2
def dkwX6_head_0 : List UInt8 := [42, 27, 3, 16, 9, 182, 0, 248, 154, 0, 6, 16, 254, 172, 42, 180, 0, 7, 16, 6, 160, 0, 6]
abbrev dktX6_head_0 : List UInt8 := dkwX6_head_0 ++ dktX6_head_1
theorem dksX6_head_0 : cX6_head.data.toList.drop 0 = dktX6_head_0 := by decide +kernel
theorem dksX6_head_1 : cX6_head.data.toList.drop 23 = dktX6_head_1 := dk_seg dksX6_head_0 23 rfl rfl
theorem dksX6_head_2 : cX6_head.data.toList.drop 47 = dktX6_head_2 := dk_seg dksX6_head_1 24 rfl rfl
theorem dksX6_head_3 : cX6_head.data.toList.drop 71 = dktX6_head_3 := dk_seg dksX6_head_2 24 rfl rfl
theorem dX6_head_0 : decode cX6_head 0 = .ok (.aload_n 0, 1) := dk_42 (dk_at dksX6_head_0 0 rfl rfl)
theorem dX6_head_1 : decode cX6_head 1 = .ok (.iload_n 1, 1) := dk_27 (dk_at dksX6_head_0 1 rfl rfl)
theorem dX6_head_2 : decode cX6_head 2 = .ok (.iconst 0, 1) := dk_3 (dk_at dksX6_head_0 2 rfl rfl)
theorem dX6_head_3 : decode cX6_head 3 = .ok (.bipush 9, 2) := dk_16 9 (dk_at dksX6_head_0 3 rfl rfl)
theorem dX6_head_5 : decode cX6_head 5 = .ok (.invokevirtual 248, 3) := dk_182 0 248 (dk_at dksX6_head_0 5 rfl rfl)
theorem dX6_head_8 : decode cX6_head 8 = .ok (.ifCond .ne 6, 3) := dk_154 0 6 (dk_at dksX6_head_0 8 rfl rfl)
theorem dX6_head_11 : decode cX6_head 11 = .ok (.bipush (-2), 2) := dk_16 254 (dk_at dksX6_head_0 11 rfl rfl)
theorem dX6_head_13 : decode cX6_head 13 = .ok (.ireturn, 1) := dk_172 (dk_at dksX6_head_0 13 rfl rfl)
theorem dX6_head_14 : decode cX6_head 14 = .ok (.aload_n 0, 1) := dk_42 (dk_at dksX6_head_0 14 rfl rfl)
theorem dX6_head_15 : decode cX6_head 15 = .ok (.getfield 7, 3) := dk_180 0 7 (dk_at dksX6_head_0 15 rfl rfl)
theorem dX6_head_18 : decode cX6_head 18 = .ok (.bipush 6, 2) := dk_16 6 (dk_at dksX6_head_0 18 rfl rfl)
theorem dX6_head_20 : decode cX6_head 20 = .ok (.if_icmp .ne 6, 3) := dk_160 0 6 (dk_at dksX6_head_0 20 rfl rfl)
theorem dX6_head_23 : decode cX6_head 23 = .ok (.bipush (-4), 2) := dk_16 252 (dk_at dksX6_head_1 0 rfl rfl)
theorem dX6_head_25 : decode cX6_head 25 = .ok (.ireturn, 1) := dk_172 (dk_at dksX6_head_1 2 rfl rfl)
theorem dX6_head_26 : decode cX6_head 26 = .ok (.aload_n 0, 1) := dk_42 (dk_at dksX6_head_1 3 rfl rfl)
theorem dX6_head_27 : decode cX6_head 27 = .ok (.getfield 19, 3) := dk_180 0 19 (dk_at dksX6_head_1 4 rfl rfl)
theorem dX6_head_30 : decode cX6_head 30 = .ok (.aload_n 0, 1) := dk_42 (dk_at dksX6_head_1 7 rfl rfl)
theorem dX6_head_31 : decode cX6_head 31 = .ok (.getfield 7, 3) := dk_180 0 7 (dk_at dksX6_head_1 8 rfl rfl)
theorem dX6_head_34 : decode cX6_head 34 = .ok (.iload_n 1, 1) := dk_27 (dk_at dksX6_head_1 11 rfl rfl)
theorem dX6_head_35 : decode cX6_head 35 = .ok (.iastore, 1) := dk_79 (dk_at dksX6_head_1 12 rfl rfl)
theorem dX6_head_36 : decode cX6_head 36 = .ok (.aload_n 0, 1) := dk_42 (dk_at dksX6_head_1 13 rfl rfl)
theorem dX6_head_37 : decode cX6_head 37 = .ok (.getfield 23, 3) := dk_180 0 23 (dk_at dksX6_head_1 14 rfl rfl)
theorem dX6_head_40 : decode cX6_head 40 = .ok (.aload_n 0, 1) := dk_42 (dk_at dksX6_head_1 17 rfl rfl)
theorem dX6_head_41 : decode cX6_head 41 = .ok (.getfield 7, 3) := dk_180 0 7 (dk_at dksX6_head_1 18 rfl rfl)
theorem dX6_head_44 : decode cX6_head 44 = .ok (.iconst (-1), 1) := dk_2 (dk_at dksX6_head_1 21 rfl rfl)
theorem dX6_head_45 : decode cX6_head 45 = .ok (.iastore, 1) := dk_79 (dk_at dksX6_head_1 22 rfl rfl)
theorem dX6_head_46 : decode cX6_head 46 = .ok (.aload_n 0, 1) := dk_42 (dk_at dksX6_head_1 23 rfl rfl)
theorem dX6_head_47 : decode cX6_head 47 = .ok (.getfield 26, 3) := dk_180 0 26 (dk_at dksX6_head_2 0 rfl rfl)
theorem dX6_head_50 : decode cX6_head 50 = .ok (.aload_n 0, 1) := dk_42 (dk_at dksX6_head_2 3 rfl rfl)
theorem dX6_head_51 : decode cX6_head 51 = .ok (.getfield 7, 3) := dk_180 0 7 (dk_at dksX6_head_2 4 rfl rfl)
theorem dX6_head_54 : decode cX6_head 54 = .ok (.iconst (-1), 1) := dk_2 (dk_at dksX6_head_2 7 rfl rfl)
theorem dX6_head_55 : decode cX6_head 55 = .ok (.iastore, 1) := dk_79 (dk_at dksX6_head_2 8 rfl rfl)
theorem dX6_head_56 : decode cX6_head 56 = .ok (.aload_n 0, 1) := dk_42 (dk_at dksX6_head_2 9 rfl rfl)
theorem dX6_head_57 : decode cX6_head 57 = .ok (.dup, 1) := dk_89 (dk_at dksX6_head_2 10 rfl rfl)
theorem dX6_head_58 : decode cX6_head 58 = .ok (.getfield 7, 3) := dk_180 0 7 (dk_at dksX6_head_2 11 rfl rfl)
theorem dX6_head_61 : decode cX6_head 61 = .ok (.iconst 1, 1) := dk_4 (dk_at dksX6_head_2 14 rfl rfl)
theorem dX6_head_62 : decode cX6_head 62 = .ok (.iadd, 1) := dk_96 (dk_at dksX6_head_2 15 rfl rfl)
theorem dX6_head_63 : decode cX6_head 63 = .ok (.putfield 7, 3) := dk_181 0 7 (dk_at dksX6_head_2 16 rfl rfl)
theorem dX6_head_66 : decode cX6_head 66 = .ok (.aload_n 0, 1) := dk_42 (dk_at dksX6_head_2 19 rfl rfl)
theorem dX6_head_67 : decode cX6_head 67 = .ok (.getfield 7, 3) := dk_180 0 7 (dk_at dksX6_head_2 20 rfl rfl)
theorem dX6_head_70 : decode cX6_head 70 = .ok (.iconst 1, 1) := dk_4 (dk_at dksX6_head_2 23 rfl rfl)
theorem dX6_head_71 : decode cX6_head 71 = .ok (.isub, 1) := dk_100 (dk_at dksX6_head_3 0 rfl rfl)
theorem dX6_head_72 : decode cX6_head 72 = .ok (.ireturn, 1) := dk_172 (dk_at dksX6_head_3 1 rfl rfl)
abbrev cX6_in : ByteArray := prog_23_method_2_code
def yX6_in : MethodName := ⟨RX6, "in", "(III)Z"⟩
def dkwX6_in_0 : List UInt8 := [27, 28, 161, 0, 12, 27, 29, 163, 0, 7, 4, 167, 0, 4, 3, 172]
abbrev dktX6_in_0 : List UInt8 := dkwX6_in_0 ++ []
theorem dksX6_in_0 : cX6_in.data.toList.drop 0 = dktX6_in_0 := by decide +kernel
theorem dX6_in_0 : decode cX6_in 0 = .ok (.iload_n 1, 1) := dk_27 (dk_at dksX6_in_0 0 rfl rfl)
theorem dX6_in_1 : decode cX6_in 1 = .ok (.iload_n 2, 1) := dk_28 (dk_at dksX6_in_0 1 rfl rfl)
theorem dX6_in_2 : decode cX6_in 2 = .ok (.if_icmp .lt 12, 3) := dk_161 0 12 (dk_at dksX6_in_0 2 rfl rfl)
theorem dX6_in_5 : decode cX6_in 5 = .ok (.iload_n 1, 1) := dk_27 (dk_at dksX6_in_0 5 rfl rfl)
theorem dX6_in_6 : decode cX6_in 6 = .ok (.iload_n 3, 1) := dk_29 (dk_at dksX6_in_0 6 rfl rfl)
theorem dX6_in_7 : decode cX6_in 7 = .ok (.if_icmp .gt 7, 3) := dk_163 0 7 (dk_at dksX6_in_0 7 rfl rfl)
theorem dX6_in_10 : decode cX6_in 10 = .ok (.iconst 1, 1) := dk_4 (dk_at dksX6_in_0 10 rfl rfl)
theorem dX6_in_11 : decode cX6_in 11 = .ok (.goto 4, 3) := dk_167 0 4 (dk_at dksX6_in_0 11 rfl rfl)
theorem dX6_in_14 : decode cX6_in 14 = .ok (.iconst 0, 1) := dk_3 (dk_at dksX6_in_0 14 rfl rfl)
theorem dX6_in_15 : decode cX6_in 15 = .ok (.ireturn, 1) := dk_172 (dk_at dksX6_in_0 15 rfl rfl)
abbrev cX6_hat : ByteArray := prog_23_method_10_code
def yX6_hat : MethodName := ⟨RX6, "hat", "(IIIII)I"⟩
def dkwX6_hat_7 : List UInt8 := [180, 0, 13, 4, 96, 181, 0, 13, 42, 180, 0, 13, 4, 100, 172]
abbrev dktX6_hat_7 : List UInt8 := dkwX6_hat_7 ++ []
def dkwX6_hat_6 : List UInt8 := [180, 0, 47, 7, 42, 180, 0, 13, 104, 21, 6, 96, 3, 79, 132, 6, 1, 167, 255, 232, 42, 89]
abbrev dktX6_hat_6 : List UInt8 := dkwX6_hat_6 ++ dktX6_hat_7
def dkwX6_hat_5 : List UInt8 := [21, 5, 79, 42, 180, 0, 44, 42, 180, 0, 13, 3, 79, 3, 54, 6, 21, 6, 7, 162, 0, 24, 42]
abbrev dktX6_hat_5 : List UInt8 := dkwX6_hat_5 ++ dktX6_hat_6
def dkwX6_hat_4 : List UInt8 := [180, 0, 13, 29, 79, 42, 180, 0, 38, 42, 180, 0, 13, 21, 4, 79, 42, 180, 0, 41, 42, 180, 0, 13]
abbrev dktX6_hat_4 : List UInt8 := dkwX6_hat_4 ++ dktX6_hat_5
def dkwX6_hat_3 : List UInt8 := [180, 0, 29, 42, 180, 0, 13, 27, 79, 42, 180, 0, 32, 42, 180, 0, 13, 28, 79, 42, 180, 0, 35, 42]
abbrev dktX6_hat_3 : List UInt8 := dkwX6_hat_3 ++ dktX6_hat_4
def dkwX6_hat_2 : List UInt8 := [16, 50, 182, 0, 248, 154, 0, 6, 16, 254, 172, 42, 180, 0, 13, 16, 6, 160, 0, 6, 16, 252, 172, 42]
abbrev dktX6_hat_2 : List UInt8 := dkwX6_hat_2 ++ dktX6_hat_3
def dkwX6_hat_1 : List UInt8 := [3, 16, 9, 182, 0, 248, 153, 0, 26, 42, 29, 3, 16, 9, 182, 0, 248, 153, 0, 15, 42, 21, 4, 3]
abbrev dktX6_hat_1 : List UInt8 := dkwX6_hat_1 ++ dktX6_hat_2
def dkwX6_hat_0 : List UInt8 := [42, 27, 3, 16, 6, 182, 0, 248, 153, 0, 12, 42, 21, 5, 182, 0, 252, 154, 0, 5, 2, 172, 42, 28]
abbrev dktX6_hat_0 : List UInt8 := dkwX6_hat_0 ++ dktX6_hat_1
theorem dksX6_hat_0 : cX6_hat.data.toList.drop 0 = dktX6_hat_0 := by decide +kernel
theorem dksX6_hat_1 : cX6_hat.data.toList.drop 24 = dktX6_hat_1 := dk_seg dksX6_hat_0 24 rfl rfl
theorem dksX6_hat_2 : cX6_hat.data.toList.drop 48 = dktX6_hat_2 := dk_seg dksX6_hat_1 24 rfl rfl
theorem dksX6_hat_3 : cX6_hat.data.toList.drop 72 = dktX6_hat_3 := dk_seg dksX6_hat_2 24 rfl rfl
theorem dksX6_hat_4 : cX6_hat.data.toList.drop 96 = dktX6_hat_4 := dk_seg dksX6_hat_3 24 rfl rfl
theorem dksX6_hat_5 : cX6_hat.data.toList.drop 120 = dktX6_hat_5 := dk_seg dksX6_hat_4 24 rfl rfl
theorem dksX6_hat_6 : cX6_hat.data.toList.drop 143 = dktX6_hat_6 := dk_seg dksX6_hat_5 23 rfl rfl
theorem dksX6_hat_7 : cX6_hat.data.toList.drop 165 = dktX6_hat_7 := dk_seg dksX6_hat_6 22 rfl rfl
theorem dX6_hat_0 : decode cX6_hat 0 = .ok (.aload_n 0, 1) := dk_42 (dk_at dksX6_hat_0 0 rfl rfl)
theorem dX6_hat_1 : decode cX6_hat 1 = .ok (.iload_n 1, 1) := dk_27 (dk_at dksX6_hat_0 1 rfl rfl)
theorem dX6_hat_2 : decode cX6_hat 2 = .ok (.iconst 0, 1) := dk_3 (dk_at dksX6_hat_0 2 rfl rfl)
theorem dX6_hat_3 : decode cX6_hat 3 = .ok (.bipush 6, 2) := dk_16 6 (dk_at dksX6_hat_0 3 rfl rfl)
theorem dX6_hat_5 : decode cX6_hat 5 = .ok (.invokevirtual 248, 3) := dk_182 0 248 (dk_at dksX6_hat_0 5 rfl rfl)
theorem dX6_hat_8 : decode cX6_hat 8 = .ok (.ifCond .eq 12, 3) := dk_153 0 12 (dk_at dksX6_hat_0 8 rfl rfl)
theorem dX6_hat_11 : decode cX6_hat 11 = .ok (.aload_n 0, 1) := dk_42 (dk_at dksX6_hat_0 11 rfl rfl)
theorem dX6_hat_12 : decode cX6_hat 12 = .ok (.iload 5, 2) := dk_21 5 (dk_at dksX6_hat_0 12 rfl rfl)
theorem dX6_hat_14 : decode cX6_hat 14 = .ok (.invokevirtual 252, 3) := dk_182 0 252 (dk_at dksX6_hat_0 14 rfl rfl)
theorem dX6_hat_17 : decode cX6_hat 17 = .ok (.ifCond .ne 5, 3) := dk_154 0 5 (dk_at dksX6_hat_0 17 rfl rfl)
theorem dX6_hat_20 : decode cX6_hat 20 = .ok (.iconst (-1), 1) := dk_2 (dk_at dksX6_hat_0 20 rfl rfl)
theorem dX6_hat_21 : decode cX6_hat 21 = .ok (.ireturn, 1) := dk_172 (dk_at dksX6_hat_0 21 rfl rfl)
theorem dX6_hat_22 : decode cX6_hat 22 = .ok (.aload_n 0, 1) := dk_42 (dk_at dksX6_hat_0 22 rfl rfl)
theorem dX6_hat_23 : decode cX6_hat 23 = .ok (.iload_n 2, 1) := dk_28 (dk_at dksX6_hat_0 23 rfl rfl)
theorem dX6_hat_24 : decode cX6_hat 24 = .ok (.iconst 0, 1) := dk_3 (dk_at dksX6_hat_1 0 rfl rfl)
theorem dX6_hat_25 : decode cX6_hat 25 = .ok (.bipush 9, 2) := dk_16 9 (dk_at dksX6_hat_1 1 rfl rfl)
theorem dX6_hat_27 : decode cX6_hat 27 = .ok (.invokevirtual 248, 3) := dk_182 0 248 (dk_at dksX6_hat_1 3 rfl rfl)
theorem dX6_hat_30 : decode cX6_hat 30 = .ok (.ifCond .eq 26, 3) := dk_153 0 26 (dk_at dksX6_hat_1 6 rfl rfl)
theorem dX6_hat_33 : decode cX6_hat 33 = .ok (.aload_n 0, 1) := dk_42 (dk_at dksX6_hat_1 9 rfl rfl)
theorem dX6_hat_34 : decode cX6_hat 34 = .ok (.iload_n 3, 1) := dk_29 (dk_at dksX6_hat_1 10 rfl rfl)
theorem dX6_hat_35 : decode cX6_hat 35 = .ok (.iconst 0, 1) := dk_3 (dk_at dksX6_hat_1 11 rfl rfl)
theorem dX6_hat_36 : decode cX6_hat 36 = .ok (.bipush 9, 2) := dk_16 9 (dk_at dksX6_hat_1 12 rfl rfl)
theorem dX6_hat_38 : decode cX6_hat 38 = .ok (.invokevirtual 248, 3) := dk_182 0 248 (dk_at dksX6_hat_1 14 rfl rfl)
theorem dX6_hat_41 : decode cX6_hat 41 = .ok (.ifCond .eq 15, 3) := dk_153 0 15 (dk_at dksX6_hat_1 17 rfl rfl)
theorem dX6_hat_44 : decode cX6_hat 44 = .ok (.aload_n 0, 1) := dk_42 (dk_at dksX6_hat_1 20 rfl rfl)
theorem dX6_hat_45 : decode cX6_hat 45 = .ok (.iload 4, 2) := dk_21 4 (dk_at dksX6_hat_1 21 rfl rfl)
theorem dX6_hat_47 : decode cX6_hat 47 = .ok (.iconst 0, 1) := dk_3 (dk_at dksX6_hat_1 23 rfl rfl)
theorem dX6_hat_48 : decode cX6_hat 48 = .ok (.bipush 50, 2) := dk_16 50 (dk_at dksX6_hat_2 0 rfl rfl)
theorem dX6_hat_50 : decode cX6_hat 50 = .ok (.invokevirtual 248, 3) := dk_182 0 248 (dk_at dksX6_hat_2 2 rfl rfl)
theorem dX6_hat_53 : decode cX6_hat 53 = .ok (.ifCond .ne 6, 3) := dk_154 0 6 (dk_at dksX6_hat_2 5 rfl rfl)
theorem dX6_hat_56 : decode cX6_hat 56 = .ok (.bipush (-2), 2) := dk_16 254 (dk_at dksX6_hat_2 8 rfl rfl)
theorem dX6_hat_58 : decode cX6_hat 58 = .ok (.ireturn, 1) := dk_172 (dk_at dksX6_hat_2 10 rfl rfl)
theorem dX6_hat_59 : decode cX6_hat 59 = .ok (.aload_n 0, 1) := dk_42 (dk_at dksX6_hat_2 11 rfl rfl)
theorem dX6_hat_60 : decode cX6_hat 60 = .ok (.getfield 13, 3) := dk_180 0 13 (dk_at dksX6_hat_2 12 rfl rfl)
theorem dX6_hat_63 : decode cX6_hat 63 = .ok (.bipush 6, 2) := dk_16 6 (dk_at dksX6_hat_2 15 rfl rfl)
theorem dX6_hat_65 : decode cX6_hat 65 = .ok (.if_icmp .ne 6, 3) := dk_160 0 6 (dk_at dksX6_hat_2 17 rfl rfl)
theorem dX6_hat_68 : decode cX6_hat 68 = .ok (.bipush (-4), 2) := dk_16 252 (dk_at dksX6_hat_2 20 rfl rfl)
theorem dX6_hat_70 : decode cX6_hat 70 = .ok (.ireturn, 1) := dk_172 (dk_at dksX6_hat_2 22 rfl rfl)
theorem dX6_hat_71 : decode cX6_hat 71 = .ok (.aload_n 0, 1) := dk_42 (dk_at dksX6_hat_2 23 rfl rfl)
theorem dX6_hat_72 : decode cX6_hat 72 = .ok (.getfield 29, 3) := dk_180 0 29 (dk_at dksX6_hat_3 0 rfl rfl)
theorem dX6_hat_75 : decode cX6_hat 75 = .ok (.aload_n 0, 1) := dk_42 (dk_at dksX6_hat_3 3 rfl rfl)
theorem dX6_hat_76 : decode cX6_hat 76 = .ok (.getfield 13, 3) := dk_180 0 13 (dk_at dksX6_hat_3 4 rfl rfl)
theorem dX6_hat_79 : decode cX6_hat 79 = .ok (.iload_n 1, 1) := dk_27 (dk_at dksX6_hat_3 7 rfl rfl)
theorem dX6_hat_80 : decode cX6_hat 80 = .ok (.iastore, 1) := dk_79 (dk_at dksX6_hat_3 8 rfl rfl)
theorem dX6_hat_81 : decode cX6_hat 81 = .ok (.aload_n 0, 1) := dk_42 (dk_at dksX6_hat_3 9 rfl rfl)
theorem dX6_hat_82 : decode cX6_hat 82 = .ok (.getfield 32, 3) := dk_180 0 32 (dk_at dksX6_hat_3 10 rfl rfl)
theorem dX6_hat_85 : decode cX6_hat 85 = .ok (.aload_n 0, 1) := dk_42 (dk_at dksX6_hat_3 13 rfl rfl)
theorem dX6_hat_86 : decode cX6_hat 86 = .ok (.getfield 13, 3) := dk_180 0 13 (dk_at dksX6_hat_3 14 rfl rfl)
theorem dX6_hat_89 : decode cX6_hat 89 = .ok (.iload_n 2, 1) := dk_28 (dk_at dksX6_hat_3 17 rfl rfl)
theorem dX6_hat_90 : decode cX6_hat 90 = .ok (.iastore, 1) := dk_79 (dk_at dksX6_hat_3 18 rfl rfl)
theorem dX6_hat_91 : decode cX6_hat 91 = .ok (.aload_n 0, 1) := dk_42 (dk_at dksX6_hat_3 19 rfl rfl)
theorem dX6_hat_92 : decode cX6_hat 92 = .ok (.getfield 35, 3) := dk_180 0 35 (dk_at dksX6_hat_3 20 rfl rfl)
theorem dX6_hat_95 : decode cX6_hat 95 = .ok (.aload_n 0, 1) := dk_42 (dk_at dksX6_hat_3 23 rfl rfl)
theorem dX6_hat_96 : decode cX6_hat 96 = .ok (.getfield 13, 3) := dk_180 0 13 (dk_at dksX6_hat_4 0 rfl rfl)
theorem dX6_hat_99 : decode cX6_hat 99 = .ok (.iload_n 3, 1) := dk_29 (dk_at dksX6_hat_4 3 rfl rfl)
theorem dX6_hat_100 : decode cX6_hat 100 = .ok (.iastore, 1) := dk_79 (dk_at dksX6_hat_4 4 rfl rfl)
theorem dX6_hat_101 : decode cX6_hat 101 = .ok (.aload_n 0, 1) := dk_42 (dk_at dksX6_hat_4 5 rfl rfl)
theorem dX6_hat_102 : decode cX6_hat 102 = .ok (.getfield 38, 3) := dk_180 0 38 (dk_at dksX6_hat_4 6 rfl rfl)
theorem dX6_hat_105 : decode cX6_hat 105 = .ok (.aload_n 0, 1) := dk_42 (dk_at dksX6_hat_4 9 rfl rfl)
theorem dX6_hat_106 : decode cX6_hat 106 = .ok (.getfield 13, 3) := dk_180 0 13 (dk_at dksX6_hat_4 10 rfl rfl)
theorem dX6_hat_109 : decode cX6_hat 109 = .ok (.iload 4, 2) := dk_21 4 (dk_at dksX6_hat_4 13 rfl rfl)
theorem dX6_hat_111 : decode cX6_hat 111 = .ok (.iastore, 1) := dk_79 (dk_at dksX6_hat_4 15 rfl rfl)
theorem dX6_hat_112 : decode cX6_hat 112 = .ok (.aload_n 0, 1) := dk_42 (dk_at dksX6_hat_4 16 rfl rfl)
theorem dX6_hat_113 : decode cX6_hat 113 = .ok (.getfield 41, 3) := dk_180 0 41 (dk_at dksX6_hat_4 17 rfl rfl)
theorem dX6_hat_116 : decode cX6_hat 116 = .ok (.aload_n 0, 1) := dk_42 (dk_at dksX6_hat_4 20 rfl rfl)
theorem dX6_hat_117 : decode cX6_hat 117 = .ok (.getfield 13, 3) := dk_180 0 13 (dk_at dksX6_hat_4 21 rfl rfl)
theorem dX6_hat_120 : decode cX6_hat 120 = .ok (.iload 5, 2) := dk_21 5 (dk_at dksX6_hat_5 0 rfl rfl)
theorem dX6_hat_122 : decode cX6_hat 122 = .ok (.iastore, 1) := dk_79 (dk_at dksX6_hat_5 2 rfl rfl)
theorem dX6_hat_123 : decode cX6_hat 123 = .ok (.aload_n 0, 1) := dk_42 (dk_at dksX6_hat_5 3 rfl rfl)
theorem dX6_hat_124 : decode cX6_hat 124 = .ok (.getfield 44, 3) := dk_180 0 44 (dk_at dksX6_hat_5 4 rfl rfl)
theorem dX6_hat_127 : decode cX6_hat 127 = .ok (.aload_n 0, 1) := dk_42 (dk_at dksX6_hat_5 7 rfl rfl)
theorem dX6_hat_128 : decode cX6_hat 128 = .ok (.getfield 13, 3) := dk_180 0 13 (dk_at dksX6_hat_5 8 rfl rfl)
theorem dX6_hat_131 : decode cX6_hat 131 = .ok (.iconst 0, 1) := dk_3 (dk_at dksX6_hat_5 11 rfl rfl)
theorem dX6_hat_132 : decode cX6_hat 132 = .ok (.iastore, 1) := dk_79 (dk_at dksX6_hat_5 12 rfl rfl)
theorem dX6_hat_133 : decode cX6_hat 133 = .ok (.iconst 0, 1) := dk_3 (dk_at dksX6_hat_5 13 rfl rfl)
theorem dX6_hat_134 : decode cX6_hat 134 = .ok (.istore 6, 2) := dk_54 6 (dk_at dksX6_hat_5 14 rfl rfl)
theorem dX6_hat_136 : decode cX6_hat 136 = .ok (.iload 6, 2) := dk_21 6 (dk_at dksX6_hat_5 16 rfl rfl)
theorem dX6_hat_138 : decode cX6_hat 138 = .ok (.iconst 4, 1) := dk_7 (dk_at dksX6_hat_5 18 rfl rfl)
theorem dX6_hat_139 : decode cX6_hat 139 = .ok (.if_icmp .ge 24, 3) := dk_162 0 24 (dk_at dksX6_hat_5 19 rfl rfl)
theorem dX6_hat_142 : decode cX6_hat 142 = .ok (.aload_n 0, 1) := dk_42 (dk_at dksX6_hat_5 22 rfl rfl)
theorem dX6_hat_143 : decode cX6_hat 143 = .ok (.getfield 47, 3) := dk_180 0 47 (dk_at dksX6_hat_6 0 rfl rfl)
theorem dX6_hat_146 : decode cX6_hat 146 = .ok (.iconst 4, 1) := dk_7 (dk_at dksX6_hat_6 3 rfl rfl)
theorem dX6_hat_147 : decode cX6_hat 147 = .ok (.aload_n 0, 1) := dk_42 (dk_at dksX6_hat_6 4 rfl rfl)
theorem dX6_hat_148 : decode cX6_hat 148 = .ok (.getfield 13, 3) := dk_180 0 13 (dk_at dksX6_hat_6 5 rfl rfl)
theorem dX6_hat_151 : decode cX6_hat 151 = .ok (.imul, 1) := dk_104 (dk_at dksX6_hat_6 8 rfl rfl)
theorem dX6_hat_152 : decode cX6_hat 152 = .ok (.iload 6, 2) := dk_21 6 (dk_at dksX6_hat_6 9 rfl rfl)
theorem dX6_hat_154 : decode cX6_hat 154 = .ok (.iadd, 1) := dk_96 (dk_at dksX6_hat_6 11 rfl rfl)
theorem dX6_hat_155 : decode cX6_hat 155 = .ok (.iconst 0, 1) := dk_3 (dk_at dksX6_hat_6 12 rfl rfl)
theorem dX6_hat_156 : decode cX6_hat 156 = .ok (.iastore, 1) := dk_79 (dk_at dksX6_hat_6 13 rfl rfl)
theorem dX6_hat_157 : decode cX6_hat 157 = .ok (.iinc 6 1, 3) := dk_132 6 1 (dk_at dksX6_hat_6 14 rfl rfl)
theorem dX6_hat_160 : decode cX6_hat 160 = .ok (.goto (-24), 3) := dk_167 255 232 (dk_at dksX6_hat_6 17 rfl rfl)
theorem dX6_hat_163 : decode cX6_hat 163 = .ok (.aload_n 0, 1) := dk_42 (dk_at dksX6_hat_6 20 rfl rfl)
theorem dX6_hat_164 : decode cX6_hat 164 = .ok (.dup, 1) := dk_89 (dk_at dksX6_hat_6 21 rfl rfl)
theorem dX6_hat_165 : decode cX6_hat 165 = .ok (.getfield 13, 3) := dk_180 0 13 (dk_at dksX6_hat_7 0 rfl rfl)
theorem dX6_hat_168 : decode cX6_hat 168 = .ok (.iconst 1, 1) := dk_4 (dk_at dksX6_hat_7 3 rfl rfl)
theorem dX6_hat_169 : decode cX6_hat 169 = .ok (.iadd, 1) := dk_96 (dk_at dksX6_hat_7 4 rfl rfl)
theorem dX6_hat_170 : decode cX6_hat 170 = .ok (.putfield 13, 3) := dk_181 0 13 (dk_at dksX6_hat_7 5 rfl rfl)
theorem dX6_hat_173 : decode cX6_hat 173 = .ok (.aload_n 0, 1) := dk_42 (dk_at dksX6_hat_7 8 rfl rfl)
theorem dX6_hat_174 : decode cX6_hat 174 = .ok (.getfield 13, 3) := dk_180 0 13 (dk_at dksX6_hat_7 9 rfl rfl)
theorem dX6_hat_177 : decode cX6_hat 177 = .ok (.iconst 1, 1) := dk_4 (dk_at dksX6_hat_7 12 rfl rfl)
theorem dX6_hat_178 : decode cX6_hat 178 = .ok (.isub, 1) := dk_100 (dk_at dksX6_hat_7 13 rfl rfl)
theorem dX6_hat_179 : decode cX6_hat 179 = .ok (.ireturn, 1) := dk_172 (dk_at dksX6_hat_7 14 rfl rfl)
abbrev cX6_isTrade : ByteArray := prog_23_method_7_code
def yX6_isTrade : MethodName := ⟨RX6, "isTrade", "(I)Z"⟩
def dkwX6_isTrade_0 : List UInt8 := [42, 27, 3, 7, 182, 0, 248, 172]
abbrev dktX6_isTrade_0 : List UInt8 := dkwX6_isTrade_0 ++ []
theorem dksX6_isTrade_0 : cX6_isTrade.data.toList.drop 0 = dktX6_isTrade_0 := by decide +kernel
theorem dX6_isTrade_0 : decode cX6_isTrade 0 = .ok (.aload_n 0, 1) := dk_42 (dk_at dksX6_isTrade_0 0 rfl rfl)
theorem dX6_isTrade_1 : decode cX6_isTrade 1 = .ok (.iload_n 1, 1) := dk_27 (dk_at dksX6_isTrade_0 1 rfl rfl)
theorem dX6_isTrade_2 : decode cX6_isTrade 2 = .ok (.iconst 0, 1) := dk_3 (dk_at dksX6_isTrade_0 2 rfl rfl)
theorem dX6_isTrade_3 : decode cX6_isTrade 3 = .ok (.iconst 4, 1) := dk_7 (dk_at dksX6_isTrade_0 3 rfl rfl)
theorem dX6_isTrade_4 : decode cX6_isTrade 4 = .ok (.invokevirtual 248, 3) := dk_182 0 248 (dk_at dksX6_isTrade_0 4 rfl rfl)
theorem dX6_isTrade_7 : decode cX6_isTrade 7 = .ok (.ireturn, 1) := dk_172 (dk_at dksX6_isTrade_0 7 rfl rfl)
abbrev cX6_row : ByteArray := prog_23_method_12_code
def yX6_row : MethodName := ⟨RX6, "row", "(III)I"⟩
def dkwX6_row_3 : List UInt8 := [21, 4, 172]
abbrev dktX6_row_3 : List UInt8 := dkwX6_row_3 ++ []
def dkwX6_row_2 : List UInt8 := [172, 42, 180, 0, 47, 7, 27, 104, 28, 96, 46, 54, 4, 42, 180, 0, 47, 7, 27, 104, 28, 96, 29, 79]
abbrev dktX6_row_2 : List UInt8 := dkwX6_row_2 ++ dktX6_row_3
def dkwX6_row_1 : List UInt8 := [16, 9, 182, 0, 248, 154, 0, 6, 16, 254, 172, 42, 180, 0, 29, 27, 46, 16, 6, 159, 0, 6, 16, 253]
abbrev dktX6_row_1 : List UInt8 := dkwX6_row_1 ++ dktX6_row_2
def dkwX6_row_0 : List UInt8 := [42, 27, 182, 1, 0, 153, 0, 13, 42, 28, 3, 6, 182, 0, 248, 154, 0, 5, 2, 172, 42, 29, 3]
abbrev dktX6_row_0 : List UInt8 := dkwX6_row_0 ++ dktX6_row_1
theorem dksX6_row_0 : cX6_row.data.toList.drop 0 = dktX6_row_0 := by decide +kernel
theorem dksX6_row_1 : cX6_row.data.toList.drop 23 = dktX6_row_1 := dk_seg dksX6_row_0 23 rfl rfl
theorem dksX6_row_2 : cX6_row.data.toList.drop 47 = dktX6_row_2 := dk_seg dksX6_row_1 24 rfl rfl
theorem dksX6_row_3 : cX6_row.data.toList.drop 71 = dktX6_row_3 := dk_seg dksX6_row_2 24 rfl rfl
theorem dX6_row_0 : decode cX6_row 0 = .ok (.aload_n 0, 1) := dk_42 (dk_at dksX6_row_0 0 rfl rfl)
theorem dX6_row_1 : decode cX6_row 1 = .ok (.iload_n 1, 1) := dk_27 (dk_at dksX6_row_0 1 rfl rfl)
theorem dX6_row_2 : decode cX6_row 2 = .ok (.invokevirtual 256, 3) := dk_182 1 0 (dk_at dksX6_row_0 2 rfl rfl)
theorem dX6_row_5 : decode cX6_row 5 = .ok (.ifCond .eq 13, 3) := dk_153 0 13 (dk_at dksX6_row_0 5 rfl rfl)
theorem dX6_row_8 : decode cX6_row 8 = .ok (.aload_n 0, 1) := dk_42 (dk_at dksX6_row_0 8 rfl rfl)
theorem dX6_row_9 : decode cX6_row 9 = .ok (.iload_n 2, 1) := dk_28 (dk_at dksX6_row_0 9 rfl rfl)
theorem dX6_row_10 : decode cX6_row 10 = .ok (.iconst 0, 1) := dk_3 (dk_at dksX6_row_0 10 rfl rfl)
theorem dX6_row_11 : decode cX6_row 11 = .ok (.iconst 3, 1) := dk_6 (dk_at dksX6_row_0 11 rfl rfl)
theorem dX6_row_12 : decode cX6_row 12 = .ok (.invokevirtual 248, 3) := dk_182 0 248 (dk_at dksX6_row_0 12 rfl rfl)
theorem dX6_row_15 : decode cX6_row 15 = .ok (.ifCond .ne 5, 3) := dk_154 0 5 (dk_at dksX6_row_0 15 rfl rfl)
theorem dX6_row_18 : decode cX6_row 18 = .ok (.iconst (-1), 1) := dk_2 (dk_at dksX6_row_0 18 rfl rfl)
theorem dX6_row_19 : decode cX6_row 19 = .ok (.ireturn, 1) := dk_172 (dk_at dksX6_row_0 19 rfl rfl)
theorem dX6_row_20 : decode cX6_row 20 = .ok (.aload_n 0, 1) := dk_42 (dk_at dksX6_row_0 20 rfl rfl)
theorem dX6_row_21 : decode cX6_row 21 = .ok (.iload_n 3, 1) := dk_29 (dk_at dksX6_row_0 21 rfl rfl)
theorem dX6_row_22 : decode cX6_row 22 = .ok (.iconst 0, 1) := dk_3 (dk_at dksX6_row_0 22 rfl rfl)
theorem dX6_row_23 : decode cX6_row 23 = .ok (.bipush 9, 2) := dk_16 9 (dk_at dksX6_row_1 0 rfl rfl)
theorem dX6_row_25 : decode cX6_row 25 = .ok (.invokevirtual 248, 3) := dk_182 0 248 (dk_at dksX6_row_1 2 rfl rfl)
theorem dX6_row_28 : decode cX6_row 28 = .ok (.ifCond .ne 6, 3) := dk_154 0 6 (dk_at dksX6_row_1 5 rfl rfl)
theorem dX6_row_31 : decode cX6_row 31 = .ok (.bipush (-2), 2) := dk_16 254 (dk_at dksX6_row_1 8 rfl rfl)
theorem dX6_row_33 : decode cX6_row 33 = .ok (.ireturn, 1) := dk_172 (dk_at dksX6_row_1 10 rfl rfl)
theorem dX6_row_34 : decode cX6_row 34 = .ok (.aload_n 0, 1) := dk_42 (dk_at dksX6_row_1 11 rfl rfl)
theorem dX6_row_35 : decode cX6_row 35 = .ok (.getfield 29, 3) := dk_180 0 29 (dk_at dksX6_row_1 12 rfl rfl)
theorem dX6_row_38 : decode cX6_row 38 = .ok (.iload_n 1, 1) := dk_27 (dk_at dksX6_row_1 15 rfl rfl)
theorem dX6_row_39 : decode cX6_row 39 = .ok (.iaload, 1) := dk_46 (dk_at dksX6_row_1 16 rfl rfl)
theorem dX6_row_40 : decode cX6_row 40 = .ok (.bipush 6, 2) := dk_16 6 (dk_at dksX6_row_1 17 rfl rfl)
theorem dX6_row_42 : decode cX6_row 42 = .ok (.if_icmp .eq 6, 3) := dk_159 0 6 (dk_at dksX6_row_1 19 rfl rfl)
theorem dX6_row_45 : decode cX6_row 45 = .ok (.bipush (-3), 2) := dk_16 253 (dk_at dksX6_row_1 22 rfl rfl)
theorem dX6_row_47 : decode cX6_row 47 = .ok (.ireturn, 1) := dk_172 (dk_at dksX6_row_2 0 rfl rfl)
theorem dX6_row_48 : decode cX6_row 48 = .ok (.aload_n 0, 1) := dk_42 (dk_at dksX6_row_2 1 rfl rfl)
theorem dX6_row_49 : decode cX6_row 49 = .ok (.getfield 47, 3) := dk_180 0 47 (dk_at dksX6_row_2 2 rfl rfl)
theorem dX6_row_52 : decode cX6_row 52 = .ok (.iconst 4, 1) := dk_7 (dk_at dksX6_row_2 5 rfl rfl)
theorem dX6_row_53 : decode cX6_row 53 = .ok (.iload_n 1, 1) := dk_27 (dk_at dksX6_row_2 6 rfl rfl)
theorem dX6_row_54 : decode cX6_row 54 = .ok (.imul, 1) := dk_104 (dk_at dksX6_row_2 7 rfl rfl)
theorem dX6_row_55 : decode cX6_row 55 = .ok (.iload_n 2, 1) := dk_28 (dk_at dksX6_row_2 8 rfl rfl)
theorem dX6_row_56 : decode cX6_row 56 = .ok (.iadd, 1) := dk_96 (dk_at dksX6_row_2 9 rfl rfl)
theorem dX6_row_57 : decode cX6_row 57 = .ok (.iaload, 1) := dk_46 (dk_at dksX6_row_2 10 rfl rfl)
theorem dX6_row_58 : decode cX6_row 58 = .ok (.istore 4, 2) := dk_54 4 (dk_at dksX6_row_2 11 rfl rfl)
theorem dX6_row_60 : decode cX6_row 60 = .ok (.aload_n 0, 1) := dk_42 (dk_at dksX6_row_2 13 rfl rfl)
theorem dX6_row_61 : decode cX6_row 61 = .ok (.getfield 47, 3) := dk_180 0 47 (dk_at dksX6_row_2 14 rfl rfl)
theorem dX6_row_64 : decode cX6_row 64 = .ok (.iconst 4, 1) := dk_7 (dk_at dksX6_row_2 17 rfl rfl)
theorem dX6_row_65 : decode cX6_row 65 = .ok (.iload_n 1, 1) := dk_27 (dk_at dksX6_row_2 18 rfl rfl)
theorem dX6_row_66 : decode cX6_row 66 = .ok (.imul, 1) := dk_104 (dk_at dksX6_row_2 19 rfl rfl)
theorem dX6_row_67 : decode cX6_row 67 = .ok (.iload_n 2, 1) := dk_28 (dk_at dksX6_row_2 20 rfl rfl)
theorem dX6_row_68 : decode cX6_row 68 = .ok (.iadd, 1) := dk_96 (dk_at dksX6_row_2 21 rfl rfl)
theorem dX6_row_69 : decode cX6_row 69 = .ok (.iload_n 3, 1) := dk_29 (dk_at dksX6_row_2 22 rfl rfl)
theorem dX6_row_70 : decode cX6_row 70 = .ok (.iastore, 1) := dk_79 (dk_at dksX6_row_2 23 rfl rfl)
theorem dX6_row_71 : decode cX6_row 71 = .ok (.iload 4, 2) := dk_21 4 (dk_at dksX6_row_3 0 rfl rfl)
theorem dX6_row_73 : decode cX6_row 73 = .ok (.ireturn, 1) := dk_172 (dk_at dksX6_row_3 2 rfl rfl)
abbrev cX6_isHat : ByteArray := prog_23_method_6_code
def yX6_isHat : MethodName := ⟨RX6, "isHat", "(I)Z"⟩
def dkwX6_isHat_0 : List UInt8 := [42, 27, 3, 42, 180, 0, 13, 4, 100, 182, 0, 248, 172]
abbrev dktX6_isHat_0 : List UInt8 := dkwX6_isHat_0 ++ []
theorem dksX6_isHat_0 : cX6_isHat.data.toList.drop 0 = dktX6_isHat_0 := by decide +kernel
theorem dX6_isHat_0 : decode cX6_isHat 0 = .ok (.aload_n 0, 1) := dk_42 (dk_at dksX6_isHat_0 0 rfl rfl)
theorem dX6_isHat_1 : decode cX6_isHat 1 = .ok (.iload_n 1, 1) := dk_27 (dk_at dksX6_isHat_0 1 rfl rfl)
theorem dX6_isHat_2 : decode cX6_isHat 2 = .ok (.iconst 0, 1) := dk_3 (dk_at dksX6_isHat_0 2 rfl rfl)
theorem dX6_isHat_3 : decode cX6_isHat 3 = .ok (.aload_n 0, 1) := dk_42 (dk_at dksX6_isHat_0 3 rfl rfl)
theorem dX6_isHat_4 : decode cX6_isHat 4 = .ok (.getfield 13, 3) := dk_180 0 13 (dk_at dksX6_isHat_0 4 rfl rfl)
theorem dX6_isHat_7 : decode cX6_isHat 7 = .ok (.iconst 1, 1) := dk_4 (dk_at dksX6_isHat_0 7 rfl rfl)
theorem dX6_isHat_8 : decode cX6_isHat 8 = .ok (.isub, 1) := dk_100 (dk_at dksX6_isHat_0 8 rfl rfl)
theorem dX6_isHat_9 : decode cX6_isHat 9 = .ok (.invokevirtual 248, 3) := dk_182 0 248 (dk_at dksX6_isHat_0 9 rfl rfl)
theorem dX6_isHat_12 : decode cX6_isHat 12 = .ok (.ireturn, 1) := dk_172 (dk_at dksX6_isHat_0 12 rfl rfl)
abbrev cX6_put : ByteArray := prog_23_method_13_code
def yX6_put : MethodName := ⟨RX6, "put", "(II)I"⟩
def dkwX6_put_3 : List UInt8 := [180, 0, 26, 28, 27, 79, 29, 172]
abbrev dktX6_put_3 : List UInt8 := dkwX6_put_3 ++ []
def dkwX6_put_2 : List UInt8 := [172, 42, 27, 182, 1, 6, 62, 29, 155, 0, 10, 42, 180, 0, 26, 29, 2, 79, 28, 155, 0, 10, 42]
abbrev dktX6_put_2 : List UInt8 := dkwX6_put_2 ++ dktX6_put_3
def dkwX6_put_1 : List UInt8 := [155, 0, 25, 42, 180, 0, 26, 28, 46, 155, 0, 16, 42, 180, 0, 26, 28, 46, 27, 159, 0, 6, 16, 253]
abbrev dktX6_put_1 : List UInt8 := dkwX6_put_1 ++ dktX6_put_2
def dkwX6_put_0 : List UInt8 := [42, 27, 182, 1, 0, 153, 0, 16, 28, 2, 159, 0, 13, 42, 28, 182, 1, 3, 154, 0, 5, 2, 172, 28]
abbrev dktX6_put_0 : List UInt8 := dkwX6_put_0 ++ dktX6_put_1
theorem dksX6_put_0 : cX6_put.data.toList.drop 0 = dktX6_put_0 := by decide +kernel
theorem dksX6_put_1 : cX6_put.data.toList.drop 24 = dktX6_put_1 := dk_seg dksX6_put_0 24 rfl rfl
theorem dksX6_put_2 : cX6_put.data.toList.drop 48 = dktX6_put_2 := dk_seg dksX6_put_1 24 rfl rfl
theorem dksX6_put_3 : cX6_put.data.toList.drop 71 = dktX6_put_3 := dk_seg dksX6_put_2 23 rfl rfl
theorem dX6_put_0 : decode cX6_put 0 = .ok (.aload_n 0, 1) := dk_42 (dk_at dksX6_put_0 0 rfl rfl)
theorem dX6_put_1 : decode cX6_put 1 = .ok (.iload_n 1, 1) := dk_27 (dk_at dksX6_put_0 1 rfl rfl)
theorem dX6_put_2 : decode cX6_put 2 = .ok (.invokevirtual 256, 3) := dk_182 1 0 (dk_at dksX6_put_0 2 rfl rfl)
theorem dX6_put_5 : decode cX6_put 5 = .ok (.ifCond .eq 16, 3) := dk_153 0 16 (dk_at dksX6_put_0 5 rfl rfl)
theorem dX6_put_8 : decode cX6_put 8 = .ok (.iload_n 2, 1) := dk_28 (dk_at dksX6_put_0 8 rfl rfl)
theorem dX6_put_9 : decode cX6_put 9 = .ok (.iconst (-1), 1) := dk_2 (dk_at dksX6_put_0 9 rfl rfl)
theorem dX6_put_10 : decode cX6_put 10 = .ok (.if_icmp .eq 13, 3) := dk_159 0 13 (dk_at dksX6_put_0 10 rfl rfl)
theorem dX6_put_13 : decode cX6_put 13 = .ok (.aload_n 0, 1) := dk_42 (dk_at dksX6_put_0 13 rfl rfl)
theorem dX6_put_14 : decode cX6_put 14 = .ok (.iload_n 2, 1) := dk_28 (dk_at dksX6_put_0 14 rfl rfl)
theorem dX6_put_15 : decode cX6_put 15 = .ok (.invokevirtual 259, 3) := dk_182 1 3 (dk_at dksX6_put_0 15 rfl rfl)
theorem dX6_put_18 : decode cX6_put 18 = .ok (.ifCond .ne 5, 3) := dk_154 0 5 (dk_at dksX6_put_0 18 rfl rfl)
theorem dX6_put_21 : decode cX6_put 21 = .ok (.iconst (-1), 1) := dk_2 (dk_at dksX6_put_0 21 rfl rfl)
theorem dX6_put_22 : decode cX6_put 22 = .ok (.ireturn, 1) := dk_172 (dk_at dksX6_put_0 22 rfl rfl)
theorem dX6_put_23 : decode cX6_put 23 = .ok (.iload_n 2, 1) := dk_28 (dk_at dksX6_put_0 23 rfl rfl)
theorem dX6_put_24 : decode cX6_put 24 = .ok (.ifCond .lt 25, 3) := dk_155 0 25 (dk_at dksX6_put_1 0 rfl rfl)
theorem dX6_put_27 : decode cX6_put 27 = .ok (.aload_n 0, 1) := dk_42 (dk_at dksX6_put_1 3 rfl rfl)
theorem dX6_put_28 : decode cX6_put 28 = .ok (.getfield 26, 3) := dk_180 0 26 (dk_at dksX6_put_1 4 rfl rfl)
theorem dX6_put_31 : decode cX6_put 31 = .ok (.iload_n 2, 1) := dk_28 (dk_at dksX6_put_1 7 rfl rfl)
theorem dX6_put_32 : decode cX6_put 32 = .ok (.iaload, 1) := dk_46 (dk_at dksX6_put_1 8 rfl rfl)
theorem dX6_put_33 : decode cX6_put 33 = .ok (.ifCond .lt 16, 3) := dk_155 0 16 (dk_at dksX6_put_1 9 rfl rfl)
theorem dX6_put_36 : decode cX6_put 36 = .ok (.aload_n 0, 1) := dk_42 (dk_at dksX6_put_1 12 rfl rfl)
theorem dX6_put_37 : decode cX6_put 37 = .ok (.getfield 26, 3) := dk_180 0 26 (dk_at dksX6_put_1 13 rfl rfl)
theorem dX6_put_40 : decode cX6_put 40 = .ok (.iload_n 2, 1) := dk_28 (dk_at dksX6_put_1 16 rfl rfl)
theorem dX6_put_41 : decode cX6_put 41 = .ok (.iaload, 1) := dk_46 (dk_at dksX6_put_1 17 rfl rfl)
theorem dX6_put_42 : decode cX6_put 42 = .ok (.iload_n 1, 1) := dk_27 (dk_at dksX6_put_1 18 rfl rfl)
theorem dX6_put_43 : decode cX6_put 43 = .ok (.if_icmp .eq 6, 3) := dk_159 0 6 (dk_at dksX6_put_1 19 rfl rfl)
theorem dX6_put_46 : decode cX6_put 46 = .ok (.bipush (-3), 2) := dk_16 253 (dk_at dksX6_put_1 22 rfl rfl)
theorem dX6_put_48 : decode cX6_put 48 = .ok (.ireturn, 1) := dk_172 (dk_at dksX6_put_2 0 rfl rfl)
theorem dX6_put_49 : decode cX6_put 49 = .ok (.aload_n 0, 1) := dk_42 (dk_at dksX6_put_2 1 rfl rfl)
theorem dX6_put_50 : decode cX6_put 50 = .ok (.iload_n 1, 1) := dk_27 (dk_at dksX6_put_2 2 rfl rfl)
theorem dX6_put_51 : decode cX6_put 51 = .ok (.invokevirtual 262, 3) := dk_182 1 6 (dk_at dksX6_put_2 3 rfl rfl)
theorem dX6_put_54 : decode cX6_put 54 = .ok (.istore_n 3, 1) := dk_62 (dk_at dksX6_put_2 6 rfl rfl)
theorem dX6_put_55 : decode cX6_put 55 = .ok (.iload_n 3, 1) := dk_29 (dk_at dksX6_put_2 7 rfl rfl)
theorem dX6_put_56 : decode cX6_put 56 = .ok (.ifCond .lt 10, 3) := dk_155 0 10 (dk_at dksX6_put_2 8 rfl rfl)
theorem dX6_put_59 : decode cX6_put 59 = .ok (.aload_n 0, 1) := dk_42 (dk_at dksX6_put_2 11 rfl rfl)
theorem dX6_put_60 : decode cX6_put 60 = .ok (.getfield 26, 3) := dk_180 0 26 (dk_at dksX6_put_2 12 rfl rfl)
theorem dX6_put_63 : decode cX6_put 63 = .ok (.iload_n 3, 1) := dk_29 (dk_at dksX6_put_2 15 rfl rfl)
theorem dX6_put_64 : decode cX6_put 64 = .ok (.iconst (-1), 1) := dk_2 (dk_at dksX6_put_2 16 rfl rfl)
theorem dX6_put_65 : decode cX6_put 65 = .ok (.iastore, 1) := dk_79 (dk_at dksX6_put_2 17 rfl rfl)
theorem dX6_put_66 : decode cX6_put 66 = .ok (.iload_n 2, 1) := dk_28 (dk_at dksX6_put_2 18 rfl rfl)
theorem dX6_put_67 : decode cX6_put 67 = .ok (.ifCond .lt 10, 3) := dk_155 0 10 (dk_at dksX6_put_2 19 rfl rfl)
theorem dX6_put_70 : decode cX6_put 70 = .ok (.aload_n 0, 1) := dk_42 (dk_at dksX6_put_2 22 rfl rfl)
theorem dX6_put_71 : decode cX6_put 71 = .ok (.getfield 26, 3) := dk_180 0 26 (dk_at dksX6_put_3 0 rfl rfl)
theorem dX6_put_74 : decode cX6_put 74 = .ok (.iload_n 2, 1) := dk_28 (dk_at dksX6_put_3 3 rfl rfl)
theorem dX6_put_75 : decode cX6_put 75 = .ok (.iload_n 1, 1) := dk_27 (dk_at dksX6_put_3 4 rfl rfl)
theorem dX6_put_76 : decode cX6_put 76 = .ok (.iastore, 1) := dk_79 (dk_at dksX6_put_3 5 rfl rfl)
theorem dX6_put_77 : decode cX6_put 77 = .ok (.iload_n 3, 1) := dk_29 (dk_at dksX6_put_3 6 rfl rfl)
theorem dX6_put_78 : decode cX6_put 78 = .ok (.ireturn, 1) := dk_172 (dk_at dksX6_put_3 7 rfl rfl)
abbrev cX6_isHead : ByteArray := prog_23_method_5_code
def yX6_isHead : MethodName := ⟨RX6, "isHead", "(I)Z"⟩
def dkwX6_isHead_0 : List UInt8 := [42, 27, 3, 42, 180, 0, 7, 4, 100, 182, 0, 248, 172]
abbrev dktX6_isHead_0 : List UInt8 := dkwX6_isHead_0 ++ []
theorem dksX6_isHead_0 : cX6_isHead.data.toList.drop 0 = dktX6_isHead_0 := by decide +kernel
theorem dX6_isHead_0 : decode cX6_isHead 0 = .ok (.aload_n 0, 1) := dk_42 (dk_at dksX6_isHead_0 0 rfl rfl)
theorem dX6_isHead_1 : decode cX6_isHead 1 = .ok (.iload_n 1, 1) := dk_27 (dk_at dksX6_isHead_0 1 rfl rfl)
theorem dX6_isHead_2 : decode cX6_isHead 2 = .ok (.iconst 0, 1) := dk_3 (dk_at dksX6_isHead_0 2 rfl rfl)
theorem dX6_isHead_3 : decode cX6_isHead 3 = .ok (.aload_n 0, 1) := dk_42 (dk_at dksX6_isHead_0 3 rfl rfl)
theorem dX6_isHead_4 : decode cX6_isHead 4 = .ok (.getfield 7, 3) := dk_180 0 7 (dk_at dksX6_isHead_0 4 rfl rfl)
theorem dX6_isHead_7 : decode cX6_isHead 7 = .ok (.iconst 1, 1) := dk_4 (dk_at dksX6_isHead_0 7 rfl rfl)
theorem dX6_isHead_8 : decode cX6_isHead 8 = .ok (.isub, 1) := dk_100 (dk_at dksX6_isHead_0 8 rfl rfl)
theorem dX6_isHead_9 : decode cX6_isHead 9 = .ok (.invokevirtual 248, 3) := dk_182 0 248 (dk_at dksX6_isHead_0 9 rfl rfl)
theorem dX6_isHead_12 : decode cX6_isHead 12 = .ok (.ireturn, 1) := dk_172 (dk_at dksX6_isHead_0 12 rfl rfl)
abbrev cX6_headOf : ByteArray := prog_23_method_11_code
def yX6_headOf : MethodName := ⟨RX6, "headOf", "(I)I"⟩
def dkwX6_headOf_1 : List UInt8 := [132, 2, 1, 167, 255, 233, 16, 251, 172]
abbrev dktX6_headOf_1 : List UInt8 := dkwX6_headOf_1 ++ []
def dkwX6_headOf_0 : List UInt8 := [3, 61, 28, 42, 180, 0, 7, 162, 0, 21, 42, 180, 0, 26, 28, 46, 27, 160, 0, 5, 28, 172]
abbrev dktX6_headOf_0 : List UInt8 := dkwX6_headOf_0 ++ dktX6_headOf_1
theorem dksX6_headOf_0 : cX6_headOf.data.toList.drop 0 = dktX6_headOf_0 := by decide +kernel
theorem dksX6_headOf_1 : cX6_headOf.data.toList.drop 22 = dktX6_headOf_1 := dk_seg dksX6_headOf_0 22 rfl rfl
theorem dX6_headOf_0 : decode cX6_headOf 0 = .ok (.iconst 0, 1) := dk_3 (dk_at dksX6_headOf_0 0 rfl rfl)
theorem dX6_headOf_1 : decode cX6_headOf 1 = .ok (.istore_n 2, 1) := dk_61 (dk_at dksX6_headOf_0 1 rfl rfl)
theorem dX6_headOf_2 : decode cX6_headOf 2 = .ok (.iload_n 2, 1) := dk_28 (dk_at dksX6_headOf_0 2 rfl rfl)
theorem dX6_headOf_3 : decode cX6_headOf 3 = .ok (.aload_n 0, 1) := dk_42 (dk_at dksX6_headOf_0 3 rfl rfl)
theorem dX6_headOf_4 : decode cX6_headOf 4 = .ok (.getfield 7, 3) := dk_180 0 7 (dk_at dksX6_headOf_0 4 rfl rfl)
theorem dX6_headOf_7 : decode cX6_headOf 7 = .ok (.if_icmp .ge 21, 3) := dk_162 0 21 (dk_at dksX6_headOf_0 7 rfl rfl)
theorem dX6_headOf_10 : decode cX6_headOf 10 = .ok (.aload_n 0, 1) := dk_42 (dk_at dksX6_headOf_0 10 rfl rfl)
theorem dX6_headOf_11 : decode cX6_headOf 11 = .ok (.getfield 26, 3) := dk_180 0 26 (dk_at dksX6_headOf_0 11 rfl rfl)
theorem dX6_headOf_14 : decode cX6_headOf 14 = .ok (.iload_n 2, 1) := dk_28 (dk_at dksX6_headOf_0 14 rfl rfl)
theorem dX6_headOf_15 : decode cX6_headOf 15 = .ok (.iaload, 1) := dk_46 (dk_at dksX6_headOf_0 15 rfl rfl)
theorem dX6_headOf_16 : decode cX6_headOf 16 = .ok (.iload_n 1, 1) := dk_27 (dk_at dksX6_headOf_0 16 rfl rfl)
theorem dX6_headOf_17 : decode cX6_headOf 17 = .ok (.if_icmp .ne 5, 3) := dk_160 0 5 (dk_at dksX6_headOf_0 17 rfl rfl)
theorem dX6_headOf_20 : decode cX6_headOf 20 = .ok (.iload_n 2, 1) := dk_28 (dk_at dksX6_headOf_0 20 rfl rfl)
theorem dX6_headOf_21 : decode cX6_headOf 21 = .ok (.ireturn, 1) := dk_172 (dk_at dksX6_headOf_0 21 rfl rfl)
theorem dX6_headOf_22 : decode cX6_headOf 22 = .ok (.iinc 2 1, 3) := dk_132 2 1 (dk_at dksX6_headOf_1 0 rfl rfl)
theorem dX6_headOf_25 : decode cX6_headOf 25 = .ok (.goto (-23), 3) := dk_167 255 233 (dk_at dksX6_headOf_1 3 rfl rfl)
theorem dX6_headOf_28 : decode cX6_headOf 28 = .ok (.bipush (-5), 2) := dk_16 251 (dk_at dksX6_headOf_1 6 rfl rfl)
theorem dX6_headOf_30 : decode cX6_headOf 30 = .ok (.ireturn, 1) := dk_172 (dk_at dksX6_headOf_1 8 rfl rfl)
abbrev cX6_own : ByteArray := prog_23_method_14_code
def yX6_own : MethodName := ⟨RX6, "own", "(II)I"⟩
def dkwX6_own_1 : List UInt8 := [180, 0, 23, 27, 46, 62, 42, 180, 0, 23, 27, 28, 79, 42, 29, 182, 1, 10, 172]
abbrev dktX6_own_1 : List UInt8 := dkwX6_own_1 ++ []
def dkwX6_own_0 : List UInt8 := [42, 27, 182, 1, 3, 153, 0, 16, 28, 2, 159, 0, 13, 42, 28, 182, 1, 0, 154, 0, 5, 2, 172, 42]
abbrev dktX6_own_0 : List UInt8 := dkwX6_own_0 ++ dktX6_own_1
theorem dksX6_own_0 : cX6_own.data.toList.drop 0 = dktX6_own_0 := by decide +kernel
theorem dksX6_own_1 : cX6_own.data.toList.drop 24 = dktX6_own_1 := dk_seg dksX6_own_0 24 rfl rfl
theorem dX6_own_0 : decode cX6_own 0 = .ok (.aload_n 0, 1) := dk_42 (dk_at dksX6_own_0 0 rfl rfl)
theorem dX6_own_1 : decode cX6_own 1 = .ok (.iload_n 1, 1) := dk_27 (dk_at dksX6_own_0 1 rfl rfl)
theorem dX6_own_2 : decode cX6_own 2 = .ok (.invokevirtual 259, 3) := dk_182 1 3 (dk_at dksX6_own_0 2 rfl rfl)
theorem dX6_own_5 : decode cX6_own 5 = .ok (.ifCond .eq 16, 3) := dk_153 0 16 (dk_at dksX6_own_0 5 rfl rfl)
theorem dX6_own_8 : decode cX6_own 8 = .ok (.iload_n 2, 1) := dk_28 (dk_at dksX6_own_0 8 rfl rfl)
theorem dX6_own_9 : decode cX6_own 9 = .ok (.iconst (-1), 1) := dk_2 (dk_at dksX6_own_0 9 rfl rfl)
theorem dX6_own_10 : decode cX6_own 10 = .ok (.if_icmp .eq 13, 3) := dk_159 0 13 (dk_at dksX6_own_0 10 rfl rfl)
theorem dX6_own_13 : decode cX6_own 13 = .ok (.aload_n 0, 1) := dk_42 (dk_at dksX6_own_0 13 rfl rfl)
theorem dX6_own_14 : decode cX6_own 14 = .ok (.iload_n 2, 1) := dk_28 (dk_at dksX6_own_0 14 rfl rfl)
theorem dX6_own_15 : decode cX6_own 15 = .ok (.invokevirtual 256, 3) := dk_182 1 0 (dk_at dksX6_own_0 15 rfl rfl)
theorem dX6_own_18 : decode cX6_own 18 = .ok (.ifCond .ne 5, 3) := dk_154 0 5 (dk_at dksX6_own_0 18 rfl rfl)
theorem dX6_own_21 : decode cX6_own 21 = .ok (.iconst (-1), 1) := dk_2 (dk_at dksX6_own_0 21 rfl rfl)
theorem dX6_own_22 : decode cX6_own 22 = .ok (.ireturn, 1) := dk_172 (dk_at dksX6_own_0 22 rfl rfl)
theorem dX6_own_23 : decode cX6_own 23 = .ok (.aload_n 0, 1) := dk_42 (dk_at dksX6_own_0 23 rfl rfl)
theorem dX6_own_24 : decode cX6_own 24 = .ok (.getfield 23, 3) := dk_180 0 23 (dk_at dksX6_own_1 0 rfl rfl)
theorem dX6_own_27 : decode cX6_own 27 = .ok (.iload_n 1, 1) := dk_27 (dk_at dksX6_own_1 3 rfl rfl)
theorem dX6_own_28 : decode cX6_own 28 = .ok (.iaload, 1) := dk_46 (dk_at dksX6_own_1 4 rfl rfl)
theorem dX6_own_29 : decode cX6_own 29 = .ok (.istore_n 3, 1) := dk_62 (dk_at dksX6_own_1 5 rfl rfl)
theorem dX6_own_30 : decode cX6_own 30 = .ok (.aload_n 0, 1) := dk_42 (dk_at dksX6_own_1 6 rfl rfl)
theorem dX6_own_31 : decode cX6_own 31 = .ok (.getfield 23, 3) := dk_180 0 23 (dk_at dksX6_own_1 7 rfl rfl)
theorem dX6_own_34 : decode cX6_own 34 = .ok (.iload_n 1, 1) := dk_27 (dk_at dksX6_own_1 10 rfl rfl)
theorem dX6_own_35 : decode cX6_own 35 = .ok (.iload_n 2, 1) := dk_28 (dk_at dksX6_own_1 11 rfl rfl)
theorem dX6_own_36 : decode cX6_own 36 = .ok (.iastore, 1) := dk_79 (dk_at dksX6_own_1 12 rfl rfl)
theorem dX6_own_37 : decode cX6_own 37 = .ok (.aload_n 0, 1) := dk_42 (dk_at dksX6_own_1 13 rfl rfl)
theorem dX6_own_38 : decode cX6_own 38 = .ok (.iload_n 3, 1) := dk_29 (dk_at dksX6_own_1 14 rfl rfl)
theorem dX6_own_39 : decode cX6_own 39 = .ok (.invokevirtual 266, 3) := dk_182 1 10 (dk_at dksX6_own_1 15 rfl rfl)
theorem dX6_own_42 : decode cX6_own 42 = .ok (.ireturn, 1) := dk_172 (dk_at dksX6_own_1 18 rfl rfl)
abbrev cX6_orNone : ByteArray := prog_23_method_8_code
def yX6_orNone : MethodName := ⟨RX6, "orNone", "(I)I"⟩
def dkwX6_orNone_0 : List UInt8 := [27, 156, 0, 8, 16, 251, 167, 0, 4, 27, 172]
abbrev dktX6_orNone_0 : List UInt8 := dkwX6_orNone_0 ++ []
theorem dksX6_orNone_0 : cX6_orNone.data.toList.drop 0 = dktX6_orNone_0 := by decide +kernel
theorem dX6_orNone_0 : decode cX6_orNone 0 = .ok (.iload_n 1, 1) := dk_27 (dk_at dksX6_orNone_0 0 rfl rfl)
theorem dX6_orNone_1 : decode cX6_orNone 1 = .ok (.ifCond .ge 8, 3) := dk_156 0 8 (dk_at dksX6_orNone_0 1 rfl rfl)
theorem dX6_orNone_4 : decode cX6_orNone 4 = .ok (.bipush (-5), 2) := dk_16 251 (dk_at dksX6_orNone_0 4 rfl rfl)
theorem dX6_orNone_6 : decode cX6_orNone 6 = .ok (.goto 4, 3) := dk_167 0 4 (dk_at dksX6_orNone_0 6 rfl rfl)
theorem dX6_orNone_9 : decode cX6_orNone 9 = .ok (.iload_n 1, 1) := dk_27 (dk_at dksX6_orNone_0 9 rfl rfl)
theorem dX6_orNone_10 : decode cX6_orNone 10 = .ok (.ireturn, 1) := dk_172 (dk_at dksX6_orNone_0 10 rfl rfl)
abbrev cX6_skill : ByteArray := prog_23_method_15_code
def yX6_skill : MethodName := ⟨RX6, "skill", "(II)I"⟩
def dkwX6_skill_1 : List UInt8 := [42, 180, 0, 38, 27, 46, 62, 42, 180, 0, 38, 27, 28, 79, 29, 172]
abbrev dktX6_skill_1 : List UInt8 := dkwX6_skill_1 ++ []
def dkwX6_skill_0 : List UInt8 := [42, 27, 182, 1, 0, 154, 0, 5, 2, 172, 42, 28, 3, 16, 50, 182, 0, 248, 154, 0, 6, 16, 254, 172]
abbrev dktX6_skill_0 : List UInt8 := dkwX6_skill_0 ++ dktX6_skill_1
theorem dksX6_skill_0 : cX6_skill.data.toList.drop 0 = dktX6_skill_0 := by decide +kernel
theorem dksX6_skill_1 : cX6_skill.data.toList.drop 24 = dktX6_skill_1 := dk_seg dksX6_skill_0 24 rfl rfl
theorem dX6_skill_0 : decode cX6_skill 0 = .ok (.aload_n 0, 1) := dk_42 (dk_at dksX6_skill_0 0 rfl rfl)
theorem dX6_skill_1 : decode cX6_skill 1 = .ok (.iload_n 1, 1) := dk_27 (dk_at dksX6_skill_0 1 rfl rfl)
theorem dX6_skill_2 : decode cX6_skill 2 = .ok (.invokevirtual 256, 3) := dk_182 1 0 (dk_at dksX6_skill_0 2 rfl rfl)
theorem dX6_skill_5 : decode cX6_skill 5 = .ok (.ifCond .ne 5, 3) := dk_154 0 5 (dk_at dksX6_skill_0 5 rfl rfl)
theorem dX6_skill_8 : decode cX6_skill 8 = .ok (.iconst (-1), 1) := dk_2 (dk_at dksX6_skill_0 8 rfl rfl)
theorem dX6_skill_9 : decode cX6_skill 9 = .ok (.ireturn, 1) := dk_172 (dk_at dksX6_skill_0 9 rfl rfl)
theorem dX6_skill_10 : decode cX6_skill 10 = .ok (.aload_n 0, 1) := dk_42 (dk_at dksX6_skill_0 10 rfl rfl)
theorem dX6_skill_11 : decode cX6_skill 11 = .ok (.iload_n 2, 1) := dk_28 (dk_at dksX6_skill_0 11 rfl rfl)
theorem dX6_skill_12 : decode cX6_skill 12 = .ok (.iconst 0, 1) := dk_3 (dk_at dksX6_skill_0 12 rfl rfl)
theorem dX6_skill_13 : decode cX6_skill 13 = .ok (.bipush 50, 2) := dk_16 50 (dk_at dksX6_skill_0 13 rfl rfl)
theorem dX6_skill_15 : decode cX6_skill 15 = .ok (.invokevirtual 248, 3) := dk_182 0 248 (dk_at dksX6_skill_0 15 rfl rfl)
theorem dX6_skill_18 : decode cX6_skill 18 = .ok (.ifCond .ne 6, 3) := dk_154 0 6 (dk_at dksX6_skill_0 18 rfl rfl)
theorem dX6_skill_21 : decode cX6_skill 21 = .ok (.bipush (-2), 2) := dk_16 254 (dk_at dksX6_skill_0 21 rfl rfl)
theorem dX6_skill_23 : decode cX6_skill 23 = .ok (.ireturn, 1) := dk_172 (dk_at dksX6_skill_0 23 rfl rfl)
theorem dX6_skill_24 : decode cX6_skill 24 = .ok (.aload_n 0, 1) := dk_42 (dk_at dksX6_skill_1 0 rfl rfl)
theorem dX6_skill_25 : decode cX6_skill 25 = .ok (.getfield 38, 3) := dk_180 0 38 (dk_at dksX6_skill_1 1 rfl rfl)
theorem dX6_skill_28 : decode cX6_skill 28 = .ok (.iload_n 1, 1) := dk_27 (dk_at dksX6_skill_1 4 rfl rfl)
theorem dX6_skill_29 : decode cX6_skill 29 = .ok (.iaload, 1) := dk_46 (dk_at dksX6_skill_1 5 rfl rfl)
theorem dX6_skill_30 : decode cX6_skill 30 = .ok (.istore_n 3, 1) := dk_62 (dk_at dksX6_skill_1 6 rfl rfl)
theorem dX6_skill_31 : decode cX6_skill 31 = .ok (.aload_n 0, 1) := dk_42 (dk_at dksX6_skill_1 7 rfl rfl)
theorem dX6_skill_32 : decode cX6_skill 32 = .ok (.getfield 38, 3) := dk_180 0 38 (dk_at dksX6_skill_1 8 rfl rfl)
theorem dX6_skill_35 : decode cX6_skill 35 = .ok (.iload_n 1, 1) := dk_27 (dk_at dksX6_skill_1 11 rfl rfl)
theorem dX6_skill_36 : decode cX6_skill 36 = .ok (.iload_n 2, 1) := dk_28 (dk_at dksX6_skill_1 12 rfl rfl)
theorem dX6_skill_37 : decode cX6_skill 37 = .ok (.iastore, 1) := dk_79 (dk_at dksX6_skill_1 13 rfl rfl)
theorem dX6_skill_38 : decode cX6_skill 38 = .ok (.iload_n 3, 1) := dk_29 (dk_at dksX6_skill_1 14 rfl rfl)
theorem dX6_skill_39 : decode cX6_skill 39 = .ok (.ireturn, 1) := dk_172 (dk_at dksX6_skill_1 15 rfl rfl)
abbrev cX6_feed : ByteArray := prog_23_method_16_code
def yX6_feed : MethodName := ⟨RX6, "feed", "(I)I"⟩
def dkwX6_feed_2 : List UInt8 := [180, 0, 59, 172]
abbrev dktX6_feed_2 : List UInt8 := dkwX6_feed_2 ++ []
def dkwX6_feed_1 : List UInt8 := [16, 252, 172, 42, 180, 0, 68, 42, 180, 0, 59, 27, 79, 42, 89, 180, 0, 59, 4, 96, 181, 0, 59, 42]
abbrev dktX6_feed_1 : List UInt8 := dkwX6_feed_1 ++ dktX6_feed_2
def dkwX6_feed_0 : List UInt8 := [42, 27, 3, 16, 127, 182, 0, 248, 154, 0, 6, 16, 254, 172, 42, 180, 0, 59, 16, 100, 160, 0, 6]
abbrev dktX6_feed_0 : List UInt8 := dkwX6_feed_0 ++ dktX6_feed_1
theorem dksX6_feed_0 : cX6_feed.data.toList.drop 0 = dktX6_feed_0 := by decide +kernel
theorem dksX6_feed_1 : cX6_feed.data.toList.drop 23 = dktX6_feed_1 := dk_seg dksX6_feed_0 23 rfl rfl
theorem dksX6_feed_2 : cX6_feed.data.toList.drop 47 = dktX6_feed_2 := dk_seg dksX6_feed_1 24 rfl rfl
theorem dX6_feed_0 : decode cX6_feed 0 = .ok (.aload_n 0, 1) := dk_42 (dk_at dksX6_feed_0 0 rfl rfl)
theorem dX6_feed_1 : decode cX6_feed 1 = .ok (.iload_n 1, 1) := dk_27 (dk_at dksX6_feed_0 1 rfl rfl)
theorem dX6_feed_2 : decode cX6_feed 2 = .ok (.iconst 0, 1) := dk_3 (dk_at dksX6_feed_0 2 rfl rfl)
theorem dX6_feed_3 : decode cX6_feed 3 = .ok (.bipush 127, 2) := dk_16 127 (dk_at dksX6_feed_0 3 rfl rfl)
theorem dX6_feed_5 : decode cX6_feed 5 = .ok (.invokevirtual 248, 3) := dk_182 0 248 (dk_at dksX6_feed_0 5 rfl rfl)
theorem dX6_feed_8 : decode cX6_feed 8 = .ok (.ifCond .ne 6, 3) := dk_154 0 6 (dk_at dksX6_feed_0 8 rfl rfl)
theorem dX6_feed_11 : decode cX6_feed 11 = .ok (.bipush (-2), 2) := dk_16 254 (dk_at dksX6_feed_0 11 rfl rfl)
theorem dX6_feed_13 : decode cX6_feed 13 = .ok (.ireturn, 1) := dk_172 (dk_at dksX6_feed_0 13 rfl rfl)
theorem dX6_feed_14 : decode cX6_feed 14 = .ok (.aload_n 0, 1) := dk_42 (dk_at dksX6_feed_0 14 rfl rfl)
theorem dX6_feed_15 : decode cX6_feed 15 = .ok (.getfield 59, 3) := dk_180 0 59 (dk_at dksX6_feed_0 15 rfl rfl)
theorem dX6_feed_18 : decode cX6_feed 18 = .ok (.bipush 100, 2) := dk_16 100 (dk_at dksX6_feed_0 18 rfl rfl)
theorem dX6_feed_20 : decode cX6_feed 20 = .ok (.if_icmp .ne 6, 3) := dk_160 0 6 (dk_at dksX6_feed_0 20 rfl rfl)
theorem dX6_feed_23 : decode cX6_feed 23 = .ok (.bipush (-4), 2) := dk_16 252 (dk_at dksX6_feed_1 0 rfl rfl)
theorem dX6_feed_25 : decode cX6_feed 25 = .ok (.ireturn, 1) := dk_172 (dk_at dksX6_feed_1 2 rfl rfl)
theorem dX6_feed_26 : decode cX6_feed 26 = .ok (.aload_n 0, 1) := dk_42 (dk_at dksX6_feed_1 3 rfl rfl)
theorem dX6_feed_27 : decode cX6_feed 27 = .ok (.getfield 68, 3) := dk_180 0 68 (dk_at dksX6_feed_1 4 rfl rfl)
theorem dX6_feed_30 : decode cX6_feed 30 = .ok (.aload_n 0, 1) := dk_42 (dk_at dksX6_feed_1 7 rfl rfl)
theorem dX6_feed_31 : decode cX6_feed 31 = .ok (.getfield 59, 3) := dk_180 0 59 (dk_at dksX6_feed_1 8 rfl rfl)
theorem dX6_feed_34 : decode cX6_feed 34 = .ok (.iload_n 1, 1) := dk_27 (dk_at dksX6_feed_1 11 rfl rfl)
theorem dX6_feed_35 : decode cX6_feed 35 = .ok (.iastore, 1) := dk_79 (dk_at dksX6_feed_1 12 rfl rfl)
theorem dX6_feed_36 : decode cX6_feed 36 = .ok (.aload_n 0, 1) := dk_42 (dk_at dksX6_feed_1 13 rfl rfl)
theorem dX6_feed_37 : decode cX6_feed 37 = .ok (.dup, 1) := dk_89 (dk_at dksX6_feed_1 14 rfl rfl)
theorem dX6_feed_38 : decode cX6_feed 38 = .ok (.getfield 59, 3) := dk_180 0 59 (dk_at dksX6_feed_1 15 rfl rfl)
theorem dX6_feed_41 : decode cX6_feed 41 = .ok (.iconst 1, 1) := dk_4 (dk_at dksX6_feed_1 18 rfl rfl)
theorem dX6_feed_42 : decode cX6_feed 42 = .ok (.iadd, 1) := dk_96 (dk_at dksX6_feed_1 19 rfl rfl)
theorem dX6_feed_43 : decode cX6_feed 43 = .ok (.putfield 59, 3) := dk_181 0 59 (dk_at dksX6_feed_1 20 rfl rfl)
theorem dX6_feed_46 : decode cX6_feed 46 = .ok (.aload_n 0, 1) := dk_42 (dk_at dksX6_feed_1 23 rfl rfl)
theorem dX6_feed_47 : decode cX6_feed 47 = .ok (.getfield 59, 3) := dk_180 0 59 (dk_at dksX6_feed_2 0 rfl rfl)
theorem dX6_feed_50 : decode cX6_feed 50 = .ok (.ireturn, 1) := dk_172 (dk_at dksX6_feed_2 3 rfl rfl)
abbrev cX6_town : ByteArray := prog_23_method_31_code
def yX6_town : MethodName := ⟨RX6, "town", "()I"⟩
def dkwX6_town_2 : List UInt8 := [89, 180, 0, 53, 4, 96, 181, 0, 53, 42, 180, 0, 56, 172]
abbrev dktX6_town_2 : List UInt8 := dkwX6_town_2 ++ []
def dkwX6_town_1 : List UInt8 := [181, 0, 59, 27, 154, 0, 11, 16, 246, 42, 180, 0, 62, 100, 172, 42, 42, 180, 0, 53, 181, 0, 56, 42]
abbrev dktX6_town_1 : List UInt8 := dkwX6_town_1 ++ dktX6_town_2
def dkwX6_town_0 : List UInt8 := [42, 180, 0, 53, 16, 6, 160, 0, 6, 16, 252, 172, 42, 42, 180, 0, 53, 182, 1, 56, 60, 42, 3]
abbrev dktX6_town_0 : List UInt8 := dkwX6_town_0 ++ dktX6_town_1
theorem dksX6_town_0 : cX6_town.data.toList.drop 0 = dktX6_town_0 := by decide +kernel
theorem dksX6_town_1 : cX6_town.data.toList.drop 23 = dktX6_town_1 := dk_seg dksX6_town_0 23 rfl rfl
theorem dksX6_town_2 : cX6_town.data.toList.drop 47 = dktX6_town_2 := dk_seg dksX6_town_1 24 rfl rfl
theorem dX6_town_0 : decode cX6_town 0 = .ok (.aload_n 0, 1) := dk_42 (dk_at dksX6_town_0 0 rfl rfl)
theorem dX6_town_1 : decode cX6_town 1 = .ok (.getfield 53, 3) := dk_180 0 53 (dk_at dksX6_town_0 1 rfl rfl)
theorem dX6_town_4 : decode cX6_town 4 = .ok (.bipush 6, 2) := dk_16 6 (dk_at dksX6_town_0 4 rfl rfl)
theorem dX6_town_6 : decode cX6_town 6 = .ok (.if_icmp .ne 6, 3) := dk_160 0 6 (dk_at dksX6_town_0 6 rfl rfl)
theorem dX6_town_9 : decode cX6_town 9 = .ok (.bipush (-4), 2) := dk_16 252 (dk_at dksX6_town_0 9 rfl rfl)
theorem dX6_town_11 : decode cX6_town 11 = .ok (.ireturn, 1) := dk_172 (dk_at dksX6_town_0 11 rfl rfl)
theorem dX6_town_12 : decode cX6_town 12 = .ok (.aload_n 0, 1) := dk_42 (dk_at dksX6_town_0 12 rfl rfl)
theorem dX6_town_13 : decode cX6_town 13 = .ok (.aload_n 0, 1) := dk_42 (dk_at dksX6_town_0 13 rfl rfl)
theorem dX6_town_14 : decode cX6_town 14 = .ok (.getfield 53, 3) := dk_180 0 53 (dk_at dksX6_town_0 14 rfl rfl)
theorem dX6_town_17 : decode cX6_town 17 = .ok (.invokevirtual 312, 3) := dk_182 1 56 (dk_at dksX6_town_0 17 rfl rfl)
theorem dX6_town_20 : decode cX6_town 20 = .ok (.istore_n 1, 1) := dk_60 (dk_at dksX6_town_0 20 rfl rfl)
theorem dX6_town_21 : decode cX6_town 21 = .ok (.aload_n 0, 1) := dk_42 (dk_at dksX6_town_0 21 rfl rfl)
theorem dX6_town_22 : decode cX6_town 22 = .ok (.iconst 0, 1) := dk_3 (dk_at dksX6_town_0 22 rfl rfl)
theorem dX6_town_23 : decode cX6_town 23 = .ok (.putfield 59, 3) := dk_181 0 59 (dk_at dksX6_town_1 0 rfl rfl)
theorem dX6_town_26 : decode cX6_town 26 = .ok (.iload_n 1, 1) := dk_27 (dk_at dksX6_town_1 3 rfl rfl)
theorem dX6_town_27 : decode cX6_town 27 = .ok (.ifCond .ne 11, 3) := dk_154 0 11 (dk_at dksX6_town_1 4 rfl rfl)
theorem dX6_town_30 : decode cX6_town 30 = .ok (.bipush (-10), 2) := dk_16 246 (dk_at dksX6_town_1 7 rfl rfl)
theorem dX6_town_32 : decode cX6_town 32 = .ok (.aload_n 0, 1) := dk_42 (dk_at dksX6_town_1 9 rfl rfl)
theorem dX6_town_33 : decode cX6_town 33 = .ok (.getfield 62, 3) := dk_180 0 62 (dk_at dksX6_town_1 10 rfl rfl)
theorem dX6_town_36 : decode cX6_town 36 = .ok (.isub, 1) := dk_100 (dk_at dksX6_town_1 13 rfl rfl)
theorem dX6_town_37 : decode cX6_town 37 = .ok (.ireturn, 1) := dk_172 (dk_at dksX6_town_1 14 rfl rfl)
theorem dX6_town_38 : decode cX6_town 38 = .ok (.aload_n 0, 1) := dk_42 (dk_at dksX6_town_1 15 rfl rfl)
theorem dX6_town_39 : decode cX6_town 39 = .ok (.aload_n 0, 1) := dk_42 (dk_at dksX6_town_1 16 rfl rfl)
theorem dX6_town_40 : decode cX6_town 40 = .ok (.getfield 53, 3) := dk_180 0 53 (dk_at dksX6_town_1 17 rfl rfl)
theorem dX6_town_43 : decode cX6_town 43 = .ok (.putfield 56, 3) := dk_181 0 56 (dk_at dksX6_town_1 20 rfl rfl)
theorem dX6_town_46 : decode cX6_town 46 = .ok (.aload_n 0, 1) := dk_42 (dk_at dksX6_town_1 23 rfl rfl)
theorem dX6_town_47 : decode cX6_town 47 = .ok (.dup, 1) := dk_89 (dk_at dksX6_town_2 0 rfl rfl)
theorem dX6_town_48 : decode cX6_town 48 = .ok (.getfield 53, 3) := dk_180 0 53 (dk_at dksX6_town_2 1 rfl rfl)
theorem dX6_town_51 : decode cX6_town 51 = .ok (.iconst 1, 1) := dk_4 (dk_at dksX6_town_2 4 rfl rfl)
theorem dX6_town_52 : decode cX6_town 52 = .ok (.iadd, 1) := dk_96 (dk_at dksX6_town_2 5 rfl rfl)
theorem dX6_town_53 : decode cX6_town 53 = .ok (.putfield 53, 3) := dk_181 0 53 (dk_at dksX6_town_2 6 rfl rfl)
theorem dX6_town_56 : decode cX6_town 56 = .ok (.aload_n 0, 1) := dk_42 (dk_at dksX6_town_2 9 rfl rfl)
theorem dX6_town_57 : decode cX6_town 57 = .ok (.getfield 56, 3) := dk_180 0 56 (dk_at dksX6_town_2 10 rfl rfl)
theorem dX6_town_60 : decode cX6_town 60 = .ok (.ireturn, 1) := dk_172 (dk_at dksX6_town_2 13 rfl rfl)
abbrev cX6_goesText : ByteArray := prog_23_method_30_code
def yX6_goesText : MethodName := ⟨RX6, "goesText", "(I)Z"⟩
def dkwX6_goesText_3 : List UInt8 := [172]
abbrev dktX6_goesText_3 : List UInt8 := dkwX6_goesText_3 ++ []
def dkwX6_goesText_2 : List UInt8 := [180, 0, 59, 160, 0, 5, 4, 172, 28, 16, 10, 159, 0, 12, 42, 16, 59, 182, 1, 17, 154, 255, 206, 3]
abbrev dktX6_goesText_2 : List UInt8 := dkwX6_goesText_2 ++ dktX6_goesText_3
def dkwX6_goesText_1 : List UInt8 := [182, 1, 53, 154, 0, 5, 3, 172, 132, 2, 1, 42, 180, 0, 71, 27, 28, 79, 42, 180, 0, 62, 42]
abbrev dktX6_goesText_1 : List UInt8 := dkwX6_goesText_1 ++ dktX6_goesText_2
def dkwX6_goesText_0 : List UInt8 := [42, 3, 181, 0, 62, 42, 16, 100, 27, 104, 181, 0, 95, 3, 61, 42, 16, 10, 27, 104, 28, 96]
abbrev dktX6_goesText_0 : List UInt8 := dkwX6_goesText_0 ++ dktX6_goesText_1
theorem dksX6_goesText_0 : cX6_goesText.data.toList.drop 0 = dktX6_goesText_0 := by decide +kernel
theorem dksX6_goesText_1 : cX6_goesText.data.toList.drop 22 = dktX6_goesText_1 := dk_seg dksX6_goesText_0 22 rfl rfl
theorem dksX6_goesText_2 : cX6_goesText.data.toList.drop 45 = dktX6_goesText_2 := dk_seg dksX6_goesText_1 23 rfl rfl
theorem dksX6_goesText_3 : cX6_goesText.data.toList.drop 69 = dktX6_goesText_3 := dk_seg dksX6_goesText_2 24 rfl rfl
theorem dX6_goesText_0 : decode cX6_goesText 0 = .ok (.aload_n 0, 1) := dk_42 (dk_at dksX6_goesText_0 0 rfl rfl)
theorem dX6_goesText_1 : decode cX6_goesText 1 = .ok (.iconst 0, 1) := dk_3 (dk_at dksX6_goesText_0 1 rfl rfl)
theorem dX6_goesText_2 : decode cX6_goesText 2 = .ok (.putfield 62, 3) := dk_181 0 62 (dk_at dksX6_goesText_0 2 rfl rfl)
theorem dX6_goesText_5 : decode cX6_goesText 5 = .ok (.aload_n 0, 1) := dk_42 (dk_at dksX6_goesText_0 5 rfl rfl)
theorem dX6_goesText_6 : decode cX6_goesText 6 = .ok (.bipush 100, 2) := dk_16 100 (dk_at dksX6_goesText_0 6 rfl rfl)
theorem dX6_goesText_8 : decode cX6_goesText 8 = .ok (.iload_n 1, 1) := dk_27 (dk_at dksX6_goesText_0 8 rfl rfl)
theorem dX6_goesText_9 : decode cX6_goesText 9 = .ok (.imul, 1) := dk_104 (dk_at dksX6_goesText_0 9 rfl rfl)
theorem dX6_goesText_10 : decode cX6_goesText 10 = .ok (.putfield 95, 3) := dk_181 0 95 (dk_at dksX6_goesText_0 10 rfl rfl)
theorem dX6_goesText_13 : decode cX6_goesText 13 = .ok (.iconst 0, 1) := dk_3 (dk_at dksX6_goesText_0 13 rfl rfl)
theorem dX6_goesText_14 : decode cX6_goesText 14 = .ok (.istore_n 2, 1) := dk_61 (dk_at dksX6_goesText_0 14 rfl rfl)
theorem dX6_goesText_15 : decode cX6_goesText 15 = .ok (.aload_n 0, 1) := dk_42 (dk_at dksX6_goesText_0 15 rfl rfl)
theorem dX6_goesText_16 : decode cX6_goesText 16 = .ok (.bipush 10, 2) := dk_16 10 (dk_at dksX6_goesText_0 16 rfl rfl)
theorem dX6_goesText_18 : decode cX6_goesText 18 = .ok (.iload_n 1, 1) := dk_27 (dk_at dksX6_goesText_0 18 rfl rfl)
theorem dX6_goesText_19 : decode cX6_goesText 19 = .ok (.imul, 1) := dk_104 (dk_at dksX6_goesText_0 19 rfl rfl)
theorem dX6_goesText_20 : decode cX6_goesText 20 = .ok (.iload_n 2, 1) := dk_28 (dk_at dksX6_goesText_0 20 rfl rfl)
theorem dX6_goesText_21 : decode cX6_goesText 21 = .ok (.iadd, 1) := dk_96 (dk_at dksX6_goesText_0 21 rfl rfl)
theorem dX6_goesText_22 : decode cX6_goesText 22 = .ok (.invokevirtual 309, 3) := dk_182 1 53 (dk_at dksX6_goesText_1 0 rfl rfl)
theorem dX6_goesText_25 : decode cX6_goesText 25 = .ok (.ifCond .ne 5, 3) := dk_154 0 5 (dk_at dksX6_goesText_1 3 rfl rfl)
theorem dX6_goesText_28 : decode cX6_goesText 28 = .ok (.iconst 0, 1) := dk_3 (dk_at dksX6_goesText_1 6 rfl rfl)
theorem dX6_goesText_29 : decode cX6_goesText 29 = .ok (.ireturn, 1) := dk_172 (dk_at dksX6_goesText_1 7 rfl rfl)
theorem dX6_goesText_30 : decode cX6_goesText 30 = .ok (.iinc 2 1, 3) := dk_132 2 1 (dk_at dksX6_goesText_1 8 rfl rfl)
theorem dX6_goesText_33 : decode cX6_goesText 33 = .ok (.aload_n 0, 1) := dk_42 (dk_at dksX6_goesText_1 11 rfl rfl)
theorem dX6_goesText_34 : decode cX6_goesText 34 = .ok (.getfield 71, 3) := dk_180 0 71 (dk_at dksX6_goesText_1 12 rfl rfl)
theorem dX6_goesText_37 : decode cX6_goesText 37 = .ok (.iload_n 1, 1) := dk_27 (dk_at dksX6_goesText_1 15 rfl rfl)
theorem dX6_goesText_38 : decode cX6_goesText 38 = .ok (.iload_n 2, 1) := dk_28 (dk_at dksX6_goesText_1 16 rfl rfl)
theorem dX6_goesText_39 : decode cX6_goesText 39 = .ok (.iastore, 1) := dk_79 (dk_at dksX6_goesText_1 17 rfl rfl)
theorem dX6_goesText_40 : decode cX6_goesText 40 = .ok (.aload_n 0, 1) := dk_42 (dk_at dksX6_goesText_1 18 rfl rfl)
theorem dX6_goesText_41 : decode cX6_goesText 41 = .ok (.getfield 62, 3) := dk_180 0 62 (dk_at dksX6_goesText_1 19 rfl rfl)
theorem dX6_goesText_44 : decode cX6_goesText 44 = .ok (.aload_n 0, 1) := dk_42 (dk_at dksX6_goesText_1 22 rfl rfl)
theorem dX6_goesText_45 : decode cX6_goesText 45 = .ok (.getfield 59, 3) := dk_180 0 59 (dk_at dksX6_goesText_2 0 rfl rfl)
theorem dX6_goesText_48 : decode cX6_goesText 48 = .ok (.if_icmp .ne 5, 3) := dk_160 0 5 (dk_at dksX6_goesText_2 3 rfl rfl)
theorem dX6_goesText_51 : decode cX6_goesText 51 = .ok (.iconst 1, 1) := dk_4 (dk_at dksX6_goesText_2 6 rfl rfl)
theorem dX6_goesText_52 : decode cX6_goesText 52 = .ok (.ireturn, 1) := dk_172 (dk_at dksX6_goesText_2 7 rfl rfl)
theorem dX6_goesText_53 : decode cX6_goesText 53 = .ok (.iload_n 2, 1) := dk_28 (dk_at dksX6_goesText_2 8 rfl rfl)
theorem dX6_goesText_54 : decode cX6_goesText 54 = .ok (.bipush 10, 2) := dk_16 10 (dk_at dksX6_goesText_2 9 rfl rfl)
theorem dX6_goesText_56 : decode cX6_goesText 56 = .ok (.if_icmp .eq 12, 3) := dk_159 0 12 (dk_at dksX6_goesText_2 11 rfl rfl)
theorem dX6_goesText_59 : decode cX6_goesText 59 = .ok (.aload_n 0, 1) := dk_42 (dk_at dksX6_goesText_2 14 rfl rfl)
theorem dX6_goesText_60 : decode cX6_goesText 60 = .ok (.bipush 59, 2) := dk_16 59 (dk_at dksX6_goesText_2 15 rfl rfl)
theorem dX6_goesText_62 : decode cX6_goesText 62 = .ok (.invokevirtual 273, 3) := dk_182 1 17 (dk_at dksX6_goesText_2 17 rfl rfl)
theorem dX6_goesText_65 : decode cX6_goesText 65 = .ok (.ifCond .ne (-50), 3) := dk_154 255 206 (dk_at dksX6_goesText_2 20 rfl rfl)
theorem dX6_goesText_68 : decode cX6_goesText 68 = .ok (.iconst 0, 1) := dk_3 (dk_at dksX6_goesText_2 23 rfl rfl)
theorem dX6_goesText_69 : decode cX6_goesText 69 = .ok (.ireturn, 1) := dk_172 (dk_at dksX6_goesText_3 0 rfl rfl)
abbrev cX6_takesClause : ByteArray := prog_23_method_29_code
def yX6_takesClause : MethodName := ⟨RX6, "takesClause", "(I)Z"⟩
def dkwX6_takesClause_4 : List UInt8 := [27, 42, 180, 0, 65, 79, 4, 172]
abbrev dktX6_takesClause_4 : List UInt8 := dkwX6_takesClause_4 ++ []
def dkwX6_takesClause_3 : List UInt8 := [3, 172, 42, 16, 32, 182, 1, 17, 153, 0, 10, 42, 182, 1, 31, 154, 0, 5, 3, 172, 42, 180, 0, 80]
abbrev dktX6_takesClause_3 : List UInt8 := dkwX6_takesClause_3 ++ dktX6_takesClause_4
def dkwX6_takesClause_2 : List UInt8 := [162, 0, 26, 42, 16, 32, 182, 1, 17, 153, 0, 15, 42, 27, 182, 1, 50, 153, 0, 7, 4, 167, 0, 4]
abbrev dktX6_takesClause_2 : List UInt8 := dkwX6_takesClause_2 ++ dktX6_takesClause_3
def dkwX6_takesClause_1 : List UInt8 := [180, 0, 65, 79, 42, 180, 0, 74, 27, 46, 5, 160, 0, 5, 4, 172, 42, 180, 0, 74, 27, 46, 5]
abbrev dktX6_takesClause_1 : List UInt8 := dkwX6_takesClause_1 ++ dktX6_takesClause_2
def dkwX6_takesClause_0 : List UInt8 := [42, 27, 182, 1, 47, 153, 0, 10, 42, 182, 1, 31, 154, 0, 5, 3, 172, 42, 180, 0, 77, 27, 42]
abbrev dktX6_takesClause_0 : List UInt8 := dkwX6_takesClause_0 ++ dktX6_takesClause_1
theorem dksX6_takesClause_0 : cX6_takesClause.data.toList.drop 0 = dktX6_takesClause_0 := by decide +kernel
theorem dksX6_takesClause_1 : cX6_takesClause.data.toList.drop 23 = dktX6_takesClause_1 := dk_seg dksX6_takesClause_0 23 rfl rfl
theorem dksX6_takesClause_2 : cX6_takesClause.data.toList.drop 46 = dktX6_takesClause_2 := dk_seg dksX6_takesClause_1 23 rfl rfl
theorem dksX6_takesClause_3 : cX6_takesClause.data.toList.drop 70 = dktX6_takesClause_3 := dk_seg dksX6_takesClause_2 24 rfl rfl
theorem dksX6_takesClause_4 : cX6_takesClause.data.toList.drop 94 = dktX6_takesClause_4 := dk_seg dksX6_takesClause_3 24 rfl rfl
theorem dX6_takesClause_0 : decode cX6_takesClause 0 = .ok (.aload_n 0, 1) := dk_42 (dk_at dksX6_takesClause_0 0 rfl rfl)
theorem dX6_takesClause_1 : decode cX6_takesClause 1 = .ok (.iload_n 1, 1) := dk_27 (dk_at dksX6_takesClause_0 1 rfl rfl)
theorem dX6_takesClause_2 : decode cX6_takesClause 2 = .ok (.invokevirtual 303, 3) := dk_182 1 47 (dk_at dksX6_takesClause_0 2 rfl rfl)
theorem dX6_takesClause_5 : decode cX6_takesClause 5 = .ok (.ifCond .eq 10, 3) := dk_153 0 10 (dk_at dksX6_takesClause_0 5 rfl rfl)
theorem dX6_takesClause_8 : decode cX6_takesClause 8 = .ok (.aload_n 0, 1) := dk_42 (dk_at dksX6_takesClause_0 8 rfl rfl)
theorem dX6_takesClause_9 : decode cX6_takesClause 9 = .ok (.invokevirtual 287, 3) := dk_182 1 31 (dk_at dksX6_takesClause_0 9 rfl rfl)
theorem dX6_takesClause_12 : decode cX6_takesClause 12 = .ok (.ifCond .ne 5, 3) := dk_154 0 5 (dk_at dksX6_takesClause_0 12 rfl rfl)
theorem dX6_takesClause_15 : decode cX6_takesClause 15 = .ok (.iconst 0, 1) := dk_3 (dk_at dksX6_takesClause_0 15 rfl rfl)
theorem dX6_takesClause_16 : decode cX6_takesClause 16 = .ok (.ireturn, 1) := dk_172 (dk_at dksX6_takesClause_0 16 rfl rfl)
theorem dX6_takesClause_17 : decode cX6_takesClause 17 = .ok (.aload_n 0, 1) := dk_42 (dk_at dksX6_takesClause_0 17 rfl rfl)
theorem dX6_takesClause_18 : decode cX6_takesClause 18 = .ok (.getfield 77, 3) := dk_180 0 77 (dk_at dksX6_takesClause_0 18 rfl rfl)
theorem dX6_takesClause_21 : decode cX6_takesClause 21 = .ok (.iload_n 1, 1) := dk_27 (dk_at dksX6_takesClause_0 21 rfl rfl)
theorem dX6_takesClause_22 : decode cX6_takesClause 22 = .ok (.aload_n 0, 1) := dk_42 (dk_at dksX6_takesClause_0 22 rfl rfl)
theorem dX6_takesClause_23 : decode cX6_takesClause 23 = .ok (.getfield 65, 3) := dk_180 0 65 (dk_at dksX6_takesClause_1 0 rfl rfl)
theorem dX6_takesClause_26 : decode cX6_takesClause 26 = .ok (.iastore, 1) := dk_79 (dk_at dksX6_takesClause_1 3 rfl rfl)
theorem dX6_takesClause_27 : decode cX6_takesClause 27 = .ok (.aload_n 0, 1) := dk_42 (dk_at dksX6_takesClause_1 4 rfl rfl)
theorem dX6_takesClause_28 : decode cX6_takesClause 28 = .ok (.getfield 74, 3) := dk_180 0 74 (dk_at dksX6_takesClause_1 5 rfl rfl)
theorem dX6_takesClause_31 : decode cX6_takesClause 31 = .ok (.iload_n 1, 1) := dk_27 (dk_at dksX6_takesClause_1 8 rfl rfl)
theorem dX6_takesClause_32 : decode cX6_takesClause 32 = .ok (.iaload, 1) := dk_46 (dk_at dksX6_takesClause_1 9 rfl rfl)
theorem dX6_takesClause_33 : decode cX6_takesClause 33 = .ok (.iconst 2, 1) := dk_5 (dk_at dksX6_takesClause_1 10 rfl rfl)
theorem dX6_takesClause_34 : decode cX6_takesClause 34 = .ok (.if_icmp .ne 5, 3) := dk_160 0 5 (dk_at dksX6_takesClause_1 11 rfl rfl)
theorem dX6_takesClause_37 : decode cX6_takesClause 37 = .ok (.iconst 1, 1) := dk_4 (dk_at dksX6_takesClause_1 14 rfl rfl)
theorem dX6_takesClause_38 : decode cX6_takesClause 38 = .ok (.ireturn, 1) := dk_172 (dk_at dksX6_takesClause_1 15 rfl rfl)
theorem dX6_takesClause_39 : decode cX6_takesClause 39 = .ok (.aload_n 0, 1) := dk_42 (dk_at dksX6_takesClause_1 16 rfl rfl)
theorem dX6_takesClause_40 : decode cX6_takesClause 40 = .ok (.getfield 74, 3) := dk_180 0 74 (dk_at dksX6_takesClause_1 17 rfl rfl)
theorem dX6_takesClause_43 : decode cX6_takesClause 43 = .ok (.iload_n 1, 1) := dk_27 (dk_at dksX6_takesClause_1 20 rfl rfl)
theorem dX6_takesClause_44 : decode cX6_takesClause 44 = .ok (.iaload, 1) := dk_46 (dk_at dksX6_takesClause_1 21 rfl rfl)
theorem dX6_takesClause_45 : decode cX6_takesClause 45 = .ok (.iconst 2, 1) := dk_5 (dk_at dksX6_takesClause_1 22 rfl rfl)
theorem dX6_takesClause_46 : decode cX6_takesClause 46 = .ok (.if_icmp .ge 26, 3) := dk_162 0 26 (dk_at dksX6_takesClause_2 0 rfl rfl)
theorem dX6_takesClause_49 : decode cX6_takesClause 49 = .ok (.aload_n 0, 1) := dk_42 (dk_at dksX6_takesClause_2 3 rfl rfl)
theorem dX6_takesClause_50 : decode cX6_takesClause 50 = .ok (.bipush 32, 2) := dk_16 32 (dk_at dksX6_takesClause_2 4 rfl rfl)
theorem dX6_takesClause_52 : decode cX6_takesClause 52 = .ok (.invokevirtual 273, 3) := dk_182 1 17 (dk_at dksX6_takesClause_2 6 rfl rfl)
theorem dX6_takesClause_55 : decode cX6_takesClause 55 = .ok (.ifCond .eq 15, 3) := dk_153 0 15 (dk_at dksX6_takesClause_2 9 rfl rfl)
theorem dX6_takesClause_58 : decode cX6_takesClause 58 = .ok (.aload_n 0, 1) := dk_42 (dk_at dksX6_takesClause_2 12 rfl rfl)
theorem dX6_takesClause_59 : decode cX6_takesClause 59 = .ok (.iload_n 1, 1) := dk_27 (dk_at dksX6_takesClause_2 13 rfl rfl)
theorem dX6_takesClause_60 : decode cX6_takesClause 60 = .ok (.invokevirtual 306, 3) := dk_182 1 50 (dk_at dksX6_takesClause_2 14 rfl rfl)
theorem dX6_takesClause_63 : decode cX6_takesClause 63 = .ok (.ifCond .eq 7, 3) := dk_153 0 7 (dk_at dksX6_takesClause_2 17 rfl rfl)
theorem dX6_takesClause_66 : decode cX6_takesClause 66 = .ok (.iconst 1, 1) := dk_4 (dk_at dksX6_takesClause_2 20 rfl rfl)
theorem dX6_takesClause_67 : decode cX6_takesClause 67 = .ok (.goto 4, 3) := dk_167 0 4 (dk_at dksX6_takesClause_2 21 rfl rfl)
theorem dX6_takesClause_70 : decode cX6_takesClause 70 = .ok (.iconst 0, 1) := dk_3 (dk_at dksX6_takesClause_3 0 rfl rfl)
theorem dX6_takesClause_71 : decode cX6_takesClause 71 = .ok (.ireturn, 1) := dk_172 (dk_at dksX6_takesClause_3 1 rfl rfl)
theorem dX6_takesClause_72 : decode cX6_takesClause 72 = .ok (.aload_n 0, 1) := dk_42 (dk_at dksX6_takesClause_3 2 rfl rfl)
theorem dX6_takesClause_73 : decode cX6_takesClause 73 = .ok (.bipush 32, 2) := dk_16 32 (dk_at dksX6_takesClause_3 3 rfl rfl)
theorem dX6_takesClause_75 : decode cX6_takesClause 75 = .ok (.invokevirtual 273, 3) := dk_182 1 17 (dk_at dksX6_takesClause_3 5 rfl rfl)
theorem dX6_takesClause_78 : decode cX6_takesClause 78 = .ok (.ifCond .eq 10, 3) := dk_153 0 10 (dk_at dksX6_takesClause_3 8 rfl rfl)
theorem dX6_takesClause_81 : decode cX6_takesClause 81 = .ok (.aload_n 0, 1) := dk_42 (dk_at dksX6_takesClause_3 11 rfl rfl)
theorem dX6_takesClause_82 : decode cX6_takesClause 82 = .ok (.invokevirtual 287, 3) := dk_182 1 31 (dk_at dksX6_takesClause_3 12 rfl rfl)
theorem dX6_takesClause_85 : decode cX6_takesClause 85 = .ok (.ifCond .ne 5, 3) := dk_154 0 5 (dk_at dksX6_takesClause_3 15 rfl rfl)
theorem dX6_takesClause_88 : decode cX6_takesClause 88 = .ok (.iconst 0, 1) := dk_3 (dk_at dksX6_takesClause_3 18 rfl rfl)
theorem dX6_takesClause_89 : decode cX6_takesClause 89 = .ok (.ireturn, 1) := dk_172 (dk_at dksX6_takesClause_3 19 rfl rfl)
theorem dX6_takesClause_90 : decode cX6_takesClause 90 = .ok (.aload_n 0, 1) := dk_42 (dk_at dksX6_takesClause_3 20 rfl rfl)
theorem dX6_takesClause_91 : decode cX6_takesClause 91 = .ok (.getfield 80, 3) := dk_180 0 80 (dk_at dksX6_takesClause_3 21 rfl rfl)
theorem dX6_takesClause_94 : decode cX6_takesClause 94 = .ok (.iload_n 1, 1) := dk_27 (dk_at dksX6_takesClause_4 0 rfl rfl)
theorem dX6_takesClause_95 : decode cX6_takesClause 95 = .ok (.aload_n 0, 1) := dk_42 (dk_at dksX6_takesClause_4 1 rfl rfl)
theorem dX6_takesClause_96 : decode cX6_takesClause 96 = .ok (.getfield 65, 3) := dk_180 0 65 (dk_at dksX6_takesClause_4 2 rfl rfl)
theorem dX6_takesClause_99 : decode cX6_takesClause 99 = .ok (.iastore, 1) := dk_79 (dk_at dksX6_takesClause_4 5 rfl rfl)
theorem dX6_takesClause_100 : decode cX6_takesClause 100 = .ok (.iconst 1, 1) := dk_4 (dk_at dksX6_takesClause_4 6 rfl rfl)
theorem dX6_takesClause_101 : decode cX6_takesClause 101 = .ok (.ireturn, 1) := dk_172 (dk_at dksX6_takesClause_4 7 rfl rfl)
abbrev cX6_takesHead : ByteArray := prog_23_method_28_code
def yX6_takesHead : MethodName := ⟨RX6, "takesHead", "(I)Z"⟩
def dkwX6_takesHead_4 : List UInt8 := [6, 79, 42, 16, 12, 7, 182, 1, 43, 172]
abbrev dktX6_takesHead_4 : List UInt8 := dkwX6_takesHead_4 ++ []
def dkwX6_takesHead_3 : List UInt8 := [182, 1, 43, 172, 42, 180, 0, 74, 27, 5, 79, 42, 16, 8, 7, 182, 1, 43, 172, 42, 180, 0, 74, 27]
abbrev dktX6_takesHead_3 : List UInt8 := dkwX6_takesHead_3 ++ dktX6_takesHead_4
def dkwX6_takesHead_2 : List UInt8 := [42, 180, 0, 74, 27, 3, 79, 42, 3, 7, 182, 1, 43, 172, 42, 180, 0, 74, 27, 4, 79, 42, 7, 7]
abbrev dktX6_takesHead_2 : List UInt8 := dkwX6_takesHead_2 ++ dktX6_takesHead_3
def dkwX6_takesHead_1 : List UInt8 := [171, 0, 0, 0, 0, 0, 0, 79, 0, 0, 0, 3, 0, 0, 0, 103, 0, 0, 0, 50, 0, 0, 0, 109, 0, 0, 0, 64, 0, 0, 0, 115, 0, 0, 0, 36]
abbrev dktX6_takesHead_1 : List UInt8 := dkwX6_takesHead_1 ++ dktX6_takesHead_2
def dkwX6_takesHead_0 : List UInt8 := [42, 182, 1, 13]
abbrev dktX6_takesHead_0 : List UInt8 := dkwX6_takesHead_0 ++ dktX6_takesHead_1
theorem dksX6_takesHead_0 : cX6_takesHead.data.toList.drop 0 = dktX6_takesHead_0 := by decide +kernel
theorem dksX6_takesHead_1 : cX6_takesHead.data.toList.drop 4 = dktX6_takesHead_1 := dk_seg dksX6_takesHead_0 4 rfl rfl
theorem dksX6_takesHead_2 : cX6_takesHead.data.toList.drop 40 = dktX6_takesHead_2 := dk_seg dksX6_takesHead_1 36 rfl rfl
theorem dksX6_takesHead_3 : cX6_takesHead.data.toList.drop 64 = dktX6_takesHead_3 := dk_seg dksX6_takesHead_2 24 rfl rfl
theorem dksX6_takesHead_4 : cX6_takesHead.data.toList.drop 88 = dktX6_takesHead_4 := dk_seg dksX6_takesHead_3 24 rfl rfl
theorem dX6_takesHead_0 : decode cX6_takesHead 0 = .ok (.aload_n 0, 1) := dk_42 (dk_at dksX6_takesHead_0 0 rfl rfl)
theorem dX6_takesHead_1 : decode cX6_takesHead 1 = .ok (.invokevirtual 269, 3) := dk_182 1 13 (dk_at dksX6_takesHead_0 1 rfl rfl)
theorem dX6_takesHead_4 : decode cX6_takesHead 4 = .ok (.lookupswitch 79 #[(103, 50), (109, 64), (115, 36)], 36) := by decide +kernel
theorem dX6_takesHead_40 : decode cX6_takesHead 40 = .ok (.aload_n 0, 1) := dk_42 (dk_at dksX6_takesHead_2 0 rfl rfl)
theorem dX6_takesHead_41 : decode cX6_takesHead 41 = .ok (.getfield 74, 3) := dk_180 0 74 (dk_at dksX6_takesHead_2 1 rfl rfl)
theorem dX6_takesHead_44 : decode cX6_takesHead 44 = .ok (.iload_n 1, 1) := dk_27 (dk_at dksX6_takesHead_2 4 rfl rfl)
theorem dX6_takesHead_45 : decode cX6_takesHead 45 = .ok (.iconst 0, 1) := dk_3 (dk_at dksX6_takesHead_2 5 rfl rfl)
theorem dX6_takesHead_46 : decode cX6_takesHead 46 = .ok (.iastore, 1) := dk_79 (dk_at dksX6_takesHead_2 6 rfl rfl)
theorem dX6_takesHead_47 : decode cX6_takesHead 47 = .ok (.aload_n 0, 1) := dk_42 (dk_at dksX6_takesHead_2 7 rfl rfl)
theorem dX6_takesHead_48 : decode cX6_takesHead 48 = .ok (.iconst 0, 1) := dk_3 (dk_at dksX6_takesHead_2 8 rfl rfl)
theorem dX6_takesHead_49 : decode cX6_takesHead 49 = .ok (.iconst 4, 1) := dk_7 (dk_at dksX6_takesHead_2 9 rfl rfl)
theorem dX6_takesHead_50 : decode cX6_takesHead 50 = .ok (.invokevirtual 299, 3) := dk_182 1 43 (dk_at dksX6_takesHead_2 10 rfl rfl)
theorem dX6_takesHead_53 : decode cX6_takesHead 53 = .ok (.ireturn, 1) := dk_172 (dk_at dksX6_takesHead_2 13 rfl rfl)
theorem dX6_takesHead_54 : decode cX6_takesHead 54 = .ok (.aload_n 0, 1) := dk_42 (dk_at dksX6_takesHead_2 14 rfl rfl)
theorem dX6_takesHead_55 : decode cX6_takesHead 55 = .ok (.getfield 74, 3) := dk_180 0 74 (dk_at dksX6_takesHead_2 15 rfl rfl)
theorem dX6_takesHead_58 : decode cX6_takesHead 58 = .ok (.iload_n 1, 1) := dk_27 (dk_at dksX6_takesHead_2 18 rfl rfl)
theorem dX6_takesHead_59 : decode cX6_takesHead 59 = .ok (.iconst 1, 1) := dk_4 (dk_at dksX6_takesHead_2 19 rfl rfl)
theorem dX6_takesHead_60 : decode cX6_takesHead 60 = .ok (.iastore, 1) := dk_79 (dk_at dksX6_takesHead_2 20 rfl rfl)
theorem dX6_takesHead_61 : decode cX6_takesHead 61 = .ok (.aload_n 0, 1) := dk_42 (dk_at dksX6_takesHead_2 21 rfl rfl)
theorem dX6_takesHead_62 : decode cX6_takesHead 62 = .ok (.iconst 4, 1) := dk_7 (dk_at dksX6_takesHead_2 22 rfl rfl)
theorem dX6_takesHead_63 : decode cX6_takesHead 63 = .ok (.iconst 4, 1) := dk_7 (dk_at dksX6_takesHead_2 23 rfl rfl)
theorem dX6_takesHead_64 : decode cX6_takesHead 64 = .ok (.invokevirtual 299, 3) := dk_182 1 43 (dk_at dksX6_takesHead_3 0 rfl rfl)
theorem dX6_takesHead_67 : decode cX6_takesHead 67 = .ok (.ireturn, 1) := dk_172 (dk_at dksX6_takesHead_3 3 rfl rfl)
theorem dX6_takesHead_68 : decode cX6_takesHead 68 = .ok (.aload_n 0, 1) := dk_42 (dk_at dksX6_takesHead_3 4 rfl rfl)
theorem dX6_takesHead_69 : decode cX6_takesHead 69 = .ok (.getfield 74, 3) := dk_180 0 74 (dk_at dksX6_takesHead_3 5 rfl rfl)
theorem dX6_takesHead_72 : decode cX6_takesHead 72 = .ok (.iload_n 1, 1) := dk_27 (dk_at dksX6_takesHead_3 8 rfl rfl)
theorem dX6_takesHead_73 : decode cX6_takesHead 73 = .ok (.iconst 2, 1) := dk_5 (dk_at dksX6_takesHead_3 9 rfl rfl)
theorem dX6_takesHead_74 : decode cX6_takesHead 74 = .ok (.iastore, 1) := dk_79 (dk_at dksX6_takesHead_3 10 rfl rfl)
theorem dX6_takesHead_75 : decode cX6_takesHead 75 = .ok (.aload_n 0, 1) := dk_42 (dk_at dksX6_takesHead_3 11 rfl rfl)
theorem dX6_takesHead_76 : decode cX6_takesHead 76 = .ok (.bipush 8, 2) := dk_16 8 (dk_at dksX6_takesHead_3 12 rfl rfl)
theorem dX6_takesHead_78 : decode cX6_takesHead 78 = .ok (.iconst 4, 1) := dk_7 (dk_at dksX6_takesHead_3 14 rfl rfl)
theorem dX6_takesHead_79 : decode cX6_takesHead 79 = .ok (.invokevirtual 299, 3) := dk_182 1 43 (dk_at dksX6_takesHead_3 15 rfl rfl)
theorem dX6_takesHead_82 : decode cX6_takesHead 82 = .ok (.ireturn, 1) := dk_172 (dk_at dksX6_takesHead_3 18 rfl rfl)
theorem dX6_takesHead_83 : decode cX6_takesHead 83 = .ok (.aload_n 0, 1) := dk_42 (dk_at dksX6_takesHead_3 19 rfl rfl)
theorem dX6_takesHead_84 : decode cX6_takesHead 84 = .ok (.getfield 74, 3) := dk_180 0 74 (dk_at dksX6_takesHead_3 20 rfl rfl)
theorem dX6_takesHead_87 : decode cX6_takesHead 87 = .ok (.iload_n 1, 1) := dk_27 (dk_at dksX6_takesHead_3 23 rfl rfl)
theorem dX6_takesHead_88 : decode cX6_takesHead 88 = .ok (.iconst 3, 1) := dk_6 (dk_at dksX6_takesHead_4 0 rfl rfl)
theorem dX6_takesHead_89 : decode cX6_takesHead 89 = .ok (.iastore, 1) := dk_79 (dk_at dksX6_takesHead_4 1 rfl rfl)
theorem dX6_takesHead_90 : decode cX6_takesHead 90 = .ok (.aload_n 0, 1) := dk_42 (dk_at dksX6_takesHead_4 2 rfl rfl)
theorem dX6_takesHead_91 : decode cX6_takesHead 91 = .ok (.bipush 12, 2) := dk_16 12 (dk_at dksX6_takesHead_4 3 rfl rfl)
theorem dX6_takesHead_93 : decode cX6_takesHead 93 = .ok (.iconst 4, 1) := dk_7 (dk_at dksX6_takesHead_4 5 rfl rfl)
theorem dX6_takesHead_94 : decode cX6_takesHead 94 = .ok (.invokevirtual 299, 3) := dk_182 1 43 (dk_at dksX6_takesHead_4 6 rfl rfl)
theorem dX6_takesHead_97 : decode cX6_takesHead 97 = .ok (.ireturn, 1) := dk_172 (dk_at dksX6_takesHead_4 9 rfl rfl)
abbrev cX6_next : ByteArray := prog_23_method_17_code
def yX6_next : MethodName := ⟨RX6, "next", "()I"⟩
def dkwX6_next_1 : List UInt8 := [172]
abbrev dktX6_next_1 : List UInt8 := dkwX6_next_1 ++ []
def dkwX6_next_0 : List UInt8 := [42, 180, 0, 62, 42, 180, 0, 59, 162, 0, 15, 42, 180, 0, 68, 42, 180, 0, 62, 46, 167, 0, 4, 2]
abbrev dktX6_next_0 : List UInt8 := dkwX6_next_0 ++ dktX6_next_1
theorem dksX6_next_0 : cX6_next.data.toList.drop 0 = dktX6_next_0 := by decide +kernel
theorem dksX6_next_1 : cX6_next.data.toList.drop 24 = dktX6_next_1 := dk_seg dksX6_next_0 24 rfl rfl
theorem dX6_next_0 : decode cX6_next 0 = .ok (.aload_n 0, 1) := dk_42 (dk_at dksX6_next_0 0 rfl rfl)
theorem dX6_next_1 : decode cX6_next 1 = .ok (.getfield 62, 3) := dk_180 0 62 (dk_at dksX6_next_0 1 rfl rfl)
theorem dX6_next_4 : decode cX6_next 4 = .ok (.aload_n 0, 1) := dk_42 (dk_at dksX6_next_0 4 rfl rfl)
theorem dX6_next_5 : decode cX6_next 5 = .ok (.getfield 59, 3) := dk_180 0 59 (dk_at dksX6_next_0 5 rfl rfl)
theorem dX6_next_8 : decode cX6_next 8 = .ok (.if_icmp .ge 15, 3) := dk_162 0 15 (dk_at dksX6_next_0 8 rfl rfl)
theorem dX6_next_11 : decode cX6_next 11 = .ok (.aload_n 0, 1) := dk_42 (dk_at dksX6_next_0 11 rfl rfl)
theorem dX6_next_12 : decode cX6_next 12 = .ok (.getfield 68, 3) := dk_180 0 68 (dk_at dksX6_next_0 12 rfl rfl)
theorem dX6_next_15 : decode cX6_next 15 = .ok (.aload_n 0, 1) := dk_42 (dk_at dksX6_next_0 15 rfl rfl)
theorem dX6_next_16 : decode cX6_next 16 = .ok (.getfield 62, 3) := dk_180 0 62 (dk_at dksX6_next_0 16 rfl rfl)
theorem dX6_next_19 : decode cX6_next 19 = .ok (.iaload, 1) := dk_46 (dk_at dksX6_next_0 19 rfl rfl)
theorem dX6_next_20 : decode cX6_next 20 = .ok (.goto 4, 3) := dk_167 0 4 (dk_at dksX6_next_0 20 rfl rfl)
theorem dX6_next_23 : decode cX6_next 23 = .ok (.iconst (-1), 1) := dk_2 (dk_at dksX6_next_0 23 rfl rfl)
theorem dX6_next_24 : decode cX6_next 24 = .ok (.ireturn, 1) := dk_172 (dk_at dksX6_next_1 0 rfl rfl)
abbrev cX6_takesWord : ByteArray := prog_23_method_19_code
def yX6_takesWord : MethodName := ⟨RX6, "takesWord", "(II)Z"⟩
def dkwX6_takesWord_1 : List UInt8 := [132, 3, 1, 167, 255, 231, 42, 16, 32, 182, 1, 17, 172]
abbrev dktX6_takesWord_1 : List UInt8 := dkwX6_takesWord_1 ++ []
def dkwX6_takesWord_0 : List UInt8 := [3, 62, 29, 28, 162, 0, 26, 42, 42, 180, 0, 104, 27, 29, 96, 46, 182, 1, 17, 154, 0, 5, 3, 172]
abbrev dktX6_takesWord_0 : List UInt8 := dkwX6_takesWord_0 ++ dktX6_takesWord_1
theorem dksX6_takesWord_0 : cX6_takesWord.data.toList.drop 0 = dktX6_takesWord_0 := by decide +kernel
theorem dksX6_takesWord_1 : cX6_takesWord.data.toList.drop 24 = dktX6_takesWord_1 := dk_seg dksX6_takesWord_0 24 rfl rfl
theorem dX6_takesWord_0 : decode cX6_takesWord 0 = .ok (.iconst 0, 1) := dk_3 (dk_at dksX6_takesWord_0 0 rfl rfl)
theorem dX6_takesWord_1 : decode cX6_takesWord 1 = .ok (.istore_n 3, 1) := dk_62 (dk_at dksX6_takesWord_0 1 rfl rfl)
theorem dX6_takesWord_2 : decode cX6_takesWord 2 = .ok (.iload_n 3, 1) := dk_29 (dk_at dksX6_takesWord_0 2 rfl rfl)
theorem dX6_takesWord_3 : decode cX6_takesWord 3 = .ok (.iload_n 2, 1) := dk_28 (dk_at dksX6_takesWord_0 3 rfl rfl)
theorem dX6_takesWord_4 : decode cX6_takesWord 4 = .ok (.if_icmp .ge 26, 3) := dk_162 0 26 (dk_at dksX6_takesWord_0 4 rfl rfl)
theorem dX6_takesWord_7 : decode cX6_takesWord 7 = .ok (.aload_n 0, 1) := dk_42 (dk_at dksX6_takesWord_0 7 rfl rfl)
theorem dX6_takesWord_8 : decode cX6_takesWord 8 = .ok (.aload_n 0, 1) := dk_42 (dk_at dksX6_takesWord_0 8 rfl rfl)
theorem dX6_takesWord_9 : decode cX6_takesWord 9 = .ok (.getfield 104, 3) := dk_180 0 104 (dk_at dksX6_takesWord_0 9 rfl rfl)
theorem dX6_takesWord_12 : decode cX6_takesWord 12 = .ok (.iload_n 1, 1) := dk_27 (dk_at dksX6_takesWord_0 12 rfl rfl)
theorem dX6_takesWord_13 : decode cX6_takesWord 13 = .ok (.iload_n 3, 1) := dk_29 (dk_at dksX6_takesWord_0 13 rfl rfl)
theorem dX6_takesWord_14 : decode cX6_takesWord 14 = .ok (.iadd, 1) := dk_96 (dk_at dksX6_takesWord_0 14 rfl rfl)
theorem dX6_takesWord_15 : decode cX6_takesWord 15 = .ok (.iaload, 1) := dk_46 (dk_at dksX6_takesWord_0 15 rfl rfl)
theorem dX6_takesWord_16 : decode cX6_takesWord 16 = .ok (.invokevirtual 273, 3) := dk_182 1 17 (dk_at dksX6_takesWord_0 16 rfl rfl)
theorem dX6_takesWord_19 : decode cX6_takesWord 19 = .ok (.ifCond .ne 5, 3) := dk_154 0 5 (dk_at dksX6_takesWord_0 19 rfl rfl)
theorem dX6_takesWord_22 : decode cX6_takesWord 22 = .ok (.iconst 0, 1) := dk_3 (dk_at dksX6_takesWord_0 22 rfl rfl)
theorem dX6_takesWord_23 : decode cX6_takesWord 23 = .ok (.ireturn, 1) := dk_172 (dk_at dksX6_takesWord_0 23 rfl rfl)
theorem dX6_takesWord_24 : decode cX6_takesWord 24 = .ok (.iinc 3 1, 3) := dk_132 3 1 (dk_at dksX6_takesWord_1 0 rfl rfl)
theorem dX6_takesWord_27 : decode cX6_takesWord 27 = .ok (.goto (-25), 3) := dk_167 255 231 (dk_at dksX6_takesWord_1 3 rfl rfl)
theorem dX6_takesWord_30 : decode cX6_takesWord 30 = .ok (.aload_n 0, 1) := dk_42 (dk_at dksX6_takesWord_1 6 rfl rfl)
theorem dX6_takesWord_31 : decode cX6_takesWord 31 = .ok (.bipush 32, 2) := dk_16 32 (dk_at dksX6_takesWord_1 7 rfl rfl)
theorem dX6_takesWord_33 : decode cX6_takesWord 33 = .ok (.invokevirtual 273, 3) := dk_182 1 17 (dk_at dksX6_takesWord_1 9 rfl rfl)
theorem dX6_takesWord_36 : decode cX6_takesWord 36 = .ok (.ireturn, 1) := dk_172 (dk_at dksX6_takesWord_1 12 rfl rfl)
abbrev cX6_takes : ByteArray := prog_23_method_18_code
def yX6_takes : MethodName := ⟨RX6, "takes", "(I)Z"⟩
def dkwX6_takes_0 : List UInt8 := [42, 182, 1, 13, 27, 159, 0, 5, 3, 172, 42, 89, 180, 0, 62, 4, 96, 181, 0, 62, 4, 172]
abbrev dktX6_takes_0 : List UInt8 := dkwX6_takes_0 ++ []
theorem dksX6_takes_0 : cX6_takes.data.toList.drop 0 = dktX6_takes_0 := by decide +kernel
theorem dX6_takes_0 : decode cX6_takes 0 = .ok (.aload_n 0, 1) := dk_42 (dk_at dksX6_takes_0 0 rfl rfl)
theorem dX6_takes_1 : decode cX6_takes 1 = .ok (.invokevirtual 269, 3) := dk_182 1 13 (dk_at dksX6_takes_0 1 rfl rfl)
theorem dX6_takes_4 : decode cX6_takes 4 = .ok (.iload_n 1, 1) := dk_27 (dk_at dksX6_takes_0 4 rfl rfl)
theorem dX6_takes_5 : decode cX6_takes 5 = .ok (.if_icmp .eq 5, 3) := dk_159 0 5 (dk_at dksX6_takes_0 5 rfl rfl)
theorem dX6_takes_8 : decode cX6_takes 8 = .ok (.iconst 0, 1) := dk_3 (dk_at dksX6_takes_0 8 rfl rfl)
theorem dX6_takes_9 : decode cX6_takes 9 = .ok (.ireturn, 1) := dk_172 (dk_at dksX6_takes_0 9 rfl rfl)
theorem dX6_takes_10 : decode cX6_takes 10 = .ok (.aload_n 0, 1) := dk_42 (dk_at dksX6_takes_0 10 rfl rfl)
theorem dX6_takes_11 : decode cX6_takes 11 = .ok (.dup, 1) := dk_89 (dk_at dksX6_takes_0 11 rfl rfl)
theorem dX6_takes_12 : decode cX6_takes 12 = .ok (.getfield 62, 3) := dk_180 0 62 (dk_at dksX6_takes_0 12 rfl rfl)
theorem dX6_takes_15 : decode cX6_takes 15 = .ok (.iconst 1, 1) := dk_4 (dk_at dksX6_takes_0 15 rfl rfl)
theorem dX6_takes_16 : decode cX6_takes 16 = .ok (.iadd, 1) := dk_96 (dk_at dksX6_takes_0 16 rfl rfl)
theorem dX6_takes_17 : decode cX6_takes 17 = .ok (.putfield 62, 3) := dk_181 0 62 (dk_at dksX6_takes_0 17 rfl rfl)
theorem dX6_takes_20 : decode cX6_takes 20 = .ok (.iconst 1, 1) := dk_4 (dk_at dksX6_takes_0 20 rfl rfl)
theorem dX6_takes_21 : decode cX6_takes 21 = .ok (.ireturn, 1) := dk_172 (dk_at dksX6_takes_0 21 rfl rfl)
abbrev cX6_takesNumber : ByteArray := prog_23_method_21_code
def yX6_takesNumber : MethodName := ⟨RX6, "takesNumber", "()Z"⟩
def dkwX6_takesNumber_2 : List UInt8 := [181, 0, 65, 42, 89, 180, 0, 62, 4, 96, 181, 0, 62, 132, 1, 1, 167, 255, 212, 4, 172]
abbrev dktX6_takesNumber_2 : List UInt8 := dkwX6_takesNumber_2 ++ []
def dkwX6_takesNumber_1 : List UInt8 := [182, 1, 20, 153, 0, 38, 42, 16, 10, 42, 180, 0, 65, 104, 42, 182, 1, 13, 96, 16, 48, 100]
abbrev dktX6_takesNumber_1 : List UInt8 := dkwX6_takesNumber_1 ++ dktX6_takesNumber_2
def dkwX6_takesNumber_0 : List UInt8 := [42, 182, 1, 20, 154, 0, 5, 3, 172, 42, 3, 181, 0, 65, 3, 60, 27, 5, 162, 0, 45, 42]
abbrev dktX6_takesNumber_0 : List UInt8 := dkwX6_takesNumber_0 ++ dktX6_takesNumber_1
theorem dksX6_takesNumber_0 : cX6_takesNumber.data.toList.drop 0 = dktX6_takesNumber_0 := by decide +kernel
theorem dksX6_takesNumber_1 : cX6_takesNumber.data.toList.drop 22 = dktX6_takesNumber_1 := dk_seg dksX6_takesNumber_0 22 rfl rfl
theorem dksX6_takesNumber_2 : cX6_takesNumber.data.toList.drop 44 = dktX6_takesNumber_2 := dk_seg dksX6_takesNumber_1 22 rfl rfl
theorem dX6_takesNumber_0 : decode cX6_takesNumber 0 = .ok (.aload_n 0, 1) := dk_42 (dk_at dksX6_takesNumber_0 0 rfl rfl)
theorem dX6_takesNumber_1 : decode cX6_takesNumber 1 = .ok (.invokevirtual 276, 3) := dk_182 1 20 (dk_at dksX6_takesNumber_0 1 rfl rfl)
theorem dX6_takesNumber_4 : decode cX6_takesNumber 4 = .ok (.ifCond .ne 5, 3) := dk_154 0 5 (dk_at dksX6_takesNumber_0 4 rfl rfl)
theorem dX6_takesNumber_7 : decode cX6_takesNumber 7 = .ok (.iconst 0, 1) := dk_3 (dk_at dksX6_takesNumber_0 7 rfl rfl)
theorem dX6_takesNumber_8 : decode cX6_takesNumber 8 = .ok (.ireturn, 1) := dk_172 (dk_at dksX6_takesNumber_0 8 rfl rfl)
theorem dX6_takesNumber_9 : decode cX6_takesNumber 9 = .ok (.aload_n 0, 1) := dk_42 (dk_at dksX6_takesNumber_0 9 rfl rfl)
theorem dX6_takesNumber_10 : decode cX6_takesNumber 10 = .ok (.iconst 0, 1) := dk_3 (dk_at dksX6_takesNumber_0 10 rfl rfl)
theorem dX6_takesNumber_11 : decode cX6_takesNumber 11 = .ok (.putfield 65, 3) := dk_181 0 65 (dk_at dksX6_takesNumber_0 11 rfl rfl)
theorem dX6_takesNumber_14 : decode cX6_takesNumber 14 = .ok (.iconst 0, 1) := dk_3 (dk_at dksX6_takesNumber_0 14 rfl rfl)
theorem dX6_takesNumber_15 : decode cX6_takesNumber 15 = .ok (.istore_n 1, 1) := dk_60 (dk_at dksX6_takesNumber_0 15 rfl rfl)
theorem dX6_takesNumber_16 : decode cX6_takesNumber 16 = .ok (.iload_n 1, 1) := dk_27 (dk_at dksX6_takesNumber_0 16 rfl rfl)
theorem dX6_takesNumber_17 : decode cX6_takesNumber 17 = .ok (.iconst 2, 1) := dk_5 (dk_at dksX6_takesNumber_0 17 rfl rfl)
theorem dX6_takesNumber_18 : decode cX6_takesNumber 18 = .ok (.if_icmp .ge 45, 3) := dk_162 0 45 (dk_at dksX6_takesNumber_0 18 rfl rfl)
theorem dX6_takesNumber_21 : decode cX6_takesNumber 21 = .ok (.aload_n 0, 1) := dk_42 (dk_at dksX6_takesNumber_0 21 rfl rfl)
theorem dX6_takesNumber_22 : decode cX6_takesNumber 22 = .ok (.invokevirtual 276, 3) := dk_182 1 20 (dk_at dksX6_takesNumber_1 0 rfl rfl)
theorem dX6_takesNumber_25 : decode cX6_takesNumber 25 = .ok (.ifCond .eq 38, 3) := dk_153 0 38 (dk_at dksX6_takesNumber_1 3 rfl rfl)
theorem dX6_takesNumber_28 : decode cX6_takesNumber 28 = .ok (.aload_n 0, 1) := dk_42 (dk_at dksX6_takesNumber_1 6 rfl rfl)
theorem dX6_takesNumber_29 : decode cX6_takesNumber 29 = .ok (.bipush 10, 2) := dk_16 10 (dk_at dksX6_takesNumber_1 7 rfl rfl)
theorem dX6_takesNumber_31 : decode cX6_takesNumber 31 = .ok (.aload_n 0, 1) := dk_42 (dk_at dksX6_takesNumber_1 9 rfl rfl)
theorem dX6_takesNumber_32 : decode cX6_takesNumber 32 = .ok (.getfield 65, 3) := dk_180 0 65 (dk_at dksX6_takesNumber_1 10 rfl rfl)
theorem dX6_takesNumber_35 : decode cX6_takesNumber 35 = .ok (.imul, 1) := dk_104 (dk_at dksX6_takesNumber_1 13 rfl rfl)
theorem dX6_takesNumber_36 : decode cX6_takesNumber 36 = .ok (.aload_n 0, 1) := dk_42 (dk_at dksX6_takesNumber_1 14 rfl rfl)
theorem dX6_takesNumber_37 : decode cX6_takesNumber 37 = .ok (.invokevirtual 269, 3) := dk_182 1 13 (dk_at dksX6_takesNumber_1 15 rfl rfl)
theorem dX6_takesNumber_40 : decode cX6_takesNumber 40 = .ok (.iadd, 1) := dk_96 (dk_at dksX6_takesNumber_1 18 rfl rfl)
theorem dX6_takesNumber_41 : decode cX6_takesNumber 41 = .ok (.bipush 48, 2) := dk_16 48 (dk_at dksX6_takesNumber_1 19 rfl rfl)
theorem dX6_takesNumber_43 : decode cX6_takesNumber 43 = .ok (.isub, 1) := dk_100 (dk_at dksX6_takesNumber_1 21 rfl rfl)
theorem dX6_takesNumber_44 : decode cX6_takesNumber 44 = .ok (.putfield 65, 3) := dk_181 0 65 (dk_at dksX6_takesNumber_2 0 rfl rfl)
theorem dX6_takesNumber_47 : decode cX6_takesNumber 47 = .ok (.aload_n 0, 1) := dk_42 (dk_at dksX6_takesNumber_2 3 rfl rfl)
theorem dX6_takesNumber_48 : decode cX6_takesNumber 48 = .ok (.dup, 1) := dk_89 (dk_at dksX6_takesNumber_2 4 rfl rfl)
theorem dX6_takesNumber_49 : decode cX6_takesNumber 49 = .ok (.getfield 62, 3) := dk_180 0 62 (dk_at dksX6_takesNumber_2 5 rfl rfl)
theorem dX6_takesNumber_52 : decode cX6_takesNumber 52 = .ok (.iconst 1, 1) := dk_4 (dk_at dksX6_takesNumber_2 8 rfl rfl)
theorem dX6_takesNumber_53 : decode cX6_takesNumber 53 = .ok (.iadd, 1) := dk_96 (dk_at dksX6_takesNumber_2 9 rfl rfl)
theorem dX6_takesNumber_54 : decode cX6_takesNumber 54 = .ok (.putfield 62, 3) := dk_181 0 62 (dk_at dksX6_takesNumber_2 10 rfl rfl)
theorem dX6_takesNumber_57 : decode cX6_takesNumber 57 = .ok (.iinc 1 1, 3) := dk_132 1 1 (dk_at dksX6_takesNumber_2 13 rfl rfl)
theorem dX6_takesNumber_60 : decode cX6_takesNumber 60 = .ok (.goto (-44), 3) := dk_167 255 212 (dk_at dksX6_takesNumber_2 16 rfl rfl)
theorem dX6_takesNumber_63 : decode cX6_takesNumber 63 = .ok (.iconst 1, 1) := dk_4 (dk_at dksX6_takesNumber_2 19 rfl rfl)
theorem dX6_takesNumber_64 : decode cX6_takesNumber 64 = .ok (.ireturn, 1) := dk_172 (dk_at dksX6_takesNumber_2 20 rfl rfl)
abbrev cX6_isDigit : ByteArray := prog_23_method_20_code
def yX6_isDigit : MethodName := ⟨RX6, "isDigit", "()Z"⟩
def dkwX6_isDigit_0 : List UInt8 := [42, 42, 182, 1, 13, 16, 48, 16, 57, 182, 0, 248, 172]
abbrev dktX6_isDigit_0 : List UInt8 := dkwX6_isDigit_0 ++ []
theorem dksX6_isDigit_0 : cX6_isDigit.data.toList.drop 0 = dktX6_isDigit_0 := by decide +kernel
theorem dX6_isDigit_0 : decode cX6_isDigit 0 = .ok (.aload_n 0, 1) := dk_42 (dk_at dksX6_isDigit_0 0 rfl rfl)
theorem dX6_isDigit_1 : decode cX6_isDigit 1 = .ok (.aload_n 0, 1) := dk_42 (dk_at dksX6_isDigit_0 1 rfl rfl)
theorem dX6_isDigit_2 : decode cX6_isDigit 2 = .ok (.invokevirtual 269, 3) := dk_182 1 13 (dk_at dksX6_isDigit_0 2 rfl rfl)
theorem dX6_isDigit_5 : decode cX6_isDigit 5 = .ok (.bipush 48, 2) := dk_16 48 (dk_at dksX6_isDigit_0 5 rfl rfl)
theorem dX6_isDigit_7 : decode cX6_isDigit 7 = .ok (.bipush 57, 2) := dk_16 57 (dk_at dksX6_isDigit_0 7 rfl rfl)
theorem dX6_isDigit_9 : decode cX6_isDigit 9 = .ok (.invokevirtual 248, 3) := dk_182 0 248 (dk_at dksX6_isDigit_0 9 rfl rfl)
theorem dX6_isDigit_12 : decode cX6_isDigit 12 = .ok (.ireturn, 1) := dk_172 (dk_at dksX6_isDigit_0 12 rfl rfl)
abbrev cX6_takesE : ByteArray := prog_23_method_27_code
def yX6_takesE : MethodName := ⟨RX6, "takesE", "(I)Z"⟩
def dkwX6_takesE_9 : List UInt8 := [100, 181, 0, 101, 42, 89, 180, 0, 62, 4, 96, 181, 0, 62, 42, 182, 1, 34, 167, 255, 49]
abbrev dktX6_takesE_9 : List UInt8 := dkwX6_takesE_9 ++ []
def dkwX6_takesE_8 : List UInt8 := [29, 16, 41, 159, 0, 5, 3, 172, 42, 89, 180, 0, 98, 4, 100, 181, 0, 98, 42, 89, 180, 0, 101, 4]
abbrev dktX6_takesE_8 : List UInt8 := dkwX6_takesE_8 ++ dktX6_takesE_9
def dkwX6_takesE_7 : List UInt8 := [16, 124, 182, 1, 40, 42, 180, 0, 86, 27, 42, 180, 0, 95, 79, 42, 180, 0, 98, 154, 0, 5, 4, 172]
abbrev dktX6_takesE_7 : List UInt8 := dkwX6_takesE_7 ++ dktX6_takesE_8
def dkwX6_takesE_6 : List UInt8 := [180, 0, 98, 4, 96, 181, 0, 98, 4, 61, 42, 89, 180, 0, 62, 4, 96, 181, 0, 62, 167, 255, 119, 42]
abbrev dktX6_takesE_6 : List UInt8 := dkwX6_takesE_6 ++ dktX6_takesE_7
def dkwX6_takesE_5 : List UInt8 := [16, 124, 160, 0, 43, 42, 29, 182, 1, 40, 42, 180, 0, 92, 42, 180, 0, 98, 29, 79, 42, 89]
abbrev dktX6_takesE_5 : List UInt8 := dkwX6_takesE_5 ++ dktX6_takesE_6
def dkwX6_takesE_4 : List UInt8 := [167, 255, 185, 42, 182, 1, 37, 153, 0, 8, 3, 61, 167, 255, 173, 3, 172, 29, 16, 38, 159, 0, 9, 29]
abbrev dktX6_takesE_4 : List UInt8 := dkwX6_takesE_4 ++ dktX6_takesE_5
def dkwX6_takesE_3 : List UInt8 := [29, 79, 42, 89, 180, 0, 98, 4, 96, 181, 0, 98, 42, 89, 180, 0, 62, 4, 96, 181, 0, 62]
abbrev dktX6_takesE_3 : List UInt8 := dkwX6_takesE_3 ++ dktX6_takesE_4
def dkwX6_takesE_2 : List UInt8 := [7, 160, 0, 5, 3, 172, 42, 89, 180, 0, 101, 4, 96, 181, 0, 101, 42, 180, 0, 92, 42, 180, 0, 98]
abbrev dktX6_takesE_2 : List UInt8 := dkwX6_takesE_2 ++ dktX6_takesE_3
def dkwX6_takesE_1 : List UInt8 := [182, 1, 13, 62, 28, 153, 0, 82, 29, 16, 33, 159, 0, 9, 29, 16, 40, 160, 0, 56, 42, 180, 0, 101]
abbrev dktX6_takesE_1 : List UInt8 := dkwX6_takesE_1 ++ dktX6_takesE_2
def dkwX6_takesE_0 : List UInt8 := [42, 3, 181, 0, 98, 42, 3, 181, 0, 101, 42, 180, 0, 83, 27, 42, 180, 0, 95, 79, 4, 61, 42]
abbrev dktX6_takesE_0 : List UInt8 := dkwX6_takesE_0 ++ dktX6_takesE_1
theorem dksX6_takesE_0 : cX6_takesE.data.toList.drop 0 = dktX6_takesE_0 := by decide +kernel
theorem dksX6_takesE_1 : cX6_takesE.data.toList.drop 23 = dktX6_takesE_1 := dk_seg dksX6_takesE_0 23 rfl rfl
theorem dksX6_takesE_2 : cX6_takesE.data.toList.drop 47 = dktX6_takesE_2 := dk_seg dksX6_takesE_1 24 rfl rfl
theorem dksX6_takesE_3 : cX6_takesE.data.toList.drop 71 = dktX6_takesE_3 := dk_seg dksX6_takesE_2 24 rfl rfl
theorem dksX6_takesE_4 : cX6_takesE.data.toList.drop 93 = dktX6_takesE_4 := dk_seg dksX6_takesE_3 22 rfl rfl
theorem dksX6_takesE_5 : cX6_takesE.data.toList.drop 117 = dktX6_takesE_5 := dk_seg dksX6_takesE_4 24 rfl rfl
theorem dksX6_takesE_6 : cX6_takesE.data.toList.drop 139 = dktX6_takesE_6 := dk_seg dksX6_takesE_5 22 rfl rfl
theorem dksX6_takesE_7 : cX6_takesE.data.toList.drop 163 = dktX6_takesE_7 := dk_seg dksX6_takesE_6 24 rfl rfl
theorem dksX6_takesE_8 : cX6_takesE.data.toList.drop 187 = dktX6_takesE_8 := dk_seg dksX6_takesE_7 24 rfl rfl
theorem dksX6_takesE_9 : cX6_takesE.data.toList.drop 211 = dktX6_takesE_9 := dk_seg dksX6_takesE_8 24 rfl rfl
theorem dX6_takesE_0 : decode cX6_takesE 0 = .ok (.aload_n 0, 1) := dk_42 (dk_at dksX6_takesE_0 0 rfl rfl)
theorem dX6_takesE_1 : decode cX6_takesE 1 = .ok (.iconst 0, 1) := dk_3 (dk_at dksX6_takesE_0 1 rfl rfl)
theorem dX6_takesE_2 : decode cX6_takesE 2 = .ok (.putfield 98, 3) := dk_181 0 98 (dk_at dksX6_takesE_0 2 rfl rfl)
theorem dX6_takesE_5 : decode cX6_takesE 5 = .ok (.aload_n 0, 1) := dk_42 (dk_at dksX6_takesE_0 5 rfl rfl)
theorem dX6_takesE_6 : decode cX6_takesE 6 = .ok (.iconst 0, 1) := dk_3 (dk_at dksX6_takesE_0 6 rfl rfl)
theorem dX6_takesE_7 : decode cX6_takesE 7 = .ok (.putfield 101, 3) := dk_181 0 101 (dk_at dksX6_takesE_0 7 rfl rfl)
theorem dX6_takesE_10 : decode cX6_takesE 10 = .ok (.aload_n 0, 1) := dk_42 (dk_at dksX6_takesE_0 10 rfl rfl)
theorem dX6_takesE_11 : decode cX6_takesE 11 = .ok (.getfield 83, 3) := dk_180 0 83 (dk_at dksX6_takesE_0 11 rfl rfl)
theorem dX6_takesE_14 : decode cX6_takesE 14 = .ok (.iload_n 1, 1) := dk_27 (dk_at dksX6_takesE_0 14 rfl rfl)
theorem dX6_takesE_15 : decode cX6_takesE 15 = .ok (.aload_n 0, 1) := dk_42 (dk_at dksX6_takesE_0 15 rfl rfl)
theorem dX6_takesE_16 : decode cX6_takesE 16 = .ok (.getfield 95, 3) := dk_180 0 95 (dk_at dksX6_takesE_0 16 rfl rfl)
theorem dX6_takesE_19 : decode cX6_takesE 19 = .ok (.iastore, 1) := dk_79 (dk_at dksX6_takesE_0 19 rfl rfl)
theorem dX6_takesE_20 : decode cX6_takesE 20 = .ok (.iconst 1, 1) := dk_4 (dk_at dksX6_takesE_0 20 rfl rfl)
theorem dX6_takesE_21 : decode cX6_takesE 21 = .ok (.istore_n 2, 1) := dk_61 (dk_at dksX6_takesE_0 21 rfl rfl)
theorem dX6_takesE_22 : decode cX6_takesE 22 = .ok (.aload_n 0, 1) := dk_42 (dk_at dksX6_takesE_0 22 rfl rfl)
theorem dX6_takesE_23 : decode cX6_takesE 23 = .ok (.invokevirtual 269, 3) := dk_182 1 13 (dk_at dksX6_takesE_1 0 rfl rfl)
theorem dX6_takesE_26 : decode cX6_takesE 26 = .ok (.istore_n 3, 1) := dk_62 (dk_at dksX6_takesE_1 3 rfl rfl)
theorem dX6_takesE_27 : decode cX6_takesE 27 = .ok (.iload_n 2, 1) := dk_28 (dk_at dksX6_takesE_1 4 rfl rfl)
theorem dX6_takesE_28 : decode cX6_takesE 28 = .ok (.ifCond .eq 82, 3) := dk_153 0 82 (dk_at dksX6_takesE_1 5 rfl rfl)
theorem dX6_takesE_31 : decode cX6_takesE 31 = .ok (.iload_n 3, 1) := dk_29 (dk_at dksX6_takesE_1 8 rfl rfl)
theorem dX6_takesE_32 : decode cX6_takesE 32 = .ok (.bipush 33, 2) := dk_16 33 (dk_at dksX6_takesE_1 9 rfl rfl)
theorem dX6_takesE_34 : decode cX6_takesE 34 = .ok (.if_icmp .eq 9, 3) := dk_159 0 9 (dk_at dksX6_takesE_1 11 rfl rfl)
theorem dX6_takesE_37 : decode cX6_takesE 37 = .ok (.iload_n 3, 1) := dk_29 (dk_at dksX6_takesE_1 14 rfl rfl)
theorem dX6_takesE_38 : decode cX6_takesE 38 = .ok (.bipush 40, 2) := dk_16 40 (dk_at dksX6_takesE_1 15 rfl rfl)
theorem dX6_takesE_40 : decode cX6_takesE 40 = .ok (.if_icmp .ne 56, 3) := dk_160 0 56 (dk_at dksX6_takesE_1 17 rfl rfl)
theorem dX6_takesE_43 : decode cX6_takesE 43 = .ok (.aload_n 0, 1) := dk_42 (dk_at dksX6_takesE_1 20 rfl rfl)
theorem dX6_takesE_44 : decode cX6_takesE 44 = .ok (.getfield 101, 3) := dk_180 0 101 (dk_at dksX6_takesE_1 21 rfl rfl)
theorem dX6_takesE_47 : decode cX6_takesE 47 = .ok (.iconst 4, 1) := dk_7 (dk_at dksX6_takesE_2 0 rfl rfl)
theorem dX6_takesE_48 : decode cX6_takesE 48 = .ok (.if_icmp .ne 5, 3) := dk_160 0 5 (dk_at dksX6_takesE_2 1 rfl rfl)
theorem dX6_takesE_51 : decode cX6_takesE 51 = .ok (.iconst 0, 1) := dk_3 (dk_at dksX6_takesE_2 4 rfl rfl)
theorem dX6_takesE_52 : decode cX6_takesE 52 = .ok (.ireturn, 1) := dk_172 (dk_at dksX6_takesE_2 5 rfl rfl)
theorem dX6_takesE_53 : decode cX6_takesE 53 = .ok (.aload_n 0, 1) := dk_42 (dk_at dksX6_takesE_2 6 rfl rfl)
theorem dX6_takesE_54 : decode cX6_takesE 54 = .ok (.dup, 1) := dk_89 (dk_at dksX6_takesE_2 7 rfl rfl)
theorem dX6_takesE_55 : decode cX6_takesE 55 = .ok (.getfield 101, 3) := dk_180 0 101 (dk_at dksX6_takesE_2 8 rfl rfl)
theorem dX6_takesE_58 : decode cX6_takesE 58 = .ok (.iconst 1, 1) := dk_4 (dk_at dksX6_takesE_2 11 rfl rfl)
theorem dX6_takesE_59 : decode cX6_takesE 59 = .ok (.iadd, 1) := dk_96 (dk_at dksX6_takesE_2 12 rfl rfl)
theorem dX6_takesE_60 : decode cX6_takesE 60 = .ok (.putfield 101, 3) := dk_181 0 101 (dk_at dksX6_takesE_2 13 rfl rfl)
theorem dX6_takesE_63 : decode cX6_takesE 63 = .ok (.aload_n 0, 1) := dk_42 (dk_at dksX6_takesE_2 16 rfl rfl)
theorem dX6_takesE_64 : decode cX6_takesE 64 = .ok (.getfield 92, 3) := dk_180 0 92 (dk_at dksX6_takesE_2 17 rfl rfl)
theorem dX6_takesE_67 : decode cX6_takesE 67 = .ok (.aload_n 0, 1) := dk_42 (dk_at dksX6_takesE_2 20 rfl rfl)
theorem dX6_takesE_68 : decode cX6_takesE 68 = .ok (.getfield 98, 3) := dk_180 0 98 (dk_at dksX6_takesE_2 21 rfl rfl)
theorem dX6_takesE_71 : decode cX6_takesE 71 = .ok (.iload_n 3, 1) := dk_29 (dk_at dksX6_takesE_3 0 rfl rfl)
theorem dX6_takesE_72 : decode cX6_takesE 72 = .ok (.iastore, 1) := dk_79 (dk_at dksX6_takesE_3 1 rfl rfl)
theorem dX6_takesE_73 : decode cX6_takesE 73 = .ok (.aload_n 0, 1) := dk_42 (dk_at dksX6_takesE_3 2 rfl rfl)
theorem dX6_takesE_74 : decode cX6_takesE 74 = .ok (.dup, 1) := dk_89 (dk_at dksX6_takesE_3 3 rfl rfl)
theorem dX6_takesE_75 : decode cX6_takesE 75 = .ok (.getfield 98, 3) := dk_180 0 98 (dk_at dksX6_takesE_3 4 rfl rfl)
theorem dX6_takesE_78 : decode cX6_takesE 78 = .ok (.iconst 1, 1) := dk_4 (dk_at dksX6_takesE_3 7 rfl rfl)
theorem dX6_takesE_79 : decode cX6_takesE 79 = .ok (.iadd, 1) := dk_96 (dk_at dksX6_takesE_3 8 rfl rfl)
theorem dX6_takesE_80 : decode cX6_takesE 80 = .ok (.putfield 98, 3) := dk_181 0 98 (dk_at dksX6_takesE_3 9 rfl rfl)
theorem dX6_takesE_83 : decode cX6_takesE 83 = .ok (.aload_n 0, 1) := dk_42 (dk_at dksX6_takesE_3 12 rfl rfl)
theorem dX6_takesE_84 : decode cX6_takesE 84 = .ok (.dup, 1) := dk_89 (dk_at dksX6_takesE_3 13 rfl rfl)
theorem dX6_takesE_85 : decode cX6_takesE 85 = .ok (.getfield 62, 3) := dk_180 0 62 (dk_at dksX6_takesE_3 14 rfl rfl)
theorem dX6_takesE_88 : decode cX6_takesE 88 = .ok (.iconst 1, 1) := dk_4 (dk_at dksX6_takesE_3 17 rfl rfl)
theorem dX6_takesE_89 : decode cX6_takesE 89 = .ok (.iadd, 1) := dk_96 (dk_at dksX6_takesE_3 18 rfl rfl)
theorem dX6_takesE_90 : decode cX6_takesE 90 = .ok (.putfield 62, 3) := dk_181 0 62 (dk_at dksX6_takesE_3 19 rfl rfl)
theorem dX6_takesE_93 : decode cX6_takesE 93 = .ok (.goto (-71), 3) := dk_167 255 185 (dk_at dksX6_takesE_4 0 rfl rfl)
theorem dX6_takesE_96 : decode cX6_takesE 96 = .ok (.aload_n 0, 1) := dk_42 (dk_at dksX6_takesE_4 3 rfl rfl)
theorem dX6_takesE_97 : decode cX6_takesE 97 = .ok (.invokevirtual 293, 3) := dk_182 1 37 (dk_at dksX6_takesE_4 4 rfl rfl)
theorem dX6_takesE_100 : decode cX6_takesE 100 = .ok (.ifCond .eq 8, 3) := dk_153 0 8 (dk_at dksX6_takesE_4 7 rfl rfl)
theorem dX6_takesE_103 : decode cX6_takesE 103 = .ok (.iconst 0, 1) := dk_3 (dk_at dksX6_takesE_4 10 rfl rfl)
theorem dX6_takesE_104 : decode cX6_takesE 104 = .ok (.istore_n 2, 1) := dk_61 (dk_at dksX6_takesE_4 11 rfl rfl)
theorem dX6_takesE_105 : decode cX6_takesE 105 = .ok (.goto (-83), 3) := dk_167 255 173 (dk_at dksX6_takesE_4 12 rfl rfl)
theorem dX6_takesE_108 : decode cX6_takesE 108 = .ok (.iconst 0, 1) := dk_3 (dk_at dksX6_takesE_4 15 rfl rfl)
theorem dX6_takesE_109 : decode cX6_takesE 109 = .ok (.ireturn, 1) := dk_172 (dk_at dksX6_takesE_4 16 rfl rfl)
theorem dX6_takesE_110 : decode cX6_takesE 110 = .ok (.iload_n 3, 1) := dk_29 (dk_at dksX6_takesE_4 17 rfl rfl)
theorem dX6_takesE_111 : decode cX6_takesE 111 = .ok (.bipush 38, 2) := dk_16 38 (dk_at dksX6_takesE_4 18 rfl rfl)
theorem dX6_takesE_113 : decode cX6_takesE 113 = .ok (.if_icmp .eq 9, 3) := dk_159 0 9 (dk_at dksX6_takesE_4 20 rfl rfl)
theorem dX6_takesE_116 : decode cX6_takesE 116 = .ok (.iload_n 3, 1) := dk_29 (dk_at dksX6_takesE_4 23 rfl rfl)
theorem dX6_takesE_117 : decode cX6_takesE 117 = .ok (.bipush 124, 2) := dk_16 124 (dk_at dksX6_takesE_5 0 rfl rfl)
theorem dX6_takesE_119 : decode cX6_takesE 119 = .ok (.if_icmp .ne 43, 3) := dk_160 0 43 (dk_at dksX6_takesE_5 2 rfl rfl)
theorem dX6_takesE_122 : decode cX6_takesE 122 = .ok (.aload_n 0, 1) := dk_42 (dk_at dksX6_takesE_5 5 rfl rfl)
theorem dX6_takesE_123 : decode cX6_takesE 123 = .ok (.iload_n 3, 1) := dk_29 (dk_at dksX6_takesE_5 6 rfl rfl)
theorem dX6_takesE_124 : decode cX6_takesE 124 = .ok (.invokevirtual 296, 3) := dk_182 1 40 (dk_at dksX6_takesE_5 7 rfl rfl)
theorem dX6_takesE_127 : decode cX6_takesE 127 = .ok (.aload_n 0, 1) := dk_42 (dk_at dksX6_takesE_5 10 rfl rfl)
theorem dX6_takesE_128 : decode cX6_takesE 128 = .ok (.getfield 92, 3) := dk_180 0 92 (dk_at dksX6_takesE_5 11 rfl rfl)
theorem dX6_takesE_131 : decode cX6_takesE 131 = .ok (.aload_n 0, 1) := dk_42 (dk_at dksX6_takesE_5 14 rfl rfl)
theorem dX6_takesE_132 : decode cX6_takesE 132 = .ok (.getfield 98, 3) := dk_180 0 98 (dk_at dksX6_takesE_5 15 rfl rfl)
theorem dX6_takesE_135 : decode cX6_takesE 135 = .ok (.iload_n 3, 1) := dk_29 (dk_at dksX6_takesE_5 18 rfl rfl)
theorem dX6_takesE_136 : decode cX6_takesE 136 = .ok (.iastore, 1) := dk_79 (dk_at dksX6_takesE_5 19 rfl rfl)
theorem dX6_takesE_137 : decode cX6_takesE 137 = .ok (.aload_n 0, 1) := dk_42 (dk_at dksX6_takesE_5 20 rfl rfl)
theorem dX6_takesE_138 : decode cX6_takesE 138 = .ok (.dup, 1) := dk_89 (dk_at dksX6_takesE_5 21 rfl rfl)
theorem dX6_takesE_139 : decode cX6_takesE 139 = .ok (.getfield 98, 3) := dk_180 0 98 (dk_at dksX6_takesE_6 0 rfl rfl)
theorem dX6_takesE_142 : decode cX6_takesE 142 = .ok (.iconst 1, 1) := dk_4 (dk_at dksX6_takesE_6 3 rfl rfl)
theorem dX6_takesE_143 : decode cX6_takesE 143 = .ok (.iadd, 1) := dk_96 (dk_at dksX6_takesE_6 4 rfl rfl)
theorem dX6_takesE_144 : decode cX6_takesE 144 = .ok (.putfield 98, 3) := dk_181 0 98 (dk_at dksX6_takesE_6 5 rfl rfl)
theorem dX6_takesE_147 : decode cX6_takesE 147 = .ok (.iconst 1, 1) := dk_4 (dk_at dksX6_takesE_6 8 rfl rfl)
theorem dX6_takesE_148 : decode cX6_takesE 148 = .ok (.istore_n 2, 1) := dk_61 (dk_at dksX6_takesE_6 9 rfl rfl)
theorem dX6_takesE_149 : decode cX6_takesE 149 = .ok (.aload_n 0, 1) := dk_42 (dk_at dksX6_takesE_6 10 rfl rfl)
theorem dX6_takesE_150 : decode cX6_takesE 150 = .ok (.dup, 1) := dk_89 (dk_at dksX6_takesE_6 11 rfl rfl)
theorem dX6_takesE_151 : decode cX6_takesE 151 = .ok (.getfield 62, 3) := dk_180 0 62 (dk_at dksX6_takesE_6 12 rfl rfl)
theorem dX6_takesE_154 : decode cX6_takesE 154 = .ok (.iconst 1, 1) := dk_4 (dk_at dksX6_takesE_6 15 rfl rfl)
theorem dX6_takesE_155 : decode cX6_takesE 155 = .ok (.iadd, 1) := dk_96 (dk_at dksX6_takesE_6 16 rfl rfl)
theorem dX6_takesE_156 : decode cX6_takesE 156 = .ok (.putfield 62, 3) := dk_181 0 62 (dk_at dksX6_takesE_6 17 rfl rfl)
theorem dX6_takesE_159 : decode cX6_takesE 159 = .ok (.goto (-137), 3) := dk_167 255 119 (dk_at dksX6_takesE_6 20 rfl rfl)
theorem dX6_takesE_162 : decode cX6_takesE 162 = .ok (.aload_n 0, 1) := dk_42 (dk_at dksX6_takesE_6 23 rfl rfl)
theorem dX6_takesE_163 : decode cX6_takesE 163 = .ok (.bipush 124, 2) := dk_16 124 (dk_at dksX6_takesE_7 0 rfl rfl)
theorem dX6_takesE_165 : decode cX6_takesE 165 = .ok (.invokevirtual 296, 3) := dk_182 1 40 (dk_at dksX6_takesE_7 2 rfl rfl)
theorem dX6_takesE_168 : decode cX6_takesE 168 = .ok (.aload_n 0, 1) := dk_42 (dk_at dksX6_takesE_7 5 rfl rfl)
theorem dX6_takesE_169 : decode cX6_takesE 169 = .ok (.getfield 86, 3) := dk_180 0 86 (dk_at dksX6_takesE_7 6 rfl rfl)
theorem dX6_takesE_172 : decode cX6_takesE 172 = .ok (.iload_n 1, 1) := dk_27 (dk_at dksX6_takesE_7 9 rfl rfl)
theorem dX6_takesE_173 : decode cX6_takesE 173 = .ok (.aload_n 0, 1) := dk_42 (dk_at dksX6_takesE_7 10 rfl rfl)
theorem dX6_takesE_174 : decode cX6_takesE 174 = .ok (.getfield 95, 3) := dk_180 0 95 (dk_at dksX6_takesE_7 11 rfl rfl)
theorem dX6_takesE_177 : decode cX6_takesE 177 = .ok (.iastore, 1) := dk_79 (dk_at dksX6_takesE_7 14 rfl rfl)
theorem dX6_takesE_178 : decode cX6_takesE 178 = .ok (.aload_n 0, 1) := dk_42 (dk_at dksX6_takesE_7 15 rfl rfl)
theorem dX6_takesE_179 : decode cX6_takesE 179 = .ok (.getfield 98, 3) := dk_180 0 98 (dk_at dksX6_takesE_7 16 rfl rfl)
theorem dX6_takesE_182 : decode cX6_takesE 182 = .ok (.ifCond .ne 5, 3) := dk_154 0 5 (dk_at dksX6_takesE_7 19 rfl rfl)
theorem dX6_takesE_185 : decode cX6_takesE 185 = .ok (.iconst 1, 1) := dk_4 (dk_at dksX6_takesE_7 22 rfl rfl)
theorem dX6_takesE_186 : decode cX6_takesE 186 = .ok (.ireturn, 1) := dk_172 (dk_at dksX6_takesE_7 23 rfl rfl)
theorem dX6_takesE_187 : decode cX6_takesE 187 = .ok (.iload_n 3, 1) := dk_29 (dk_at dksX6_takesE_8 0 rfl rfl)
theorem dX6_takesE_188 : decode cX6_takesE 188 = .ok (.bipush 41, 2) := dk_16 41 (dk_at dksX6_takesE_8 1 rfl rfl)
theorem dX6_takesE_190 : decode cX6_takesE 190 = .ok (.if_icmp .eq 5, 3) := dk_159 0 5 (dk_at dksX6_takesE_8 3 rfl rfl)
theorem dX6_takesE_193 : decode cX6_takesE 193 = .ok (.iconst 0, 1) := dk_3 (dk_at dksX6_takesE_8 6 rfl rfl)
theorem dX6_takesE_194 : decode cX6_takesE 194 = .ok (.ireturn, 1) := dk_172 (dk_at dksX6_takesE_8 7 rfl rfl)
theorem dX6_takesE_195 : decode cX6_takesE 195 = .ok (.aload_n 0, 1) := dk_42 (dk_at dksX6_takesE_8 8 rfl rfl)
theorem dX6_takesE_196 : decode cX6_takesE 196 = .ok (.dup, 1) := dk_89 (dk_at dksX6_takesE_8 9 rfl rfl)
theorem dX6_takesE_197 : decode cX6_takesE 197 = .ok (.getfield 98, 3) := dk_180 0 98 (dk_at dksX6_takesE_8 10 rfl rfl)
theorem dX6_takesE_200 : decode cX6_takesE 200 = .ok (.iconst 1, 1) := dk_4 (dk_at dksX6_takesE_8 13 rfl rfl)
theorem dX6_takesE_201 : decode cX6_takesE 201 = .ok (.isub, 1) := dk_100 (dk_at dksX6_takesE_8 14 rfl rfl)
theorem dX6_takesE_202 : decode cX6_takesE 202 = .ok (.putfield 98, 3) := dk_181 0 98 (dk_at dksX6_takesE_8 15 rfl rfl)
theorem dX6_takesE_205 : decode cX6_takesE 205 = .ok (.aload_n 0, 1) := dk_42 (dk_at dksX6_takesE_8 18 rfl rfl)
theorem dX6_takesE_206 : decode cX6_takesE 206 = .ok (.dup, 1) := dk_89 (dk_at dksX6_takesE_8 19 rfl rfl)
theorem dX6_takesE_207 : decode cX6_takesE 207 = .ok (.getfield 101, 3) := dk_180 0 101 (dk_at dksX6_takesE_8 20 rfl rfl)
theorem dX6_takesE_210 : decode cX6_takesE 210 = .ok (.iconst 1, 1) := dk_4 (dk_at dksX6_takesE_8 23 rfl rfl)
theorem dX6_takesE_211 : decode cX6_takesE 211 = .ok (.isub, 1) := dk_100 (dk_at dksX6_takesE_9 0 rfl rfl)
theorem dX6_takesE_212 : decode cX6_takesE 212 = .ok (.putfield 101, 3) := dk_181 0 101 (dk_at dksX6_takesE_9 1 rfl rfl)
theorem dX6_takesE_215 : decode cX6_takesE 215 = .ok (.aload_n 0, 1) := dk_42 (dk_at dksX6_takesE_9 4 rfl rfl)
theorem dX6_takesE_216 : decode cX6_takesE 216 = .ok (.dup, 1) := dk_89 (dk_at dksX6_takesE_9 5 rfl rfl)
theorem dX6_takesE_217 : decode cX6_takesE 217 = .ok (.getfield 62, 3) := dk_180 0 62 (dk_at dksX6_takesE_9 6 rfl rfl)
theorem dX6_takesE_220 : decode cX6_takesE 220 = .ok (.iconst 1, 1) := dk_4 (dk_at dksX6_takesE_9 9 rfl rfl)
theorem dX6_takesE_221 : decode cX6_takesE 221 = .ok (.iadd, 1) := dk_96 (dk_at dksX6_takesE_9 10 rfl rfl)
theorem dX6_takesE_222 : decode cX6_takesE 222 = .ok (.putfield 62, 3) := dk_181 0 62 (dk_at dksX6_takesE_9 11 rfl rfl)
theorem dX6_takesE_225 : decode cX6_takesE 225 = .ok (.aload_n 0, 1) := dk_42 (dk_at dksX6_takesE_9 14 rfl rfl)
theorem dX6_takesE_226 : decode cX6_takesE 226 = .ok (.invokevirtual 290, 3) := dk_182 1 34 (dk_at dksX6_takesE_9 15 rfl rfl)
theorem dX6_takesE_229 : decode cX6_takesE 229 = .ok (.goto (-207), 3) := dk_167 255 49 (dk_at dksX6_takesE_9 18 rfl rfl)
abbrev cX6_takesTest : ByteArray := prog_23_method_26_code
def yX6_takesTest : MethodName := ⟨RX6, "takesTest", "()Z"⟩
def dkwX6_takesTest_3 : List UInt8 := [16, 100, 28, 16, 60, 100, 104, 96, 42, 180, 0, 65, 96, 182, 1, 24, 42, 182, 1, 34, 4, 172]
abbrev dktX6_takesTest_3 : List UInt8 := dkwX6_takesTest_3 ++ []
def dkwX6_takesTest_2 : List UInt8 := [180, 0, 62, 4, 96, 181, 0, 62, 42, 182, 1, 31, 154, 0, 5, 3, 172, 42, 17, 3, 232, 27, 104]
abbrev dktX6_takesTest_2 : List UInt8 := dkwX6_takesTest_2 ++ dktX6_takesTest_3
def dkwX6_takesTest_1 : List UInt8 := [181, 0, 62, 42, 182, 1, 13, 61, 42, 28, 16, 60, 16, 62, 182, 0, 248, 154, 0, 5, 3, 172, 42, 89]
abbrev dktX6_takesTest_1 : List UInt8 := dkwX6_takesTest_1 ++ dktX6_takesTest_2
def dkwX6_takesTest_0 : List UInt8 := [42, 42, 182, 1, 13, 182, 1, 28, 60, 27, 156, 0, 5, 3, 172, 42, 89, 180, 0, 62, 4, 96]
abbrev dktX6_takesTest_0 : List UInt8 := dkwX6_takesTest_0 ++ dktX6_takesTest_1
theorem dksX6_takesTest_0 : cX6_takesTest.data.toList.drop 0 = dktX6_takesTest_0 := by decide +kernel
theorem dksX6_takesTest_1 : cX6_takesTest.data.toList.drop 22 = dktX6_takesTest_1 := dk_seg dksX6_takesTest_0 22 rfl rfl
theorem dksX6_takesTest_2 : cX6_takesTest.data.toList.drop 46 = dktX6_takesTest_2 := dk_seg dksX6_takesTest_1 24 rfl rfl
theorem dksX6_takesTest_3 : cX6_takesTest.data.toList.drop 69 = dktX6_takesTest_3 := dk_seg dksX6_takesTest_2 23 rfl rfl
theorem dX6_takesTest_0 : decode cX6_takesTest 0 = .ok (.aload_n 0, 1) := dk_42 (dk_at dksX6_takesTest_0 0 rfl rfl)
theorem dX6_takesTest_1 : decode cX6_takesTest 1 = .ok (.aload_n 0, 1) := dk_42 (dk_at dksX6_takesTest_0 1 rfl rfl)
theorem dX6_takesTest_2 : decode cX6_takesTest 2 = .ok (.invokevirtual 269, 3) := dk_182 1 13 (dk_at dksX6_takesTest_0 2 rfl rfl)
theorem dX6_takesTest_5 : decode cX6_takesTest 5 = .ok (.invokevirtual 284, 3) := dk_182 1 28 (dk_at dksX6_takesTest_0 5 rfl rfl)
theorem dX6_takesTest_8 : decode cX6_takesTest 8 = .ok (.istore_n 1, 1) := dk_60 (dk_at dksX6_takesTest_0 8 rfl rfl)
theorem dX6_takesTest_9 : decode cX6_takesTest 9 = .ok (.iload_n 1, 1) := dk_27 (dk_at dksX6_takesTest_0 9 rfl rfl)
theorem dX6_takesTest_10 : decode cX6_takesTest 10 = .ok (.ifCond .ge 5, 3) := dk_156 0 5 (dk_at dksX6_takesTest_0 10 rfl rfl)
theorem dX6_takesTest_13 : decode cX6_takesTest 13 = .ok (.iconst 0, 1) := dk_3 (dk_at dksX6_takesTest_0 13 rfl rfl)
theorem dX6_takesTest_14 : decode cX6_takesTest 14 = .ok (.ireturn, 1) := dk_172 (dk_at dksX6_takesTest_0 14 rfl rfl)
theorem dX6_takesTest_15 : decode cX6_takesTest 15 = .ok (.aload_n 0, 1) := dk_42 (dk_at dksX6_takesTest_0 15 rfl rfl)
theorem dX6_takesTest_16 : decode cX6_takesTest 16 = .ok (.dup, 1) := dk_89 (dk_at dksX6_takesTest_0 16 rfl rfl)
theorem dX6_takesTest_17 : decode cX6_takesTest 17 = .ok (.getfield 62, 3) := dk_180 0 62 (dk_at dksX6_takesTest_0 17 rfl rfl)
theorem dX6_takesTest_20 : decode cX6_takesTest 20 = .ok (.iconst 1, 1) := dk_4 (dk_at dksX6_takesTest_0 20 rfl rfl)
theorem dX6_takesTest_21 : decode cX6_takesTest 21 = .ok (.iadd, 1) := dk_96 (dk_at dksX6_takesTest_0 21 rfl rfl)
theorem dX6_takesTest_22 : decode cX6_takesTest 22 = .ok (.putfield 62, 3) := dk_181 0 62 (dk_at dksX6_takesTest_1 0 rfl rfl)
theorem dX6_takesTest_25 : decode cX6_takesTest 25 = .ok (.aload_n 0, 1) := dk_42 (dk_at dksX6_takesTest_1 3 rfl rfl)
theorem dX6_takesTest_26 : decode cX6_takesTest 26 = .ok (.invokevirtual 269, 3) := dk_182 1 13 (dk_at dksX6_takesTest_1 4 rfl rfl)
theorem dX6_takesTest_29 : decode cX6_takesTest 29 = .ok (.istore_n 2, 1) := dk_61 (dk_at dksX6_takesTest_1 7 rfl rfl)
theorem dX6_takesTest_30 : decode cX6_takesTest 30 = .ok (.aload_n 0, 1) := dk_42 (dk_at dksX6_takesTest_1 8 rfl rfl)
theorem dX6_takesTest_31 : decode cX6_takesTest 31 = .ok (.iload_n 2, 1) := dk_28 (dk_at dksX6_takesTest_1 9 rfl rfl)
theorem dX6_takesTest_32 : decode cX6_takesTest 32 = .ok (.bipush 60, 2) := dk_16 60 (dk_at dksX6_takesTest_1 10 rfl rfl)
theorem dX6_takesTest_34 : decode cX6_takesTest 34 = .ok (.bipush 62, 2) := dk_16 62 (dk_at dksX6_takesTest_1 12 rfl rfl)
theorem dX6_takesTest_36 : decode cX6_takesTest 36 = .ok (.invokevirtual 248, 3) := dk_182 0 248 (dk_at dksX6_takesTest_1 14 rfl rfl)
theorem dX6_takesTest_39 : decode cX6_takesTest 39 = .ok (.ifCond .ne 5, 3) := dk_154 0 5 (dk_at dksX6_takesTest_1 17 rfl rfl)
theorem dX6_takesTest_42 : decode cX6_takesTest 42 = .ok (.iconst 0, 1) := dk_3 (dk_at dksX6_takesTest_1 20 rfl rfl)
theorem dX6_takesTest_43 : decode cX6_takesTest 43 = .ok (.ireturn, 1) := dk_172 (dk_at dksX6_takesTest_1 21 rfl rfl)
theorem dX6_takesTest_44 : decode cX6_takesTest 44 = .ok (.aload_n 0, 1) := dk_42 (dk_at dksX6_takesTest_1 22 rfl rfl)
theorem dX6_takesTest_45 : decode cX6_takesTest 45 = .ok (.dup, 1) := dk_89 (dk_at dksX6_takesTest_1 23 rfl rfl)
theorem dX6_takesTest_46 : decode cX6_takesTest 46 = .ok (.getfield 62, 3) := dk_180 0 62 (dk_at dksX6_takesTest_2 0 rfl rfl)
theorem dX6_takesTest_49 : decode cX6_takesTest 49 = .ok (.iconst 1, 1) := dk_4 (dk_at dksX6_takesTest_2 3 rfl rfl)
theorem dX6_takesTest_50 : decode cX6_takesTest 50 = .ok (.iadd, 1) := dk_96 (dk_at dksX6_takesTest_2 4 rfl rfl)
theorem dX6_takesTest_51 : decode cX6_takesTest 51 = .ok (.putfield 62, 3) := dk_181 0 62 (dk_at dksX6_takesTest_2 5 rfl rfl)
theorem dX6_takesTest_54 : decode cX6_takesTest 54 = .ok (.aload_n 0, 1) := dk_42 (dk_at dksX6_takesTest_2 8 rfl rfl)
theorem dX6_takesTest_55 : decode cX6_takesTest 55 = .ok (.invokevirtual 287, 3) := dk_182 1 31 (dk_at dksX6_takesTest_2 9 rfl rfl)
theorem dX6_takesTest_58 : decode cX6_takesTest 58 = .ok (.ifCond .ne 5, 3) := dk_154 0 5 (dk_at dksX6_takesTest_2 12 rfl rfl)
theorem dX6_takesTest_61 : decode cX6_takesTest 61 = .ok (.iconst 0, 1) := dk_3 (dk_at dksX6_takesTest_2 15 rfl rfl)
theorem dX6_takesTest_62 : decode cX6_takesTest 62 = .ok (.ireturn, 1) := dk_172 (dk_at dksX6_takesTest_2 16 rfl rfl)
theorem dX6_takesTest_63 : decode cX6_takesTest 63 = .ok (.aload_n 0, 1) := dk_42 (dk_at dksX6_takesTest_2 17 rfl rfl)
theorem dX6_takesTest_64 : decode cX6_takesTest 64 = .ok (.sipush 1000, 3) := dk_17 3 232 (dk_at dksX6_takesTest_2 18 rfl rfl)
theorem dX6_takesTest_67 : decode cX6_takesTest 67 = .ok (.iload_n 1, 1) := dk_27 (dk_at dksX6_takesTest_2 21 rfl rfl)
theorem dX6_takesTest_68 : decode cX6_takesTest 68 = .ok (.imul, 1) := dk_104 (dk_at dksX6_takesTest_2 22 rfl rfl)
theorem dX6_takesTest_69 : decode cX6_takesTest 69 = .ok (.bipush 100, 2) := dk_16 100 (dk_at dksX6_takesTest_3 0 rfl rfl)
theorem dX6_takesTest_71 : decode cX6_takesTest 71 = .ok (.iload_n 2, 1) := dk_28 (dk_at dksX6_takesTest_3 2 rfl rfl)
theorem dX6_takesTest_72 : decode cX6_takesTest 72 = .ok (.bipush 60, 2) := dk_16 60 (dk_at dksX6_takesTest_3 3 rfl rfl)
theorem dX6_takesTest_74 : decode cX6_takesTest 74 = .ok (.isub, 1) := dk_100 (dk_at dksX6_takesTest_3 5 rfl rfl)
theorem dX6_takesTest_75 : decode cX6_takesTest 75 = .ok (.imul, 1) := dk_104 (dk_at dksX6_takesTest_3 6 rfl rfl)
theorem dX6_takesTest_76 : decode cX6_takesTest 76 = .ok (.iadd, 1) := dk_96 (dk_at dksX6_takesTest_3 7 rfl rfl)
theorem dX6_takesTest_77 : decode cX6_takesTest 77 = .ok (.aload_n 0, 1) := dk_42 (dk_at dksX6_takesTest_3 8 rfl rfl)
theorem dX6_takesTest_78 : decode cX6_takesTest 78 = .ok (.getfield 65, 3) := dk_180 0 65 (dk_at dksX6_takesTest_3 9 rfl rfl)
theorem dX6_takesTest_81 : decode cX6_takesTest 81 = .ok (.iadd, 1) := dk_96 (dk_at dksX6_takesTest_3 12 rfl rfl)
theorem dX6_takesTest_82 : decode cX6_takesTest 82 = .ok (.invokevirtual 280, 3) := dk_182 1 24 (dk_at dksX6_takesTest_3 13 rfl rfl)
theorem dX6_takesTest_85 : decode cX6_takesTest 85 = .ok (.aload_n 0, 1) := dk_42 (dk_at dksX6_takesTest_3 16 rfl rfl)
theorem dX6_takesTest_86 : decode cX6_takesTest 86 = .ok (.invokevirtual 290, 3) := dk_182 1 34 (dk_at dksX6_takesTest_3 17 rfl rfl)
theorem dX6_takesTest_89 : decode cX6_takesTest 89 = .ok (.iconst 1, 1) := dk_4 (dk_at dksX6_takesTest_3 20 rfl rfl)
theorem dX6_takesTest_90 : decode cX6_takesTest 90 = .ok (.ireturn, 1) := dk_172 (dk_at dksX6_takesTest_3 21 rfl rfl)
abbrev cX6_place : ByteArray := prog_23_method_25_code
def yX6_place : MethodName := ⟨RX6, "place", "(I)I"⟩
def dkwX6_place_2 : List UInt8 := [3, 172, 4, 172, 5, 172, 6, 172, 7, 172, 8, 172, 2, 172]
abbrev dktX6_place_2 : List UInt8 := dkwX6_place_2 ++ []
def dkwX6_place_1 : List UInt8 := [171, 0, 0, 0, 0, 0, 71, 0, 0, 0, 6, 0, 0, 0, 97, 0, 0, 0, 59, 0, 0, 0, 100, 0, 0, 0, 69, 0, 0, 0, 101, 0, 0, 0, 61, 0, 0, 0, 107, 0, 0, 0, 63, 0, 0, 0, 116, 0, 0, 0, 65, 0, 0, 0, 117, 0, 0, 0, 67]
abbrev dktX6_place_1 : List UInt8 := dkwX6_place_1 ++ dktX6_place_2
def dkwX6_place_0 : List UInt8 := [27]
abbrev dktX6_place_0 : List UInt8 := dkwX6_place_0 ++ dktX6_place_1
theorem dksX6_place_0 : cX6_place.data.toList.drop 0 = dktX6_place_0 := by decide +kernel
theorem dksX6_place_1 : cX6_place.data.toList.drop 1 = dktX6_place_1 := dk_seg dksX6_place_0 1 rfl rfl
theorem dksX6_place_2 : cX6_place.data.toList.drop 60 = dktX6_place_2 := dk_seg dksX6_place_1 59 rfl rfl
theorem dX6_place_0 : decode cX6_place 0 = .ok (.iload_n 1, 1) := dk_27 (dk_at dksX6_place_0 0 rfl rfl)
theorem dX6_place_1 : decode cX6_place 1 = .ok (.lookupswitch 71 #[(97, 59), (100, 69), (101, 61), (107, 63), (116, 65), (117, 67)], 59) := by decide +kernel
theorem dX6_place_60 : decode cX6_place 60 = .ok (.iconst 0, 1) := dk_3 (dk_at dksX6_place_2 0 rfl rfl)
theorem dX6_place_61 : decode cX6_place 61 = .ok (.ireturn, 1) := dk_172 (dk_at dksX6_place_2 1 rfl rfl)
theorem dX6_place_62 : decode cX6_place 62 = .ok (.iconst 1, 1) := dk_4 (dk_at dksX6_place_2 2 rfl rfl)
theorem dX6_place_63 : decode cX6_place 63 = .ok (.ireturn, 1) := dk_172 (dk_at dksX6_place_2 3 rfl rfl)
theorem dX6_place_64 : decode cX6_place 64 = .ok (.iconst 2, 1) := dk_5 (dk_at dksX6_place_2 4 rfl rfl)
theorem dX6_place_65 : decode cX6_place 65 = .ok (.ireturn, 1) := dk_172 (dk_at dksX6_place_2 5 rfl rfl)
theorem dX6_place_66 : decode cX6_place 66 = .ok (.iconst 3, 1) := dk_6 (dk_at dksX6_place_2 6 rfl rfl)
theorem dX6_place_67 : decode cX6_place 67 = .ok (.ireturn, 1) := dk_172 (dk_at dksX6_place_2 7 rfl rfl)
theorem dX6_place_68 : decode cX6_place 68 = .ok (.iconst 4, 1) := dk_7 (dk_at dksX6_place_2 8 rfl rfl)
theorem dX6_place_69 : decode cX6_place 69 = .ok (.ireturn, 1) := dk_172 (dk_at dksX6_place_2 9 rfl rfl)
theorem dX6_place_70 : decode cX6_place 70 = .ok (.iconst 5, 1) := dk_8 (dk_at dksX6_place_2 10 rfl rfl)
theorem dX6_place_71 : decode cX6_place 71 = .ok (.ireturn, 1) := dk_172 (dk_at dksX6_place_2 11 rfl rfl)
theorem dX6_place_72 : decode cX6_place 72 = .ok (.iconst (-1), 1) := dk_2 (dk_at dksX6_place_2 12 rfl rfl)
theorem dX6_place_73 : decode cX6_place 73 = .ok (.ireturn, 1) := dk_172 (dk_at dksX6_place_2 13 rfl rfl)
abbrev cX6_emits : ByteArray := prog_23_method_22_code
def yX6_emits : MethodName := ⟨RX6, "emits", "(I)V"⟩
def dkwX6_emits_0 : List UInt8 := [42, 180, 0, 89, 42, 180, 0, 95, 27, 79, 42, 89, 180, 0, 95, 4, 96, 181, 0, 95, 177]
abbrev dktX6_emits_0 : List UInt8 := dkwX6_emits_0 ++ []
theorem dksX6_emits_0 : cX6_emits.data.toList.drop 0 = dktX6_emits_0 := by decide +kernel
theorem dX6_emits_0 : decode cX6_emits 0 = .ok (.aload_n 0, 1) := dk_42 (dk_at dksX6_emits_0 0 rfl rfl)
theorem dX6_emits_1 : decode cX6_emits 1 = .ok (.getfield 89, 3) := dk_180 0 89 (dk_at dksX6_emits_0 1 rfl rfl)
theorem dX6_emits_4 : decode cX6_emits 4 = .ok (.aload_n 0, 1) := dk_42 (dk_at dksX6_emits_0 4 rfl rfl)
theorem dX6_emits_5 : decode cX6_emits 5 = .ok (.getfield 95, 3) := dk_180 0 95 (dk_at dksX6_emits_0 5 rfl rfl)
theorem dX6_emits_8 : decode cX6_emits 8 = .ok (.iload_n 1, 1) := dk_27 (dk_at dksX6_emits_0 8 rfl rfl)
theorem dX6_emits_9 : decode cX6_emits 9 = .ok (.iastore, 1) := dk_79 (dk_at dksX6_emits_0 9 rfl rfl)
theorem dX6_emits_10 : decode cX6_emits 10 = .ok (.aload_n 0, 1) := dk_42 (dk_at dksX6_emits_0 10 rfl rfl)
theorem dX6_emits_11 : decode cX6_emits 11 = .ok (.dup, 1) := dk_89 (dk_at dksX6_emits_0 11 rfl rfl)
theorem dX6_emits_12 : decode cX6_emits 12 = .ok (.getfield 95, 3) := dk_180 0 95 (dk_at dksX6_emits_0 12 rfl rfl)
theorem dX6_emits_15 : decode cX6_emits 15 = .ok (.iconst 1, 1) := dk_4 (dk_at dksX6_emits_0 15 rfl rfl)
theorem dX6_emits_16 : decode cX6_emits 16 = .ok (.iadd, 1) := dk_96 (dk_at dksX6_emits_0 16 rfl rfl)
theorem dX6_emits_17 : decode cX6_emits 17 = .ok (.putfield 95, 3) := dk_181 0 95 (dk_at dksX6_emits_0 17 rfl rfl)
theorem dX6_emits_20 : decode cX6_emits 20 = .ok (.return_, 1) := dk_177 (dk_at dksX6_emits_0 20 rfl rfl)
abbrev cX6_whole : ByteArray := prog_23_method_23_code
def yX6_whole : MethodName := ⟨RX6, "whole", "()V"⟩
def dkwX6_whole_2 : List UInt8 := [181, 0, 101, 167, 255, 207, 177]
abbrev dktX6_whole_2 : List UInt8 := dkwX6_whole_2 ++ []
def dkwX6_whole_1 : List UInt8 := [16, 223, 182, 1, 24, 42, 89, 180, 0, 98, 4, 100, 181, 0, 98, 42, 89, 180, 0, 101, 4, 100]
abbrev dktX6_whole_1 : List UInt8 := dkwX6_whole_1 ++ dktX6_whole_2
def dkwX6_whole_0 : List UInt8 := [42, 180, 0, 98, 158, 0, 48, 42, 180, 0, 92, 42, 180, 0, 98, 4, 100, 46, 16, 33, 160, 0, 32, 42]
abbrev dktX6_whole_0 : List UInt8 := dkwX6_whole_0 ++ dktX6_whole_1
theorem dksX6_whole_0 : cX6_whole.data.toList.drop 0 = dktX6_whole_0 := by decide +kernel
theorem dksX6_whole_1 : cX6_whole.data.toList.drop 24 = dktX6_whole_1 := dk_seg dksX6_whole_0 24 rfl rfl
theorem dksX6_whole_2 : cX6_whole.data.toList.drop 46 = dktX6_whole_2 := dk_seg dksX6_whole_1 22 rfl rfl
theorem dX6_whole_0 : decode cX6_whole 0 = .ok (.aload_n 0, 1) := dk_42 (dk_at dksX6_whole_0 0 rfl rfl)
theorem dX6_whole_1 : decode cX6_whole 1 = .ok (.getfield 98, 3) := dk_180 0 98 (dk_at dksX6_whole_0 1 rfl rfl)
theorem dX6_whole_4 : decode cX6_whole 4 = .ok (.ifCond .le 48, 3) := dk_158 0 48 (dk_at dksX6_whole_0 4 rfl rfl)
theorem dX6_whole_7 : decode cX6_whole 7 = .ok (.aload_n 0, 1) := dk_42 (dk_at dksX6_whole_0 7 rfl rfl)
theorem dX6_whole_8 : decode cX6_whole 8 = .ok (.getfield 92, 3) := dk_180 0 92 (dk_at dksX6_whole_0 8 rfl rfl)
theorem dX6_whole_11 : decode cX6_whole 11 = .ok (.aload_n 0, 1) := dk_42 (dk_at dksX6_whole_0 11 rfl rfl)
theorem dX6_whole_12 : decode cX6_whole 12 = .ok (.getfield 98, 3) := dk_180 0 98 (dk_at dksX6_whole_0 12 rfl rfl)
theorem dX6_whole_15 : decode cX6_whole 15 = .ok (.iconst 1, 1) := dk_4 (dk_at dksX6_whole_0 15 rfl rfl)
theorem dX6_whole_16 : decode cX6_whole 16 = .ok (.isub, 1) := dk_100 (dk_at dksX6_whole_0 16 rfl rfl)
theorem dX6_whole_17 : decode cX6_whole 17 = .ok (.iaload, 1) := dk_46 (dk_at dksX6_whole_0 17 rfl rfl)
theorem dX6_whole_18 : decode cX6_whole 18 = .ok (.bipush 33, 2) := dk_16 33 (dk_at dksX6_whole_0 18 rfl rfl)
theorem dX6_whole_20 : decode cX6_whole 20 = .ok (.if_icmp .ne 32, 3) := dk_160 0 32 (dk_at dksX6_whole_0 20 rfl rfl)
theorem dX6_whole_23 : decode cX6_whole 23 = .ok (.aload_n 0, 1) := dk_42 (dk_at dksX6_whole_0 23 rfl rfl)
theorem dX6_whole_24 : decode cX6_whole 24 = .ok (.bipush (-33), 2) := dk_16 223 (dk_at dksX6_whole_1 0 rfl rfl)
theorem dX6_whole_26 : decode cX6_whole 26 = .ok (.invokevirtual 280, 3) := dk_182 1 24 (dk_at dksX6_whole_1 2 rfl rfl)
theorem dX6_whole_29 : decode cX6_whole 29 = .ok (.aload_n 0, 1) := dk_42 (dk_at dksX6_whole_1 5 rfl rfl)
theorem dX6_whole_30 : decode cX6_whole 30 = .ok (.dup, 1) := dk_89 (dk_at dksX6_whole_1 6 rfl rfl)
theorem dX6_whole_31 : decode cX6_whole 31 = .ok (.getfield 98, 3) := dk_180 0 98 (dk_at dksX6_whole_1 7 rfl rfl)
theorem dX6_whole_34 : decode cX6_whole 34 = .ok (.iconst 1, 1) := dk_4 (dk_at dksX6_whole_1 10 rfl rfl)
theorem dX6_whole_35 : decode cX6_whole 35 = .ok (.isub, 1) := dk_100 (dk_at dksX6_whole_1 11 rfl rfl)
theorem dX6_whole_36 : decode cX6_whole 36 = .ok (.putfield 98, 3) := dk_181 0 98 (dk_at dksX6_whole_1 12 rfl rfl)
theorem dX6_whole_39 : decode cX6_whole 39 = .ok (.aload_n 0, 1) := dk_42 (dk_at dksX6_whole_1 15 rfl rfl)
theorem dX6_whole_40 : decode cX6_whole 40 = .ok (.dup, 1) := dk_89 (dk_at dksX6_whole_1 16 rfl rfl)
theorem dX6_whole_41 : decode cX6_whole 41 = .ok (.getfield 101, 3) := dk_180 0 101 (dk_at dksX6_whole_1 17 rfl rfl)
theorem dX6_whole_44 : decode cX6_whole 44 = .ok (.iconst 1, 1) := dk_4 (dk_at dksX6_whole_1 20 rfl rfl)
theorem dX6_whole_45 : decode cX6_whole 45 = .ok (.isub, 1) := dk_100 (dk_at dksX6_whole_1 21 rfl rfl)
theorem dX6_whole_46 : decode cX6_whole 46 = .ok (.putfield 101, 3) := dk_181 0 101 (dk_at dksX6_whole_2 0 rfl rfl)
theorem dX6_whole_49 : decode cX6_whole 49 = .ok (.goto (-49), 3) := dk_167 255 207 (dk_at dksX6_whole_2 3 rfl rfl)
theorem dX6_whole_52 : decode cX6_whole 52 = .ok (.return_, 1) := dk_177 (dk_at dksX6_whole_2 6 rfl rfl)
abbrev cX6_settle : ByteArray := prog_23_method_24_code
def yX6_settle : MethodName := ⟨RX6, "settle", "(I)V"⟩
def dkwX6_settle_3 : List UInt8 := [167, 255, 187, 177]
abbrev dktX6_settle_3 : List UInt8 := dkwX6_settle_3 ++ []
def dkwX6_settle_2 : List UInt8 := [180, 0, 98, 4, 100, 181, 0, 98, 42, 42, 180, 0, 92, 42, 180, 0, 98, 46, 116, 182, 1, 24]
abbrev dktX6_settle_2 : List UInt8 := dkwX6_settle_2 ++ dktX6_settle_3
def dkwX6_settle_1 : List UInt8 := [180, 0, 92, 42, 180, 0, 98, 4, 100, 46, 16, 124, 160, 0, 36, 27, 16, 38, 159, 0, 30, 42, 89]
abbrev dktX6_settle_1 : List UInt8 := dkwX6_settle_1 ++ dktX6_settle_2
def dkwX6_settle_0 : List UInt8 := [42, 180, 0, 98, 158, 0, 68, 42, 180, 0, 92, 42, 180, 0, 98, 4, 100, 46, 16, 38, 159, 0, 25, 42]
abbrev dktX6_settle_0 : List UInt8 := dkwX6_settle_0 ++ dktX6_settle_1
theorem dksX6_settle_0 : cX6_settle.data.toList.drop 0 = dktX6_settle_0 := by decide +kernel
theorem dksX6_settle_1 : cX6_settle.data.toList.drop 24 = dktX6_settle_1 := dk_seg dksX6_settle_0 24 rfl rfl
theorem dksX6_settle_2 : cX6_settle.data.toList.drop 47 = dktX6_settle_2 := dk_seg dksX6_settle_1 23 rfl rfl
theorem dksX6_settle_3 : cX6_settle.data.toList.drop 69 = dktX6_settle_3 := dk_seg dksX6_settle_2 22 rfl rfl
theorem dX6_settle_0 : decode cX6_settle 0 = .ok (.aload_n 0, 1) := dk_42 (dk_at dksX6_settle_0 0 rfl rfl)
theorem dX6_settle_1 : decode cX6_settle 1 = .ok (.getfield 98, 3) := dk_180 0 98 (dk_at dksX6_settle_0 1 rfl rfl)
theorem dX6_settle_4 : decode cX6_settle 4 = .ok (.ifCond .le 68, 3) := dk_158 0 68 (dk_at dksX6_settle_0 4 rfl rfl)
theorem dX6_settle_7 : decode cX6_settle 7 = .ok (.aload_n 0, 1) := dk_42 (dk_at dksX6_settle_0 7 rfl rfl)
theorem dX6_settle_8 : decode cX6_settle 8 = .ok (.getfield 92, 3) := dk_180 0 92 (dk_at dksX6_settle_0 8 rfl rfl)
theorem dX6_settle_11 : decode cX6_settle 11 = .ok (.aload_n 0, 1) := dk_42 (dk_at dksX6_settle_0 11 rfl rfl)
theorem dX6_settle_12 : decode cX6_settle 12 = .ok (.getfield 98, 3) := dk_180 0 98 (dk_at dksX6_settle_0 12 rfl rfl)
theorem dX6_settle_15 : decode cX6_settle 15 = .ok (.iconst 1, 1) := dk_4 (dk_at dksX6_settle_0 15 rfl rfl)
theorem dX6_settle_16 : decode cX6_settle 16 = .ok (.isub, 1) := dk_100 (dk_at dksX6_settle_0 16 rfl rfl)
theorem dX6_settle_17 : decode cX6_settle 17 = .ok (.iaload, 1) := dk_46 (dk_at dksX6_settle_0 17 rfl rfl)
theorem dX6_settle_18 : decode cX6_settle 18 = .ok (.bipush 38, 2) := dk_16 38 (dk_at dksX6_settle_0 18 rfl rfl)
theorem dX6_settle_20 : decode cX6_settle 20 = .ok (.if_icmp .eq 25, 3) := dk_159 0 25 (dk_at dksX6_settle_0 20 rfl rfl)
theorem dX6_settle_23 : decode cX6_settle 23 = .ok (.aload_n 0, 1) := dk_42 (dk_at dksX6_settle_0 23 rfl rfl)
theorem dX6_settle_24 : decode cX6_settle 24 = .ok (.getfield 92, 3) := dk_180 0 92 (dk_at dksX6_settle_1 0 rfl rfl)
theorem dX6_settle_27 : decode cX6_settle 27 = .ok (.aload_n 0, 1) := dk_42 (dk_at dksX6_settle_1 3 rfl rfl)
theorem dX6_settle_28 : decode cX6_settle 28 = .ok (.getfield 98, 3) := dk_180 0 98 (dk_at dksX6_settle_1 4 rfl rfl)
theorem dX6_settle_31 : decode cX6_settle 31 = .ok (.iconst 1, 1) := dk_4 (dk_at dksX6_settle_1 7 rfl rfl)
theorem dX6_settle_32 : decode cX6_settle 32 = .ok (.isub, 1) := dk_100 (dk_at dksX6_settle_1 8 rfl rfl)
theorem dX6_settle_33 : decode cX6_settle 33 = .ok (.iaload, 1) := dk_46 (dk_at dksX6_settle_1 9 rfl rfl)
theorem dX6_settle_34 : decode cX6_settle 34 = .ok (.bipush 124, 2) := dk_16 124 (dk_at dksX6_settle_1 10 rfl rfl)
theorem dX6_settle_36 : decode cX6_settle 36 = .ok (.if_icmp .ne 36, 3) := dk_160 0 36 (dk_at dksX6_settle_1 12 rfl rfl)
theorem dX6_settle_39 : decode cX6_settle 39 = .ok (.iload_n 1, 1) := dk_27 (dk_at dksX6_settle_1 15 rfl rfl)
theorem dX6_settle_40 : decode cX6_settle 40 = .ok (.bipush 38, 2) := dk_16 38 (dk_at dksX6_settle_1 16 rfl rfl)
theorem dX6_settle_42 : decode cX6_settle 42 = .ok (.if_icmp .eq 30, 3) := dk_159 0 30 (dk_at dksX6_settle_1 18 rfl rfl)
theorem dX6_settle_45 : decode cX6_settle 45 = .ok (.aload_n 0, 1) := dk_42 (dk_at dksX6_settle_1 21 rfl rfl)
theorem dX6_settle_46 : decode cX6_settle 46 = .ok (.dup, 1) := dk_89 (dk_at dksX6_settle_1 22 rfl rfl)
theorem dX6_settle_47 : decode cX6_settle 47 = .ok (.getfield 98, 3) := dk_180 0 98 (dk_at dksX6_settle_2 0 rfl rfl)
theorem dX6_settle_50 : decode cX6_settle 50 = .ok (.iconst 1, 1) := dk_4 (dk_at dksX6_settle_2 3 rfl rfl)
theorem dX6_settle_51 : decode cX6_settle 51 = .ok (.isub, 1) := dk_100 (dk_at dksX6_settle_2 4 rfl rfl)
theorem dX6_settle_52 : decode cX6_settle 52 = .ok (.putfield 98, 3) := dk_181 0 98 (dk_at dksX6_settle_2 5 rfl rfl)
theorem dX6_settle_55 : decode cX6_settle 55 = .ok (.aload_n 0, 1) := dk_42 (dk_at dksX6_settle_2 8 rfl rfl)
theorem dX6_settle_56 : decode cX6_settle 56 = .ok (.aload_n 0, 1) := dk_42 (dk_at dksX6_settle_2 9 rfl rfl)
theorem dX6_settle_57 : decode cX6_settle 57 = .ok (.getfield 92, 3) := dk_180 0 92 (dk_at dksX6_settle_2 10 rfl rfl)
theorem dX6_settle_60 : decode cX6_settle 60 = .ok (.aload_n 0, 1) := dk_42 (dk_at dksX6_settle_2 13 rfl rfl)
theorem dX6_settle_61 : decode cX6_settle 61 = .ok (.getfield 98, 3) := dk_180 0 98 (dk_at dksX6_settle_2 14 rfl rfl)
theorem dX6_settle_64 : decode cX6_settle 64 = .ok (.iaload, 1) := dk_46 (dk_at dksX6_settle_2 17 rfl rfl)
theorem dX6_settle_65 : decode cX6_settle 65 = .ok (.ineg, 1) := dk_116 (dk_at dksX6_settle_2 18 rfl rfl)
theorem dX6_settle_66 : decode cX6_settle 66 = .ok (.invokevirtual 280, 3) := dk_182 1 24 (dk_at dksX6_settle_2 19 rfl rfl)
theorem dX6_settle_69 : decode cX6_settle 69 = .ok (.goto (-69), 3) := dk_167 255 187 (dk_at dksX6_settle_3 0 rfl rfl)
theorem dX6_settle_72 : decode cX6_settle 72 = .ok (.return_, 1) := dk_177 (dk_at dksX6_settle_3 3 rfl rfl)
abbrev cX6_of : ByteArray := prog_23_method_41_code
def yX6_of : MethodName := ⟨RX6, "of", "(II)I"⟩
def dkwX6_of_5 : List UInt8 := [182, 1, 6, 172, 17, 216, 239, 172]
abbrev dktX6_of_5 : List UInt8 := dkwX6_of_5 ++ []
def dkwX6_of_4 : List UInt8 := [180, 0, 38, 27, 46, 172, 42, 180, 0, 41, 27, 46, 172, 42, 180, 0, 44, 27, 46, 172, 42, 27]
abbrev dktX6_of_4 : List UInt8 := dkwX6_of_4 ++ dktX6_of_5
def dkwX6_of_3 : List UInt8 := [42, 180, 0, 29, 27, 46, 172, 42, 180, 0, 32, 27, 46, 172, 42, 180, 0, 35, 27, 46, 172, 42]
abbrev dktX6_of_3 : List UInt8 := dkwX6_of_3 ++ dktX6_of_4
def dkwX6_of_2 : List UInt8 := [170, 0, 0, 0, 0, 0, 0, 92, 0, 0, 0, 0, 0, 0, 0, 6, 0, 0, 0, 44, 0, 0, 0, 51, 0, 0, 0, 58, 0, 0, 0, 65, 0, 0, 0, 72, 0, 0, 0, 79, 0, 0, 0, 86]
abbrev dktX6_of_2 : List UInt8 := dkwX6_of_2 ++ dktX6_of_3
def dkwX6_of_1 : List UInt8 := [182, 0, 248, 153, 0, 13, 42, 27, 28, 16, 10, 100, 182, 1, 85, 172, 28]
abbrev dktX6_of_1 : List UInt8 := dkwX6_of_1 ++ dktX6_of_2
def dkwX6_of_0 : List UInt8 := [42, 27, 182, 1, 0, 154, 0, 7, 17, 216, 239, 172, 42, 28, 16, 10, 16, 9, 42, 180, 0, 7, 96]
abbrev dktX6_of_0 : List UInt8 := dkwX6_of_0 ++ dktX6_of_1
theorem dksX6_of_0 : cX6_of.data.toList.drop 0 = dktX6_of_0 := by decide +kernel
theorem dksX6_of_1 : cX6_of.data.toList.drop 23 = dktX6_of_1 := dk_seg dksX6_of_0 23 rfl rfl
theorem dksX6_of_2 : cX6_of.data.toList.drop 40 = dktX6_of_2 := dk_seg dksX6_of_1 17 rfl rfl
theorem dksX6_of_3 : cX6_of.data.toList.drop 84 = dktX6_of_3 := dk_seg dksX6_of_2 44 rfl rfl
theorem dksX6_of_4 : cX6_of.data.toList.drop 106 = dktX6_of_4 := dk_seg dksX6_of_3 22 rfl rfl
theorem dksX6_of_5 : cX6_of.data.toList.drop 128 = dktX6_of_5 := dk_seg dksX6_of_4 22 rfl rfl
theorem dX6_of_0 : decode cX6_of 0 = .ok (.aload_n 0, 1) := dk_42 (dk_at dksX6_of_0 0 rfl rfl)
theorem dX6_of_1 : decode cX6_of 1 = .ok (.iload_n 1, 1) := dk_27 (dk_at dksX6_of_0 1 rfl rfl)
theorem dX6_of_2 : decode cX6_of 2 = .ok (.invokevirtual 256, 3) := dk_182 1 0 (dk_at dksX6_of_0 2 rfl rfl)
theorem dX6_of_5 : decode cX6_of 5 = .ok (.ifCond .ne 7, 3) := dk_154 0 7 (dk_at dksX6_of_0 5 rfl rfl)
theorem dX6_of_8 : decode cX6_of 8 = .ok (.sipush (-10001), 3) := dk_17 216 239 (dk_at dksX6_of_0 8 rfl rfl)
theorem dX6_of_11 : decode cX6_of 11 = .ok (.ireturn, 1) := dk_172 (dk_at dksX6_of_0 11 rfl rfl)
theorem dX6_of_12 : decode cX6_of 12 = .ok (.aload_n 0, 1) := dk_42 (dk_at dksX6_of_0 12 rfl rfl)
theorem dX6_of_13 : decode cX6_of 13 = .ok (.iload_n 2, 1) := dk_28 (dk_at dksX6_of_0 13 rfl rfl)
theorem dX6_of_14 : decode cX6_of 14 = .ok (.bipush 10, 2) := dk_16 10 (dk_at dksX6_of_0 14 rfl rfl)
theorem dX6_of_16 : decode cX6_of 16 = .ok (.bipush 9, 2) := dk_16 9 (dk_at dksX6_of_0 16 rfl rfl)
theorem dX6_of_18 : decode cX6_of 18 = .ok (.aload_n 0, 1) := dk_42 (dk_at dksX6_of_0 18 rfl rfl)
theorem dX6_of_19 : decode cX6_of 19 = .ok (.getfield 7, 3) := dk_180 0 7 (dk_at dksX6_of_0 19 rfl rfl)
theorem dX6_of_22 : decode cX6_of 22 = .ok (.iadd, 1) := dk_96 (dk_at dksX6_of_0 22 rfl rfl)
theorem dX6_of_23 : decode cX6_of 23 = .ok (.invokevirtual 248, 3) := dk_182 0 248 (dk_at dksX6_of_1 0 rfl rfl)
theorem dX6_of_26 : decode cX6_of 26 = .ok (.ifCond .eq 13, 3) := dk_153 0 13 (dk_at dksX6_of_1 3 rfl rfl)
theorem dX6_of_29 : decode cX6_of 29 = .ok (.aload_n 0, 1) := dk_42 (dk_at dksX6_of_1 6 rfl rfl)
theorem dX6_of_30 : decode cX6_of 30 = .ok (.iload_n 1, 1) := dk_27 (dk_at dksX6_of_1 7 rfl rfl)
theorem dX6_of_31 : decode cX6_of 31 = .ok (.iload_n 2, 1) := dk_28 (dk_at dksX6_of_1 8 rfl rfl)
theorem dX6_of_32 : decode cX6_of 32 = .ok (.bipush 10, 2) := dk_16 10 (dk_at dksX6_of_1 9 rfl rfl)
theorem dX6_of_34 : decode cX6_of 34 = .ok (.isub, 1) := dk_100 (dk_at dksX6_of_1 11 rfl rfl)
theorem dX6_of_35 : decode cX6_of 35 = .ok (.invokevirtual 341, 3) := dk_182 1 85 (dk_at dksX6_of_1 12 rfl rfl)
theorem dX6_of_38 : decode cX6_of 38 = .ok (.ireturn, 1) := dk_172 (dk_at dksX6_of_1 15 rfl rfl)
theorem dX6_of_39 : decode cX6_of 39 = .ok (.iload_n 2, 1) := dk_28 (dk_at dksX6_of_1 16 rfl rfl)
theorem dX6_of_40 : decode cX6_of 40 = .ok (.tableswitch 92 0 6 #[44, 51, 58, 65, 72, 79, 86], 44) := by decide +kernel
theorem dX6_of_84 : decode cX6_of 84 = .ok (.aload_n 0, 1) := dk_42 (dk_at dksX6_of_3 0 rfl rfl)
theorem dX6_of_85 : decode cX6_of 85 = .ok (.getfield 29, 3) := dk_180 0 29 (dk_at dksX6_of_3 1 rfl rfl)
theorem dX6_of_88 : decode cX6_of 88 = .ok (.iload_n 1, 1) := dk_27 (dk_at dksX6_of_3 4 rfl rfl)
theorem dX6_of_89 : decode cX6_of 89 = .ok (.iaload, 1) := dk_46 (dk_at dksX6_of_3 5 rfl rfl)
theorem dX6_of_90 : decode cX6_of 90 = .ok (.ireturn, 1) := dk_172 (dk_at dksX6_of_3 6 rfl rfl)
theorem dX6_of_91 : decode cX6_of 91 = .ok (.aload_n 0, 1) := dk_42 (dk_at dksX6_of_3 7 rfl rfl)
theorem dX6_of_92 : decode cX6_of 92 = .ok (.getfield 32, 3) := dk_180 0 32 (dk_at dksX6_of_3 8 rfl rfl)
theorem dX6_of_95 : decode cX6_of 95 = .ok (.iload_n 1, 1) := dk_27 (dk_at dksX6_of_3 11 rfl rfl)
theorem dX6_of_96 : decode cX6_of 96 = .ok (.iaload, 1) := dk_46 (dk_at dksX6_of_3 12 rfl rfl)
theorem dX6_of_97 : decode cX6_of 97 = .ok (.ireturn, 1) := dk_172 (dk_at dksX6_of_3 13 rfl rfl)
theorem dX6_of_98 : decode cX6_of 98 = .ok (.aload_n 0, 1) := dk_42 (dk_at dksX6_of_3 14 rfl rfl)
theorem dX6_of_99 : decode cX6_of 99 = .ok (.getfield 35, 3) := dk_180 0 35 (dk_at dksX6_of_3 15 rfl rfl)
theorem dX6_of_102 : decode cX6_of 102 = .ok (.iload_n 1, 1) := dk_27 (dk_at dksX6_of_3 18 rfl rfl)
theorem dX6_of_103 : decode cX6_of 103 = .ok (.iaload, 1) := dk_46 (dk_at dksX6_of_3 19 rfl rfl)
theorem dX6_of_104 : decode cX6_of 104 = .ok (.ireturn, 1) := dk_172 (dk_at dksX6_of_3 20 rfl rfl)
theorem dX6_of_105 : decode cX6_of 105 = .ok (.aload_n 0, 1) := dk_42 (dk_at dksX6_of_3 21 rfl rfl)
theorem dX6_of_106 : decode cX6_of 106 = .ok (.getfield 38, 3) := dk_180 0 38 (dk_at dksX6_of_4 0 rfl rfl)
theorem dX6_of_109 : decode cX6_of 109 = .ok (.iload_n 1, 1) := dk_27 (dk_at dksX6_of_4 3 rfl rfl)
theorem dX6_of_110 : decode cX6_of 110 = .ok (.iaload, 1) := dk_46 (dk_at dksX6_of_4 4 rfl rfl)
theorem dX6_of_111 : decode cX6_of 111 = .ok (.ireturn, 1) := dk_172 (dk_at dksX6_of_4 5 rfl rfl)
theorem dX6_of_112 : decode cX6_of 112 = .ok (.aload_n 0, 1) := dk_42 (dk_at dksX6_of_4 6 rfl rfl)
theorem dX6_of_113 : decode cX6_of 113 = .ok (.getfield 41, 3) := dk_180 0 41 (dk_at dksX6_of_4 7 rfl rfl)
theorem dX6_of_116 : decode cX6_of 116 = .ok (.iload_n 1, 1) := dk_27 (dk_at dksX6_of_4 10 rfl rfl)
theorem dX6_of_117 : decode cX6_of 117 = .ok (.iaload, 1) := dk_46 (dk_at dksX6_of_4 11 rfl rfl)
theorem dX6_of_118 : decode cX6_of 118 = .ok (.ireturn, 1) := dk_172 (dk_at dksX6_of_4 12 rfl rfl)
theorem dX6_of_119 : decode cX6_of 119 = .ok (.aload_n 0, 1) := dk_42 (dk_at dksX6_of_4 13 rfl rfl)
theorem dX6_of_120 : decode cX6_of 120 = .ok (.getfield 44, 3) := dk_180 0 44 (dk_at dksX6_of_4 14 rfl rfl)
theorem dX6_of_123 : decode cX6_of 123 = .ok (.iload_n 1, 1) := dk_27 (dk_at dksX6_of_4 17 rfl rfl)
theorem dX6_of_124 : decode cX6_of 124 = .ok (.iaload, 1) := dk_46 (dk_at dksX6_of_4 18 rfl rfl)
theorem dX6_of_125 : decode cX6_of 125 = .ok (.ireturn, 1) := dk_172 (dk_at dksX6_of_4 19 rfl rfl)
theorem dX6_of_126 : decode cX6_of 126 = .ok (.aload_n 0, 1) := dk_42 (dk_at dksX6_of_4 20 rfl rfl)
theorem dX6_of_127 : decode cX6_of 127 = .ok (.iload_n 1, 1) := dk_27 (dk_at dksX6_of_4 21 rfl rfl)
theorem dX6_of_128 : decode cX6_of 128 = .ok (.invokevirtual 262, 3) := dk_182 1 6 (dk_at dksX6_of_5 0 rfl rfl)
theorem dX6_of_131 : decode cX6_of 131 = .ok (.ireturn, 1) := dk_172 (dk_at dksX6_of_5 3 rfl rfl)
theorem dX6_of_132 : decode cX6_of 132 = .ok (.sipush (-10001), 3) := dk_17 216 239 (dk_at dksX6_of_5 4 rfl rfl)
theorem dX6_of_135 : decode cX6_of 135 = .ok (.ireturn, 1) := dk_172 (dk_at dksX6_of_5 7 rfl rfl)
abbrev cX6_deed : ByteArray := prog_23_method_40_code
def yX6_deed : MethodName := ⟨RX6, "deed", "(II)I"⟩
def dkwX6_deed_8 : List UInt8 := [172, 29, 172]
abbrev dktX6_deed_8 : List UInt8 := dkwX6_deed_8 ++ []
def dkwX6_deed_7 : List UInt8 := [29, 42, 180, 0, 32, 27, 46, 96, 42, 180, 0, 47, 7, 27, 104, 42, 180, 0, 16, 7, 112, 96, 46, 96]
abbrev dktX6_deed_7 : List UInt8 := dkwX6_deed_7 ++ dktX6_deed_8
def dkwX6_deed_6 : List UInt8 := [100, 182, 1, 76, 42, 180, 0, 32, 27, 46, 100, 182, 1, 76, 172, 29, 42, 180, 0, 32, 27, 46, 96, 172]
abbrev dktX6_deed_6 : List UInt8 := dkwX6_deed_6 ++ dktX6_deed_7
def dkwX6_deed_5 : List UInt8 := [108, 100, 182, 1, 76, 172, 42, 3, 42, 3, 29, 42, 182, 1, 82, 42, 180, 0, 44, 27, 46, 104, 7, 108]
abbrev dktX6_deed_5 : List UInt8 := dkwX6_deed_5 ++ dktX6_deed_6
def dkwX6_deed_4 : List UInt8 := [158, 0, 7, 3, 167, 0, 4, 29, 172, 42, 3, 29, 42, 182, 1, 82, 42, 180, 0, 44, 27, 46, 104, 7]
abbrev dktX6_deed_4 : List UInt8 := dkwX6_deed_4 ++ dktX6_deed_5
def dkwX6_deed_3 : List UInt8 := [42, 3, 29, 5, 42, 27, 28, 182, 1, 79, 104, 100, 182, 1, 76, 172, 42, 27, 28, 182, 1, 79]
abbrev dktX6_deed_3 : List UInt8 := dkwX6_deed_3 ++ dktX6_deed_4
def dkwX6_deed_2 : List UInt8 := [170, 0, 0, 0, 0, 0, 158, 0, 0, 0, 1, 0, 0, 0, 6, 0, 0, 0, 39, 0, 0, 0, 70, 0, 0, 0, 124, 0, 0, 0, 55, 0, 0, 0, 91, 0, 0, 0, 133]
abbrev dktX6_deed_2 : List UInt8 := dkwX6_deed_2 ++ dktX6_deed_3
def dkwX6_deed_1 : List UInt8 := [46]
abbrev dktX6_deed_1 : List UInt8 := dkwX6_deed_1 ++ dktX6_deed_2
def dkwX6_deed_0 : List UInt8 := [42, 3, 42, 180, 0, 38, 27, 46, 42, 27, 28, 182, 1, 72, 96, 182, 1, 76, 62, 42, 180, 0, 29, 27]
abbrev dktX6_deed_0 : List UInt8 := dkwX6_deed_0 ++ dktX6_deed_1
theorem dksX6_deed_0 : cX6_deed.data.toList.drop 0 = dktX6_deed_0 := by decide +kernel
theorem dksX6_deed_1 : cX6_deed.data.toList.drop 24 = dktX6_deed_1 := dk_seg dksX6_deed_0 24 rfl rfl
theorem dksX6_deed_2 : cX6_deed.data.toList.drop 25 = dktX6_deed_2 := dk_seg dksX6_deed_1 1 rfl rfl
theorem dksX6_deed_3 : cX6_deed.data.toList.drop 64 = dktX6_deed_3 := dk_seg dksX6_deed_2 39 rfl rfl
theorem dksX6_deed_4 : cX6_deed.data.toList.drop 86 = dktX6_deed_4 := dk_seg dksX6_deed_3 22 rfl rfl
theorem dksX6_deed_5 : cX6_deed.data.toList.drop 110 = dktX6_deed_5 := dk_seg dksX6_deed_4 24 rfl rfl
theorem dksX6_deed_6 : cX6_deed.data.toList.drop 134 = dktX6_deed_6 := dk_seg dksX6_deed_5 24 rfl rfl
theorem dksX6_deed_7 : cX6_deed.data.toList.drop 158 = dktX6_deed_7 := dk_seg dksX6_deed_6 24 rfl rfl
theorem dksX6_deed_8 : cX6_deed.data.toList.drop 182 = dktX6_deed_8 := dk_seg dksX6_deed_7 24 rfl rfl
theorem dX6_deed_0 : decode cX6_deed 0 = .ok (.aload_n 0, 1) := dk_42 (dk_at dksX6_deed_0 0 rfl rfl)
theorem dX6_deed_1 : decode cX6_deed 1 = .ok (.iconst 0, 1) := dk_3 (dk_at dksX6_deed_0 1 rfl rfl)
theorem dX6_deed_2 : decode cX6_deed 2 = .ok (.aload_n 0, 1) := dk_42 (dk_at dksX6_deed_0 2 rfl rfl)
theorem dX6_deed_3 : decode cX6_deed 3 = .ok (.getfield 38, 3) := dk_180 0 38 (dk_at dksX6_deed_0 3 rfl rfl)
theorem dX6_deed_6 : decode cX6_deed 6 = .ok (.iload_n 1, 1) := dk_27 (dk_at dksX6_deed_0 6 rfl rfl)
theorem dX6_deed_7 : decode cX6_deed 7 = .ok (.iaload, 1) := dk_46 (dk_at dksX6_deed_0 7 rfl rfl)
theorem dX6_deed_8 : decode cX6_deed 8 = .ok (.aload_n 0, 1) := dk_42 (dk_at dksX6_deed_0 8 rfl rfl)
theorem dX6_deed_9 : decode cX6_deed 9 = .ok (.iload_n 1, 1) := dk_27 (dk_at dksX6_deed_0 9 rfl rfl)
theorem dX6_deed_10 : decode cX6_deed 10 = .ok (.iload_n 2, 1) := dk_28 (dk_at dksX6_deed_0 10 rfl rfl)
theorem dX6_deed_11 : decode cX6_deed 11 = .ok (.invokevirtual 328, 3) := dk_182 1 72 (dk_at dksX6_deed_0 11 rfl rfl)
theorem dX6_deed_14 : decode cX6_deed 14 = .ok (.iadd, 1) := dk_96 (dk_at dksX6_deed_0 14 rfl rfl)
theorem dX6_deed_15 : decode cX6_deed 15 = .ok (.invokevirtual 332, 3) := dk_182 1 76 (dk_at dksX6_deed_0 15 rfl rfl)
theorem dX6_deed_18 : decode cX6_deed 18 = .ok (.istore_n 3, 1) := dk_62 (dk_at dksX6_deed_0 18 rfl rfl)
theorem dX6_deed_19 : decode cX6_deed 19 = .ok (.aload_n 0, 1) := dk_42 (dk_at dksX6_deed_0 19 rfl rfl)
theorem dX6_deed_20 : decode cX6_deed 20 = .ok (.getfield 29, 3) := dk_180 0 29 (dk_at dksX6_deed_0 20 rfl rfl)
theorem dX6_deed_23 : decode cX6_deed 23 = .ok (.iload_n 1, 1) := dk_27 (dk_at dksX6_deed_0 23 rfl rfl)
theorem dX6_deed_24 : decode cX6_deed 24 = .ok (.iaload, 1) := dk_46 (dk_at dksX6_deed_1 0 rfl rfl)
theorem dX6_deed_25 : decode cX6_deed 25 = .ok (.tableswitch 158 1 6 #[39, 70, 124, 55, 91, 133], 39) := by decide +kernel
theorem dX6_deed_64 : decode cX6_deed 64 = .ok (.aload_n 0, 1) := dk_42 (dk_at dksX6_deed_3 0 rfl rfl)
theorem dX6_deed_65 : decode cX6_deed 65 = .ok (.iconst 0, 1) := dk_3 (dk_at dksX6_deed_3 1 rfl rfl)
theorem dX6_deed_66 : decode cX6_deed 66 = .ok (.iload_n 3, 1) := dk_29 (dk_at dksX6_deed_3 2 rfl rfl)
theorem dX6_deed_67 : decode cX6_deed 67 = .ok (.iconst 2, 1) := dk_5 (dk_at dksX6_deed_3 3 rfl rfl)
theorem dX6_deed_68 : decode cX6_deed 68 = .ok (.aload_n 0, 1) := dk_42 (dk_at dksX6_deed_3 4 rfl rfl)
theorem dX6_deed_69 : decode cX6_deed 69 = .ok (.iload_n 1, 1) := dk_27 (dk_at dksX6_deed_3 5 rfl rfl)
theorem dX6_deed_70 : decode cX6_deed 70 = .ok (.iload_n 2, 1) := dk_28 (dk_at dksX6_deed_3 6 rfl rfl)
theorem dX6_deed_71 : decode cX6_deed 71 = .ok (.invokevirtual 335, 3) := dk_182 1 79 (dk_at dksX6_deed_3 7 rfl rfl)
theorem dX6_deed_74 : decode cX6_deed 74 = .ok (.imul, 1) := dk_104 (dk_at dksX6_deed_3 10 rfl rfl)
theorem dX6_deed_75 : decode cX6_deed 75 = .ok (.isub, 1) := dk_100 (dk_at dksX6_deed_3 11 rfl rfl)
theorem dX6_deed_76 : decode cX6_deed 76 = .ok (.invokevirtual 332, 3) := dk_182 1 76 (dk_at dksX6_deed_3 12 rfl rfl)
theorem dX6_deed_79 : decode cX6_deed 79 = .ok (.ireturn, 1) := dk_172 (dk_at dksX6_deed_3 15 rfl rfl)
theorem dX6_deed_80 : decode cX6_deed 80 = .ok (.aload_n 0, 1) := dk_42 (dk_at dksX6_deed_3 16 rfl rfl)
theorem dX6_deed_81 : decode cX6_deed 81 = .ok (.iload_n 1, 1) := dk_27 (dk_at dksX6_deed_3 17 rfl rfl)
theorem dX6_deed_82 : decode cX6_deed 82 = .ok (.iload_n 2, 1) := dk_28 (dk_at dksX6_deed_3 18 rfl rfl)
theorem dX6_deed_83 : decode cX6_deed 83 = .ok (.invokevirtual 335, 3) := dk_182 1 79 (dk_at dksX6_deed_3 19 rfl rfl)
theorem dX6_deed_86 : decode cX6_deed 86 = .ok (.ifCond .le 7, 3) := dk_158 0 7 (dk_at dksX6_deed_4 0 rfl rfl)
theorem dX6_deed_89 : decode cX6_deed 89 = .ok (.iconst 0, 1) := dk_3 (dk_at dksX6_deed_4 3 rfl rfl)
theorem dX6_deed_90 : decode cX6_deed 90 = .ok (.goto 4, 3) := dk_167 0 4 (dk_at dksX6_deed_4 4 rfl rfl)
theorem dX6_deed_93 : decode cX6_deed 93 = .ok (.iload_n 3, 1) := dk_29 (dk_at dksX6_deed_4 7 rfl rfl)
theorem dX6_deed_94 : decode cX6_deed 94 = .ok (.ireturn, 1) := dk_172 (dk_at dksX6_deed_4 8 rfl rfl)
theorem dX6_deed_95 : decode cX6_deed 95 = .ok (.aload_n 0, 1) := dk_42 (dk_at dksX6_deed_4 9 rfl rfl)
theorem dX6_deed_96 : decode cX6_deed 96 = .ok (.iconst 0, 1) := dk_3 (dk_at dksX6_deed_4 10 rfl rfl)
theorem dX6_deed_97 : decode cX6_deed 97 = .ok (.iload_n 3, 1) := dk_29 (dk_at dksX6_deed_4 11 rfl rfl)
theorem dX6_deed_98 : decode cX6_deed 98 = .ok (.aload_n 0, 1) := dk_42 (dk_at dksX6_deed_4 12 rfl rfl)
theorem dX6_deed_99 : decode cX6_deed 99 = .ok (.invokevirtual 338, 3) := dk_182 1 82 (dk_at dksX6_deed_4 13 rfl rfl)
theorem dX6_deed_102 : decode cX6_deed 102 = .ok (.aload_n 0, 1) := dk_42 (dk_at dksX6_deed_4 16 rfl rfl)
theorem dX6_deed_103 : decode cX6_deed 103 = .ok (.getfield 44, 3) := dk_180 0 44 (dk_at dksX6_deed_4 17 rfl rfl)
theorem dX6_deed_106 : decode cX6_deed 106 = .ok (.iload_n 1, 1) := dk_27 (dk_at dksX6_deed_4 20 rfl rfl)
theorem dX6_deed_107 : decode cX6_deed 107 = .ok (.iaload, 1) := dk_46 (dk_at dksX6_deed_4 21 rfl rfl)
theorem dX6_deed_108 : decode cX6_deed 108 = .ok (.imul, 1) := dk_104 (dk_at dksX6_deed_4 22 rfl rfl)
theorem dX6_deed_109 : decode cX6_deed 109 = .ok (.iconst 4, 1) := dk_7 (dk_at dksX6_deed_4 23 rfl rfl)
theorem dX6_deed_110 : decode cX6_deed 110 = .ok (.idiv, 1) := dk_108 (dk_at dksX6_deed_5 0 rfl rfl)
theorem dX6_deed_111 : decode cX6_deed 111 = .ok (.isub, 1) := dk_100 (dk_at dksX6_deed_5 1 rfl rfl)
theorem dX6_deed_112 : decode cX6_deed 112 = .ok (.invokevirtual 332, 3) := dk_182 1 76 (dk_at dksX6_deed_5 2 rfl rfl)
theorem dX6_deed_115 : decode cX6_deed 115 = .ok (.ireturn, 1) := dk_172 (dk_at dksX6_deed_5 5 rfl rfl)
theorem dX6_deed_116 : decode cX6_deed 116 = .ok (.aload_n 0, 1) := dk_42 (dk_at dksX6_deed_5 6 rfl rfl)
theorem dX6_deed_117 : decode cX6_deed 117 = .ok (.iconst 0, 1) := dk_3 (dk_at dksX6_deed_5 7 rfl rfl)
theorem dX6_deed_118 : decode cX6_deed 118 = .ok (.aload_n 0, 1) := dk_42 (dk_at dksX6_deed_5 8 rfl rfl)
theorem dX6_deed_119 : decode cX6_deed 119 = .ok (.iconst 0, 1) := dk_3 (dk_at dksX6_deed_5 9 rfl rfl)
theorem dX6_deed_120 : decode cX6_deed 120 = .ok (.iload_n 3, 1) := dk_29 (dk_at dksX6_deed_5 10 rfl rfl)
theorem dX6_deed_121 : decode cX6_deed 121 = .ok (.aload_n 0, 1) := dk_42 (dk_at dksX6_deed_5 11 rfl rfl)
theorem dX6_deed_122 : decode cX6_deed 122 = .ok (.invokevirtual 338, 3) := dk_182 1 82 (dk_at dksX6_deed_5 12 rfl rfl)
theorem dX6_deed_125 : decode cX6_deed 125 = .ok (.aload_n 0, 1) := dk_42 (dk_at dksX6_deed_5 15 rfl rfl)
theorem dX6_deed_126 : decode cX6_deed 126 = .ok (.getfield 44, 3) := dk_180 0 44 (dk_at dksX6_deed_5 16 rfl rfl)
theorem dX6_deed_129 : decode cX6_deed 129 = .ok (.iload_n 1, 1) := dk_27 (dk_at dksX6_deed_5 19 rfl rfl)
theorem dX6_deed_130 : decode cX6_deed 130 = .ok (.iaload, 1) := dk_46 (dk_at dksX6_deed_5 20 rfl rfl)
theorem dX6_deed_131 : decode cX6_deed 131 = .ok (.imul, 1) := dk_104 (dk_at dksX6_deed_5 21 rfl rfl)
theorem dX6_deed_132 : decode cX6_deed 132 = .ok (.iconst 4, 1) := dk_7 (dk_at dksX6_deed_5 22 rfl rfl)
theorem dX6_deed_133 : decode cX6_deed 133 = .ok (.idiv, 1) := dk_108 (dk_at dksX6_deed_5 23 rfl rfl)
theorem dX6_deed_134 : decode cX6_deed 134 = .ok (.isub, 1) := dk_100 (dk_at dksX6_deed_6 0 rfl rfl)
theorem dX6_deed_135 : decode cX6_deed 135 = .ok (.invokevirtual 332, 3) := dk_182 1 76 (dk_at dksX6_deed_6 1 rfl rfl)
theorem dX6_deed_138 : decode cX6_deed 138 = .ok (.aload_n 0, 1) := dk_42 (dk_at dksX6_deed_6 4 rfl rfl)
theorem dX6_deed_139 : decode cX6_deed 139 = .ok (.getfield 32, 3) := dk_180 0 32 (dk_at dksX6_deed_6 5 rfl rfl)
theorem dX6_deed_142 : decode cX6_deed 142 = .ok (.iload_n 1, 1) := dk_27 (dk_at dksX6_deed_6 8 rfl rfl)
theorem dX6_deed_143 : decode cX6_deed 143 = .ok (.iaload, 1) := dk_46 (dk_at dksX6_deed_6 9 rfl rfl)
theorem dX6_deed_144 : decode cX6_deed 144 = .ok (.isub, 1) := dk_100 (dk_at dksX6_deed_6 10 rfl rfl)
theorem dX6_deed_145 : decode cX6_deed 145 = .ok (.invokevirtual 332, 3) := dk_182 1 76 (dk_at dksX6_deed_6 11 rfl rfl)
theorem dX6_deed_148 : decode cX6_deed 148 = .ok (.ireturn, 1) := dk_172 (dk_at dksX6_deed_6 14 rfl rfl)
theorem dX6_deed_149 : decode cX6_deed 149 = .ok (.iload_n 3, 1) := dk_29 (dk_at dksX6_deed_6 15 rfl rfl)
theorem dX6_deed_150 : decode cX6_deed 150 = .ok (.aload_n 0, 1) := dk_42 (dk_at dksX6_deed_6 16 rfl rfl)
theorem dX6_deed_151 : decode cX6_deed 151 = .ok (.getfield 32, 3) := dk_180 0 32 (dk_at dksX6_deed_6 17 rfl rfl)
theorem dX6_deed_154 : decode cX6_deed 154 = .ok (.iload_n 1, 1) := dk_27 (dk_at dksX6_deed_6 20 rfl rfl)
theorem dX6_deed_155 : decode cX6_deed 155 = .ok (.iaload, 1) := dk_46 (dk_at dksX6_deed_6 21 rfl rfl)
theorem dX6_deed_156 : decode cX6_deed 156 = .ok (.iadd, 1) := dk_96 (dk_at dksX6_deed_6 22 rfl rfl)
theorem dX6_deed_157 : decode cX6_deed 157 = .ok (.ireturn, 1) := dk_172 (dk_at dksX6_deed_6 23 rfl rfl)
theorem dX6_deed_158 : decode cX6_deed 158 = .ok (.iload_n 3, 1) := dk_29 (dk_at dksX6_deed_7 0 rfl rfl)
theorem dX6_deed_159 : decode cX6_deed 159 = .ok (.aload_n 0, 1) := dk_42 (dk_at dksX6_deed_7 1 rfl rfl)
theorem dX6_deed_160 : decode cX6_deed 160 = .ok (.getfield 32, 3) := dk_180 0 32 (dk_at dksX6_deed_7 2 rfl rfl)
theorem dX6_deed_163 : decode cX6_deed 163 = .ok (.iload_n 1, 1) := dk_27 (dk_at dksX6_deed_7 5 rfl rfl)
theorem dX6_deed_164 : decode cX6_deed 164 = .ok (.iaload, 1) := dk_46 (dk_at dksX6_deed_7 6 rfl rfl)
theorem dX6_deed_165 : decode cX6_deed 165 = .ok (.iadd, 1) := dk_96 (dk_at dksX6_deed_7 7 rfl rfl)
theorem dX6_deed_166 : decode cX6_deed 166 = .ok (.aload_n 0, 1) := dk_42 (dk_at dksX6_deed_7 8 rfl rfl)
theorem dX6_deed_167 : decode cX6_deed 167 = .ok (.getfield 47, 3) := dk_180 0 47 (dk_at dksX6_deed_7 9 rfl rfl)
theorem dX6_deed_170 : decode cX6_deed 170 = .ok (.iconst 4, 1) := dk_7 (dk_at dksX6_deed_7 12 rfl rfl)
theorem dX6_deed_171 : decode cX6_deed 171 = .ok (.iload_n 1, 1) := dk_27 (dk_at dksX6_deed_7 13 rfl rfl)
theorem dX6_deed_172 : decode cX6_deed 172 = .ok (.imul, 1) := dk_104 (dk_at dksX6_deed_7 14 rfl rfl)
theorem dX6_deed_173 : decode cX6_deed 173 = .ok (.aload_n 0, 1) := dk_42 (dk_at dksX6_deed_7 15 rfl rfl)
theorem dX6_deed_174 : decode cX6_deed 174 = .ok (.getfield 16, 3) := dk_180 0 16 (dk_at dksX6_deed_7 16 rfl rfl)
theorem dX6_deed_177 : decode cX6_deed 177 = .ok (.iconst 4, 1) := dk_7 (dk_at dksX6_deed_7 19 rfl rfl)
theorem dX6_deed_178 : decode cX6_deed 178 = .ok (.irem, 1) := dk_112 (dk_at dksX6_deed_7 20 rfl rfl)
theorem dX6_deed_179 : decode cX6_deed 179 = .ok (.iadd, 1) := dk_96 (dk_at dksX6_deed_7 21 rfl rfl)
theorem dX6_deed_180 : decode cX6_deed 180 = .ok (.iaload, 1) := dk_46 (dk_at dksX6_deed_7 22 rfl rfl)
theorem dX6_deed_181 : decode cX6_deed 181 = .ok (.iadd, 1) := dk_96 (dk_at dksX6_deed_7 23 rfl rfl)
theorem dX6_deed_182 : decode cX6_deed 182 = .ok (.ireturn, 1) := dk_172 (dk_at dksX6_deed_8 0 rfl rfl)
theorem dX6_deed_183 : decode cX6_deed 183 = .ok (.iload_n 3, 1) := dk_29 (dk_at dksX6_deed_8 1 rfl rfl)
theorem dX6_deed_184 : decode cX6_deed 184 = .ok (.ireturn, 1) := dk_172 (dk_at dksX6_deed_8 2 rfl rfl)
abbrev cX6_fits : ByteArray := prog_23_method_38_code
def yX6_fits : MethodName := ⟨RX6, "fits", "(II)I"⟩
def dkwX6_fits_3 : List UInt8 := [96, 62, 132, 4, 1, 167, 255, 188, 29, 172]
abbrev dktX6_fits_3 : List UInt8 := dkwX6_fits_3 ++ []
def dkwX6_fits_2 : List UInt8 := [21, 4, 46, 154, 0, 13, 42, 180, 0, 77, 21, 4, 46, 167, 0, 11, 42, 180, 0, 77, 21, 4, 46, 116]
abbrev dktX6_fits_2 : List UInt8 := dkwX6_fits_2 ++ dktX6_fits_3
def dkwX6_fits_1 : List UInt8 := [4, 163, 0, 48, 42, 21, 4, 27, 28, 182, 1, 69, 154, 0, 6, 167, 0, 34, 29, 42, 180, 0, 74]
abbrev dktX6_fits_1 : List UInt8 := dkwX6_fits_1 ++ dktX6_fits_2
def dkwX6_fits_0 : List UInt8 := [3, 62, 42, 182, 1, 59, 54, 4, 21, 4, 42, 182, 1, 62, 162, 0, 65, 42, 180, 0, 74, 21, 4, 46]
abbrev dktX6_fits_0 : List UInt8 := dkwX6_fits_0 ++ dktX6_fits_1
theorem dksX6_fits_0 : cX6_fits.data.toList.drop 0 = dktX6_fits_0 := by decide +kernel
theorem dksX6_fits_1 : cX6_fits.data.toList.drop 24 = dktX6_fits_1 := dk_seg dksX6_fits_0 24 rfl rfl
theorem dksX6_fits_2 : cX6_fits.data.toList.drop 47 = dktX6_fits_2 := dk_seg dksX6_fits_1 23 rfl rfl
theorem dksX6_fits_3 : cX6_fits.data.toList.drop 71 = dktX6_fits_3 := dk_seg dksX6_fits_2 24 rfl rfl
theorem dX6_fits_0 : decode cX6_fits 0 = .ok (.iconst 0, 1) := dk_3 (dk_at dksX6_fits_0 0 rfl rfl)
theorem dX6_fits_1 : decode cX6_fits 1 = .ok (.istore_n 3, 1) := dk_62 (dk_at dksX6_fits_0 1 rfl rfl)
theorem dX6_fits_2 : decode cX6_fits 2 = .ok (.aload_n 0, 1) := dk_42 (dk_at dksX6_fits_0 2 rfl rfl)
theorem dX6_fits_3 : decode cX6_fits 3 = .ok (.invokevirtual 315, 3) := dk_182 1 59 (dk_at dksX6_fits_0 3 rfl rfl)
theorem dX6_fits_6 : decode cX6_fits 6 = .ok (.istore 4, 2) := dk_54 4 (dk_at dksX6_fits_0 6 rfl rfl)
theorem dX6_fits_8 : decode cX6_fits 8 = .ok (.iload 4, 2) := dk_21 4 (dk_at dksX6_fits_0 8 rfl rfl)
theorem dX6_fits_10 : decode cX6_fits 10 = .ok (.aload_n 0, 1) := dk_42 (dk_at dksX6_fits_0 10 rfl rfl)
theorem dX6_fits_11 : decode cX6_fits 11 = .ok (.invokevirtual 318, 3) := dk_182 1 62 (dk_at dksX6_fits_0 11 rfl rfl)
theorem dX6_fits_14 : decode cX6_fits 14 = .ok (.if_icmp .ge 65, 3) := dk_162 0 65 (dk_at dksX6_fits_0 14 rfl rfl)
theorem dX6_fits_17 : decode cX6_fits 17 = .ok (.aload_n 0, 1) := dk_42 (dk_at dksX6_fits_0 17 rfl rfl)
theorem dX6_fits_18 : decode cX6_fits 18 = .ok (.getfield 74, 3) := dk_180 0 74 (dk_at dksX6_fits_0 18 rfl rfl)
theorem dX6_fits_21 : decode cX6_fits 21 = .ok (.iload 4, 2) := dk_21 4 (dk_at dksX6_fits_0 21 rfl rfl)
theorem dX6_fits_23 : decode cX6_fits 23 = .ok (.iaload, 1) := dk_46 (dk_at dksX6_fits_0 23 rfl rfl)
theorem dX6_fits_24 : decode cX6_fits 24 = .ok (.iconst 1, 1) := dk_4 (dk_at dksX6_fits_1 0 rfl rfl)
theorem dX6_fits_25 : decode cX6_fits 25 = .ok (.if_icmp .gt 48, 3) := dk_163 0 48 (dk_at dksX6_fits_1 1 rfl rfl)
theorem dX6_fits_28 : decode cX6_fits 28 = .ok (.aload_n 0, 1) := dk_42 (dk_at dksX6_fits_1 4 rfl rfl)
theorem dX6_fits_29 : decode cX6_fits 29 = .ok (.iload 4, 2) := dk_21 4 (dk_at dksX6_fits_1 5 rfl rfl)
theorem dX6_fits_31 : decode cX6_fits 31 = .ok (.iload_n 1, 1) := dk_27 (dk_at dksX6_fits_1 7 rfl rfl)
theorem dX6_fits_32 : decode cX6_fits 32 = .ok (.iload_n 2, 1) := dk_28 (dk_at dksX6_fits_1 8 rfl rfl)
theorem dX6_fits_33 : decode cX6_fits 33 = .ok (.invokevirtual 325, 3) := dk_182 1 69 (dk_at dksX6_fits_1 9 rfl rfl)
theorem dX6_fits_36 : decode cX6_fits 36 = .ok (.ifCond .ne 6, 3) := dk_154 0 6 (dk_at dksX6_fits_1 12 rfl rfl)
theorem dX6_fits_39 : decode cX6_fits 39 = .ok (.goto 34, 3) := dk_167 0 34 (dk_at dksX6_fits_1 15 rfl rfl)
theorem dX6_fits_42 : decode cX6_fits 42 = .ok (.iload_n 3, 1) := dk_29 (dk_at dksX6_fits_1 18 rfl rfl)
theorem dX6_fits_43 : decode cX6_fits 43 = .ok (.aload_n 0, 1) := dk_42 (dk_at dksX6_fits_1 19 rfl rfl)
theorem dX6_fits_44 : decode cX6_fits 44 = .ok (.getfield 74, 3) := dk_180 0 74 (dk_at dksX6_fits_1 20 rfl rfl)
theorem dX6_fits_47 : decode cX6_fits 47 = .ok (.iload 4, 2) := dk_21 4 (dk_at dksX6_fits_2 0 rfl rfl)
theorem dX6_fits_49 : decode cX6_fits 49 = .ok (.iaload, 1) := dk_46 (dk_at dksX6_fits_2 2 rfl rfl)
theorem dX6_fits_50 : decode cX6_fits 50 = .ok (.ifCond .ne 13, 3) := dk_154 0 13 (dk_at dksX6_fits_2 3 rfl rfl)
theorem dX6_fits_53 : decode cX6_fits 53 = .ok (.aload_n 0, 1) := dk_42 (dk_at dksX6_fits_2 6 rfl rfl)
theorem dX6_fits_54 : decode cX6_fits 54 = .ok (.getfield 77, 3) := dk_180 0 77 (dk_at dksX6_fits_2 7 rfl rfl)
theorem dX6_fits_57 : decode cX6_fits 57 = .ok (.iload 4, 2) := dk_21 4 (dk_at dksX6_fits_2 10 rfl rfl)
theorem dX6_fits_59 : decode cX6_fits 59 = .ok (.iaload, 1) := dk_46 (dk_at dksX6_fits_2 12 rfl rfl)
theorem dX6_fits_60 : decode cX6_fits 60 = .ok (.goto 11, 3) := dk_167 0 11 (dk_at dksX6_fits_2 13 rfl rfl)
theorem dX6_fits_63 : decode cX6_fits 63 = .ok (.aload_n 0, 1) := dk_42 (dk_at dksX6_fits_2 16 rfl rfl)
theorem dX6_fits_64 : decode cX6_fits 64 = .ok (.getfield 77, 3) := dk_180 0 77 (dk_at dksX6_fits_2 17 rfl rfl)
theorem dX6_fits_67 : decode cX6_fits 67 = .ok (.iload 4, 2) := dk_21 4 (dk_at dksX6_fits_2 20 rfl rfl)
theorem dX6_fits_69 : decode cX6_fits 69 = .ok (.iaload, 1) := dk_46 (dk_at dksX6_fits_2 22 rfl rfl)
theorem dX6_fits_70 : decode cX6_fits 70 = .ok (.ineg, 1) := dk_116 (dk_at dksX6_fits_2 23 rfl rfl)
theorem dX6_fits_71 : decode cX6_fits 71 = .ok (.iadd, 1) := dk_96 (dk_at dksX6_fits_3 0 rfl rfl)
theorem dX6_fits_72 : decode cX6_fits 72 = .ok (.istore_n 3, 1) := dk_62 (dk_at dksX6_fits_3 1 rfl rfl)
theorem dX6_fits_73 : decode cX6_fits 73 = .ok (.iinc 4 1, 3) := dk_132 4 1 (dk_at dksX6_fits_3 2 rfl rfl)
theorem dX6_fits_76 : decode cX6_fits 76 = .ok (.goto (-68), 3) := dk_167 255 188 (dk_at dksX6_fits_3 5 rfl rfl)
theorem dX6_fits_79 : decode cX6_fits 79 = .ok (.iload_n 3, 1) := dk_29 (dk_at dksX6_fits_3 8 rfl rfl)
theorem dX6_fits_80 : decode cX6_fits 80 = .ok (.ireturn, 1) := dk_172 (dk_at dksX6_fits_3 9 rfl rfl)
abbrev cX6_begin : ByteArray := prog_23_method_32_code
def yX6_begin : MethodName := ⟨RX6, "begin", "()I"⟩
def dkwX6_begin_0 : List UInt8 := [42, 180, 0, 56, 156, 0, 7, 3, 167, 0, 10, 16, 10, 42, 180, 0, 56, 104, 172]
abbrev dktX6_begin_0 : List UInt8 := dkwX6_begin_0 ++ []
theorem dksX6_begin_0 : cX6_begin.data.toList.drop 0 = dktX6_begin_0 := by decide +kernel
theorem dX6_begin_0 : decode cX6_begin 0 = .ok (.aload_n 0, 1) := dk_42 (dk_at dksX6_begin_0 0 rfl rfl)
theorem dX6_begin_1 : decode cX6_begin 1 = .ok (.getfield 56, 3) := dk_180 0 56 (dk_at dksX6_begin_0 1 rfl rfl)
theorem dX6_begin_4 : decode cX6_begin 4 = .ok (.ifCond .ge 7, 3) := dk_156 0 7 (dk_at dksX6_begin_0 4 rfl rfl)
theorem dX6_begin_7 : decode cX6_begin 7 = .ok (.iconst 0, 1) := dk_3 (dk_at dksX6_begin_0 7 rfl rfl)
theorem dX6_begin_8 : decode cX6_begin 8 = .ok (.goto 10, 3) := dk_167 0 10 (dk_at dksX6_begin_0 8 rfl rfl)
theorem dX6_begin_11 : decode cX6_begin 11 = .ok (.bipush 10, 2) := dk_16 10 (dk_at dksX6_begin_0 11 rfl rfl)
theorem dX6_begin_13 : decode cX6_begin 13 = .ok (.aload_n 0, 1) := dk_42 (dk_at dksX6_begin_0 13 rfl rfl)
theorem dX6_begin_14 : decode cX6_begin 14 = .ok (.getfield 56, 3) := dk_180 0 56 (dk_at dksX6_begin_0 14 rfl rfl)
theorem dX6_begin_17 : decode cX6_begin 17 = .ok (.imul, 1) := dk_104 (dk_at dksX6_begin_0 17 rfl rfl)
theorem dX6_begin_18 : decode cX6_begin 18 = .ok (.ireturn, 1) := dk_172 (dk_at dksX6_begin_0 18 rfl rfl)
abbrev cX6_behind : ByteArray := prog_23_method_33_code
def yX6_behind : MethodName := ⟨RX6, "behind", "()I"⟩
def dkwX6_behind_1 : List UInt8 := [180, 0, 56, 46, 96, 172]
abbrev dktX6_behind_1 : List UInt8 := dkwX6_behind_1 ++ []
def dkwX6_behind_0 : List UInt8 := [42, 180, 0, 56, 156, 0, 7, 3, 167, 0, 20, 16, 10, 42, 180, 0, 56, 104, 42, 180, 0, 71, 42]
abbrev dktX6_behind_0 : List UInt8 := dkwX6_behind_0 ++ dktX6_behind_1
theorem dksX6_behind_0 : cX6_behind.data.toList.drop 0 = dktX6_behind_0 := by decide +kernel
theorem dksX6_behind_1 : cX6_behind.data.toList.drop 23 = dktX6_behind_1 := dk_seg dksX6_behind_0 23 rfl rfl
theorem dX6_behind_0 : decode cX6_behind 0 = .ok (.aload_n 0, 1) := dk_42 (dk_at dksX6_behind_0 0 rfl rfl)
theorem dX6_behind_1 : decode cX6_behind 1 = .ok (.getfield 56, 3) := dk_180 0 56 (dk_at dksX6_behind_0 1 rfl rfl)
theorem dX6_behind_4 : decode cX6_behind 4 = .ok (.ifCond .ge 7, 3) := dk_156 0 7 (dk_at dksX6_behind_0 4 rfl rfl)
theorem dX6_behind_7 : decode cX6_behind 7 = .ok (.iconst 0, 1) := dk_3 (dk_at dksX6_behind_0 7 rfl rfl)
theorem dX6_behind_8 : decode cX6_behind 8 = .ok (.goto 20, 3) := dk_167 0 20 (dk_at dksX6_behind_0 8 rfl rfl)
theorem dX6_behind_11 : decode cX6_behind 11 = .ok (.bipush 10, 2) := dk_16 10 (dk_at dksX6_behind_0 11 rfl rfl)
theorem dX6_behind_13 : decode cX6_behind 13 = .ok (.aload_n 0, 1) := dk_42 (dk_at dksX6_behind_0 13 rfl rfl)
theorem dX6_behind_14 : decode cX6_behind 14 = .ok (.getfield 56, 3) := dk_180 0 56 (dk_at dksX6_behind_0 14 rfl rfl)
theorem dX6_behind_17 : decode cX6_behind 17 = .ok (.imul, 1) := dk_104 (dk_at dksX6_behind_0 17 rfl rfl)
theorem dX6_behind_18 : decode cX6_behind 18 = .ok (.aload_n 0, 1) := dk_42 (dk_at dksX6_behind_0 18 rfl rfl)
theorem dX6_behind_19 : decode cX6_behind 19 = .ok (.getfield 71, 3) := dk_180 0 71 (dk_at dksX6_behind_0 19 rfl rfl)
theorem dX6_behind_22 : decode cX6_behind 22 = .ok (.aload_n 0, 1) := dk_42 (dk_at dksX6_behind_0 22 rfl rfl)
theorem dX6_behind_23 : decode cX6_behind 23 = .ok (.getfield 56, 3) := dk_180 0 56 (dk_at dksX6_behind_1 0 rfl rfl)
theorem dX6_behind_26 : decode cX6_behind 26 = .ok (.iaload, 1) := dk_46 (dk_at dksX6_behind_1 3 rfl rfl)
theorem dX6_behind_27 : decode cX6_behind 27 = .ok (.iadd, 1) := dk_96 (dk_at dksX6_behind_1 4 rfl rfl)
theorem dX6_behind_28 : decode cX6_behind 28 = .ok (.ireturn, 1) := dk_172 (dk_at dksX6_behind_1 5 rfl rfl)
abbrev cX6_holds : ByteArray := prog_23_method_37_code
def yX6_holds : MethodName := ⟨RX6, "holds", "(III)Z"⟩
def dkwX6_holds_11 : List UInt8 := [180, 0, 107, 3, 51, 172]
abbrev dktX6_holds_11 : List UInt8 := dkwX6_holds_11 ++ []
def dkwX6_holds_10 : List UInt8 := [21, 6, 16, 100, 112, 164, 0, 7, 4, 167, 0, 4, 3, 84, 132, 4, 1, 132, 5, 1, 167, 255, 17, 42]
abbrev dktX6_holds_10 : List UInt8 := dkwX6_holds_10 ++ dktX6_holds_11
def dkwX6_holds_9 : List UInt8 := [160, 0, 21, 21, 7, 21, 6, 16, 100, 112, 160, 0, 7, 4, 167, 0, 22, 3, 167, 0, 18, 21, 7]
abbrev dktX6_holds_9 : List UInt8 := dkwX6_holds_9 ++ dktX6_holds_10
def dkwX6_holds_8 : List UInt8 := [154, 0, 21, 21, 7, 21, 6, 16, 100, 112, 162, 0, 7, 4, 167, 0, 46, 3, 167, 0, 42, 21, 8, 4]
abbrev dktX6_holds_8 : List UInt8 := dkwX6_holds_8 ++ dktX6_holds_9
def dkwX6_holds_7 : List UInt8 := [182, 1, 65, 54, 7, 21, 6, 16, 100, 108, 16, 10, 112, 54, 8, 42, 180, 0, 107, 21, 4, 21, 8]
abbrev dktX6_holds_7 : List UInt8 := dkwX6_holds_7 ++ dktX6_holds_8
def dkwX6_holds_6 : List UInt8 := [21, 4, 51, 153, 0, 7, 4, 167, 0, 4, 3, 84, 167, 0, 99, 42, 21, 6, 17, 3, 232, 108, 28, 29]
abbrev dktX6_holds_6 : List UInt8 := dkwX6_holds_6 ++ dktX6_holds_7
def dkwX6_holds_5 : List UInt8 := [167, 0, 34, 3, 167, 0, 30, 42, 180, 0, 107, 21, 4, 4, 100, 51, 154, 0, 13, 42, 180, 0, 107]
abbrev dktX6_holds_5 : List UInt8 := dkwX6_holds_5 ++ dktX6_holds_6
def dkwX6_holds_4 : List UInt8 := [180, 0, 107, 21, 4, 4, 100, 51, 153, 0, 17, 42, 180, 0, 107, 21, 4, 51, 153, 0, 7, 4]
abbrev dktX6_holds_4 : List UInt8 := dkwX6_holds_4 ++ dktX6_holds_5
def dkwX6_holds_3 : List UInt8 := [156, 0, 82, 132, 4, 255, 42, 180, 0, 107, 21, 4, 4, 100, 21, 6, 16, 218, 160, 0, 33, 42]
abbrev dktX6_holds_3 : List UInt8 := dkwX6_holds_3 ++ dktX6_holds_4
def dkwX6_holds_2 : List UInt8 := [180, 0, 107, 21, 4, 4, 100, 51, 154, 0, 7, 4, 167, 0, 4, 3, 84, 167, 0, 183, 21, 6]
abbrev dktX6_holds_2 : List UInt8 := dkwX6_holds_2 ++ dktX6_holds_3
def dkwX6_holds_1 : List UInt8 := [180, 0, 89, 21, 5, 46, 54, 6, 21, 6, 16, 223, 160, 0, 32, 42, 180, 0, 107, 21, 4, 4, 100, 42]
abbrev dktX6_holds_1 : List UInt8 := dkwX6_holds_1 ++ dktX6_holds_2
def dkwX6_holds_0 : List UInt8 := [3, 54, 4, 42, 180, 0, 83, 27, 46, 54, 5, 21, 5, 42, 180, 0, 86, 27, 46, 162, 0, 234, 42]
abbrev dktX6_holds_0 : List UInt8 := dkwX6_holds_0 ++ dktX6_holds_1
theorem dksX6_holds_0 : cX6_holds.data.toList.drop 0 = dktX6_holds_0 := by decide +kernel
theorem dksX6_holds_1 : cX6_holds.data.toList.drop 23 = dktX6_holds_1 := dk_seg dksX6_holds_0 23 rfl rfl
theorem dksX6_holds_2 : cX6_holds.data.toList.drop 47 = dktX6_holds_2 := dk_seg dksX6_holds_1 24 rfl rfl
theorem dksX6_holds_3 : cX6_holds.data.toList.drop 69 = dktX6_holds_3 := dk_seg dksX6_holds_2 22 rfl rfl
theorem dksX6_holds_4 : cX6_holds.data.toList.drop 91 = dktX6_holds_4 := dk_seg dksX6_holds_3 22 rfl rfl
theorem dksX6_holds_5 : cX6_holds.data.toList.drop 113 = dktX6_holds_5 := dk_seg dksX6_holds_4 22 rfl rfl
theorem dksX6_holds_6 : cX6_holds.data.toList.drop 136 = dktX6_holds_6 := dk_seg dksX6_holds_5 23 rfl rfl
theorem dksX6_holds_7 : cX6_holds.data.toList.drop 160 = dktX6_holds_7 := dk_seg dksX6_holds_6 24 rfl rfl
theorem dksX6_holds_8 : cX6_holds.data.toList.drop 183 = dktX6_holds_8 := dk_seg dksX6_holds_7 23 rfl rfl
theorem dksX6_holds_9 : cX6_holds.data.toList.drop 207 = dktX6_holds_9 := dk_seg dksX6_holds_8 24 rfl rfl
theorem dksX6_holds_10 : cX6_holds.data.toList.drop 230 = dktX6_holds_10 := dk_seg dksX6_holds_9 23 rfl rfl
theorem dksX6_holds_11 : cX6_holds.data.toList.drop 254 = dktX6_holds_11 := dk_seg dksX6_holds_10 24 rfl rfl
theorem dX6_holds_0 : decode cX6_holds 0 = .ok (.iconst 0, 1) := dk_3 (dk_at dksX6_holds_0 0 rfl rfl)
theorem dX6_holds_1 : decode cX6_holds 1 = .ok (.istore 4, 2) := dk_54 4 (dk_at dksX6_holds_0 1 rfl rfl)
theorem dX6_holds_3 : decode cX6_holds 3 = .ok (.aload_n 0, 1) := dk_42 (dk_at dksX6_holds_0 3 rfl rfl)
theorem dX6_holds_4 : decode cX6_holds 4 = .ok (.getfield 83, 3) := dk_180 0 83 (dk_at dksX6_holds_0 4 rfl rfl)
theorem dX6_holds_7 : decode cX6_holds 7 = .ok (.iload_n 1, 1) := dk_27 (dk_at dksX6_holds_0 7 rfl rfl)
theorem dX6_holds_8 : decode cX6_holds 8 = .ok (.iaload, 1) := dk_46 (dk_at dksX6_holds_0 8 rfl rfl)
theorem dX6_holds_9 : decode cX6_holds 9 = .ok (.istore 5, 2) := dk_54 5 (dk_at dksX6_holds_0 9 rfl rfl)
theorem dX6_holds_11 : decode cX6_holds 11 = .ok (.iload 5, 2) := dk_21 5 (dk_at dksX6_holds_0 11 rfl rfl)
theorem dX6_holds_13 : decode cX6_holds 13 = .ok (.aload_n 0, 1) := dk_42 (dk_at dksX6_holds_0 13 rfl rfl)
theorem dX6_holds_14 : decode cX6_holds 14 = .ok (.getfield 86, 3) := dk_180 0 86 (dk_at dksX6_holds_0 14 rfl rfl)
theorem dX6_holds_17 : decode cX6_holds 17 = .ok (.iload_n 1, 1) := dk_27 (dk_at dksX6_holds_0 17 rfl rfl)
theorem dX6_holds_18 : decode cX6_holds 18 = .ok (.iaload, 1) := dk_46 (dk_at dksX6_holds_0 18 rfl rfl)
theorem dX6_holds_19 : decode cX6_holds 19 = .ok (.if_icmp .ge 234, 3) := dk_162 0 234 (dk_at dksX6_holds_0 19 rfl rfl)
theorem dX6_holds_22 : decode cX6_holds 22 = .ok (.aload_n 0, 1) := dk_42 (dk_at dksX6_holds_0 22 rfl rfl)
theorem dX6_holds_23 : decode cX6_holds 23 = .ok (.getfield 89, 3) := dk_180 0 89 (dk_at dksX6_holds_1 0 rfl rfl)
theorem dX6_holds_26 : decode cX6_holds 26 = .ok (.iload 5, 2) := dk_21 5 (dk_at dksX6_holds_1 3 rfl rfl)
theorem dX6_holds_28 : decode cX6_holds 28 = .ok (.iaload, 1) := dk_46 (dk_at dksX6_holds_1 5 rfl rfl)
theorem dX6_holds_29 : decode cX6_holds 29 = .ok (.istore 6, 2) := dk_54 6 (dk_at dksX6_holds_1 6 rfl rfl)
theorem dX6_holds_31 : decode cX6_holds 31 = .ok (.iload 6, 2) := dk_21 6 (dk_at dksX6_holds_1 8 rfl rfl)
theorem dX6_holds_33 : decode cX6_holds 33 = .ok (.bipush (-33), 2) := dk_16 223 (dk_at dksX6_holds_1 10 rfl rfl)
theorem dX6_holds_35 : decode cX6_holds 35 = .ok (.if_icmp .ne 32, 3) := dk_160 0 32 (dk_at dksX6_holds_1 12 rfl rfl)
theorem dX6_holds_38 : decode cX6_holds 38 = .ok (.aload_n 0, 1) := dk_42 (dk_at dksX6_holds_1 15 rfl rfl)
theorem dX6_holds_39 : decode cX6_holds 39 = .ok (.getfield 107, 3) := dk_180 0 107 (dk_at dksX6_holds_1 16 rfl rfl)
theorem dX6_holds_42 : decode cX6_holds 42 = .ok (.iload 4, 2) := dk_21 4 (dk_at dksX6_holds_1 19 rfl rfl)
theorem dX6_holds_44 : decode cX6_holds 44 = .ok (.iconst 1, 1) := dk_4 (dk_at dksX6_holds_1 21 rfl rfl)
theorem dX6_holds_45 : decode cX6_holds 45 = .ok (.isub, 1) := dk_100 (dk_at dksX6_holds_1 22 rfl rfl)
theorem dX6_holds_46 : decode cX6_holds 46 = .ok (.aload_n 0, 1) := dk_42 (dk_at dksX6_holds_1 23 rfl rfl)
theorem dX6_holds_47 : decode cX6_holds 47 = .ok (.getfield 107, 3) := dk_180 0 107 (dk_at dksX6_holds_2 0 rfl rfl)
theorem dX6_holds_50 : decode cX6_holds 50 = .ok (.iload 4, 2) := dk_21 4 (dk_at dksX6_holds_2 3 rfl rfl)
theorem dX6_holds_52 : decode cX6_holds 52 = .ok (.iconst 1, 1) := dk_4 (dk_at dksX6_holds_2 5 rfl rfl)
theorem dX6_holds_53 : decode cX6_holds 53 = .ok (.isub, 1) := dk_100 (dk_at dksX6_holds_2 6 rfl rfl)
theorem dX6_holds_54 : decode cX6_holds 54 = .ok (.baload, 1) := dk_51 (dk_at dksX6_holds_2 7 rfl rfl)
theorem dX6_holds_55 : decode cX6_holds 55 = .ok (.ifCond .ne 7, 3) := dk_154 0 7 (dk_at dksX6_holds_2 8 rfl rfl)
theorem dX6_holds_58 : decode cX6_holds 58 = .ok (.iconst 1, 1) := dk_4 (dk_at dksX6_holds_2 11 rfl rfl)
theorem dX6_holds_59 : decode cX6_holds 59 = .ok (.goto 4, 3) := dk_167 0 4 (dk_at dksX6_holds_2 12 rfl rfl)
theorem dX6_holds_62 : decode cX6_holds 62 = .ok (.iconst 0, 1) := dk_3 (dk_at dksX6_holds_2 15 rfl rfl)
theorem dX6_holds_63 : decode cX6_holds 63 = .ok (.bastore, 1) := dk_84 (dk_at dksX6_holds_2 16 rfl rfl)
theorem dX6_holds_64 : decode cX6_holds 64 = .ok (.goto 183, 3) := dk_167 0 183 (dk_at dksX6_holds_2 17 rfl rfl)
theorem dX6_holds_67 : decode cX6_holds 67 = .ok (.iload 6, 2) := dk_21 6 (dk_at dksX6_holds_2 20 rfl rfl)
theorem dX6_holds_69 : decode cX6_holds 69 = .ok (.ifCond .ge 82, 3) := dk_156 0 82 (dk_at dksX6_holds_3 0 rfl rfl)
theorem dX6_holds_72 : decode cX6_holds 72 = .ok (.iinc 4 (-1), 3) := dk_132 4 255 (dk_at dksX6_holds_3 3 rfl rfl)
theorem dX6_holds_75 : decode cX6_holds 75 = .ok (.aload_n 0, 1) := dk_42 (dk_at dksX6_holds_3 6 rfl rfl)
theorem dX6_holds_76 : decode cX6_holds 76 = .ok (.getfield 107, 3) := dk_180 0 107 (dk_at dksX6_holds_3 7 rfl rfl)
theorem dX6_holds_79 : decode cX6_holds 79 = .ok (.iload 4, 2) := dk_21 4 (dk_at dksX6_holds_3 10 rfl rfl)
theorem dX6_holds_81 : decode cX6_holds 81 = .ok (.iconst 1, 1) := dk_4 (dk_at dksX6_holds_3 12 rfl rfl)
theorem dX6_holds_82 : decode cX6_holds 82 = .ok (.isub, 1) := dk_100 (dk_at dksX6_holds_3 13 rfl rfl)
theorem dX6_holds_83 : decode cX6_holds 83 = .ok (.iload 6, 2) := dk_21 6 (dk_at dksX6_holds_3 14 rfl rfl)
theorem dX6_holds_85 : decode cX6_holds 85 = .ok (.bipush (-38), 2) := dk_16 218 (dk_at dksX6_holds_3 16 rfl rfl)
theorem dX6_holds_87 : decode cX6_holds 87 = .ok (.if_icmp .ne 33, 3) := dk_160 0 33 (dk_at dksX6_holds_3 18 rfl rfl)
theorem dX6_holds_90 : decode cX6_holds 90 = .ok (.aload_n 0, 1) := dk_42 (dk_at dksX6_holds_3 21 rfl rfl)
theorem dX6_holds_91 : decode cX6_holds 91 = .ok (.getfield 107, 3) := dk_180 0 107 (dk_at dksX6_holds_4 0 rfl rfl)
theorem dX6_holds_94 : decode cX6_holds 94 = .ok (.iload 4, 2) := dk_21 4 (dk_at dksX6_holds_4 3 rfl rfl)
theorem dX6_holds_96 : decode cX6_holds 96 = .ok (.iconst 1, 1) := dk_4 (dk_at dksX6_holds_4 5 rfl rfl)
theorem dX6_holds_97 : decode cX6_holds 97 = .ok (.isub, 1) := dk_100 (dk_at dksX6_holds_4 6 rfl rfl)
theorem dX6_holds_98 : decode cX6_holds 98 = .ok (.baload, 1) := dk_51 (dk_at dksX6_holds_4 7 rfl rfl)
theorem dX6_holds_99 : decode cX6_holds 99 = .ok (.ifCond .eq 17, 3) := dk_153 0 17 (dk_at dksX6_holds_4 8 rfl rfl)
theorem dX6_holds_102 : decode cX6_holds 102 = .ok (.aload_n 0, 1) := dk_42 (dk_at dksX6_holds_4 11 rfl rfl)
theorem dX6_holds_103 : decode cX6_holds 103 = .ok (.getfield 107, 3) := dk_180 0 107 (dk_at dksX6_holds_4 12 rfl rfl)
theorem dX6_holds_106 : decode cX6_holds 106 = .ok (.iload 4, 2) := dk_21 4 (dk_at dksX6_holds_4 15 rfl rfl)
theorem dX6_holds_108 : decode cX6_holds 108 = .ok (.baload, 1) := dk_51 (dk_at dksX6_holds_4 17 rfl rfl)
theorem dX6_holds_109 : decode cX6_holds 109 = .ok (.ifCond .eq 7, 3) := dk_153 0 7 (dk_at dksX6_holds_4 18 rfl rfl)
theorem dX6_holds_112 : decode cX6_holds 112 = .ok (.iconst 1, 1) := dk_4 (dk_at dksX6_holds_4 21 rfl rfl)
theorem dX6_holds_113 : decode cX6_holds 113 = .ok (.goto 34, 3) := dk_167 0 34 (dk_at dksX6_holds_5 0 rfl rfl)
theorem dX6_holds_116 : decode cX6_holds 116 = .ok (.iconst 0, 1) := dk_3 (dk_at dksX6_holds_5 3 rfl rfl)
theorem dX6_holds_117 : decode cX6_holds 117 = .ok (.goto 30, 3) := dk_167 0 30 (dk_at dksX6_holds_5 4 rfl rfl)
theorem dX6_holds_120 : decode cX6_holds 120 = .ok (.aload_n 0, 1) := dk_42 (dk_at dksX6_holds_5 7 rfl rfl)
theorem dX6_holds_121 : decode cX6_holds 121 = .ok (.getfield 107, 3) := dk_180 0 107 (dk_at dksX6_holds_5 8 rfl rfl)
theorem dX6_holds_124 : decode cX6_holds 124 = .ok (.iload 4, 2) := dk_21 4 (dk_at dksX6_holds_5 11 rfl rfl)
theorem dX6_holds_126 : decode cX6_holds 126 = .ok (.iconst 1, 1) := dk_4 (dk_at dksX6_holds_5 13 rfl rfl)
theorem dX6_holds_127 : decode cX6_holds 127 = .ok (.isub, 1) := dk_100 (dk_at dksX6_holds_5 14 rfl rfl)
theorem dX6_holds_128 : decode cX6_holds 128 = .ok (.baload, 1) := dk_51 (dk_at dksX6_holds_5 15 rfl rfl)
theorem dX6_holds_129 : decode cX6_holds 129 = .ok (.ifCond .ne 13, 3) := dk_154 0 13 (dk_at dksX6_holds_5 16 rfl rfl)
theorem dX6_holds_132 : decode cX6_holds 132 = .ok (.aload_n 0, 1) := dk_42 (dk_at dksX6_holds_5 19 rfl rfl)
theorem dX6_holds_133 : decode cX6_holds 133 = .ok (.getfield 107, 3) := dk_180 0 107 (dk_at dksX6_holds_5 20 rfl rfl)
theorem dX6_holds_136 : decode cX6_holds 136 = .ok (.iload 4, 2) := dk_21 4 (dk_at dksX6_holds_6 0 rfl rfl)
theorem dX6_holds_138 : decode cX6_holds 138 = .ok (.baload, 1) := dk_51 (dk_at dksX6_holds_6 2 rfl rfl)
theorem dX6_holds_139 : decode cX6_holds 139 = .ok (.ifCond .eq 7, 3) := dk_153 0 7 (dk_at dksX6_holds_6 3 rfl rfl)
theorem dX6_holds_142 : decode cX6_holds 142 = .ok (.iconst 1, 1) := dk_4 (dk_at dksX6_holds_6 6 rfl rfl)
theorem dX6_holds_143 : decode cX6_holds 143 = .ok (.goto 4, 3) := dk_167 0 4 (dk_at dksX6_holds_6 7 rfl rfl)
theorem dX6_holds_146 : decode cX6_holds 146 = .ok (.iconst 0, 1) := dk_3 (dk_at dksX6_holds_6 10 rfl rfl)
theorem dX6_holds_147 : decode cX6_holds 147 = .ok (.bastore, 1) := dk_84 (dk_at dksX6_holds_6 11 rfl rfl)
theorem dX6_holds_148 : decode cX6_holds 148 = .ok (.goto 99, 3) := dk_167 0 99 (dk_at dksX6_holds_6 12 rfl rfl)
theorem dX6_holds_151 : decode cX6_holds 151 = .ok (.aload_n 0, 1) := dk_42 (dk_at dksX6_holds_6 15 rfl rfl)
theorem dX6_holds_152 : decode cX6_holds 152 = .ok (.iload 6, 2) := dk_21 6 (dk_at dksX6_holds_6 16 rfl rfl)
theorem dX6_holds_154 : decode cX6_holds 154 = .ok (.sipush 1000, 3) := dk_17 3 232 (dk_at dksX6_holds_6 18 rfl rfl)
theorem dX6_holds_157 : decode cX6_holds 157 = .ok (.idiv, 1) := dk_108 (dk_at dksX6_holds_6 21 rfl rfl)
theorem dX6_holds_158 : decode cX6_holds 158 = .ok (.iload_n 2, 1) := dk_28 (dk_at dksX6_holds_6 22 rfl rfl)
theorem dX6_holds_159 : decode cX6_holds 159 = .ok (.iload_n 3, 1) := dk_29 (dk_at dksX6_holds_6 23 rfl rfl)
theorem dX6_holds_160 : decode cX6_holds 160 = .ok (.invokevirtual 321, 3) := dk_182 1 65 (dk_at dksX6_holds_7 0 rfl rfl)
theorem dX6_holds_163 : decode cX6_holds 163 = .ok (.istore 7, 2) := dk_54 7 (dk_at dksX6_holds_7 3 rfl rfl)
theorem dX6_holds_165 : decode cX6_holds 165 = .ok (.iload 6, 2) := dk_21 6 (dk_at dksX6_holds_7 5 rfl rfl)
theorem dX6_holds_167 : decode cX6_holds 167 = .ok (.bipush 100, 2) := dk_16 100 (dk_at dksX6_holds_7 7 rfl rfl)
theorem dX6_holds_169 : decode cX6_holds 169 = .ok (.idiv, 1) := dk_108 (dk_at dksX6_holds_7 9 rfl rfl)
theorem dX6_holds_170 : decode cX6_holds 170 = .ok (.bipush 10, 2) := dk_16 10 (dk_at dksX6_holds_7 10 rfl rfl)
theorem dX6_holds_172 : decode cX6_holds 172 = .ok (.irem, 1) := dk_112 (dk_at dksX6_holds_7 12 rfl rfl)
theorem dX6_holds_173 : decode cX6_holds 173 = .ok (.istore 8, 2) := dk_54 8 (dk_at dksX6_holds_7 13 rfl rfl)
theorem dX6_holds_175 : decode cX6_holds 175 = .ok (.aload_n 0, 1) := dk_42 (dk_at dksX6_holds_7 15 rfl rfl)
theorem dX6_holds_176 : decode cX6_holds 176 = .ok (.getfield 107, 3) := dk_180 0 107 (dk_at dksX6_holds_7 16 rfl rfl)
theorem dX6_holds_179 : decode cX6_holds 179 = .ok (.iload 4, 2) := dk_21 4 (dk_at dksX6_holds_7 19 rfl rfl)
theorem dX6_holds_181 : decode cX6_holds 181 = .ok (.iload 8, 2) := dk_21 8 (dk_at dksX6_holds_7 21 rfl rfl)
theorem dX6_holds_183 : decode cX6_holds 183 = .ok (.ifCond .ne 21, 3) := dk_154 0 21 (dk_at dksX6_holds_8 0 rfl rfl)
theorem dX6_holds_186 : decode cX6_holds 186 = .ok (.iload 7, 2) := dk_21 7 (dk_at dksX6_holds_8 3 rfl rfl)
theorem dX6_holds_188 : decode cX6_holds 188 = .ok (.iload 6, 2) := dk_21 6 (dk_at dksX6_holds_8 5 rfl rfl)
theorem dX6_holds_190 : decode cX6_holds 190 = .ok (.bipush 100, 2) := dk_16 100 (dk_at dksX6_holds_8 7 rfl rfl)
theorem dX6_holds_192 : decode cX6_holds 192 = .ok (.irem, 1) := dk_112 (dk_at dksX6_holds_8 9 rfl rfl)
theorem dX6_holds_193 : decode cX6_holds 193 = .ok (.if_icmp .ge 7, 3) := dk_162 0 7 (dk_at dksX6_holds_8 10 rfl rfl)
theorem dX6_holds_196 : decode cX6_holds 196 = .ok (.iconst 1, 1) := dk_4 (dk_at dksX6_holds_8 13 rfl rfl)
theorem dX6_holds_197 : decode cX6_holds 197 = .ok (.goto 46, 3) := dk_167 0 46 (dk_at dksX6_holds_8 14 rfl rfl)
theorem dX6_holds_200 : decode cX6_holds 200 = .ok (.iconst 0, 1) := dk_3 (dk_at dksX6_holds_8 17 rfl rfl)
theorem dX6_holds_201 : decode cX6_holds 201 = .ok (.goto 42, 3) := dk_167 0 42 (dk_at dksX6_holds_8 18 rfl rfl)
theorem dX6_holds_204 : decode cX6_holds 204 = .ok (.iload 8, 2) := dk_21 8 (dk_at dksX6_holds_8 21 rfl rfl)
theorem dX6_holds_206 : decode cX6_holds 206 = .ok (.iconst 1, 1) := dk_4 (dk_at dksX6_holds_8 23 rfl rfl)
theorem dX6_holds_207 : decode cX6_holds 207 = .ok (.if_icmp .ne 21, 3) := dk_160 0 21 (dk_at dksX6_holds_9 0 rfl rfl)
theorem dX6_holds_210 : decode cX6_holds 210 = .ok (.iload 7, 2) := dk_21 7 (dk_at dksX6_holds_9 3 rfl rfl)
theorem dX6_holds_212 : decode cX6_holds 212 = .ok (.iload 6, 2) := dk_21 6 (dk_at dksX6_holds_9 5 rfl rfl)
theorem dX6_holds_214 : decode cX6_holds 214 = .ok (.bipush 100, 2) := dk_16 100 (dk_at dksX6_holds_9 7 rfl rfl)
theorem dX6_holds_216 : decode cX6_holds 216 = .ok (.irem, 1) := dk_112 (dk_at dksX6_holds_9 9 rfl rfl)
theorem dX6_holds_217 : decode cX6_holds 217 = .ok (.if_icmp .ne 7, 3) := dk_160 0 7 (dk_at dksX6_holds_9 10 rfl rfl)
theorem dX6_holds_220 : decode cX6_holds 220 = .ok (.iconst 1, 1) := dk_4 (dk_at dksX6_holds_9 13 rfl rfl)
theorem dX6_holds_221 : decode cX6_holds 221 = .ok (.goto 22, 3) := dk_167 0 22 (dk_at dksX6_holds_9 14 rfl rfl)
theorem dX6_holds_224 : decode cX6_holds 224 = .ok (.iconst 0, 1) := dk_3 (dk_at dksX6_holds_9 17 rfl rfl)
theorem dX6_holds_225 : decode cX6_holds 225 = .ok (.goto 18, 3) := dk_167 0 18 (dk_at dksX6_holds_9 18 rfl rfl)
theorem dX6_holds_228 : decode cX6_holds 228 = .ok (.iload 7, 2) := dk_21 7 (dk_at dksX6_holds_9 21 rfl rfl)
theorem dX6_holds_230 : decode cX6_holds 230 = .ok (.iload 6, 2) := dk_21 6 (dk_at dksX6_holds_10 0 rfl rfl)
theorem dX6_holds_232 : decode cX6_holds 232 = .ok (.bipush 100, 2) := dk_16 100 (dk_at dksX6_holds_10 2 rfl rfl)
theorem dX6_holds_234 : decode cX6_holds 234 = .ok (.irem, 1) := dk_112 (dk_at dksX6_holds_10 4 rfl rfl)
theorem dX6_holds_235 : decode cX6_holds 235 = .ok (.if_icmp .le 7, 3) := dk_164 0 7 (dk_at dksX6_holds_10 5 rfl rfl)
theorem dX6_holds_238 : decode cX6_holds 238 = .ok (.iconst 1, 1) := dk_4 (dk_at dksX6_holds_10 8 rfl rfl)
theorem dX6_holds_239 : decode cX6_holds 239 = .ok (.goto 4, 3) := dk_167 0 4 (dk_at dksX6_holds_10 9 rfl rfl)
theorem dX6_holds_242 : decode cX6_holds 242 = .ok (.iconst 0, 1) := dk_3 (dk_at dksX6_holds_10 12 rfl rfl)
theorem dX6_holds_243 : decode cX6_holds 243 = .ok (.bastore, 1) := dk_84 (dk_at dksX6_holds_10 13 rfl rfl)
theorem dX6_holds_244 : decode cX6_holds 244 = .ok (.iinc 4 1, 3) := dk_132 4 1 (dk_at dksX6_holds_10 14 rfl rfl)
theorem dX6_holds_247 : decode cX6_holds 247 = .ok (.iinc 5 1, 3) := dk_132 5 1 (dk_at dksX6_holds_10 17 rfl rfl)
theorem dX6_holds_250 : decode cX6_holds 250 = .ok (.goto (-239), 3) := dk_167 255 17 (dk_at dksX6_holds_10 20 rfl rfl)
theorem dX6_holds_253 : decode cX6_holds 253 = .ok (.aload_n 0, 1) := dk_42 (dk_at dksX6_holds_10 23 rfl rfl)
theorem dX6_holds_254 : decode cX6_holds 254 = .ok (.getfield 107, 3) := dk_180 0 107 (dk_at dksX6_holds_11 0 rfl rfl)
theorem dX6_holds_257 : decode cX6_holds 257 = .ok (.iconst 0, 1) := dk_3 (dk_at dksX6_holds_11 3 rfl rfl)
theorem dX6_holds_258 : decode cX6_holds 258 = .ok (.baload, 1) := dk_51 (dk_at dksX6_holds_11 4 rfl rfl)
theorem dX6_holds_259 : decode cX6_holds 259 = .ok (.ireturn, 1) := dk_172 (dk_at dksX6_holds_11 5 rfl rfl)
abbrev cX6_factOf : ByteArray := prog_23_method_36_code
def yX6_factOf : MethodName := ⟨RX6, "factOf", "(III)I"⟩
def dkwX6_factOf_3 : List UInt8 := [16, 10, 112, 172, 42, 180, 0, 16, 16, 7, 112, 172]
abbrev dktX6_factOf_3 : List UInt8 := dkwX6_factOf_3 ++ []
def dkwX6_factOf_2 : List UInt8 := [28, 172, 29, 172, 42, 180, 0, 29, 28, 46, 172, 42, 180, 0, 41, 28, 46, 172, 42, 180, 0, 44, 28, 46]
abbrev dktX6_factOf_2 : List UInt8 := dkwX6_factOf_2 ++ dktX6_factOf_3
def dkwX6_factOf_1 : List UInt8 := [170, 0, 0, 0, 0, 0, 63, 0, 0, 0, 0, 0, 0, 0, 4, 0, 0, 0, 35, 0, 0, 0, 37, 0, 0, 0, 39, 0, 0, 0, 46, 0, 0, 0, 53]
abbrev dktX6_factOf_1 : List UInt8 := dkwX6_factOf_1 ++ dktX6_factOf_2
def dkwX6_factOf_0 : List UInt8 := [27]
abbrev dktX6_factOf_0 : List UInt8 := dkwX6_factOf_0 ++ dktX6_factOf_1
theorem dksX6_factOf_0 : cX6_factOf.data.toList.drop 0 = dktX6_factOf_0 := by decide +kernel
theorem dksX6_factOf_1 : cX6_factOf.data.toList.drop 1 = dktX6_factOf_1 := dk_seg dksX6_factOf_0 1 rfl rfl
theorem dksX6_factOf_2 : cX6_factOf.data.toList.drop 36 = dktX6_factOf_2 := dk_seg dksX6_factOf_1 35 rfl rfl
theorem dksX6_factOf_3 : cX6_factOf.data.toList.drop 60 = dktX6_factOf_3 := dk_seg dksX6_factOf_2 24 rfl rfl
theorem dX6_factOf_0 : decode cX6_factOf 0 = .ok (.iload_n 1, 1) := dk_27 (dk_at dksX6_factOf_0 0 rfl rfl)
theorem dX6_factOf_1 : decode cX6_factOf 1 = .ok (.tableswitch 63 0 4 #[35, 37, 39, 46, 53], 35) := by decide +kernel
theorem dX6_factOf_36 : decode cX6_factOf 36 = .ok (.iload_n 2, 1) := dk_28 (dk_at dksX6_factOf_2 0 rfl rfl)
theorem dX6_factOf_37 : decode cX6_factOf 37 = .ok (.ireturn, 1) := dk_172 (dk_at dksX6_factOf_2 1 rfl rfl)
theorem dX6_factOf_38 : decode cX6_factOf 38 = .ok (.iload_n 3, 1) := dk_29 (dk_at dksX6_factOf_2 2 rfl rfl)
theorem dX6_factOf_39 : decode cX6_factOf 39 = .ok (.ireturn, 1) := dk_172 (dk_at dksX6_factOf_2 3 rfl rfl)
theorem dX6_factOf_40 : decode cX6_factOf 40 = .ok (.aload_n 0, 1) := dk_42 (dk_at dksX6_factOf_2 4 rfl rfl)
theorem dX6_factOf_41 : decode cX6_factOf 41 = .ok (.getfield 29, 3) := dk_180 0 29 (dk_at dksX6_factOf_2 5 rfl rfl)
theorem dX6_factOf_44 : decode cX6_factOf 44 = .ok (.iload_n 2, 1) := dk_28 (dk_at dksX6_factOf_2 8 rfl rfl)
theorem dX6_factOf_45 : decode cX6_factOf 45 = .ok (.iaload, 1) := dk_46 (dk_at dksX6_factOf_2 9 rfl rfl)
theorem dX6_factOf_46 : decode cX6_factOf 46 = .ok (.ireturn, 1) := dk_172 (dk_at dksX6_factOf_2 10 rfl rfl)
theorem dX6_factOf_47 : decode cX6_factOf 47 = .ok (.aload_n 0, 1) := dk_42 (dk_at dksX6_factOf_2 11 rfl rfl)
theorem dX6_factOf_48 : decode cX6_factOf 48 = .ok (.getfield 41, 3) := dk_180 0 41 (dk_at dksX6_factOf_2 12 rfl rfl)
theorem dX6_factOf_51 : decode cX6_factOf 51 = .ok (.iload_n 2, 1) := dk_28 (dk_at dksX6_factOf_2 15 rfl rfl)
theorem dX6_factOf_52 : decode cX6_factOf 52 = .ok (.iaload, 1) := dk_46 (dk_at dksX6_factOf_2 16 rfl rfl)
theorem dX6_factOf_53 : decode cX6_factOf 53 = .ok (.ireturn, 1) := dk_172 (dk_at dksX6_factOf_2 17 rfl rfl)
theorem dX6_factOf_54 : decode cX6_factOf 54 = .ok (.aload_n 0, 1) := dk_42 (dk_at dksX6_factOf_2 18 rfl rfl)
theorem dX6_factOf_55 : decode cX6_factOf 55 = .ok (.getfield 44, 3) := dk_180 0 44 (dk_at dksX6_factOf_2 19 rfl rfl)
theorem dX6_factOf_58 : decode cX6_factOf 58 = .ok (.iload_n 2, 1) := dk_28 (dk_at dksX6_factOf_2 22 rfl rfl)
theorem dX6_factOf_59 : decode cX6_factOf 59 = .ok (.iaload, 1) := dk_46 (dk_at dksX6_factOf_2 23 rfl rfl)
theorem dX6_factOf_60 : decode cX6_factOf 60 = .ok (.bipush 10, 2) := dk_16 10 (dk_at dksX6_factOf_3 0 rfl rfl)
theorem dX6_factOf_62 : decode cX6_factOf 62 = .ok (.irem, 1) := dk_112 (dk_at dksX6_factOf_3 2 rfl rfl)
theorem dX6_factOf_63 : decode cX6_factOf 63 = .ok (.ireturn, 1) := dk_172 (dk_at dksX6_factOf_3 3 rfl rfl)
theorem dX6_factOf_64 : decode cX6_factOf 64 = .ok (.aload_n 0, 1) := dk_42 (dk_at dksX6_factOf_3 4 rfl rfl)
theorem dX6_factOf_65 : decode cX6_factOf 65 = .ok (.getfield 16, 3) := dk_180 0 16 (dk_at dksX6_factOf_3 5 rfl rfl)
theorem dX6_factOf_68 : decode cX6_factOf 68 = .ok (.bipush 7, 2) := dk_16 7 (dk_at dksX6_factOf_3 8 rfl rfl)
theorem dX6_factOf_70 : decode cX6_factOf 70 = .ok (.irem, 1) := dk_112 (dk_at dksX6_factOf_3 10 rfl rfl)
theorem dX6_factOf_71 : decode cX6_factOf 71 = .ok (.ireturn, 1) := dk_172 (dk_at dksX6_factOf_3 11 rfl rfl)
abbrev cX6_most : ByteArray := prog_23_method_4_code
def yX6_most : MethodName := ⟨RX6, "most", "(II)I"⟩
def dkwX6_most_0 : List UInt8 := [27, 28, 164, 0, 7, 27, 167, 0, 4, 28, 172]
abbrev dktX6_most_0 : List UInt8 := dkwX6_most_0 ++ []
theorem dksX6_most_0 : cX6_most.data.toList.drop 0 = dktX6_most_0 := by decide +kernel
theorem dX6_most_0 : decode cX6_most 0 = .ok (.iload_n 1, 1) := dk_27 (dk_at dksX6_most_0 0 rfl rfl)
theorem dX6_most_1 : decode cX6_most 1 = .ok (.iload_n 2, 1) := dk_28 (dk_at dksX6_most_0 1 rfl rfl)
theorem dX6_most_2 : decode cX6_most 2 = .ok (.if_icmp .le 7, 3) := dk_164 0 7 (dk_at dksX6_most_0 2 rfl rfl)
theorem dX6_most_5 : decode cX6_most 5 = .ok (.iload_n 1, 1) := dk_27 (dk_at dksX6_most_0 5 rfl rfl)
theorem dX6_most_6 : decode cX6_most 6 = .ok (.goto 4, 3) := dk_167 0 4 (dk_at dksX6_most_0 6 rfl rfl)
theorem dX6_most_9 : decode cX6_most 9 = .ok (.iload_n 2, 1) := dk_28 (dk_at dksX6_most_0 9 rfl rfl)
theorem dX6_most_10 : decode cX6_most 10 = .ok (.ireturn, 1) := dk_172 (dk_at dksX6_most_0 10 rfl rfl)
abbrev cX6_apart : ByteArray := prog_23_method_39_code
def yX6_apart : MethodName := ⟨RX6, "apart", "(II)I"⟩
def dkwX6_apart_1 : List UInt8 := [180, 0, 35, 27, 46, 100, 167, 0, 16, 42, 180, 0, 35, 27, 46, 42, 180, 0, 19, 28, 46, 100, 172]
abbrev dktX6_apart_1 : List UInt8 := dkwX6_apart_1 ++ []
def dkwX6_apart_0 : List UInt8 := [42, 180, 0, 35, 27, 46, 42, 180, 0, 19, 28, 46, 162, 0, 19, 42, 180, 0, 19, 28, 46, 42]
abbrev dktX6_apart_0 : List UInt8 := dkwX6_apart_0 ++ dktX6_apart_1
theorem dksX6_apart_0 : cX6_apart.data.toList.drop 0 = dktX6_apart_0 := by decide +kernel
theorem dksX6_apart_1 : cX6_apart.data.toList.drop 22 = dktX6_apart_1 := dk_seg dksX6_apart_0 22 rfl rfl
theorem dX6_apart_0 : decode cX6_apart 0 = .ok (.aload_n 0, 1) := dk_42 (dk_at dksX6_apart_0 0 rfl rfl)
theorem dX6_apart_1 : decode cX6_apart 1 = .ok (.getfield 35, 3) := dk_180 0 35 (dk_at dksX6_apart_0 1 rfl rfl)
theorem dX6_apart_4 : decode cX6_apart 4 = .ok (.iload_n 1, 1) := dk_27 (dk_at dksX6_apart_0 4 rfl rfl)
theorem dX6_apart_5 : decode cX6_apart 5 = .ok (.iaload, 1) := dk_46 (dk_at dksX6_apart_0 5 rfl rfl)
theorem dX6_apart_6 : decode cX6_apart 6 = .ok (.aload_n 0, 1) := dk_42 (dk_at dksX6_apart_0 6 rfl rfl)
theorem dX6_apart_7 : decode cX6_apart 7 = .ok (.getfield 19, 3) := dk_180 0 19 (dk_at dksX6_apart_0 7 rfl rfl)
theorem dX6_apart_10 : decode cX6_apart 10 = .ok (.iload_n 2, 1) := dk_28 (dk_at dksX6_apart_0 10 rfl rfl)
theorem dX6_apart_11 : decode cX6_apart 11 = .ok (.iaload, 1) := dk_46 (dk_at dksX6_apart_0 11 rfl rfl)
theorem dX6_apart_12 : decode cX6_apart 12 = .ok (.if_icmp .ge 19, 3) := dk_162 0 19 (dk_at dksX6_apart_0 12 rfl rfl)
theorem dX6_apart_15 : decode cX6_apart 15 = .ok (.aload_n 0, 1) := dk_42 (dk_at dksX6_apart_0 15 rfl rfl)
theorem dX6_apart_16 : decode cX6_apart 16 = .ok (.getfield 19, 3) := dk_180 0 19 (dk_at dksX6_apart_0 16 rfl rfl)
theorem dX6_apart_19 : decode cX6_apart 19 = .ok (.iload_n 2, 1) := dk_28 (dk_at dksX6_apart_0 19 rfl rfl)
theorem dX6_apart_20 : decode cX6_apart 20 = .ok (.iaload, 1) := dk_46 (dk_at dksX6_apart_0 20 rfl rfl)
theorem dX6_apart_21 : decode cX6_apart 21 = .ok (.aload_n 0, 1) := dk_42 (dk_at dksX6_apart_0 21 rfl rfl)
theorem dX6_apart_22 : decode cX6_apart 22 = .ok (.getfield 35, 3) := dk_180 0 35 (dk_at dksX6_apart_1 0 rfl rfl)
theorem dX6_apart_25 : decode cX6_apart 25 = .ok (.iload_n 1, 1) := dk_27 (dk_at dksX6_apart_1 3 rfl rfl)
theorem dX6_apart_26 : decode cX6_apart 26 = .ok (.iaload, 1) := dk_46 (dk_at dksX6_apart_1 4 rfl rfl)
theorem dX6_apart_27 : decode cX6_apart 27 = .ok (.isub, 1) := dk_100 (dk_at dksX6_apart_1 5 rfl rfl)
theorem dX6_apart_28 : decode cX6_apart 28 = .ok (.goto 16, 3) := dk_167 0 16 (dk_at dksX6_apart_1 6 rfl rfl)
theorem dX6_apart_31 : decode cX6_apart 31 = .ok (.aload_n 0, 1) := dk_42 (dk_at dksX6_apart_1 9 rfl rfl)
theorem dX6_apart_32 : decode cX6_apart 32 = .ok (.getfield 35, 3) := dk_180 0 35 (dk_at dksX6_apart_1 10 rfl rfl)
theorem dX6_apart_35 : decode cX6_apart 35 = .ok (.iload_n 1, 1) := dk_27 (dk_at dksX6_apart_1 13 rfl rfl)
theorem dX6_apart_36 : decode cX6_apart 36 = .ok (.iaload, 1) := dk_46 (dk_at dksX6_apart_1 14 rfl rfl)
theorem dX6_apart_37 : decode cX6_apart 37 = .ok (.aload_n 0, 1) := dk_42 (dk_at dksX6_apart_1 15 rfl rfl)
theorem dX6_apart_38 : decode cX6_apart 38 = .ok (.getfield 19, 3) := dk_180 0 19 (dk_at dksX6_apart_1 16 rfl rfl)
theorem dX6_apart_41 : decode cX6_apart 41 = .ok (.iload_n 2, 1) := dk_28 (dk_at dksX6_apart_1 19 rfl rfl)
theorem dX6_apart_42 : decode cX6_apart 42 = .ok (.iaload, 1) := dk_46 (dk_at dksX6_apart_1 20 rfl rfl)
theorem dX6_apart_43 : decode cX6_apart 43 = .ok (.isub, 1) := dk_100 (dk_at dksX6_apart_1 21 rfl rfl)
theorem dX6_apart_44 : decode cX6_apart 44 = .ok (.ireturn, 1) := dk_172 (dk_at dksX6_apart_1 22 rfl rfl)
abbrev cX6_moth : ByteArray := prog_23_method_34_code
def yX6_moth : MethodName := ⟨RX6, "moth", "()I"⟩
def dkwX6_moth_1 : List UInt8 := [160, 0, 12, 42, 180, 0, 77, 28, 46, 167, 0, 4, 27, 60, 132, 2, 1, 167, 255, 224, 27, 172]
abbrev dktX6_moth_1 : List UInt8 := dkwX6_moth_1 ++ []
def dkwX6_moth_0 : List UInt8 := [3, 60, 42, 182, 1, 59, 61, 28, 42, 182, 1, 62, 162, 0, 30, 42, 180, 0, 74, 28, 46, 5]
abbrev dktX6_moth_0 : List UInt8 := dkwX6_moth_0 ++ dktX6_moth_1
theorem dksX6_moth_0 : cX6_moth.data.toList.drop 0 = dktX6_moth_0 := by decide +kernel
theorem dksX6_moth_1 : cX6_moth.data.toList.drop 22 = dktX6_moth_1 := dk_seg dksX6_moth_0 22 rfl rfl
theorem dX6_moth_0 : decode cX6_moth 0 = .ok (.iconst 0, 1) := dk_3 (dk_at dksX6_moth_0 0 rfl rfl)
theorem dX6_moth_1 : decode cX6_moth 1 = .ok (.istore_n 1, 1) := dk_60 (dk_at dksX6_moth_0 1 rfl rfl)
theorem dX6_moth_2 : decode cX6_moth 2 = .ok (.aload_n 0, 1) := dk_42 (dk_at dksX6_moth_0 2 rfl rfl)
theorem dX6_moth_3 : decode cX6_moth 3 = .ok (.invokevirtual 315, 3) := dk_182 1 59 (dk_at dksX6_moth_0 3 rfl rfl)
theorem dX6_moth_6 : decode cX6_moth 6 = .ok (.istore_n 2, 1) := dk_61 (dk_at dksX6_moth_0 6 rfl rfl)
theorem dX6_moth_7 : decode cX6_moth 7 = .ok (.iload_n 2, 1) := dk_28 (dk_at dksX6_moth_0 7 rfl rfl)
theorem dX6_moth_8 : decode cX6_moth 8 = .ok (.aload_n 0, 1) := dk_42 (dk_at dksX6_moth_0 8 rfl rfl)
theorem dX6_moth_9 : decode cX6_moth 9 = .ok (.invokevirtual 318, 3) := dk_182 1 62 (dk_at dksX6_moth_0 9 rfl rfl)
theorem dX6_moth_12 : decode cX6_moth 12 = .ok (.if_icmp .ge 30, 3) := dk_162 0 30 (dk_at dksX6_moth_0 12 rfl rfl)
theorem dX6_moth_15 : decode cX6_moth 15 = .ok (.aload_n 0, 1) := dk_42 (dk_at dksX6_moth_0 15 rfl rfl)
theorem dX6_moth_16 : decode cX6_moth 16 = .ok (.getfield 74, 3) := dk_180 0 74 (dk_at dksX6_moth_0 16 rfl rfl)
theorem dX6_moth_19 : decode cX6_moth 19 = .ok (.iload_n 2, 1) := dk_28 (dk_at dksX6_moth_0 19 rfl rfl)
theorem dX6_moth_20 : decode cX6_moth 20 = .ok (.iaload, 1) := dk_46 (dk_at dksX6_moth_0 20 rfl rfl)
theorem dX6_moth_21 : decode cX6_moth 21 = .ok (.iconst 2, 1) := dk_5 (dk_at dksX6_moth_0 21 rfl rfl)
theorem dX6_moth_22 : decode cX6_moth 22 = .ok (.if_icmp .ne 12, 3) := dk_160 0 12 (dk_at dksX6_moth_1 0 rfl rfl)
theorem dX6_moth_25 : decode cX6_moth 25 = .ok (.aload_n 0, 1) := dk_42 (dk_at dksX6_moth_1 3 rfl rfl)
theorem dX6_moth_26 : decode cX6_moth 26 = .ok (.getfield 77, 3) := dk_180 0 77 (dk_at dksX6_moth_1 4 rfl rfl)
theorem dX6_moth_29 : decode cX6_moth 29 = .ok (.iload_n 2, 1) := dk_28 (dk_at dksX6_moth_1 7 rfl rfl)
theorem dX6_moth_30 : decode cX6_moth 30 = .ok (.iaload, 1) := dk_46 (dk_at dksX6_moth_1 8 rfl rfl)
theorem dX6_moth_31 : decode cX6_moth 31 = .ok (.goto 4, 3) := dk_167 0 4 (dk_at dksX6_moth_1 9 rfl rfl)
theorem dX6_moth_34 : decode cX6_moth 34 = .ok (.iload_n 1, 1) := dk_27 (dk_at dksX6_moth_1 12 rfl rfl)
theorem dX6_moth_35 : decode cX6_moth 35 = .ok (.istore_n 1, 1) := dk_60 (dk_at dksX6_moth_1 13 rfl rfl)
theorem dX6_moth_36 : decode cX6_moth 36 = .ok (.iinc 2 1, 3) := dk_132 2 1 (dk_at dksX6_moth_1 14 rfl rfl)
theorem dX6_moth_39 : decode cX6_moth 39 = .ok (.goto (-32), 3) := dk_167 255 224 (dk_at dksX6_moth_1 17 rfl rfl)
theorem dX6_moth_42 : decode cX6_moth 42 = .ok (.iload_n 1, 1) := dk_27 (dk_at dksX6_moth_1 20 rfl rfl)
theorem dX6_moth_43 : decode cX6_moth 43 = .ok (.ireturn, 1) := dk_172 (dk_at dksX6_moth_1 21 rfl rfl)
abbrev cX6_at : ByteArray := prog_23_method_42_code
def yX6_at : MethodName := ⟨RX6, "at", "(II)I"⟩
def dkwX6_at_2 : List UInt8 := [180, 0, 23, 27, 46, 182, 1, 10, 167, 0, 4, 2, 172]
abbrev dktX6_at_2 : List UInt8 := dkwX6_at_2 ++ []
def dkwX6_at_1 : List UInt8 := [4, 160, 0, 16, 42, 42, 180, 0, 26, 27, 46, 182, 1, 10, 167, 0, 22, 28, 5, 160, 0, 16, 42, 42]
abbrev dktX6_at_1 : List UInt8 := dkwX6_at_1 ++ dktX6_at_2
def dkwX6_at_0 : List UInt8 := [42, 27, 182, 1, 3, 154, 0, 5, 2, 172, 28, 154, 0, 12, 42, 180, 0, 19, 27, 46, 167, 0, 40, 28]
abbrev dktX6_at_0 : List UInt8 := dkwX6_at_0 ++ dktX6_at_1
theorem dksX6_at_0 : cX6_at.data.toList.drop 0 = dktX6_at_0 := by decide +kernel
theorem dksX6_at_1 : cX6_at.data.toList.drop 24 = dktX6_at_1 := dk_seg dksX6_at_0 24 rfl rfl
theorem dksX6_at_2 : cX6_at.data.toList.drop 48 = dktX6_at_2 := dk_seg dksX6_at_1 24 rfl rfl
theorem dX6_at_0 : decode cX6_at 0 = .ok (.aload_n 0, 1) := dk_42 (dk_at dksX6_at_0 0 rfl rfl)
theorem dX6_at_1 : decode cX6_at 1 = .ok (.iload_n 1, 1) := dk_27 (dk_at dksX6_at_0 1 rfl rfl)
theorem dX6_at_2 : decode cX6_at 2 = .ok (.invokevirtual 259, 3) := dk_182 1 3 (dk_at dksX6_at_0 2 rfl rfl)
theorem dX6_at_5 : decode cX6_at 5 = .ok (.ifCond .ne 5, 3) := dk_154 0 5 (dk_at dksX6_at_0 5 rfl rfl)
theorem dX6_at_8 : decode cX6_at 8 = .ok (.iconst (-1), 1) := dk_2 (dk_at dksX6_at_0 8 rfl rfl)
theorem dX6_at_9 : decode cX6_at 9 = .ok (.ireturn, 1) := dk_172 (dk_at dksX6_at_0 9 rfl rfl)
theorem dX6_at_10 : decode cX6_at 10 = .ok (.iload_n 2, 1) := dk_28 (dk_at dksX6_at_0 10 rfl rfl)
theorem dX6_at_11 : decode cX6_at 11 = .ok (.ifCond .ne 12, 3) := dk_154 0 12 (dk_at dksX6_at_0 11 rfl rfl)
theorem dX6_at_14 : decode cX6_at 14 = .ok (.aload_n 0, 1) := dk_42 (dk_at dksX6_at_0 14 rfl rfl)
theorem dX6_at_15 : decode cX6_at 15 = .ok (.getfield 19, 3) := dk_180 0 19 (dk_at dksX6_at_0 15 rfl rfl)
theorem dX6_at_18 : decode cX6_at 18 = .ok (.iload_n 1, 1) := dk_27 (dk_at dksX6_at_0 18 rfl rfl)
theorem dX6_at_19 : decode cX6_at 19 = .ok (.iaload, 1) := dk_46 (dk_at dksX6_at_0 19 rfl rfl)
theorem dX6_at_20 : decode cX6_at 20 = .ok (.goto 40, 3) := dk_167 0 40 (dk_at dksX6_at_0 20 rfl rfl)
theorem dX6_at_23 : decode cX6_at 23 = .ok (.iload_n 2, 1) := dk_28 (dk_at dksX6_at_0 23 rfl rfl)
theorem dX6_at_24 : decode cX6_at 24 = .ok (.iconst 1, 1) := dk_4 (dk_at dksX6_at_1 0 rfl rfl)
theorem dX6_at_25 : decode cX6_at 25 = .ok (.if_icmp .ne 16, 3) := dk_160 0 16 (dk_at dksX6_at_1 1 rfl rfl)
theorem dX6_at_28 : decode cX6_at 28 = .ok (.aload_n 0, 1) := dk_42 (dk_at dksX6_at_1 4 rfl rfl)
theorem dX6_at_29 : decode cX6_at 29 = .ok (.aload_n 0, 1) := dk_42 (dk_at dksX6_at_1 5 rfl rfl)
theorem dX6_at_30 : decode cX6_at 30 = .ok (.getfield 26, 3) := dk_180 0 26 (dk_at dksX6_at_1 6 rfl rfl)
theorem dX6_at_33 : decode cX6_at 33 = .ok (.iload_n 1, 1) := dk_27 (dk_at dksX6_at_1 9 rfl rfl)
theorem dX6_at_34 : decode cX6_at 34 = .ok (.iaload, 1) := dk_46 (dk_at dksX6_at_1 10 rfl rfl)
theorem dX6_at_35 : decode cX6_at 35 = .ok (.invokevirtual 266, 3) := dk_182 1 10 (dk_at dksX6_at_1 11 rfl rfl)
theorem dX6_at_38 : decode cX6_at 38 = .ok (.goto 22, 3) := dk_167 0 22 (dk_at dksX6_at_1 14 rfl rfl)
theorem dX6_at_41 : decode cX6_at 41 = .ok (.iload_n 2, 1) := dk_28 (dk_at dksX6_at_1 17 rfl rfl)
theorem dX6_at_42 : decode cX6_at 42 = .ok (.iconst 2, 1) := dk_5 (dk_at dksX6_at_1 18 rfl rfl)
theorem dX6_at_43 : decode cX6_at 43 = .ok (.if_icmp .ne 16, 3) := dk_160 0 16 (dk_at dksX6_at_1 19 rfl rfl)
theorem dX6_at_46 : decode cX6_at 46 = .ok (.aload_n 0, 1) := dk_42 (dk_at dksX6_at_1 22 rfl rfl)
theorem dX6_at_47 : decode cX6_at 47 = .ok (.aload_n 0, 1) := dk_42 (dk_at dksX6_at_1 23 rfl rfl)
theorem dX6_at_48 : decode cX6_at 48 = .ok (.getfield 23, 3) := dk_180 0 23 (dk_at dksX6_at_2 0 rfl rfl)
theorem dX6_at_51 : decode cX6_at 51 = .ok (.iload_n 1, 1) := dk_27 (dk_at dksX6_at_2 3 rfl rfl)
theorem dX6_at_52 : decode cX6_at 52 = .ok (.iaload, 1) := dk_46 (dk_at dksX6_at_2 4 rfl rfl)
theorem dX6_at_53 : decode cX6_at 53 = .ok (.invokevirtual 266, 3) := dk_182 1 10 (dk_at dksX6_at_2 5 rfl rfl)
theorem dX6_at_56 : decode cX6_at 56 = .ok (.goto 4, 3) := dk_167 0 4 (dk_at dksX6_at_2 8 rfl rfl)
theorem dX6_at_59 : decode cX6_at 59 = .ok (.iconst (-1), 1) := dk_2 (dk_at dksX6_at_2 11 rfl rfl)
theorem dX6_at_60 : decode cX6_at 60 = .ok (.ireturn, 1) := dk_172 (dk_at dksX6_at_2 12 rfl rfl)
abbrev cX6_told : ByteArray := prog_23_method_43_code
def yX6_told : MethodName := ⟨RX6, "told", "(I)I"⟩
def dkwX6_told_2 : List UInt8 := [180, 0, 16, 167, 0, 16, 27, 4, 160, 0, 10, 42, 182, 1, 82, 167, 0, 4, 2, 172]
abbrev dktX6_told_2 : List UInt8 := dkwX6_told_2 ++ []
def dkwX6_told_1 : List UInt8 := [16, 20, 16, 24, 182, 0, 248, 153, 0, 12, 42, 27, 16, 20, 100, 182, 1, 88, 172, 27, 154, 0, 10, 42]
abbrev dktX6_told_1 : List UInt8 := dkwX6_told_1 ++ dktX6_told_2
def dkwX6_told_0 : List UInt8 := [42, 27, 16, 10, 16, 14, 182, 0, 248, 153, 0, 13, 42, 180, 0, 50, 27, 16, 10, 100, 46, 172, 42, 27]
abbrev dktX6_told_0 : List UInt8 := dkwX6_told_0 ++ dktX6_told_1
theorem dksX6_told_0 : cX6_told.data.toList.drop 0 = dktX6_told_0 := by decide +kernel
theorem dksX6_told_1 : cX6_told.data.toList.drop 24 = dktX6_told_1 := dk_seg dksX6_told_0 24 rfl rfl
theorem dksX6_told_2 : cX6_told.data.toList.drop 48 = dktX6_told_2 := dk_seg dksX6_told_1 24 rfl rfl
theorem dX6_told_0 : decode cX6_told 0 = .ok (.aload_n 0, 1) := dk_42 (dk_at dksX6_told_0 0 rfl rfl)
theorem dX6_told_1 : decode cX6_told 1 = .ok (.iload_n 1, 1) := dk_27 (dk_at dksX6_told_0 1 rfl rfl)
theorem dX6_told_2 : decode cX6_told 2 = .ok (.bipush 10, 2) := dk_16 10 (dk_at dksX6_told_0 2 rfl rfl)
theorem dX6_told_4 : decode cX6_told 4 = .ok (.bipush 14, 2) := dk_16 14 (dk_at dksX6_told_0 4 rfl rfl)
theorem dX6_told_6 : decode cX6_told 6 = .ok (.invokevirtual 248, 3) := dk_182 0 248 (dk_at dksX6_told_0 6 rfl rfl)
theorem dX6_told_9 : decode cX6_told 9 = .ok (.ifCond .eq 13, 3) := dk_153 0 13 (dk_at dksX6_told_0 9 rfl rfl)
theorem dX6_told_12 : decode cX6_told 12 = .ok (.aload_n 0, 1) := dk_42 (dk_at dksX6_told_0 12 rfl rfl)
theorem dX6_told_13 : decode cX6_told 13 = .ok (.getfield 50, 3) := dk_180 0 50 (dk_at dksX6_told_0 13 rfl rfl)
theorem dX6_told_16 : decode cX6_told 16 = .ok (.iload_n 1, 1) := dk_27 (dk_at dksX6_told_0 16 rfl rfl)
theorem dX6_told_17 : decode cX6_told 17 = .ok (.bipush 10, 2) := dk_16 10 (dk_at dksX6_told_0 17 rfl rfl)
theorem dX6_told_19 : decode cX6_told 19 = .ok (.isub, 1) := dk_100 (dk_at dksX6_told_0 19 rfl rfl)
theorem dX6_told_20 : decode cX6_told 20 = .ok (.iaload, 1) := dk_46 (dk_at dksX6_told_0 20 rfl rfl)
theorem dX6_told_21 : decode cX6_told 21 = .ok (.ireturn, 1) := dk_172 (dk_at dksX6_told_0 21 rfl rfl)
theorem dX6_told_22 : decode cX6_told 22 = .ok (.aload_n 0, 1) := dk_42 (dk_at dksX6_told_0 22 rfl rfl)
theorem dX6_told_23 : decode cX6_told 23 = .ok (.iload_n 1, 1) := dk_27 (dk_at dksX6_told_0 23 rfl rfl)
theorem dX6_told_24 : decode cX6_told 24 = .ok (.bipush 20, 2) := dk_16 20 (dk_at dksX6_told_1 0 rfl rfl)
theorem dX6_told_26 : decode cX6_told 26 = .ok (.bipush 24, 2) := dk_16 24 (dk_at dksX6_told_1 2 rfl rfl)
theorem dX6_told_28 : decode cX6_told 28 = .ok (.invokevirtual 248, 3) := dk_182 0 248 (dk_at dksX6_told_1 4 rfl rfl)
theorem dX6_told_31 : decode cX6_told 31 = .ok (.ifCond .eq 12, 3) := dk_153 0 12 (dk_at dksX6_told_1 7 rfl rfl)
theorem dX6_told_34 : decode cX6_told 34 = .ok (.aload_n 0, 1) := dk_42 (dk_at dksX6_told_1 10 rfl rfl)
theorem dX6_told_35 : decode cX6_told 35 = .ok (.iload_n 1, 1) := dk_27 (dk_at dksX6_told_1 11 rfl rfl)
theorem dX6_told_36 : decode cX6_told 36 = .ok (.bipush 20, 2) := dk_16 20 (dk_at dksX6_told_1 12 rfl rfl)
theorem dX6_told_38 : decode cX6_told 38 = .ok (.isub, 1) := dk_100 (dk_at dksX6_told_1 14 rfl rfl)
theorem dX6_told_39 : decode cX6_told 39 = .ok (.invokevirtual 344, 3) := dk_182 1 88 (dk_at dksX6_told_1 15 rfl rfl)
theorem dX6_told_42 : decode cX6_told 42 = .ok (.ireturn, 1) := dk_172 (dk_at dksX6_told_1 18 rfl rfl)
theorem dX6_told_43 : decode cX6_told 43 = .ok (.iload_n 1, 1) := dk_27 (dk_at dksX6_told_1 19 rfl rfl)
theorem dX6_told_44 : decode cX6_told 44 = .ok (.ifCond .ne 10, 3) := dk_154 0 10 (dk_at dksX6_told_1 20 rfl rfl)
theorem dX6_told_47 : decode cX6_told 47 = .ok (.aload_n 0, 1) := dk_42 (dk_at dksX6_told_1 23 rfl rfl)
theorem dX6_told_48 : decode cX6_told 48 = .ok (.getfield 16, 3) := dk_180 0 16 (dk_at dksX6_told_2 0 rfl rfl)
theorem dX6_told_51 : decode cX6_told 51 = .ok (.goto 16, 3) := dk_167 0 16 (dk_at dksX6_told_2 3 rfl rfl)
theorem dX6_told_54 : decode cX6_told 54 = .ok (.iload_n 1, 1) := dk_27 (dk_at dksX6_told_2 6 rfl rfl)
theorem dX6_told_55 : decode cX6_told 55 = .ok (.iconst 1, 1) := dk_4 (dk_at dksX6_told_2 7 rfl rfl)
theorem dX6_told_56 : decode cX6_told 56 = .ok (.if_icmp .ne 10, 3) := dk_160 0 10 (dk_at dksX6_told_2 8 rfl rfl)
theorem dX6_told_59 : decode cX6_told 59 = .ok (.aload_n 0, 1) := dk_42 (dk_at dksX6_told_2 11 rfl rfl)
theorem dX6_told_60 : decode cX6_told 60 = .ok (.invokevirtual 338, 3) := dk_182 1 82 (dk_at dksX6_told_2 12 rfl rfl)
theorem dX6_told_63 : decode cX6_told 63 = .ok (.goto 4, 3) := dk_167 0 4 (dk_at dksX6_told_2 15 rfl rfl)
theorem dX6_told_66 : decode cX6_told 66 = .ok (.iconst (-1), 1) := dk_2 (dk_at dksX6_told_2 18 rfl rfl)
theorem dX6_told_67 : decode cX6_told 67 = .ok (.ireturn, 1) := dk_172 (dk_at dksX6_told_2 19 rfl rfl)
abbrev cX6_work : ByteArray := prog_23_method_35_code
def yX6_work : MethodName := ⟨RX6, "work", "(I)I"⟩
def dkwX6_work_2 : List UInt8 := [132, 3, 1, 167, 255, 214, 28, 172]
abbrev dktX6_work_2 : List UInt8 := dkwX6_work_2 ++ []
def dkwX6_work_1 : List UInt8 := [160, 0, 22, 42, 180, 0, 77, 29, 46, 27, 160, 0, 12, 42, 180, 0, 80, 29, 46, 167, 0, 4, 28, 61]
abbrev dktX6_work_1 : List UInt8 := dkwX6_work_1 ++ dktX6_work_2
def dkwX6_work_0 : List UInt8 := [16, 10, 61, 42, 182, 1, 59, 62, 29, 42, 182, 1, 62, 162, 0, 40, 42, 180, 0, 74, 29, 46, 6]
abbrev dktX6_work_0 : List UInt8 := dkwX6_work_0 ++ dktX6_work_1
theorem dksX6_work_0 : cX6_work.data.toList.drop 0 = dktX6_work_0 := by decide +kernel
theorem dksX6_work_1 : cX6_work.data.toList.drop 23 = dktX6_work_1 := dk_seg dksX6_work_0 23 rfl rfl
theorem dksX6_work_2 : cX6_work.data.toList.drop 47 = dktX6_work_2 := dk_seg dksX6_work_1 24 rfl rfl
theorem dX6_work_0 : decode cX6_work 0 = .ok (.bipush 10, 2) := dk_16 10 (dk_at dksX6_work_0 0 rfl rfl)
theorem dX6_work_2 : decode cX6_work 2 = .ok (.istore_n 2, 1) := dk_61 (dk_at dksX6_work_0 2 rfl rfl)
theorem dX6_work_3 : decode cX6_work 3 = .ok (.aload_n 0, 1) := dk_42 (dk_at dksX6_work_0 3 rfl rfl)
theorem dX6_work_4 : decode cX6_work 4 = .ok (.invokevirtual 315, 3) := dk_182 1 59 (dk_at dksX6_work_0 4 rfl rfl)
theorem dX6_work_7 : decode cX6_work 7 = .ok (.istore_n 3, 1) := dk_62 (dk_at dksX6_work_0 7 rfl rfl)
theorem dX6_work_8 : decode cX6_work 8 = .ok (.iload_n 3, 1) := dk_29 (dk_at dksX6_work_0 8 rfl rfl)
theorem dX6_work_9 : decode cX6_work 9 = .ok (.aload_n 0, 1) := dk_42 (dk_at dksX6_work_0 9 rfl rfl)
theorem dX6_work_10 : decode cX6_work 10 = .ok (.invokevirtual 318, 3) := dk_182 1 62 (dk_at dksX6_work_0 10 rfl rfl)
theorem dX6_work_13 : decode cX6_work 13 = .ok (.if_icmp .ge 40, 3) := dk_162 0 40 (dk_at dksX6_work_0 13 rfl rfl)
theorem dX6_work_16 : decode cX6_work 16 = .ok (.aload_n 0, 1) := dk_42 (dk_at dksX6_work_0 16 rfl rfl)
theorem dX6_work_17 : decode cX6_work 17 = .ok (.getfield 74, 3) := dk_180 0 74 (dk_at dksX6_work_0 17 rfl rfl)
theorem dX6_work_20 : decode cX6_work 20 = .ok (.iload_n 3, 1) := dk_29 (dk_at dksX6_work_0 20 rfl rfl)
theorem dX6_work_21 : decode cX6_work 21 = .ok (.iaload, 1) := dk_46 (dk_at dksX6_work_0 21 rfl rfl)
theorem dX6_work_22 : decode cX6_work 22 = .ok (.iconst 3, 1) := dk_6 (dk_at dksX6_work_0 22 rfl rfl)
theorem dX6_work_23 : decode cX6_work 23 = .ok (.if_icmp .ne 22, 3) := dk_160 0 22 (dk_at dksX6_work_1 0 rfl rfl)
theorem dX6_work_26 : decode cX6_work 26 = .ok (.aload_n 0, 1) := dk_42 (dk_at dksX6_work_1 3 rfl rfl)
theorem dX6_work_27 : decode cX6_work 27 = .ok (.getfield 77, 3) := dk_180 0 77 (dk_at dksX6_work_1 4 rfl rfl)
theorem dX6_work_30 : decode cX6_work 30 = .ok (.iload_n 3, 1) := dk_29 (dk_at dksX6_work_1 7 rfl rfl)
theorem dX6_work_31 : decode cX6_work 31 = .ok (.iaload, 1) := dk_46 (dk_at dksX6_work_1 8 rfl rfl)
theorem dX6_work_32 : decode cX6_work 32 = .ok (.iload_n 1, 1) := dk_27 (dk_at dksX6_work_1 9 rfl rfl)
theorem dX6_work_33 : decode cX6_work 33 = .ok (.if_icmp .ne 12, 3) := dk_160 0 12 (dk_at dksX6_work_1 10 rfl rfl)
theorem dX6_work_36 : decode cX6_work 36 = .ok (.aload_n 0, 1) := dk_42 (dk_at dksX6_work_1 13 rfl rfl)
theorem dX6_work_37 : decode cX6_work 37 = .ok (.getfield 80, 3) := dk_180 0 80 (dk_at dksX6_work_1 14 rfl rfl)
theorem dX6_work_40 : decode cX6_work 40 = .ok (.iload_n 3, 1) := dk_29 (dk_at dksX6_work_1 17 rfl rfl)
theorem dX6_work_41 : decode cX6_work 41 = .ok (.iaload, 1) := dk_46 (dk_at dksX6_work_1 18 rfl rfl)
theorem dX6_work_42 : decode cX6_work 42 = .ok (.goto 4, 3) := dk_167 0 4 (dk_at dksX6_work_1 19 rfl rfl)
theorem dX6_work_45 : decode cX6_work 45 = .ok (.iload_n 2, 1) := dk_28 (dk_at dksX6_work_1 22 rfl rfl)
theorem dX6_work_46 : decode cX6_work 46 = .ok (.istore_n 2, 1) := dk_61 (dk_at dksX6_work_1 23 rfl rfl)
theorem dX6_work_47 : decode cX6_work 47 = .ok (.iinc 3 1, 3) := dk_132 3 1 (dk_at dksX6_work_2 0 rfl rfl)
theorem dX6_work_50 : decode cX6_work 50 = .ok (.goto (-42), 3) := dk_167 255 214 (dk_at dksX6_work_2 3 rfl rfl)
theorem dX6_work_53 : decode cX6_work 53 = .ok (.iload_n 2, 1) := dk_28 (dk_at dksX6_work_2 6 rfl rfl)
theorem dX6_work_54 : decode cX6_work 54 = .ok (.ireturn, 1) := dk_172 (dk_at dksX6_work_2 7 rfl rfl)
abbrev cX6_day : ByteArray := prog_23_method_46_code
def yX6_day : MethodName := ⟨RX6, "day", "()I"⟩
def dkwX6_day_3 : List UInt8 := [27, 172]
abbrev dktX6_day_3 : List UInt8 := dkwX6_day_3 ++ []
def dkwX6_day_2 : List UInt8 := [19, 1, 94, 164, 0, 9, 19, 1, 94, 167, 0, 4, 29, 79, 132, 2, 1, 167, 255, 215, 42, 182, 1, 95]
abbrev dktX6_day_2 : List UInt8 := dkwX6_day_2 ++ dktX6_day_3
def dkwX6_day_1 : List UInt8 := [162, 0, 42, 42, 180, 0, 50, 28, 46, 42, 28, 182, 1, 91, 96, 62, 42, 180, 0, 50, 28, 29]
abbrev dktX6_day_1 : List UInt8 := dkwX6_day_1 ++ dktX6_day_2
def dkwX6_day_0 : List UInt8 := [42, 180, 0, 16, 17, 39, 15, 160, 0, 6, 16, 253, 172, 42, 2, 182, 1, 91, 60, 3, 61, 28, 8]
abbrev dktX6_day_0 : List UInt8 := dkwX6_day_0 ++ dktX6_day_1
theorem dksX6_day_0 : cX6_day.data.toList.drop 0 = dktX6_day_0 := by decide +kernel
theorem dksX6_day_1 : cX6_day.data.toList.drop 23 = dktX6_day_1 := dk_seg dksX6_day_0 23 rfl rfl
theorem dksX6_day_2 : cX6_day.data.toList.drop 45 = dktX6_day_2 := dk_seg dksX6_day_1 22 rfl rfl
theorem dksX6_day_3 : cX6_day.data.toList.drop 69 = dktX6_day_3 := dk_seg dksX6_day_2 24 rfl rfl
theorem dX6_day_0 : decode cX6_day 0 = .ok (.aload_n 0, 1) := dk_42 (dk_at dksX6_day_0 0 rfl rfl)
theorem dX6_day_1 : decode cX6_day 1 = .ok (.getfield 16, 3) := dk_180 0 16 (dk_at dksX6_day_0 1 rfl rfl)
theorem dX6_day_4 : decode cX6_day 4 = .ok (.sipush 9999, 3) := dk_17 39 15 (dk_at dksX6_day_0 4 rfl rfl)
theorem dX6_day_7 : decode cX6_day 7 = .ok (.if_icmp .ne 6, 3) := dk_160 0 6 (dk_at dksX6_day_0 7 rfl rfl)
theorem dX6_day_10 : decode cX6_day 10 = .ok (.bipush (-3), 2) := dk_16 253 (dk_at dksX6_day_0 10 rfl rfl)
theorem dX6_day_12 : decode cX6_day 12 = .ok (.ireturn, 1) := dk_172 (dk_at dksX6_day_0 12 rfl rfl)
theorem dX6_day_13 : decode cX6_day 13 = .ok (.aload_n 0, 1) := dk_42 (dk_at dksX6_day_0 13 rfl rfl)
theorem dX6_day_14 : decode cX6_day 14 = .ok (.iconst (-1), 1) := dk_2 (dk_at dksX6_day_0 14 rfl rfl)
theorem dX6_day_15 : decode cX6_day 15 = .ok (.invokevirtual 347, 3) := dk_182 1 91 (dk_at dksX6_day_0 15 rfl rfl)
theorem dX6_day_18 : decode cX6_day 18 = .ok (.istore_n 1, 1) := dk_60 (dk_at dksX6_day_0 18 rfl rfl)
theorem dX6_day_19 : decode cX6_day 19 = .ok (.iconst 0, 1) := dk_3 (dk_at dksX6_day_0 19 rfl rfl)
theorem dX6_day_20 : decode cX6_day 20 = .ok (.istore_n 2, 1) := dk_61 (dk_at dksX6_day_0 20 rfl rfl)
theorem dX6_day_21 : decode cX6_day 21 = .ok (.iload_n 2, 1) := dk_28 (dk_at dksX6_day_0 21 rfl rfl)
theorem dX6_day_22 : decode cX6_day 22 = .ok (.iconst 5, 1) := dk_8 (dk_at dksX6_day_0 22 rfl rfl)
theorem dX6_day_23 : decode cX6_day 23 = .ok (.if_icmp .ge 42, 3) := dk_162 0 42 (dk_at dksX6_day_1 0 rfl rfl)
theorem dX6_day_26 : decode cX6_day 26 = .ok (.aload_n 0, 1) := dk_42 (dk_at dksX6_day_1 3 rfl rfl)
theorem dX6_day_27 : decode cX6_day 27 = .ok (.getfield 50, 3) := dk_180 0 50 (dk_at dksX6_day_1 4 rfl rfl)
theorem dX6_day_30 : decode cX6_day 30 = .ok (.iload_n 2, 1) := dk_28 (dk_at dksX6_day_1 7 rfl rfl)
theorem dX6_day_31 : decode cX6_day 31 = .ok (.iaload, 1) := dk_46 (dk_at dksX6_day_1 8 rfl rfl)
theorem dX6_day_32 : decode cX6_day 32 = .ok (.aload_n 0, 1) := dk_42 (dk_at dksX6_day_1 9 rfl rfl)
theorem dX6_day_33 : decode cX6_day 33 = .ok (.iload_n 2, 1) := dk_28 (dk_at dksX6_day_1 10 rfl rfl)
theorem dX6_day_34 : decode cX6_day 34 = .ok (.invokevirtual 347, 3) := dk_182 1 91 (dk_at dksX6_day_1 11 rfl rfl)
theorem dX6_day_37 : decode cX6_day 37 = .ok (.iadd, 1) := dk_96 (dk_at dksX6_day_1 14 rfl rfl)
theorem dX6_day_38 : decode cX6_day 38 = .ok (.istore_n 3, 1) := dk_62 (dk_at dksX6_day_1 15 rfl rfl)
theorem dX6_day_39 : decode cX6_day 39 = .ok (.aload_n 0, 1) := dk_42 (dk_at dksX6_day_1 16 rfl rfl)
theorem dX6_day_40 : decode cX6_day 40 = .ok (.getfield 50, 3) := dk_180 0 50 (dk_at dksX6_day_1 17 rfl rfl)
theorem dX6_day_43 : decode cX6_day 43 = .ok (.iload_n 2, 1) := dk_28 (dk_at dksX6_day_1 20 rfl rfl)
theorem dX6_day_44 : decode cX6_day 44 = .ok (.iload_n 3, 1) := dk_29 (dk_at dksX6_day_1 21 rfl rfl)
theorem dX6_day_45 : decode cX6_day 45 = .ok (.ldc_w 350, 3) := dk_19 1 94 (dk_at dksX6_day_2 0 rfl rfl)
theorem dX6_day_48 : decode cX6_day 48 = .ok (.if_icmp .le 9, 3) := dk_164 0 9 (dk_at dksX6_day_2 3 rfl rfl)
theorem dX6_day_51 : decode cX6_day 51 = .ok (.ldc_w 350, 3) := dk_19 1 94 (dk_at dksX6_day_2 6 rfl rfl)
theorem dX6_day_54 : decode cX6_day 54 = .ok (.goto 4, 3) := dk_167 0 4 (dk_at dksX6_day_2 9 rfl rfl)
theorem dX6_day_57 : decode cX6_day 57 = .ok (.iload_n 3, 1) := dk_29 (dk_at dksX6_day_2 12 rfl rfl)
theorem dX6_day_58 : decode cX6_day 58 = .ok (.iastore, 1) := dk_79 (dk_at dksX6_day_2 13 rfl rfl)
theorem dX6_day_59 : decode cX6_day 59 = .ok (.iinc 2 1, 3) := dk_132 2 1 (dk_at dksX6_day_2 14 rfl rfl)
theorem dX6_day_62 : decode cX6_day 62 = .ok (.goto (-41), 3) := dk_167 255 215 (dk_at dksX6_day_2 17 rfl rfl)
theorem dX6_day_65 : decode cX6_day 65 = .ok (.aload_n 0, 1) := dk_42 (dk_at dksX6_day_2 20 rfl rfl)
theorem dX6_day_66 : decode cX6_day 66 = .ok (.invokevirtual 351, 3) := dk_182 1 95 (dk_at dksX6_day_2 21 rfl rfl)
theorem dX6_day_69 : decode cX6_day 69 = .ok (.iload_n 1, 1) := dk_27 (dk_at dksX6_day_3 0 rfl rfl)
theorem dX6_day_70 : decode cX6_day 70 = .ok (.ireturn, 1) := dk_172 (dk_at dksX6_day_3 1 rfl rfl)
abbrev cX6_todayOf : ByteArray := prog_23_method_44_code
def yX6_todayOf : MethodName := ⟨RX6, "todayOf", "(I)I"⟩
def dkwX6_todayOf_2 : List UInt8 := [46, 29, 182, 1, 85, 167, 0, 4, 3, 96, 61, 132, 3, 1, 167, 255, 199, 28, 172]
abbrev dktX6_todayOf_2 : List UInt8 := dkwX6_todayOf_2 ++ []
def dkwX6_todayOf_1 : List UInt8 := [155, 0, 18, 42, 180, 0, 41, 42, 180, 0, 26, 29, 46, 46, 27, 160, 0, 17, 42, 42, 180, 0, 26, 29]
abbrev dktX6_todayOf_1 : List UInt8 := dkwX6_todayOf_1 ++ dktX6_todayOf_2
def dkwX6_todayOf_0 : List UInt8 := [3, 61, 3, 62, 29, 42, 180, 0, 7, 162, 0, 55, 28, 42, 180, 0, 26, 29, 46, 155, 0, 36, 27]
abbrev dktX6_todayOf_0 : List UInt8 := dkwX6_todayOf_0 ++ dktX6_todayOf_1
theorem dksX6_todayOf_0 : cX6_todayOf.data.toList.drop 0 = dktX6_todayOf_0 := by decide +kernel
theorem dksX6_todayOf_1 : cX6_todayOf.data.toList.drop 23 = dktX6_todayOf_1 := dk_seg dksX6_todayOf_0 23 rfl rfl
theorem dksX6_todayOf_2 : cX6_todayOf.data.toList.drop 47 = dktX6_todayOf_2 := dk_seg dksX6_todayOf_1 24 rfl rfl
theorem dX6_todayOf_0 : decode cX6_todayOf 0 = .ok (.iconst 0, 1) := dk_3 (dk_at dksX6_todayOf_0 0 rfl rfl)
theorem dX6_todayOf_1 : decode cX6_todayOf 1 = .ok (.istore_n 2, 1) := dk_61 (dk_at dksX6_todayOf_0 1 rfl rfl)
theorem dX6_todayOf_2 : decode cX6_todayOf 2 = .ok (.iconst 0, 1) := dk_3 (dk_at dksX6_todayOf_0 2 rfl rfl)
theorem dX6_todayOf_3 : decode cX6_todayOf 3 = .ok (.istore_n 3, 1) := dk_62 (dk_at dksX6_todayOf_0 3 rfl rfl)
theorem dX6_todayOf_4 : decode cX6_todayOf 4 = .ok (.iload_n 3, 1) := dk_29 (dk_at dksX6_todayOf_0 4 rfl rfl)
theorem dX6_todayOf_5 : decode cX6_todayOf 5 = .ok (.aload_n 0, 1) := dk_42 (dk_at dksX6_todayOf_0 5 rfl rfl)
theorem dX6_todayOf_6 : decode cX6_todayOf 6 = .ok (.getfield 7, 3) := dk_180 0 7 (dk_at dksX6_todayOf_0 6 rfl rfl)
theorem dX6_todayOf_9 : decode cX6_todayOf 9 = .ok (.if_icmp .ge 55, 3) := dk_162 0 55 (dk_at dksX6_todayOf_0 9 rfl rfl)
theorem dX6_todayOf_12 : decode cX6_todayOf 12 = .ok (.iload_n 2, 1) := dk_28 (dk_at dksX6_todayOf_0 12 rfl rfl)
theorem dX6_todayOf_13 : decode cX6_todayOf 13 = .ok (.aload_n 0, 1) := dk_42 (dk_at dksX6_todayOf_0 13 rfl rfl)
theorem dX6_todayOf_14 : decode cX6_todayOf 14 = .ok (.getfield 26, 3) := dk_180 0 26 (dk_at dksX6_todayOf_0 14 rfl rfl)
theorem dX6_todayOf_17 : decode cX6_todayOf 17 = .ok (.iload_n 3, 1) := dk_29 (dk_at dksX6_todayOf_0 17 rfl rfl)
theorem dX6_todayOf_18 : decode cX6_todayOf 18 = .ok (.iaload, 1) := dk_46 (dk_at dksX6_todayOf_0 18 rfl rfl)
theorem dX6_todayOf_19 : decode cX6_todayOf 19 = .ok (.ifCond .lt 36, 3) := dk_155 0 36 (dk_at dksX6_todayOf_0 19 rfl rfl)
theorem dX6_todayOf_22 : decode cX6_todayOf 22 = .ok (.iload_n 1, 1) := dk_27 (dk_at dksX6_todayOf_0 22 rfl rfl)
theorem dX6_todayOf_23 : decode cX6_todayOf 23 = .ok (.ifCond .lt 18, 3) := dk_155 0 18 (dk_at dksX6_todayOf_1 0 rfl rfl)
theorem dX6_todayOf_26 : decode cX6_todayOf 26 = .ok (.aload_n 0, 1) := dk_42 (dk_at dksX6_todayOf_1 3 rfl rfl)
theorem dX6_todayOf_27 : decode cX6_todayOf 27 = .ok (.getfield 41, 3) := dk_180 0 41 (dk_at dksX6_todayOf_1 4 rfl rfl)
theorem dX6_todayOf_30 : decode cX6_todayOf 30 = .ok (.aload_n 0, 1) := dk_42 (dk_at dksX6_todayOf_1 7 rfl rfl)
theorem dX6_todayOf_31 : decode cX6_todayOf 31 = .ok (.getfield 26, 3) := dk_180 0 26 (dk_at dksX6_todayOf_1 8 rfl rfl)
theorem dX6_todayOf_34 : decode cX6_todayOf 34 = .ok (.iload_n 3, 1) := dk_29 (dk_at dksX6_todayOf_1 11 rfl rfl)
theorem dX6_todayOf_35 : decode cX6_todayOf 35 = .ok (.iaload, 1) := dk_46 (dk_at dksX6_todayOf_1 12 rfl rfl)
theorem dX6_todayOf_36 : decode cX6_todayOf 36 = .ok (.iaload, 1) := dk_46 (dk_at dksX6_todayOf_1 13 rfl rfl)
theorem dX6_todayOf_37 : decode cX6_todayOf 37 = .ok (.iload_n 1, 1) := dk_27 (dk_at dksX6_todayOf_1 14 rfl rfl)
theorem dX6_todayOf_38 : decode cX6_todayOf 38 = .ok (.if_icmp .ne 17, 3) := dk_160 0 17 (dk_at dksX6_todayOf_1 15 rfl rfl)
theorem dX6_todayOf_41 : decode cX6_todayOf 41 = .ok (.aload_n 0, 1) := dk_42 (dk_at dksX6_todayOf_1 18 rfl rfl)
theorem dX6_todayOf_42 : decode cX6_todayOf 42 = .ok (.aload_n 0, 1) := dk_42 (dk_at dksX6_todayOf_1 19 rfl rfl)
theorem dX6_todayOf_43 : decode cX6_todayOf 43 = .ok (.getfield 26, 3) := dk_180 0 26 (dk_at dksX6_todayOf_1 20 rfl rfl)
theorem dX6_todayOf_46 : decode cX6_todayOf 46 = .ok (.iload_n 3, 1) := dk_29 (dk_at dksX6_todayOf_1 23 rfl rfl)
theorem dX6_todayOf_47 : decode cX6_todayOf 47 = .ok (.iaload, 1) := dk_46 (dk_at dksX6_todayOf_2 0 rfl rfl)
theorem dX6_todayOf_48 : decode cX6_todayOf 48 = .ok (.iload_n 3, 1) := dk_29 (dk_at dksX6_todayOf_2 1 rfl rfl)
theorem dX6_todayOf_49 : decode cX6_todayOf 49 = .ok (.invokevirtual 341, 3) := dk_182 1 85 (dk_at dksX6_todayOf_2 2 rfl rfl)
theorem dX6_todayOf_52 : decode cX6_todayOf 52 = .ok (.goto 4, 3) := dk_167 0 4 (dk_at dksX6_todayOf_2 5 rfl rfl)
theorem dX6_todayOf_55 : decode cX6_todayOf 55 = .ok (.iconst 0, 1) := dk_3 (dk_at dksX6_todayOf_2 8 rfl rfl)
theorem dX6_todayOf_56 : decode cX6_todayOf 56 = .ok (.iadd, 1) := dk_96 (dk_at dksX6_todayOf_2 9 rfl rfl)
theorem dX6_todayOf_57 : decode cX6_todayOf 57 = .ok (.istore_n 2, 1) := dk_61 (dk_at dksX6_todayOf_2 10 rfl rfl)
theorem dX6_todayOf_58 : decode cX6_todayOf 58 = .ok (.iinc 3 1, 3) := dk_132 3 1 (dk_at dksX6_todayOf_2 11 rfl rfl)
theorem dX6_todayOf_61 : decode cX6_todayOf 61 = .ok (.goto (-57), 3) := dk_167 255 199 (dk_at dksX6_todayOf_2 14 rfl rfl)
theorem dX6_todayOf_64 : decode cX6_todayOf 64 = .ok (.iload_n 2, 1) := dk_28 (dk_at dksX6_todayOf_2 17 rfl rfl)
theorem dX6_todayOf_65 : decode cX6_todayOf 65 = .ok (.ireturn, 1) := dk_172 (dk_at dksX6_todayOf_2 18 rfl rfl)
abbrev cX6_goDay : ByteArray := prog_23_method_45_code
def yX6_goDay : MethodName := ⟨RX6, "goDay", "()V"⟩
def dkwX6_goDay_3 : List UInt8 := [167, 255, 187, 42, 89, 180, 0, 16, 4, 96, 181, 0, 16, 177]
abbrev dktX6_goDay_3 : List UInt8 := dkwX6_goDay_3 ++ []
def dkwX6_goDay_2 : List UInt8 := [180, 0, 44, 42, 180, 0, 26, 27, 46, 46, 4, 96, 167, 0, 7, 42, 180, 0, 111, 79, 132, 1, 1]
abbrev dktX6_goDay_2 : List UInt8 := dkwX6_goDay_2 ++ dktX6_goDay_3
def dkwX6_goDay_1 : List UInt8 := [180, 0, 26, 27, 46, 42, 180, 0, 44, 42, 180, 0, 26, 27, 46, 46, 42, 180, 0, 111, 162, 0, 19, 42]
abbrev dktX6_goDay_1 : List UInt8 := dkwX6_goDay_1 ++ dktX6_goDay_2
def dkwX6_goDay_0 : List UInt8 := [3, 60, 27, 42, 180, 0, 7, 162, 0, 67, 42, 180, 0, 26, 27, 46, 155, 0, 52, 42, 180, 0, 44, 42]
abbrev dktX6_goDay_0 : List UInt8 := dkwX6_goDay_0 ++ dktX6_goDay_1
theorem dksX6_goDay_0 : cX6_goDay.data.toList.drop 0 = dktX6_goDay_0 := by decide +kernel
theorem dksX6_goDay_1 : cX6_goDay.data.toList.drop 24 = dktX6_goDay_1 := dk_seg dksX6_goDay_0 24 rfl rfl
theorem dksX6_goDay_2 : cX6_goDay.data.toList.drop 48 = dktX6_goDay_2 := dk_seg dksX6_goDay_1 24 rfl rfl
theorem dksX6_goDay_3 : cX6_goDay.data.toList.drop 71 = dktX6_goDay_3 := dk_seg dksX6_goDay_2 23 rfl rfl
theorem dX6_goDay_0 : decode cX6_goDay 0 = .ok (.iconst 0, 1) := dk_3 (dk_at dksX6_goDay_0 0 rfl rfl)
theorem dX6_goDay_1 : decode cX6_goDay 1 = .ok (.istore_n 1, 1) := dk_60 (dk_at dksX6_goDay_0 1 rfl rfl)
theorem dX6_goDay_2 : decode cX6_goDay 2 = .ok (.iload_n 1, 1) := dk_27 (dk_at dksX6_goDay_0 2 rfl rfl)
theorem dX6_goDay_3 : decode cX6_goDay 3 = .ok (.aload_n 0, 1) := dk_42 (dk_at dksX6_goDay_0 3 rfl rfl)
theorem dX6_goDay_4 : decode cX6_goDay 4 = .ok (.getfield 7, 3) := dk_180 0 7 (dk_at dksX6_goDay_0 4 rfl rfl)
theorem dX6_goDay_7 : decode cX6_goDay 7 = .ok (.if_icmp .ge 67, 3) := dk_162 0 67 (dk_at dksX6_goDay_0 7 rfl rfl)
theorem dX6_goDay_10 : decode cX6_goDay 10 = .ok (.aload_n 0, 1) := dk_42 (dk_at dksX6_goDay_0 10 rfl rfl)
theorem dX6_goDay_11 : decode cX6_goDay 11 = .ok (.getfield 26, 3) := dk_180 0 26 (dk_at dksX6_goDay_0 11 rfl rfl)
theorem dX6_goDay_14 : decode cX6_goDay 14 = .ok (.iload_n 1, 1) := dk_27 (dk_at dksX6_goDay_0 14 rfl rfl)
theorem dX6_goDay_15 : decode cX6_goDay 15 = .ok (.iaload, 1) := dk_46 (dk_at dksX6_goDay_0 15 rfl rfl)
theorem dX6_goDay_16 : decode cX6_goDay 16 = .ok (.ifCond .lt 52, 3) := dk_155 0 52 (dk_at dksX6_goDay_0 16 rfl rfl)
theorem dX6_goDay_19 : decode cX6_goDay 19 = .ok (.aload_n 0, 1) := dk_42 (dk_at dksX6_goDay_0 19 rfl rfl)
theorem dX6_goDay_20 : decode cX6_goDay 20 = .ok (.getfield 44, 3) := dk_180 0 44 (dk_at dksX6_goDay_0 20 rfl rfl)
theorem dX6_goDay_23 : decode cX6_goDay 23 = .ok (.aload_n 0, 1) := dk_42 (dk_at dksX6_goDay_0 23 rfl rfl)
theorem dX6_goDay_24 : decode cX6_goDay 24 = .ok (.getfield 26, 3) := dk_180 0 26 (dk_at dksX6_goDay_1 0 rfl rfl)
theorem dX6_goDay_27 : decode cX6_goDay 27 = .ok (.iload_n 1, 1) := dk_27 (dk_at dksX6_goDay_1 3 rfl rfl)
theorem dX6_goDay_28 : decode cX6_goDay 28 = .ok (.iaload, 1) := dk_46 (dk_at dksX6_goDay_1 4 rfl rfl)
theorem dX6_goDay_29 : decode cX6_goDay 29 = .ok (.aload_n 0, 1) := dk_42 (dk_at dksX6_goDay_1 5 rfl rfl)
theorem dX6_goDay_30 : decode cX6_goDay 30 = .ok (.getfield 44, 3) := dk_180 0 44 (dk_at dksX6_goDay_1 6 rfl rfl)
theorem dX6_goDay_33 : decode cX6_goDay 33 = .ok (.aload_n 0, 1) := dk_42 (dk_at dksX6_goDay_1 9 rfl rfl)
theorem dX6_goDay_34 : decode cX6_goDay 34 = .ok (.getfield 26, 3) := dk_180 0 26 (dk_at dksX6_goDay_1 10 rfl rfl)
theorem dX6_goDay_37 : decode cX6_goDay 37 = .ok (.iload_n 1, 1) := dk_27 (dk_at dksX6_goDay_1 13 rfl rfl)
theorem dX6_goDay_38 : decode cX6_goDay 38 = .ok (.iaload, 1) := dk_46 (dk_at dksX6_goDay_1 14 rfl rfl)
theorem dX6_goDay_39 : decode cX6_goDay 39 = .ok (.iaload, 1) := dk_46 (dk_at dksX6_goDay_1 15 rfl rfl)
theorem dX6_goDay_40 : decode cX6_goDay 40 = .ok (.aload_n 0, 1) := dk_42 (dk_at dksX6_goDay_1 16 rfl rfl)
theorem dX6_goDay_41 : decode cX6_goDay 41 = .ok (.getfield 111, 3) := dk_180 0 111 (dk_at dksX6_goDay_1 17 rfl rfl)
theorem dX6_goDay_44 : decode cX6_goDay 44 = .ok (.if_icmp .ge 19, 3) := dk_162 0 19 (dk_at dksX6_goDay_1 20 rfl rfl)
theorem dX6_goDay_47 : decode cX6_goDay 47 = .ok (.aload_n 0, 1) := dk_42 (dk_at dksX6_goDay_1 23 rfl rfl)
theorem dX6_goDay_48 : decode cX6_goDay 48 = .ok (.getfield 44, 3) := dk_180 0 44 (dk_at dksX6_goDay_2 0 rfl rfl)
theorem dX6_goDay_51 : decode cX6_goDay 51 = .ok (.aload_n 0, 1) := dk_42 (dk_at dksX6_goDay_2 3 rfl rfl)
theorem dX6_goDay_52 : decode cX6_goDay 52 = .ok (.getfield 26, 3) := dk_180 0 26 (dk_at dksX6_goDay_2 4 rfl rfl)
theorem dX6_goDay_55 : decode cX6_goDay 55 = .ok (.iload_n 1, 1) := dk_27 (dk_at dksX6_goDay_2 7 rfl rfl)
theorem dX6_goDay_56 : decode cX6_goDay 56 = .ok (.iaload, 1) := dk_46 (dk_at dksX6_goDay_2 8 rfl rfl)
theorem dX6_goDay_57 : decode cX6_goDay 57 = .ok (.iaload, 1) := dk_46 (dk_at dksX6_goDay_2 9 rfl rfl)
theorem dX6_goDay_58 : decode cX6_goDay 58 = .ok (.iconst 1, 1) := dk_4 (dk_at dksX6_goDay_2 10 rfl rfl)
theorem dX6_goDay_59 : decode cX6_goDay 59 = .ok (.iadd, 1) := dk_96 (dk_at dksX6_goDay_2 11 rfl rfl)
theorem dX6_goDay_60 : decode cX6_goDay 60 = .ok (.goto 7, 3) := dk_167 0 7 (dk_at dksX6_goDay_2 12 rfl rfl)
theorem dX6_goDay_63 : decode cX6_goDay 63 = .ok (.aload_n 0, 1) := dk_42 (dk_at dksX6_goDay_2 15 rfl rfl)
theorem dX6_goDay_64 : decode cX6_goDay 64 = .ok (.getfield 111, 3) := dk_180 0 111 (dk_at dksX6_goDay_2 16 rfl rfl)
theorem dX6_goDay_67 : decode cX6_goDay 67 = .ok (.iastore, 1) := dk_79 (dk_at dksX6_goDay_2 19 rfl rfl)
theorem dX6_goDay_68 : decode cX6_goDay 68 = .ok (.iinc 1 1, 3) := dk_132 1 1 (dk_at dksX6_goDay_2 20 rfl rfl)
theorem dX6_goDay_71 : decode cX6_goDay 71 = .ok (.goto (-69), 3) := dk_167 255 187 (dk_at dksX6_goDay_3 0 rfl rfl)
theorem dX6_goDay_74 : decode cX6_goDay 74 = .ok (.aload_n 0, 1) := dk_42 (dk_at dksX6_goDay_3 3 rfl rfl)
theorem dX6_goDay_75 : decode cX6_goDay 75 = .ok (.dup, 1) := dk_89 (dk_at dksX6_goDay_3 4 rfl rfl)
theorem dX6_goDay_76 : decode cX6_goDay 76 = .ok (.getfield 16, 3) := dk_180 0 16 (dk_at dksX6_goDay_3 5 rfl rfl)
theorem dX6_goDay_79 : decode cX6_goDay 79 = .ok (.iconst 1, 1) := dk_4 (dk_at dksX6_goDay_3 8 rfl rfl)
theorem dX6_goDay_80 : decode cX6_goDay 80 = .ok (.iadd, 1) := dk_96 (dk_at dksX6_goDay_3 9 rfl rfl)
theorem dX6_goDay_81 : decode cX6_goDay 81 = .ok (.putfield 16, 3) := dk_181 0 16 (dk_at dksX6_goDay_3 10 rfl rfl)
theorem dX6_goDay_84 : decode cX6_goDay 84 = .ok (.return_, 1) := dk_177 (dk_at dksX6_goDay_3 13 rfl rfl)
abbrev cX6_gust : ByteArray := prog_23_method_48_code
def yX6_gust : MethodName := ⟨RX6, "gust", "(I)I"⟩
def dkwX6_gust_0 : List UInt8 := [42, 27, 3, 8, 182, 0, 248, 153, 0, 11, 42, 27, 182, 1, 98, 167, 0, 5, 16, 254, 172]
abbrev dktX6_gust_0 : List UInt8 := dkwX6_gust_0 ++ []
theorem dksX6_gust_0 : cX6_gust.data.toList.drop 0 = dktX6_gust_0 := by decide +kernel
theorem dX6_gust_0 : decode cX6_gust 0 = .ok (.aload_n 0, 1) := dk_42 (dk_at dksX6_gust_0 0 rfl rfl)
theorem dX6_gust_1 : decode cX6_gust 1 = .ok (.iload_n 1, 1) := dk_27 (dk_at dksX6_gust_0 1 rfl rfl)
theorem dX6_gust_2 : decode cX6_gust 2 = .ok (.iconst 0, 1) := dk_3 (dk_at dksX6_gust_0 2 rfl rfl)
theorem dX6_gust_3 : decode cX6_gust 3 = .ok (.iconst 5, 1) := dk_8 (dk_at dksX6_gust_0 3 rfl rfl)
theorem dX6_gust_4 : decode cX6_gust 4 = .ok (.invokevirtual 248, 3) := dk_182 0 248 (dk_at dksX6_gust_0 4 rfl rfl)
theorem dX6_gust_7 : decode cX6_gust 7 = .ok (.ifCond .eq 11, 3) := dk_153 0 11 (dk_at dksX6_gust_0 7 rfl rfl)
theorem dX6_gust_10 : decode cX6_gust 10 = .ok (.aload_n 0, 1) := dk_42 (dk_at dksX6_gust_0 10 rfl rfl)
theorem dX6_gust_11 : decode cX6_gust 11 = .ok (.iload_n 1, 1) := dk_27 (dk_at dksX6_gust_0 11 rfl rfl)
theorem dX6_gust_12 : decode cX6_gust 12 = .ok (.invokevirtual 354, 3) := dk_182 1 98 (dk_at dksX6_gust_0 12 rfl rfl)
theorem dX6_gust_15 : decode cX6_gust 15 = .ok (.goto 5, 3) := dk_167 0 5 (dk_at dksX6_gust_0 15 rfl rfl)
theorem dX6_gust_18 : decode cX6_gust 18 = .ok (.bipush (-2), 2) := dk_16 254 (dk_at dksX6_gust_0 18 rfl rfl)
theorem dX6_gust_20 : decode cX6_gust 20 = .ok (.ireturn, 1) := dk_172 (dk_at dksX6_gust_0 20 rfl rfl)
abbrev cX6_goGust : ByteArray := prog_23_method_47_code
def yX6_goGust : MethodName := ⟨RX6, "goGust", "(I)I"⟩
def dkwX6_goGust_3 : List UInt8 := [180, 0, 114, 29, 46, 79, 132, 3, 1, 167, 255, 233, 28, 172]
abbrev dktX6_goGust_3 : List UInt8 := dkwX6_goGust_3 ++ []
def dkwX6_goGust_2 : List UInt8 := [132, 3, 1, 167, 255, 209, 3, 62, 29, 42, 180, 0, 7, 162, 0, 21, 42, 180, 0, 26, 29, 42]
abbrev dktX6_goGust_2 : List UInt8 := dkwX6_goGust_2 ++ dktX6_goGust_3
def dkwX6_goGust_1 : List UInt8 := [42, 180, 0, 26, 29, 46, 79, 28, 42, 180, 0, 26, 29, 46, 155, 0, 7, 4, 167, 0, 4, 3, 96, 61]
abbrev dktX6_goGust_1 : List UInt8 := dkwX6_goGust_1 ++ dktX6_goGust_2
def dkwX6_goGust_0 : List UInt8 := [3, 61, 3, 62, 29, 42, 180, 0, 7, 162, 0, 45, 42, 180, 0, 114, 29, 27, 96, 42, 180, 0, 7, 112]
abbrev dktX6_goGust_0 : List UInt8 := dkwX6_goGust_0 ++ dktX6_goGust_1
theorem dksX6_goGust_0 : cX6_goGust.data.toList.drop 0 = dktX6_goGust_0 := by decide +kernel
theorem dksX6_goGust_1 : cX6_goGust.data.toList.drop 24 = dktX6_goGust_1 := dk_seg dksX6_goGust_0 24 rfl rfl
theorem dksX6_goGust_2 : cX6_goGust.data.toList.drop 48 = dktX6_goGust_2 := dk_seg dksX6_goGust_1 24 rfl rfl
theorem dksX6_goGust_3 : cX6_goGust.data.toList.drop 70 = dktX6_goGust_3 := dk_seg dksX6_goGust_2 22 rfl rfl
theorem dX6_goGust_0 : decode cX6_goGust 0 = .ok (.iconst 0, 1) := dk_3 (dk_at dksX6_goGust_0 0 rfl rfl)
theorem dX6_goGust_1 : decode cX6_goGust 1 = .ok (.istore_n 2, 1) := dk_61 (dk_at dksX6_goGust_0 1 rfl rfl)
theorem dX6_goGust_2 : decode cX6_goGust 2 = .ok (.iconst 0, 1) := dk_3 (dk_at dksX6_goGust_0 2 rfl rfl)
theorem dX6_goGust_3 : decode cX6_goGust 3 = .ok (.istore_n 3, 1) := dk_62 (dk_at dksX6_goGust_0 3 rfl rfl)
theorem dX6_goGust_4 : decode cX6_goGust 4 = .ok (.iload_n 3, 1) := dk_29 (dk_at dksX6_goGust_0 4 rfl rfl)
theorem dX6_goGust_5 : decode cX6_goGust 5 = .ok (.aload_n 0, 1) := dk_42 (dk_at dksX6_goGust_0 5 rfl rfl)
theorem dX6_goGust_6 : decode cX6_goGust 6 = .ok (.getfield 7, 3) := dk_180 0 7 (dk_at dksX6_goGust_0 6 rfl rfl)
theorem dX6_goGust_9 : decode cX6_goGust 9 = .ok (.if_icmp .ge 45, 3) := dk_162 0 45 (dk_at dksX6_goGust_0 9 rfl rfl)
theorem dX6_goGust_12 : decode cX6_goGust 12 = .ok (.aload_n 0, 1) := dk_42 (dk_at dksX6_goGust_0 12 rfl rfl)
theorem dX6_goGust_13 : decode cX6_goGust 13 = .ok (.getfield 114, 3) := dk_180 0 114 (dk_at dksX6_goGust_0 13 rfl rfl)
theorem dX6_goGust_16 : decode cX6_goGust 16 = .ok (.iload_n 3, 1) := dk_29 (dk_at dksX6_goGust_0 16 rfl rfl)
theorem dX6_goGust_17 : decode cX6_goGust 17 = .ok (.iload_n 1, 1) := dk_27 (dk_at dksX6_goGust_0 17 rfl rfl)
theorem dX6_goGust_18 : decode cX6_goGust 18 = .ok (.iadd, 1) := dk_96 (dk_at dksX6_goGust_0 18 rfl rfl)
theorem dX6_goGust_19 : decode cX6_goGust 19 = .ok (.aload_n 0, 1) := dk_42 (dk_at dksX6_goGust_0 19 rfl rfl)
theorem dX6_goGust_20 : decode cX6_goGust 20 = .ok (.getfield 7, 3) := dk_180 0 7 (dk_at dksX6_goGust_0 20 rfl rfl)
theorem dX6_goGust_23 : decode cX6_goGust 23 = .ok (.irem, 1) := dk_112 (dk_at dksX6_goGust_0 23 rfl rfl)
theorem dX6_goGust_24 : decode cX6_goGust 24 = .ok (.aload_n 0, 1) := dk_42 (dk_at dksX6_goGust_1 0 rfl rfl)
theorem dX6_goGust_25 : decode cX6_goGust 25 = .ok (.getfield 26, 3) := dk_180 0 26 (dk_at dksX6_goGust_1 1 rfl rfl)
theorem dX6_goGust_28 : decode cX6_goGust 28 = .ok (.iload_n 3, 1) := dk_29 (dk_at dksX6_goGust_1 4 rfl rfl)
theorem dX6_goGust_29 : decode cX6_goGust 29 = .ok (.iaload, 1) := dk_46 (dk_at dksX6_goGust_1 5 rfl rfl)
theorem dX6_goGust_30 : decode cX6_goGust 30 = .ok (.iastore, 1) := dk_79 (dk_at dksX6_goGust_1 6 rfl rfl)
theorem dX6_goGust_31 : decode cX6_goGust 31 = .ok (.iload_n 2, 1) := dk_28 (dk_at dksX6_goGust_1 7 rfl rfl)
theorem dX6_goGust_32 : decode cX6_goGust 32 = .ok (.aload_n 0, 1) := dk_42 (dk_at dksX6_goGust_1 8 rfl rfl)
theorem dX6_goGust_33 : decode cX6_goGust 33 = .ok (.getfield 26, 3) := dk_180 0 26 (dk_at dksX6_goGust_1 9 rfl rfl)
theorem dX6_goGust_36 : decode cX6_goGust 36 = .ok (.iload_n 3, 1) := dk_29 (dk_at dksX6_goGust_1 12 rfl rfl)
theorem dX6_goGust_37 : decode cX6_goGust 37 = .ok (.iaload, 1) := dk_46 (dk_at dksX6_goGust_1 13 rfl rfl)
theorem dX6_goGust_38 : decode cX6_goGust 38 = .ok (.ifCond .lt 7, 3) := dk_155 0 7 (dk_at dksX6_goGust_1 14 rfl rfl)
theorem dX6_goGust_41 : decode cX6_goGust 41 = .ok (.iconst 1, 1) := dk_4 (dk_at dksX6_goGust_1 17 rfl rfl)
theorem dX6_goGust_42 : decode cX6_goGust 42 = .ok (.goto 4, 3) := dk_167 0 4 (dk_at dksX6_goGust_1 18 rfl rfl)
theorem dX6_goGust_45 : decode cX6_goGust 45 = .ok (.iconst 0, 1) := dk_3 (dk_at dksX6_goGust_1 21 rfl rfl)
theorem dX6_goGust_46 : decode cX6_goGust 46 = .ok (.iadd, 1) := dk_96 (dk_at dksX6_goGust_1 22 rfl rfl)
theorem dX6_goGust_47 : decode cX6_goGust 47 = .ok (.istore_n 2, 1) := dk_61 (dk_at dksX6_goGust_1 23 rfl rfl)
theorem dX6_goGust_48 : decode cX6_goGust 48 = .ok (.iinc 3 1, 3) := dk_132 3 1 (dk_at dksX6_goGust_2 0 rfl rfl)
theorem dX6_goGust_51 : decode cX6_goGust 51 = .ok (.goto (-47), 3) := dk_167 255 209 (dk_at dksX6_goGust_2 3 rfl rfl)
theorem dX6_goGust_54 : decode cX6_goGust 54 = .ok (.iconst 0, 1) := dk_3 (dk_at dksX6_goGust_2 6 rfl rfl)
theorem dX6_goGust_55 : decode cX6_goGust 55 = .ok (.istore_n 3, 1) := dk_62 (dk_at dksX6_goGust_2 7 rfl rfl)
theorem dX6_goGust_56 : decode cX6_goGust 56 = .ok (.iload_n 3, 1) := dk_29 (dk_at dksX6_goGust_2 8 rfl rfl)
theorem dX6_goGust_57 : decode cX6_goGust 57 = .ok (.aload_n 0, 1) := dk_42 (dk_at dksX6_goGust_2 9 rfl rfl)
theorem dX6_goGust_58 : decode cX6_goGust 58 = .ok (.getfield 7, 3) := dk_180 0 7 (dk_at dksX6_goGust_2 10 rfl rfl)
theorem dX6_goGust_61 : decode cX6_goGust 61 = .ok (.if_icmp .ge 21, 3) := dk_162 0 21 (dk_at dksX6_goGust_2 13 rfl rfl)
theorem dX6_goGust_64 : decode cX6_goGust 64 = .ok (.aload_n 0, 1) := dk_42 (dk_at dksX6_goGust_2 16 rfl rfl)
theorem dX6_goGust_65 : decode cX6_goGust 65 = .ok (.getfield 26, 3) := dk_180 0 26 (dk_at dksX6_goGust_2 17 rfl rfl)
theorem dX6_goGust_68 : decode cX6_goGust 68 = .ok (.iload_n 3, 1) := dk_29 (dk_at dksX6_goGust_2 20 rfl rfl)
theorem dX6_goGust_69 : decode cX6_goGust 69 = .ok (.aload_n 0, 1) := dk_42 (dk_at dksX6_goGust_2 21 rfl rfl)
theorem dX6_goGust_70 : decode cX6_goGust 70 = .ok (.getfield 114, 3) := dk_180 0 114 (dk_at dksX6_goGust_3 0 rfl rfl)
theorem dX6_goGust_73 : decode cX6_goGust 73 = .ok (.iload_n 3, 1) := dk_29 (dk_at dksX6_goGust_3 3 rfl rfl)
theorem dX6_goGust_74 : decode cX6_goGust 74 = .ok (.iaload, 1) := dk_46 (dk_at dksX6_goGust_3 4 rfl rfl)
theorem dX6_goGust_75 : decode cX6_goGust 75 = .ok (.iastore, 1) := dk_79 (dk_at dksX6_goGust_3 5 rfl rfl)
theorem dX6_goGust_76 : decode cX6_goGust 76 = .ok (.iinc 3 1, 3) := dk_132 3 1 (dk_at dksX6_goGust_3 6 rfl rfl)
theorem dX6_goGust_79 : decode cX6_goGust 79 = .ok (.goto (-23), 3) := dk_167 255 233 (dk_at dksX6_goGust_3 9 rfl rfl)
theorem dX6_goGust_82 : decode cX6_goGust 82 = .ok (.iload_n 2, 1) := dk_28 (dk_at dksX6_goGust_3 12 rfl rfl)
theorem dX6_goGust_83 : decode cX6_goGust 83 = .ok (.ireturn, 1) := dk_172 (dk_at dksX6_goGust_3 13 rfl rfl)
abbrev cX6_change : ByteArray := prog_23_method_50_code
def yX6_change : MethodName := ⟨RX6, "change", "(II)I"⟩
def dkwX6_change_1 : List UInt8 := [16, 254, 172, 42, 27, 28, 182, 1, 101, 4, 172]
abbrev dktX6_change_1 : List UInt8 := dkwX6_change_1 ++ []
def dkwX6_change_0 : List UInt8 := [42, 27, 182, 1, 3, 153, 0, 11, 42, 28, 182, 1, 3, 154, 0, 5, 2, 172, 27, 28, 160, 0, 6]
abbrev dktX6_change_0 : List UInt8 := dkwX6_change_0 ++ dktX6_change_1
theorem dksX6_change_0 : cX6_change.data.toList.drop 0 = dktX6_change_0 := by decide +kernel
theorem dksX6_change_1 : cX6_change.data.toList.drop 23 = dktX6_change_1 := dk_seg dksX6_change_0 23 rfl rfl
theorem dX6_change_0 : decode cX6_change 0 = .ok (.aload_n 0, 1) := dk_42 (dk_at dksX6_change_0 0 rfl rfl)
theorem dX6_change_1 : decode cX6_change 1 = .ok (.iload_n 1, 1) := dk_27 (dk_at dksX6_change_0 1 rfl rfl)
theorem dX6_change_2 : decode cX6_change 2 = .ok (.invokevirtual 259, 3) := dk_182 1 3 (dk_at dksX6_change_0 2 rfl rfl)
theorem dX6_change_5 : decode cX6_change 5 = .ok (.ifCond .eq 11, 3) := dk_153 0 11 (dk_at dksX6_change_0 5 rfl rfl)
theorem dX6_change_8 : decode cX6_change 8 = .ok (.aload_n 0, 1) := dk_42 (dk_at dksX6_change_0 8 rfl rfl)
theorem dX6_change_9 : decode cX6_change 9 = .ok (.iload_n 2, 1) := dk_28 (dk_at dksX6_change_0 9 rfl rfl)
theorem dX6_change_10 : decode cX6_change 10 = .ok (.invokevirtual 259, 3) := dk_182 1 3 (dk_at dksX6_change_0 10 rfl rfl)
theorem dX6_change_13 : decode cX6_change 13 = .ok (.ifCond .ne 5, 3) := dk_154 0 5 (dk_at dksX6_change_0 13 rfl rfl)
theorem dX6_change_16 : decode cX6_change 16 = .ok (.iconst (-1), 1) := dk_2 (dk_at dksX6_change_0 16 rfl rfl)
theorem dX6_change_17 : decode cX6_change 17 = .ok (.ireturn, 1) := dk_172 (dk_at dksX6_change_0 17 rfl rfl)
theorem dX6_change_18 : decode cX6_change 18 = .ok (.iload_n 1, 1) := dk_27 (dk_at dksX6_change_0 18 rfl rfl)
theorem dX6_change_19 : decode cX6_change 19 = .ok (.iload_n 2, 1) := dk_28 (dk_at dksX6_change_0 19 rfl rfl)
theorem dX6_change_20 : decode cX6_change 20 = .ok (.if_icmp .ne 6, 3) := dk_160 0 6 (dk_at dksX6_change_0 20 rfl rfl)
theorem dX6_change_23 : decode cX6_change 23 = .ok (.bipush (-2), 2) := dk_16 254 (dk_at dksX6_change_1 0 rfl rfl)
theorem dX6_change_25 : decode cX6_change 25 = .ok (.ireturn, 1) := dk_172 (dk_at dksX6_change_1 2 rfl rfl)
theorem dX6_change_26 : decode cX6_change 26 = .ok (.aload_n 0, 1) := dk_42 (dk_at dksX6_change_1 3 rfl rfl)
theorem dX6_change_27 : decode cX6_change 27 = .ok (.iload_n 1, 1) := dk_27 (dk_at dksX6_change_1 4 rfl rfl)
theorem dX6_change_28 : decode cX6_change 28 = .ok (.iload_n 2, 1) := dk_28 (dk_at dksX6_change_1 5 rfl rfl)
theorem dX6_change_29 : decode cX6_change 29 = .ok (.invokevirtual 357, 3) := dk_182 1 101 (dk_at dksX6_change_1 6 rfl rfl)
theorem dX6_change_32 : decode cX6_change 32 = .ok (.iconst 1, 1) := dk_4 (dk_at dksX6_change_1 9 rfl rfl)
theorem dX6_change_33 : decode cX6_change 33 = .ok (.ireturn, 1) := dk_172 (dk_at dksX6_change_1 10 rfl rfl)
abbrev cX6_swaps : ByteArray := prog_23_method_49_code
def yX6_swaps : MethodName := ⟨RX6, "swaps", "(II)V"⟩
def dkwX6_swaps_1 : List UInt8 := [29, 79, 177]
abbrev dktX6_swaps_1 : List UInt8 := dkwX6_swaps_1 ++ []
def dkwX6_swaps_0 : List UInt8 := [42, 180, 0, 26, 27, 46, 62, 42, 180, 0, 26, 27, 42, 180, 0, 26, 28, 46, 79, 42, 180, 0, 26, 28]
abbrev dktX6_swaps_0 : List UInt8 := dkwX6_swaps_0 ++ dktX6_swaps_1
theorem dksX6_swaps_0 : cX6_swaps.data.toList.drop 0 = dktX6_swaps_0 := by decide +kernel
theorem dksX6_swaps_1 : cX6_swaps.data.toList.drop 24 = dktX6_swaps_1 := dk_seg dksX6_swaps_0 24 rfl rfl
theorem dX6_swaps_0 : decode cX6_swaps 0 = .ok (.aload_n 0, 1) := dk_42 (dk_at dksX6_swaps_0 0 rfl rfl)
theorem dX6_swaps_1 : decode cX6_swaps 1 = .ok (.getfield 26, 3) := dk_180 0 26 (dk_at dksX6_swaps_0 1 rfl rfl)
theorem dX6_swaps_4 : decode cX6_swaps 4 = .ok (.iload_n 1, 1) := dk_27 (dk_at dksX6_swaps_0 4 rfl rfl)
theorem dX6_swaps_5 : decode cX6_swaps 5 = .ok (.iaload, 1) := dk_46 (dk_at dksX6_swaps_0 5 rfl rfl)
theorem dX6_swaps_6 : decode cX6_swaps 6 = .ok (.istore_n 3, 1) := dk_62 (dk_at dksX6_swaps_0 6 rfl rfl)
theorem dX6_swaps_7 : decode cX6_swaps 7 = .ok (.aload_n 0, 1) := dk_42 (dk_at dksX6_swaps_0 7 rfl rfl)
theorem dX6_swaps_8 : decode cX6_swaps 8 = .ok (.getfield 26, 3) := dk_180 0 26 (dk_at dksX6_swaps_0 8 rfl rfl)
theorem dX6_swaps_11 : decode cX6_swaps 11 = .ok (.iload_n 1, 1) := dk_27 (dk_at dksX6_swaps_0 11 rfl rfl)
theorem dX6_swaps_12 : decode cX6_swaps 12 = .ok (.aload_n 0, 1) := dk_42 (dk_at dksX6_swaps_0 12 rfl rfl)
theorem dX6_swaps_13 : decode cX6_swaps 13 = .ok (.getfield 26, 3) := dk_180 0 26 (dk_at dksX6_swaps_0 13 rfl rfl)
theorem dX6_swaps_16 : decode cX6_swaps 16 = .ok (.iload_n 2, 1) := dk_28 (dk_at dksX6_swaps_0 16 rfl rfl)
theorem dX6_swaps_17 : decode cX6_swaps 17 = .ok (.iaload, 1) := dk_46 (dk_at dksX6_swaps_0 17 rfl rfl)
theorem dX6_swaps_18 : decode cX6_swaps 18 = .ok (.iastore, 1) := dk_79 (dk_at dksX6_swaps_0 18 rfl rfl)
theorem dX6_swaps_19 : decode cX6_swaps 19 = .ok (.aload_n 0, 1) := dk_42 (dk_at dksX6_swaps_0 19 rfl rfl)
theorem dX6_swaps_20 : decode cX6_swaps 20 = .ok (.getfield 26, 3) := dk_180 0 26 (dk_at dksX6_swaps_0 20 rfl rfl)
theorem dX6_swaps_23 : decode cX6_swaps 23 = .ok (.iload_n 2, 1) := dk_28 (dk_at dksX6_swaps_0 23 rfl rfl)
theorem dX6_swaps_24 : decode cX6_swaps 24 = .ok (.iload_n 3, 1) := dk_29 (dk_at dksX6_swaps_1 0 rfl rfl)
theorem dX6_swaps_25 : decode cX6_swaps 25 = .ok (.iastore, 1) := dk_79 (dk_at dksX6_swaps_1 1 rfl rfl)
theorem dX6_swaps_26 : decode cX6_swaps 26 = .ok (.return_, 1) := dk_177 (dk_at dksX6_swaps_1 2 rfl rfl)
abbrev cX6_today : ByteArray := prog_23_method_51_code
def yX6_today : MethodName := ⟨RX6, "today", "(I)I"⟩
def dkwX6_today_0 : List UInt8 := [27, 2, 159, 0, 11, 42, 27, 182, 0, 252, 153, 0, 11, 42, 27, 182, 1, 91, 167, 0, 4, 2, 172]
abbrev dktX6_today_0 : List UInt8 := dkwX6_today_0 ++ []
theorem dksX6_today_0 : cX6_today.data.toList.drop 0 = dktX6_today_0 := by decide +kernel
theorem dX6_today_0 : decode cX6_today 0 = .ok (.iload_n 1, 1) := dk_27 (dk_at dksX6_today_0 0 rfl rfl)
theorem dX6_today_1 : decode cX6_today 1 = .ok (.iconst (-1), 1) := dk_2 (dk_at dksX6_today_0 1 rfl rfl)
theorem dX6_today_2 : decode cX6_today 2 = .ok (.if_icmp .eq 11, 3) := dk_159 0 11 (dk_at dksX6_today_0 2 rfl rfl)
theorem dX6_today_5 : decode cX6_today 5 = .ok (.aload_n 0, 1) := dk_42 (dk_at dksX6_today_0 5 rfl rfl)
theorem dX6_today_6 : decode cX6_today 6 = .ok (.iload_n 1, 1) := dk_27 (dk_at dksX6_today_0 6 rfl rfl)
theorem dX6_today_7 : decode cX6_today 7 = .ok (.invokevirtual 252, 3) := dk_182 0 252 (dk_at dksX6_today_0 7 rfl rfl)
theorem dX6_today_10 : decode cX6_today 10 = .ok (.ifCond .eq 11, 3) := dk_153 0 11 (dk_at dksX6_today_0 10 rfl rfl)
theorem dX6_today_13 : decode cX6_today 13 = .ok (.aload_n 0, 1) := dk_42 (dk_at dksX6_today_0 13 rfl rfl)
theorem dX6_today_14 : decode cX6_today 14 = .ok (.iload_n 1, 1) := dk_27 (dk_at dksX6_today_0 14 rfl rfl)
theorem dX6_today_15 : decode cX6_today 15 = .ok (.invokevirtual 347, 3) := dk_182 1 91 (dk_at dksX6_today_0 15 rfl rfl)
theorem dX6_today_18 : decode cX6_today 18 = .ok (.goto 4, 3) := dk_167 0 4 (dk_at dksX6_today_0 18 rfl rfl)
theorem dX6_today_21 : decode cX6_today 21 = .ok (.iconst (-1), 1) := dk_2 (dk_at dksX6_today_0 21 rfl rfl)
theorem dX6_today_22 : decode cX6_today 22 = .ok (.ireturn, 1) := dk_172 (dk_at dksX6_today_0 22 rfl rfl)
abbrev cX6_enough : ByteArray := prog_23_method_52_code
def yX6_enough : MethodName := ⟨RX6, "enough", "()I"⟩
def dkwX6_enough_1 : List UInt8 := [28, 120, 167, 0, 4, 3, 128, 60, 132, 2, 1, 167, 255, 225, 27, 172]
abbrev dktX6_enough_1 : List UInt8 := dkwX6_enough_1 ++ []
def dkwX6_enough_0 : List UInt8 := [3, 60, 3, 61, 28, 8, 162, 0, 32, 27, 42, 28, 182, 1, 91, 42, 28, 182, 1, 88, 161, 0, 9, 4]
abbrev dktX6_enough_0 : List UInt8 := dkwX6_enough_0 ++ dktX6_enough_1
theorem dksX6_enough_0 : cX6_enough.data.toList.drop 0 = dktX6_enough_0 := by decide +kernel
theorem dksX6_enough_1 : cX6_enough.data.toList.drop 24 = dktX6_enough_1 := dk_seg dksX6_enough_0 24 rfl rfl
theorem dX6_enough_0 : decode cX6_enough 0 = .ok (.iconst 0, 1) := dk_3 (dk_at dksX6_enough_0 0 rfl rfl)
theorem dX6_enough_1 : decode cX6_enough 1 = .ok (.istore_n 1, 1) := dk_60 (dk_at dksX6_enough_0 1 rfl rfl)
theorem dX6_enough_2 : decode cX6_enough 2 = .ok (.iconst 0, 1) := dk_3 (dk_at dksX6_enough_0 2 rfl rfl)
theorem dX6_enough_3 : decode cX6_enough 3 = .ok (.istore_n 2, 1) := dk_61 (dk_at dksX6_enough_0 3 rfl rfl)
theorem dX6_enough_4 : decode cX6_enough 4 = .ok (.iload_n 2, 1) := dk_28 (dk_at dksX6_enough_0 4 rfl rfl)
theorem dX6_enough_5 : decode cX6_enough 5 = .ok (.iconst 5, 1) := dk_8 (dk_at dksX6_enough_0 5 rfl rfl)
theorem dX6_enough_6 : decode cX6_enough 6 = .ok (.if_icmp .ge 32, 3) := dk_162 0 32 (dk_at dksX6_enough_0 6 rfl rfl)
theorem dX6_enough_9 : decode cX6_enough 9 = .ok (.iload_n 1, 1) := dk_27 (dk_at dksX6_enough_0 9 rfl rfl)
theorem dX6_enough_10 : decode cX6_enough 10 = .ok (.aload_n 0, 1) := dk_42 (dk_at dksX6_enough_0 10 rfl rfl)
theorem dX6_enough_11 : decode cX6_enough 11 = .ok (.iload_n 2, 1) := dk_28 (dk_at dksX6_enough_0 11 rfl rfl)
theorem dX6_enough_12 : decode cX6_enough 12 = .ok (.invokevirtual 347, 3) := dk_182 1 91 (dk_at dksX6_enough_0 12 rfl rfl)
theorem dX6_enough_15 : decode cX6_enough 15 = .ok (.aload_n 0, 1) := dk_42 (dk_at dksX6_enough_0 15 rfl rfl)
theorem dX6_enough_16 : decode cX6_enough 16 = .ok (.iload_n 2, 1) := dk_28 (dk_at dksX6_enough_0 16 rfl rfl)
theorem dX6_enough_17 : decode cX6_enough 17 = .ok (.invokevirtual 344, 3) := dk_182 1 88 (dk_at dksX6_enough_0 17 rfl rfl)
theorem dX6_enough_20 : decode cX6_enough 20 = .ok (.if_icmp .lt 9, 3) := dk_161 0 9 (dk_at dksX6_enough_0 20 rfl rfl)
theorem dX6_enough_23 : decode cX6_enough 23 = .ok (.iconst 1, 1) := dk_4 (dk_at dksX6_enough_0 23 rfl rfl)
theorem dX6_enough_24 : decode cX6_enough 24 = .ok (.iload_n 2, 1) := dk_28 (dk_at dksX6_enough_1 0 rfl rfl)
theorem dX6_enough_25 : decode cX6_enough 25 = .ok (.ishl, 1) := dk_120 (dk_at dksX6_enough_1 1 rfl rfl)
theorem dX6_enough_26 : decode cX6_enough 26 = .ok (.goto 4, 3) := dk_167 0 4 (dk_at dksX6_enough_1 2 rfl rfl)
theorem dX6_enough_29 : decode cX6_enough 29 = .ok (.iconst 0, 1) := dk_3 (dk_at dksX6_enough_1 5 rfl rfl)
theorem dX6_enough_30 : decode cX6_enough 30 = .ok (.ior, 1) := dk_128 (dk_at dksX6_enough_1 6 rfl rfl)
theorem dX6_enough_31 : decode cX6_enough 31 = .ok (.istore_n 1, 1) := dk_60 (dk_at dksX6_enough_1 7 rfl rfl)
theorem dX6_enough_32 : decode cX6_enough 32 = .ok (.iinc 2 1, 3) := dk_132 2 1 (dk_at dksX6_enough_1 8 rfl rfl)
theorem dX6_enough_35 : decode cX6_enough 35 = .ok (.goto (-31), 3) := dk_167 255 225 (dk_at dksX6_enough_1 11 rfl rfl)
theorem dX6_enough_38 : decode cX6_enough 38 = .ok (.iload_n 1, 1) := dk_27 (dk_at dksX6_enough_1 14 rfl rfl)
theorem dX6_enough_39 : decode cX6_enough 39 = .ok (.ireturn, 1) := dk_172 (dk_at dksX6_enough_1 15 rfl rfl)
abbrev cX6_best : ByteArray := prog_23_method_53_code
def yX6_best : MethodName := ⟨RX6, "best", "(I)I"⟩
def dkwX6_best_2 : List UInt8 := [21, 5, 62, 132, 4, 1, 167, 255, 220, 28, 172]
abbrev dktX6_best_2 : List UInt8 := dkwX6_best_2 ++ []
def dkwX6_best_1 : List UInt8 := [162, 0, 33, 42, 27, 21, 4, 182, 1, 85, 54, 5, 21, 5, 29, 163, 0, 6, 167, 0, 9, 21, 4, 61]
abbrev dktX6_best_1 : List UInt8 := dkwX6_best_1 ++ dktX6_best_2
def dkwX6_best_0 : List UInt8 := [42, 27, 182, 1, 0, 154, 0, 5, 2, 172, 16, 251, 61, 2, 62, 3, 54, 4, 21, 4, 42, 180, 0, 7]
abbrev dktX6_best_0 : List UInt8 := dkwX6_best_0 ++ dktX6_best_1
theorem dksX6_best_0 : cX6_best.data.toList.drop 0 = dktX6_best_0 := by decide +kernel
theorem dksX6_best_1 : cX6_best.data.toList.drop 24 = dktX6_best_1 := dk_seg dksX6_best_0 24 rfl rfl
theorem dksX6_best_2 : cX6_best.data.toList.drop 48 = dktX6_best_2 := dk_seg dksX6_best_1 24 rfl rfl
theorem dX6_best_0 : decode cX6_best 0 = .ok (.aload_n 0, 1) := dk_42 (dk_at dksX6_best_0 0 rfl rfl)
theorem dX6_best_1 : decode cX6_best 1 = .ok (.iload_n 1, 1) := dk_27 (dk_at dksX6_best_0 1 rfl rfl)
theorem dX6_best_2 : decode cX6_best 2 = .ok (.invokevirtual 256, 3) := dk_182 1 0 (dk_at dksX6_best_0 2 rfl rfl)
theorem dX6_best_5 : decode cX6_best 5 = .ok (.ifCond .ne 5, 3) := dk_154 0 5 (dk_at dksX6_best_0 5 rfl rfl)
theorem dX6_best_8 : decode cX6_best 8 = .ok (.iconst (-1), 1) := dk_2 (dk_at dksX6_best_0 8 rfl rfl)
theorem dX6_best_9 : decode cX6_best 9 = .ok (.ireturn, 1) := dk_172 (dk_at dksX6_best_0 9 rfl rfl)
theorem dX6_best_10 : decode cX6_best 10 = .ok (.bipush (-5), 2) := dk_16 251 (dk_at dksX6_best_0 10 rfl rfl)
theorem dX6_best_12 : decode cX6_best 12 = .ok (.istore_n 2, 1) := dk_61 (dk_at dksX6_best_0 12 rfl rfl)
theorem dX6_best_13 : decode cX6_best 13 = .ok (.iconst (-1), 1) := dk_2 (dk_at dksX6_best_0 13 rfl rfl)
theorem dX6_best_14 : decode cX6_best 14 = .ok (.istore_n 3, 1) := dk_62 (dk_at dksX6_best_0 14 rfl rfl)
theorem dX6_best_15 : decode cX6_best 15 = .ok (.iconst 0, 1) := dk_3 (dk_at dksX6_best_0 15 rfl rfl)
theorem dX6_best_16 : decode cX6_best 16 = .ok (.istore 4, 2) := dk_54 4 (dk_at dksX6_best_0 16 rfl rfl)
theorem dX6_best_18 : decode cX6_best 18 = .ok (.iload 4, 2) := dk_21 4 (dk_at dksX6_best_0 18 rfl rfl)
theorem dX6_best_20 : decode cX6_best 20 = .ok (.aload_n 0, 1) := dk_42 (dk_at dksX6_best_0 20 rfl rfl)
theorem dX6_best_21 : decode cX6_best 21 = .ok (.getfield 7, 3) := dk_180 0 7 (dk_at dksX6_best_0 21 rfl rfl)
theorem dX6_best_24 : decode cX6_best 24 = .ok (.if_icmp .ge 33, 3) := dk_162 0 33 (dk_at dksX6_best_1 0 rfl rfl)
theorem dX6_best_27 : decode cX6_best 27 = .ok (.aload_n 0, 1) := dk_42 (dk_at dksX6_best_1 3 rfl rfl)
theorem dX6_best_28 : decode cX6_best 28 = .ok (.iload_n 1, 1) := dk_27 (dk_at dksX6_best_1 4 rfl rfl)
theorem dX6_best_29 : decode cX6_best 29 = .ok (.iload 4, 2) := dk_21 4 (dk_at dksX6_best_1 5 rfl rfl)
theorem dX6_best_31 : decode cX6_best 31 = .ok (.invokevirtual 341, 3) := dk_182 1 85 (dk_at dksX6_best_1 7 rfl rfl)
theorem dX6_best_34 : decode cX6_best 34 = .ok (.istore 5, 2) := dk_54 5 (dk_at dksX6_best_1 10 rfl rfl)
theorem dX6_best_36 : decode cX6_best 36 = .ok (.iload 5, 2) := dk_21 5 (dk_at dksX6_best_1 12 rfl rfl)
theorem dX6_best_38 : decode cX6_best 38 = .ok (.iload_n 3, 1) := dk_29 (dk_at dksX6_best_1 14 rfl rfl)
theorem dX6_best_39 : decode cX6_best 39 = .ok (.if_icmp .gt 6, 3) := dk_163 0 6 (dk_at dksX6_best_1 15 rfl rfl)
theorem dX6_best_42 : decode cX6_best 42 = .ok (.goto 9, 3) := dk_167 0 9 (dk_at dksX6_best_1 18 rfl rfl)
theorem dX6_best_45 : decode cX6_best 45 = .ok (.iload 4, 2) := dk_21 4 (dk_at dksX6_best_1 21 rfl rfl)
theorem dX6_best_47 : decode cX6_best 47 = .ok (.istore_n 2, 1) := dk_61 (dk_at dksX6_best_1 23 rfl rfl)
theorem dX6_best_48 : decode cX6_best 48 = .ok (.iload 5, 2) := dk_21 5 (dk_at dksX6_best_2 0 rfl rfl)
theorem dX6_best_50 : decode cX6_best 50 = .ok (.istore_n 3, 1) := dk_62 (dk_at dksX6_best_2 2 rfl rfl)
theorem dX6_best_51 : decode cX6_best 51 = .ok (.iinc 4 1, 3) := dk_132 4 1 (dk_at dksX6_best_2 3 rfl rfl)
theorem dX6_best_54 : decode cX6_best 54 = .ok (.goto (-36), 3) := dk_167 255 220 (dk_at dksX6_best_2 6 rfl rfl)
theorem dX6_best_57 : decode cX6_best 57 = .ok (.iload_n 2, 1) := dk_28 (dk_at dksX6_best_2 9 rfl rfl)
theorem dX6_best_58 : decode cX6_best 58 = .ok (.ireturn, 1) := dk_172 (dk_at dksX6_best_2 10 rfl rfl)
abbrev cX6_on : ByteArray := prog_23_method_56_code
def yX6_on : MethodName := ⟨RX6, "on", "(II)I"⟩
def dkwX6_on_2 : List UInt8 := [182, 1, 95, 132, 4, 1, 167, 255, 235, 42, 182, 1, 109, 29, 172]
abbrev dktX6_on_2 : List UInt8 := dkwX6_on_2 ++ []
def dkwX6_on_1 : List UInt8 := [42, 182, 1, 106, 3, 62, 3, 54, 4, 21, 4, 28, 162, 0, 21, 29, 42, 27, 182, 1, 91, 96, 62, 42]
abbrev dktX6_on_1 : List UInt8 := dkwX6_on_1 ++ dktX6_on_2
def dkwX6_on_0 : List UInt8 := [42, 27, 182, 0, 252, 154, 0, 5, 2, 172, 42, 28, 3, 16, 30, 182, 0, 248, 154, 0, 6, 16, 254, 172]
abbrev dktX6_on_0 : List UInt8 := dkwX6_on_0 ++ dktX6_on_1
theorem dksX6_on_0 : cX6_on.data.toList.drop 0 = dktX6_on_0 := by decide +kernel
theorem dksX6_on_1 : cX6_on.data.toList.drop 24 = dktX6_on_1 := dk_seg dksX6_on_0 24 rfl rfl
theorem dksX6_on_2 : cX6_on.data.toList.drop 48 = dktX6_on_2 := dk_seg dksX6_on_1 24 rfl rfl
theorem dX6_on_0 : decode cX6_on 0 = .ok (.aload_n 0, 1) := dk_42 (dk_at dksX6_on_0 0 rfl rfl)
theorem dX6_on_1 : decode cX6_on 1 = .ok (.iload_n 1, 1) := dk_27 (dk_at dksX6_on_0 1 rfl rfl)
theorem dX6_on_2 : decode cX6_on 2 = .ok (.invokevirtual 252, 3) := dk_182 0 252 (dk_at dksX6_on_0 2 rfl rfl)
theorem dX6_on_5 : decode cX6_on 5 = .ok (.ifCond .ne 5, 3) := dk_154 0 5 (dk_at dksX6_on_0 5 rfl rfl)
theorem dX6_on_8 : decode cX6_on 8 = .ok (.iconst (-1), 1) := dk_2 (dk_at dksX6_on_0 8 rfl rfl)
theorem dX6_on_9 : decode cX6_on 9 = .ok (.ireturn, 1) := dk_172 (dk_at dksX6_on_0 9 rfl rfl)
theorem dX6_on_10 : decode cX6_on 10 = .ok (.aload_n 0, 1) := dk_42 (dk_at dksX6_on_0 10 rfl rfl)
theorem dX6_on_11 : decode cX6_on 11 = .ok (.iload_n 2, 1) := dk_28 (dk_at dksX6_on_0 11 rfl rfl)
theorem dX6_on_12 : decode cX6_on 12 = .ok (.iconst 0, 1) := dk_3 (dk_at dksX6_on_0 12 rfl rfl)
theorem dX6_on_13 : decode cX6_on 13 = .ok (.bipush 30, 2) := dk_16 30 (dk_at dksX6_on_0 13 rfl rfl)
theorem dX6_on_15 : decode cX6_on 15 = .ok (.invokevirtual 248, 3) := dk_182 0 248 (dk_at dksX6_on_0 15 rfl rfl)
theorem dX6_on_18 : decode cX6_on 18 = .ok (.ifCond .ne 6, 3) := dk_154 0 6 (dk_at dksX6_on_0 18 rfl rfl)
theorem dX6_on_21 : decode cX6_on 21 = .ok (.bipush (-2), 2) := dk_16 254 (dk_at dksX6_on_0 21 rfl rfl)
theorem dX6_on_23 : decode cX6_on 23 = .ok (.ireturn, 1) := dk_172 (dk_at dksX6_on_0 23 rfl rfl)
theorem dX6_on_24 : decode cX6_on 24 = .ok (.aload_n 0, 1) := dk_42 (dk_at dksX6_on_1 0 rfl rfl)
theorem dX6_on_25 : decode cX6_on 25 = .ok (.invokevirtual 362, 3) := dk_182 1 106 (dk_at dksX6_on_1 1 rfl rfl)
theorem dX6_on_28 : decode cX6_on 28 = .ok (.iconst 0, 1) := dk_3 (dk_at dksX6_on_1 4 rfl rfl)
theorem dX6_on_29 : decode cX6_on 29 = .ok (.istore_n 3, 1) := dk_62 (dk_at dksX6_on_1 5 rfl rfl)
theorem dX6_on_30 : decode cX6_on 30 = .ok (.iconst 0, 1) := dk_3 (dk_at dksX6_on_1 6 rfl rfl)
theorem dX6_on_31 : decode cX6_on 31 = .ok (.istore 4, 2) := dk_54 4 (dk_at dksX6_on_1 7 rfl rfl)
theorem dX6_on_33 : decode cX6_on 33 = .ok (.iload 4, 2) := dk_21 4 (dk_at dksX6_on_1 9 rfl rfl)
theorem dX6_on_35 : decode cX6_on 35 = .ok (.iload_n 2, 1) := dk_28 (dk_at dksX6_on_1 11 rfl rfl)
theorem dX6_on_36 : decode cX6_on 36 = .ok (.if_icmp .ge 21, 3) := dk_162 0 21 (dk_at dksX6_on_1 12 rfl rfl)
theorem dX6_on_39 : decode cX6_on 39 = .ok (.iload_n 3, 1) := dk_29 (dk_at dksX6_on_1 15 rfl rfl)
theorem dX6_on_40 : decode cX6_on 40 = .ok (.aload_n 0, 1) := dk_42 (dk_at dksX6_on_1 16 rfl rfl)
theorem dX6_on_41 : decode cX6_on 41 = .ok (.iload_n 1, 1) := dk_27 (dk_at dksX6_on_1 17 rfl rfl)
theorem dX6_on_42 : decode cX6_on 42 = .ok (.invokevirtual 347, 3) := dk_182 1 91 (dk_at dksX6_on_1 18 rfl rfl)
theorem dX6_on_45 : decode cX6_on 45 = .ok (.iadd, 1) := dk_96 (dk_at dksX6_on_1 21 rfl rfl)
theorem dX6_on_46 : decode cX6_on 46 = .ok (.istore_n 3, 1) := dk_62 (dk_at dksX6_on_1 22 rfl rfl)
theorem dX6_on_47 : decode cX6_on 47 = .ok (.aload_n 0, 1) := dk_42 (dk_at dksX6_on_1 23 rfl rfl)
theorem dX6_on_48 : decode cX6_on 48 = .ok (.invokevirtual 351, 3) := dk_182 1 95 (dk_at dksX6_on_2 0 rfl rfl)
theorem dX6_on_51 : decode cX6_on 51 = .ok (.iinc 4 1, 3) := dk_132 4 1 (dk_at dksX6_on_2 3 rfl rfl)
theorem dX6_on_54 : decode cX6_on 54 = .ok (.goto (-21), 3) := dk_167 255 235 (dk_at dksX6_on_2 6 rfl rfl)
theorem dX6_on_57 : decode cX6_on 57 = .ok (.aload_n 0, 1) := dk_42 (dk_at dksX6_on_2 9 rfl rfl)
theorem dX6_on_58 : decode cX6_on 58 = .ok (.invokevirtual 365, 3) := dk_182 1 109 (dk_at dksX6_on_2 10 rfl rfl)
theorem dX6_on_61 : decode cX6_on 61 = .ok (.iload_n 3, 1) := dk_29 (dk_at dksX6_on_2 13 rfl rfl)
theorem dX6_on_62 : decode cX6_on 62 = .ok (.ireturn, 1) := dk_172 (dk_at dksX6_on_2 14 rfl rfl)
abbrev cX6_save : ByteArray := prog_23_method_54_code
def yX6_save : MethodName := ⟨RX6, "save", "()V"⟩
def dkwX6_save_2 : List UInt8 := [132, 1, 1, 167, 255, 223, 177]
abbrev dktX6_save_2 : List UInt8 := dkwX6_save_2 ++ []
def dkwX6_save_1 : List UInt8 := [180, 0, 120, 27, 42, 180, 0, 44, 27, 46, 79, 42, 180, 0, 123, 27, 42, 180, 0, 26, 27, 46, 79]
abbrev dktX6_save_1 : List UInt8 := dkwX6_save_1 ++ dktX6_save_2
def dkwX6_save_0 : List UInt8 := [42, 19, 1, 105, 181, 0, 111, 42, 42, 180, 0, 16, 181, 0, 117, 3, 60, 27, 16, 6, 162, 0, 33, 42]
abbrev dktX6_save_0 : List UInt8 := dkwX6_save_0 ++ dktX6_save_1
theorem dksX6_save_0 : cX6_save.data.toList.drop 0 = dktX6_save_0 := by decide +kernel
theorem dksX6_save_1 : cX6_save.data.toList.drop 24 = dktX6_save_1 := dk_seg dksX6_save_0 24 rfl rfl
theorem dksX6_save_2 : cX6_save.data.toList.drop 47 = dktX6_save_2 := dk_seg dksX6_save_1 23 rfl rfl
theorem dX6_save_0 : decode cX6_save 0 = .ok (.aload_n 0, 1) := dk_42 (dk_at dksX6_save_0 0 rfl rfl)
theorem dX6_save_1 : decode cX6_save 1 = .ok (.ldc_w 361, 3) := dk_19 1 105 (dk_at dksX6_save_0 1 rfl rfl)
theorem dX6_save_4 : decode cX6_save 4 = .ok (.putfield 111, 3) := dk_181 0 111 (dk_at dksX6_save_0 4 rfl rfl)
theorem dX6_save_7 : decode cX6_save 7 = .ok (.aload_n 0, 1) := dk_42 (dk_at dksX6_save_0 7 rfl rfl)
theorem dX6_save_8 : decode cX6_save 8 = .ok (.aload_n 0, 1) := dk_42 (dk_at dksX6_save_0 8 rfl rfl)
theorem dX6_save_9 : decode cX6_save 9 = .ok (.getfield 16, 3) := dk_180 0 16 (dk_at dksX6_save_0 9 rfl rfl)
theorem dX6_save_12 : decode cX6_save 12 = .ok (.putfield 117, 3) := dk_181 0 117 (dk_at dksX6_save_0 12 rfl rfl)
theorem dX6_save_15 : decode cX6_save 15 = .ok (.iconst 0, 1) := dk_3 (dk_at dksX6_save_0 15 rfl rfl)
theorem dX6_save_16 : decode cX6_save 16 = .ok (.istore_n 1, 1) := dk_60 (dk_at dksX6_save_0 16 rfl rfl)
theorem dX6_save_17 : decode cX6_save 17 = .ok (.iload_n 1, 1) := dk_27 (dk_at dksX6_save_0 17 rfl rfl)
theorem dX6_save_18 : decode cX6_save 18 = .ok (.bipush 6, 2) := dk_16 6 (dk_at dksX6_save_0 18 rfl rfl)
theorem dX6_save_20 : decode cX6_save 20 = .ok (.if_icmp .ge 33, 3) := dk_162 0 33 (dk_at dksX6_save_0 20 rfl rfl)
theorem dX6_save_23 : decode cX6_save 23 = .ok (.aload_n 0, 1) := dk_42 (dk_at dksX6_save_0 23 rfl rfl)
theorem dX6_save_24 : decode cX6_save 24 = .ok (.getfield 120, 3) := dk_180 0 120 (dk_at dksX6_save_1 0 rfl rfl)
theorem dX6_save_27 : decode cX6_save 27 = .ok (.iload_n 1, 1) := dk_27 (dk_at dksX6_save_1 3 rfl rfl)
theorem dX6_save_28 : decode cX6_save 28 = .ok (.aload_n 0, 1) := dk_42 (dk_at dksX6_save_1 4 rfl rfl)
theorem dX6_save_29 : decode cX6_save 29 = .ok (.getfield 44, 3) := dk_180 0 44 (dk_at dksX6_save_1 5 rfl rfl)
theorem dX6_save_32 : decode cX6_save 32 = .ok (.iload_n 1, 1) := dk_27 (dk_at dksX6_save_1 8 rfl rfl)
theorem dX6_save_33 : decode cX6_save 33 = .ok (.iaload, 1) := dk_46 (dk_at dksX6_save_1 9 rfl rfl)
theorem dX6_save_34 : decode cX6_save 34 = .ok (.iastore, 1) := dk_79 (dk_at dksX6_save_1 10 rfl rfl)
theorem dX6_save_35 : decode cX6_save 35 = .ok (.aload_n 0, 1) := dk_42 (dk_at dksX6_save_1 11 rfl rfl)
theorem dX6_save_36 : decode cX6_save 36 = .ok (.getfield 123, 3) := dk_180 0 123 (dk_at dksX6_save_1 12 rfl rfl)
theorem dX6_save_39 : decode cX6_save 39 = .ok (.iload_n 1, 1) := dk_27 (dk_at dksX6_save_1 15 rfl rfl)
theorem dX6_save_40 : decode cX6_save 40 = .ok (.aload_n 0, 1) := dk_42 (dk_at dksX6_save_1 16 rfl rfl)
theorem dX6_save_41 : decode cX6_save 41 = .ok (.getfield 26, 3) := dk_180 0 26 (dk_at dksX6_save_1 17 rfl rfl)
theorem dX6_save_44 : decode cX6_save 44 = .ok (.iload_n 1, 1) := dk_27 (dk_at dksX6_save_1 20 rfl rfl)
theorem dX6_save_45 : decode cX6_save 45 = .ok (.iaload, 1) := dk_46 (dk_at dksX6_save_1 21 rfl rfl)
theorem dX6_save_46 : decode cX6_save 46 = .ok (.iastore, 1) := dk_79 (dk_at dksX6_save_1 22 rfl rfl)
theorem dX6_save_47 : decode cX6_save 47 = .ok (.iinc 1 1, 3) := dk_132 1 1 (dk_at dksX6_save_2 0 rfl rfl)
theorem dX6_save_50 : decode cX6_save 50 = .ok (.goto (-33), 3) := dk_167 255 223 (dk_at dksX6_save_2 3 rfl rfl)
theorem dX6_save_53 : decode cX6_save 53 = .ok (.return_, 1) := dk_177 (dk_at dksX6_save_2 6 rfl rfl)
abbrev cX6_putBack : ByteArray := prog_23_method_55_code
def yX6_putBack : MethodName := ⟨RX6, "putBack", "()V"⟩
def dkwX6_putBack_2 : List UInt8 := [132, 1, 1, 167, 255, 223, 177]
abbrev dktX6_putBack_2 : List UInt8 := dkwX6_putBack_2 ++ []
def dkwX6_putBack_1 : List UInt8 := [180, 0, 44, 27, 42, 180, 0, 120, 27, 46, 79, 42, 180, 0, 26, 27, 42, 180, 0, 123, 27, 46, 79]
abbrev dktX6_putBack_1 : List UInt8 := dkwX6_putBack_1 ++ dktX6_putBack_2
def dkwX6_putBack_0 : List UInt8 := [42, 17, 39, 15, 181, 0, 111, 42, 42, 180, 0, 117, 181, 0, 16, 3, 60, 27, 16, 6, 162, 0, 33, 42]
abbrev dktX6_putBack_0 : List UInt8 := dkwX6_putBack_0 ++ dktX6_putBack_1
theorem dksX6_putBack_0 : cX6_putBack.data.toList.drop 0 = dktX6_putBack_0 := by decide +kernel
theorem dksX6_putBack_1 : cX6_putBack.data.toList.drop 24 = dktX6_putBack_1 := dk_seg dksX6_putBack_0 24 rfl rfl
theorem dksX6_putBack_2 : cX6_putBack.data.toList.drop 47 = dktX6_putBack_2 := dk_seg dksX6_putBack_1 23 rfl rfl
theorem dX6_putBack_0 : decode cX6_putBack 0 = .ok (.aload_n 0, 1) := dk_42 (dk_at dksX6_putBack_0 0 rfl rfl)
theorem dX6_putBack_1 : decode cX6_putBack 1 = .ok (.sipush 9999, 3) := dk_17 39 15 (dk_at dksX6_putBack_0 1 rfl rfl)
theorem dX6_putBack_4 : decode cX6_putBack 4 = .ok (.putfield 111, 3) := dk_181 0 111 (dk_at dksX6_putBack_0 4 rfl rfl)
theorem dX6_putBack_7 : decode cX6_putBack 7 = .ok (.aload_n 0, 1) := dk_42 (dk_at dksX6_putBack_0 7 rfl rfl)
theorem dX6_putBack_8 : decode cX6_putBack 8 = .ok (.aload_n 0, 1) := dk_42 (dk_at dksX6_putBack_0 8 rfl rfl)
theorem dX6_putBack_9 : decode cX6_putBack 9 = .ok (.getfield 117, 3) := dk_180 0 117 (dk_at dksX6_putBack_0 9 rfl rfl)
theorem dX6_putBack_12 : decode cX6_putBack 12 = .ok (.putfield 16, 3) := dk_181 0 16 (dk_at dksX6_putBack_0 12 rfl rfl)
theorem dX6_putBack_15 : decode cX6_putBack 15 = .ok (.iconst 0, 1) := dk_3 (dk_at dksX6_putBack_0 15 rfl rfl)
theorem dX6_putBack_16 : decode cX6_putBack 16 = .ok (.istore_n 1, 1) := dk_60 (dk_at dksX6_putBack_0 16 rfl rfl)
theorem dX6_putBack_17 : decode cX6_putBack 17 = .ok (.iload_n 1, 1) := dk_27 (dk_at dksX6_putBack_0 17 rfl rfl)
theorem dX6_putBack_18 : decode cX6_putBack 18 = .ok (.bipush 6, 2) := dk_16 6 (dk_at dksX6_putBack_0 18 rfl rfl)
theorem dX6_putBack_20 : decode cX6_putBack 20 = .ok (.if_icmp .ge 33, 3) := dk_162 0 33 (dk_at dksX6_putBack_0 20 rfl rfl)
theorem dX6_putBack_23 : decode cX6_putBack 23 = .ok (.aload_n 0, 1) := dk_42 (dk_at dksX6_putBack_0 23 rfl rfl)
theorem dX6_putBack_24 : decode cX6_putBack 24 = .ok (.getfield 44, 3) := dk_180 0 44 (dk_at dksX6_putBack_1 0 rfl rfl)
theorem dX6_putBack_27 : decode cX6_putBack 27 = .ok (.iload_n 1, 1) := dk_27 (dk_at dksX6_putBack_1 3 rfl rfl)
theorem dX6_putBack_28 : decode cX6_putBack 28 = .ok (.aload_n 0, 1) := dk_42 (dk_at dksX6_putBack_1 4 rfl rfl)
theorem dX6_putBack_29 : decode cX6_putBack 29 = .ok (.getfield 120, 3) := dk_180 0 120 (dk_at dksX6_putBack_1 5 rfl rfl)
theorem dX6_putBack_32 : decode cX6_putBack 32 = .ok (.iload_n 1, 1) := dk_27 (dk_at dksX6_putBack_1 8 rfl rfl)
theorem dX6_putBack_33 : decode cX6_putBack 33 = .ok (.iaload, 1) := dk_46 (dk_at dksX6_putBack_1 9 rfl rfl)
theorem dX6_putBack_34 : decode cX6_putBack 34 = .ok (.iastore, 1) := dk_79 (dk_at dksX6_putBack_1 10 rfl rfl)
theorem dX6_putBack_35 : decode cX6_putBack 35 = .ok (.aload_n 0, 1) := dk_42 (dk_at dksX6_putBack_1 11 rfl rfl)
theorem dX6_putBack_36 : decode cX6_putBack 36 = .ok (.getfield 26, 3) := dk_180 0 26 (dk_at dksX6_putBack_1 12 rfl rfl)
theorem dX6_putBack_39 : decode cX6_putBack 39 = .ok (.iload_n 1, 1) := dk_27 (dk_at dksX6_putBack_1 15 rfl rfl)
theorem dX6_putBack_40 : decode cX6_putBack 40 = .ok (.aload_n 0, 1) := dk_42 (dk_at dksX6_putBack_1 16 rfl rfl)
theorem dX6_putBack_41 : decode cX6_putBack 41 = .ok (.getfield 123, 3) := dk_180 0 123 (dk_at dksX6_putBack_1 17 rfl rfl)
theorem dX6_putBack_44 : decode cX6_putBack 44 = .ok (.iload_n 1, 1) := dk_27 (dk_at dksX6_putBack_1 20 rfl rfl)
theorem dX6_putBack_45 : decode cX6_putBack 45 = .ok (.iaload, 1) := dk_46 (dk_at dksX6_putBack_1 21 rfl rfl)
theorem dX6_putBack_46 : decode cX6_putBack 46 = .ok (.iastore, 1) := dk_79 (dk_at dksX6_putBack_1 22 rfl rfl)
theorem dX6_putBack_47 : decode cX6_putBack 47 = .ok (.iinc 1 1, 3) := dk_132 1 1 (dk_at dksX6_putBack_2 0 rfl rfl)
theorem dX6_putBack_50 : decode cX6_putBack 50 = .ok (.goto (-33), 3) := dk_167 255 223 (dk_at dksX6_putBack_2 3 rfl rfl)
theorem dX6_putBack_53 : decode cX6_putBack 53 = .ok (.return_, 1) := dk_177 (dk_at dksX6_putBack_2 6 rfl rfl)
abbrev cX6_lasts : ByteArray := prog_23_method_57_code
def yX6_lasts : MethodName := ⟨RX6, "lasts", "(I)I"⟩
def dkwX6_lasts_2 : List UInt8 := [182, 1, 109, 28, 16, 31, 162, 0, 7, 28, 167, 0, 5, 16, 251, 172]
abbrev dktX6_lasts_2 : List UInt8 := dkwX6_lasts_2 ++ []
def dkwX6_lasts_1 : List UInt8 := [182, 1, 91, 42, 27, 182, 1, 88, 161, 0, 13, 42, 182, 1, 95, 132, 2, 1, 167, 255, 230, 42]
abbrev dktX6_lasts_1 : List UInt8 := dkwX6_lasts_1 ++ dktX6_lasts_2
def dkwX6_lasts_0 : List UInt8 := [42, 27, 182, 0, 252, 154, 0, 5, 2, 172, 42, 182, 1, 106, 3, 61, 28, 16, 31, 162, 0, 26, 42, 27]
abbrev dktX6_lasts_0 : List UInt8 := dkwX6_lasts_0 ++ dktX6_lasts_1
theorem dksX6_lasts_0 : cX6_lasts.data.toList.drop 0 = dktX6_lasts_0 := by decide +kernel
theorem dksX6_lasts_1 : cX6_lasts.data.toList.drop 24 = dktX6_lasts_1 := dk_seg dksX6_lasts_0 24 rfl rfl
theorem dksX6_lasts_2 : cX6_lasts.data.toList.drop 46 = dktX6_lasts_2 := dk_seg dksX6_lasts_1 22 rfl rfl
theorem dX6_lasts_0 : decode cX6_lasts 0 = .ok (.aload_n 0, 1) := dk_42 (dk_at dksX6_lasts_0 0 rfl rfl)
theorem dX6_lasts_1 : decode cX6_lasts 1 = .ok (.iload_n 1, 1) := dk_27 (dk_at dksX6_lasts_0 1 rfl rfl)
theorem dX6_lasts_2 : decode cX6_lasts 2 = .ok (.invokevirtual 252, 3) := dk_182 0 252 (dk_at dksX6_lasts_0 2 rfl rfl)
theorem dX6_lasts_5 : decode cX6_lasts 5 = .ok (.ifCond .ne 5, 3) := dk_154 0 5 (dk_at dksX6_lasts_0 5 rfl rfl)
theorem dX6_lasts_8 : decode cX6_lasts 8 = .ok (.iconst (-1), 1) := dk_2 (dk_at dksX6_lasts_0 8 rfl rfl)
theorem dX6_lasts_9 : decode cX6_lasts 9 = .ok (.ireturn, 1) := dk_172 (dk_at dksX6_lasts_0 9 rfl rfl)
theorem dX6_lasts_10 : decode cX6_lasts 10 = .ok (.aload_n 0, 1) := dk_42 (dk_at dksX6_lasts_0 10 rfl rfl)
theorem dX6_lasts_11 : decode cX6_lasts 11 = .ok (.invokevirtual 362, 3) := dk_182 1 106 (dk_at dksX6_lasts_0 11 rfl rfl)
theorem dX6_lasts_14 : decode cX6_lasts 14 = .ok (.iconst 0, 1) := dk_3 (dk_at dksX6_lasts_0 14 rfl rfl)
theorem dX6_lasts_15 : decode cX6_lasts 15 = .ok (.istore_n 2, 1) := dk_61 (dk_at dksX6_lasts_0 15 rfl rfl)
theorem dX6_lasts_16 : decode cX6_lasts 16 = .ok (.iload_n 2, 1) := dk_28 (dk_at dksX6_lasts_0 16 rfl rfl)
theorem dX6_lasts_17 : decode cX6_lasts 17 = .ok (.bipush 31, 2) := dk_16 31 (dk_at dksX6_lasts_0 17 rfl rfl)
theorem dX6_lasts_19 : decode cX6_lasts 19 = .ok (.if_icmp .ge 26, 3) := dk_162 0 26 (dk_at dksX6_lasts_0 19 rfl rfl)
theorem dX6_lasts_22 : decode cX6_lasts 22 = .ok (.aload_n 0, 1) := dk_42 (dk_at dksX6_lasts_0 22 rfl rfl)
theorem dX6_lasts_23 : decode cX6_lasts 23 = .ok (.iload_n 1, 1) := dk_27 (dk_at dksX6_lasts_0 23 rfl rfl)
theorem dX6_lasts_24 : decode cX6_lasts 24 = .ok (.invokevirtual 347, 3) := dk_182 1 91 (dk_at dksX6_lasts_1 0 rfl rfl)
theorem dX6_lasts_27 : decode cX6_lasts 27 = .ok (.aload_n 0, 1) := dk_42 (dk_at dksX6_lasts_1 3 rfl rfl)
theorem dX6_lasts_28 : decode cX6_lasts 28 = .ok (.iload_n 1, 1) := dk_27 (dk_at dksX6_lasts_1 4 rfl rfl)
theorem dX6_lasts_29 : decode cX6_lasts 29 = .ok (.invokevirtual 344, 3) := dk_182 1 88 (dk_at dksX6_lasts_1 5 rfl rfl)
theorem dX6_lasts_32 : decode cX6_lasts 32 = .ok (.if_icmp .lt 13, 3) := dk_161 0 13 (dk_at dksX6_lasts_1 8 rfl rfl)
theorem dX6_lasts_35 : decode cX6_lasts 35 = .ok (.aload_n 0, 1) := dk_42 (dk_at dksX6_lasts_1 11 rfl rfl)
theorem dX6_lasts_36 : decode cX6_lasts 36 = .ok (.invokevirtual 351, 3) := dk_182 1 95 (dk_at dksX6_lasts_1 12 rfl rfl)
theorem dX6_lasts_39 : decode cX6_lasts 39 = .ok (.iinc 2 1, 3) := dk_132 2 1 (dk_at dksX6_lasts_1 15 rfl rfl)
theorem dX6_lasts_42 : decode cX6_lasts 42 = .ok (.goto (-26), 3) := dk_167 255 230 (dk_at dksX6_lasts_1 18 rfl rfl)
theorem dX6_lasts_45 : decode cX6_lasts 45 = .ok (.aload_n 0, 1) := dk_42 (dk_at dksX6_lasts_1 21 rfl rfl)
theorem dX6_lasts_46 : decode cX6_lasts 46 = .ok (.invokevirtual 365, 3) := dk_182 1 109 (dk_at dksX6_lasts_2 0 rfl rfl)
theorem dX6_lasts_49 : decode cX6_lasts 49 = .ok (.iload_n 2, 1) := dk_28 (dk_at dksX6_lasts_2 3 rfl rfl)
theorem dX6_lasts_50 : decode cX6_lasts 50 = .ok (.bipush 31, 2) := dk_16 31 (dk_at dksX6_lasts_2 4 rfl rfl)
theorem dX6_lasts_52 : decode cX6_lasts 52 = .ok (.if_icmp .ge 7, 3) := dk_162 0 7 (dk_at dksX6_lasts_2 6 rfl rfl)
theorem dX6_lasts_55 : decode cX6_lasts 55 = .ok (.iload_n 2, 1) := dk_28 (dk_at dksX6_lasts_2 9 rfl rfl)
theorem dX6_lasts_56 : decode cX6_lasts 56 = .ok (.goto 5, 3) := dk_167 0 5 (dk_at dksX6_lasts_2 10 rfl rfl)
theorem dX6_lasts_59 : decode cX6_lasts 59 = .ok (.bipush (-5), 2) := dk_16 251 (dk_at dksX6_lasts_2 13 rfl rfl)
theorem dX6_lasts_61 : decode cX6_lasts 61 = .ok (.ireturn, 1) := dk_172 (dk_at dksX6_lasts_2 15 rfl rfl)
abbrev cX6_by : ByteArray := prog_23_method_62_code
def yX6_by : MethodName := ⟨RX6, "by", "(I)I"⟩
def dkwX6_by_2 : List UInt8 := [172]
abbrev dktX6_by_2 : List UInt8 := dkwX6_by_2 ++ []
def dkwX6_by_1 : List UInt8 := [182, 1, 124, 27, 156, 0, 10, 42, 180, 0, 132, 167, 0, 13, 42, 42, 180, 0, 126, 27, 46, 182, 1, 10]
abbrev dktX6_by_1 : List UInt8 := dkwX6_by_1 ++ dktX6_by_2
def dkwX6_by_0 : List UInt8 := [42, 27, 2, 8, 182, 0, 248, 154, 0, 5, 2, 172, 27, 42, 180, 0, 7, 161, 0, 6, 16, 251, 172, 42]
abbrev dktX6_by_0 : List UInt8 := dkwX6_by_0 ++ dktX6_by_1
theorem dksX6_by_0 : cX6_by.data.toList.drop 0 = dktX6_by_0 := by decide +kernel
theorem dksX6_by_1 : cX6_by.data.toList.drop 24 = dktX6_by_1 := dk_seg dksX6_by_0 24 rfl rfl
theorem dksX6_by_2 : cX6_by.data.toList.drop 48 = dktX6_by_2 := dk_seg dksX6_by_1 24 rfl rfl
theorem dX6_by_0 : decode cX6_by 0 = .ok (.aload_n 0, 1) := dk_42 (dk_at dksX6_by_0 0 rfl rfl)
theorem dX6_by_1 : decode cX6_by 1 = .ok (.iload_n 1, 1) := dk_27 (dk_at dksX6_by_0 1 rfl rfl)
theorem dX6_by_2 : decode cX6_by 2 = .ok (.iconst (-1), 1) := dk_2 (dk_at dksX6_by_0 2 rfl rfl)
theorem dX6_by_3 : decode cX6_by 3 = .ok (.iconst 5, 1) := dk_8 (dk_at dksX6_by_0 3 rfl rfl)
theorem dX6_by_4 : decode cX6_by 4 = .ok (.invokevirtual 248, 3) := dk_182 0 248 (dk_at dksX6_by_0 4 rfl rfl)
theorem dX6_by_7 : decode cX6_by 7 = .ok (.ifCond .ne 5, 3) := dk_154 0 5 (dk_at dksX6_by_0 7 rfl rfl)
theorem dX6_by_10 : decode cX6_by 10 = .ok (.iconst (-1), 1) := dk_2 (dk_at dksX6_by_0 10 rfl rfl)
theorem dX6_by_11 : decode cX6_by 11 = .ok (.ireturn, 1) := dk_172 (dk_at dksX6_by_0 11 rfl rfl)
theorem dX6_by_12 : decode cX6_by 12 = .ok (.iload_n 1, 1) := dk_27 (dk_at dksX6_by_0 12 rfl rfl)
theorem dX6_by_13 : decode cX6_by 13 = .ok (.aload_n 0, 1) := dk_42 (dk_at dksX6_by_0 13 rfl rfl)
theorem dX6_by_14 : decode cX6_by 14 = .ok (.getfield 7, 3) := dk_180 0 7 (dk_at dksX6_by_0 14 rfl rfl)
theorem dX6_by_17 : decode cX6_by 17 = .ok (.if_icmp .lt 6, 3) := dk_161 0 6 (dk_at dksX6_by_0 17 rfl rfl)
theorem dX6_by_20 : decode cX6_by 20 = .ok (.bipush (-5), 2) := dk_16 251 (dk_at dksX6_by_0 20 rfl rfl)
theorem dX6_by_22 : decode cX6_by 22 = .ok (.ireturn, 1) := dk_172 (dk_at dksX6_by_0 22 rfl rfl)
theorem dX6_by_23 : decode cX6_by 23 = .ok (.aload_n 0, 1) := dk_42 (dk_at dksX6_by_0 23 rfl rfl)
theorem dX6_by_24 : decode cX6_by 24 = .ok (.invokevirtual 380, 3) := dk_182 1 124 (dk_at dksX6_by_1 0 rfl rfl)
theorem dX6_by_27 : decode cX6_by 27 = .ok (.iload_n 1, 1) := dk_27 (dk_at dksX6_by_1 3 rfl rfl)
theorem dX6_by_28 : decode cX6_by 28 = .ok (.ifCond .ge 10, 3) := dk_156 0 10 (dk_at dksX6_by_1 4 rfl rfl)
theorem dX6_by_31 : decode cX6_by 31 = .ok (.aload_n 0, 1) := dk_42 (dk_at dksX6_by_1 7 rfl rfl)
theorem dX6_by_32 : decode cX6_by 32 = .ok (.getfield 132, 3) := dk_180 0 132 (dk_at dksX6_by_1 8 rfl rfl)
theorem dX6_by_35 : decode cX6_by 35 = .ok (.goto 13, 3) := dk_167 0 13 (dk_at dksX6_by_1 11 rfl rfl)
theorem dX6_by_38 : decode cX6_by 38 = .ok (.aload_n 0, 1) := dk_42 (dk_at dksX6_by_1 14 rfl rfl)
theorem dX6_by_39 : decode cX6_by 39 = .ok (.aload_n 0, 1) := dk_42 (dk_at dksX6_by_1 15 rfl rfl)
theorem dX6_by_40 : decode cX6_by 40 = .ok (.getfield 126, 3) := dk_180 0 126 (dk_at dksX6_by_1 16 rfl rfl)
theorem dX6_by_43 : decode cX6_by 43 = .ok (.iload_n 1, 1) := dk_27 (dk_at dksX6_by_1 19 rfl rfl)
theorem dX6_by_44 : decode cX6_by 44 = .ok (.iaload, 1) := dk_46 (dk_at dksX6_by_1 20 rfl rfl)
theorem dX6_by_45 : decode cX6_by 45 = .ok (.invokevirtual 266, 3) := dk_182 1 10 (dk_at dksX6_by_1 21 rfl rfl)
theorem dX6_by_48 : decode cX6_by 48 = .ok (.ireturn, 1) := dk_172 (dk_at dksX6_by_2 0 rfl rfl)
abbrev cX6_layBest : ByteArray := prog_23_method_61_code
def yX6_layBest : MethodName := ⟨RX6, "layBest", "()V"⟩
def dkwX6_layBest_9 : List UInt8 := [21, 4, 156, 0, 7, 3, 167, 0, 7, 4, 21, 4, 120, 128, 61, 132, 3, 1, 167, 255, 190, 177]
abbrev dktX6_layBest_9 : List UInt8 := dkwX6_layBest_9 ++ []
def dkwX6_layBest_8 : List UInt8 := [29, 104, 28, 96, 46, 159, 0, 9, 132, 4, 1, 167, 255, 231, 42, 180, 0, 126, 29, 21, 4, 79, 28]
abbrev dktX6_layBest_8 : List UInt8 := dkwX6_layBest_8 ++ dktX6_layBest_9
def dkwX6_layBest_7 : List UInt8 := [42, 180, 0, 7, 162, 0, 64, 2, 54, 4, 42, 29, 28, 21, 4, 182, 1, 121, 42, 180, 0, 135, 16, 64]
abbrev dktX6_layBest_7 : List UInt8 := dkwX6_layBest_7 ++ dktX6_layBest_8
def dkwX6_layBest_6 : List UInt8 := [167, 255, 197, 132, 2, 255, 167, 255, 185, 42, 42, 180, 0, 135, 3, 46, 181, 0, 132, 3, 61, 3, 62, 29]
abbrev dktX6_layBest_6 : List UInt8 := dkwX6_layBest_6 ++ dktX6_layBest_7
def dkwX6_layBest_5 : List UInt8 := [54, 4, 132, 5, 1, 167, 255, 228, 42, 180, 0, 135, 16, 64, 28, 104, 29, 96, 21, 4, 79, 132, 3, 1]
abbrev dktX6_layBest_5 : List UInt8 := dkwX6_layBest_5 ++ dktX6_layBest_6
def dkwX6_layBest_4 : List UInt8 := [21, 5, 42, 180, 0, 13, 162, 0, 25, 42, 21, 4, 42, 28, 29, 21, 5, 182, 1, 121, 182, 1, 76]
abbrev dktX6_layBest_4 : List UInt8 := dkwX6_layBest_4 ++ dktX6_layBest_5
def dkwX6_layBest_3 : List UInt8 := [180, 0, 7, 4, 100, 61, 28, 155, 0, 73, 3, 62, 29, 16, 64, 162, 0, 59, 2, 54, 4, 2, 54, 5]
abbrev dktX6_layBest_3 : List UInt8 := dkwX6_layBest_3 ++ dktX6_layBest_4
def dkwX6_layBest_2 : List UInt8 := [96, 42, 28, 182, 1, 118, 27, 160, 0, 7, 3, 167, 0, 4, 2, 79, 132, 2, 1, 167, 255, 219, 42]
abbrev dktX6_layBest_2 : List UInt8 := dkwX6_layBest_2 ++ dktX6_layBest_3
def dkwX6_layBest_1 : List UInt8 := [180, 0, 13, 60, 3, 61, 28, 16, 64, 162, 0, 37, 42, 180, 0, 135, 16, 64, 42, 180, 0, 7, 104, 28]
abbrev dktX6_layBest_1 : List UInt8 := dkwX6_layBest_1 ++ dktX6_layBest_2
def dkwX6_layBest_0 : List UInt8 := [42, 182, 1, 115, 42, 180, 0, 7, 42, 180, 0, 13, 162, 0, 10, 42, 180, 0, 7, 167, 0, 7, 42]
abbrev dktX6_layBest_0 : List UInt8 := dkwX6_layBest_0 ++ dktX6_layBest_1
theorem dksX6_layBest_0 : cX6_layBest.data.toList.drop 0 = dktX6_layBest_0 := by decide +kernel
theorem dksX6_layBest_1 : cX6_layBest.data.toList.drop 23 = dktX6_layBest_1 := dk_seg dksX6_layBest_0 23 rfl rfl
theorem dksX6_layBest_2 : cX6_layBest.data.toList.drop 47 = dktX6_layBest_2 := dk_seg dksX6_layBest_1 24 rfl rfl
theorem dksX6_layBest_3 : cX6_layBest.data.toList.drop 70 = dktX6_layBest_3 := dk_seg dksX6_layBest_2 23 rfl rfl
theorem dksX6_layBest_4 : cX6_layBest.data.toList.drop 94 = dktX6_layBest_4 := dk_seg dksX6_layBest_3 24 rfl rfl
theorem dksX6_layBest_5 : cX6_layBest.data.toList.drop 117 = dktX6_layBest_5 := dk_seg dksX6_layBest_4 23 rfl rfl
theorem dksX6_layBest_6 : cX6_layBest.data.toList.drop 141 = dktX6_layBest_6 := dk_seg dksX6_layBest_5 24 rfl rfl
theorem dksX6_layBest_7 : cX6_layBest.data.toList.drop 165 = dktX6_layBest_7 := dk_seg dksX6_layBest_6 24 rfl rfl
theorem dksX6_layBest_8 : cX6_layBest.data.toList.drop 189 = dktX6_layBest_8 := dk_seg dksX6_layBest_7 24 rfl rfl
theorem dksX6_layBest_9 : cX6_layBest.data.toList.drop 212 = dktX6_layBest_9 := dk_seg dksX6_layBest_8 23 rfl rfl
theorem dX6_layBest_0 : decode cX6_layBest 0 = .ok (.aload_n 0, 1) := dk_42 (dk_at dksX6_layBest_0 0 rfl rfl)
theorem dX6_layBest_1 : decode cX6_layBest 1 = .ok (.invokevirtual 371, 3) := dk_182 1 115 (dk_at dksX6_layBest_0 1 rfl rfl)
theorem dX6_layBest_4 : decode cX6_layBest 4 = .ok (.aload_n 0, 1) := dk_42 (dk_at dksX6_layBest_0 4 rfl rfl)
theorem dX6_layBest_5 : decode cX6_layBest 5 = .ok (.getfield 7, 3) := dk_180 0 7 (dk_at dksX6_layBest_0 5 rfl rfl)
theorem dX6_layBest_8 : decode cX6_layBest 8 = .ok (.aload_n 0, 1) := dk_42 (dk_at dksX6_layBest_0 8 rfl rfl)
theorem dX6_layBest_9 : decode cX6_layBest 9 = .ok (.getfield 13, 3) := dk_180 0 13 (dk_at dksX6_layBest_0 9 rfl rfl)
theorem dX6_layBest_12 : decode cX6_layBest 12 = .ok (.if_icmp .ge 10, 3) := dk_162 0 10 (dk_at dksX6_layBest_0 12 rfl rfl)
theorem dX6_layBest_15 : decode cX6_layBest 15 = .ok (.aload_n 0, 1) := dk_42 (dk_at dksX6_layBest_0 15 rfl rfl)
theorem dX6_layBest_16 : decode cX6_layBest 16 = .ok (.getfield 7, 3) := dk_180 0 7 (dk_at dksX6_layBest_0 16 rfl rfl)
theorem dX6_layBest_19 : decode cX6_layBest 19 = .ok (.goto 7, 3) := dk_167 0 7 (dk_at dksX6_layBest_0 19 rfl rfl)
theorem dX6_layBest_22 : decode cX6_layBest 22 = .ok (.aload_n 0, 1) := dk_42 (dk_at dksX6_layBest_0 22 rfl rfl)
theorem dX6_layBest_23 : decode cX6_layBest 23 = .ok (.getfield 13, 3) := dk_180 0 13 (dk_at dksX6_layBest_1 0 rfl rfl)
theorem dX6_layBest_26 : decode cX6_layBest 26 = .ok (.istore_n 1, 1) := dk_60 (dk_at dksX6_layBest_1 3 rfl rfl)
theorem dX6_layBest_27 : decode cX6_layBest 27 = .ok (.iconst 0, 1) := dk_3 (dk_at dksX6_layBest_1 4 rfl rfl)
theorem dX6_layBest_28 : decode cX6_layBest 28 = .ok (.istore_n 2, 1) := dk_61 (dk_at dksX6_layBest_1 5 rfl rfl)
theorem dX6_layBest_29 : decode cX6_layBest 29 = .ok (.iload_n 2, 1) := dk_28 (dk_at dksX6_layBest_1 6 rfl rfl)
theorem dX6_layBest_30 : decode cX6_layBest 30 = .ok (.bipush 64, 2) := dk_16 64 (dk_at dksX6_layBest_1 7 rfl rfl)
theorem dX6_layBest_32 : decode cX6_layBest 32 = .ok (.if_icmp .ge 37, 3) := dk_162 0 37 (dk_at dksX6_layBest_1 9 rfl rfl)
theorem dX6_layBest_35 : decode cX6_layBest 35 = .ok (.aload_n 0, 1) := dk_42 (dk_at dksX6_layBest_1 12 rfl rfl)
theorem dX6_layBest_36 : decode cX6_layBest 36 = .ok (.getfield 135, 3) := dk_180 0 135 (dk_at dksX6_layBest_1 13 rfl rfl)
theorem dX6_layBest_39 : decode cX6_layBest 39 = .ok (.bipush 64, 2) := dk_16 64 (dk_at dksX6_layBest_1 16 rfl rfl)
theorem dX6_layBest_41 : decode cX6_layBest 41 = .ok (.aload_n 0, 1) := dk_42 (dk_at dksX6_layBest_1 18 rfl rfl)
theorem dX6_layBest_42 : decode cX6_layBest 42 = .ok (.getfield 7, 3) := dk_180 0 7 (dk_at dksX6_layBest_1 19 rfl rfl)
theorem dX6_layBest_45 : decode cX6_layBest 45 = .ok (.imul, 1) := dk_104 (dk_at dksX6_layBest_1 22 rfl rfl)
theorem dX6_layBest_46 : decode cX6_layBest 46 = .ok (.iload_n 2, 1) := dk_28 (dk_at dksX6_layBest_1 23 rfl rfl)
theorem dX6_layBest_47 : decode cX6_layBest 47 = .ok (.iadd, 1) := dk_96 (dk_at dksX6_layBest_2 0 rfl rfl)
theorem dX6_layBest_48 : decode cX6_layBest 48 = .ok (.aload_n 0, 1) := dk_42 (dk_at dksX6_layBest_2 1 rfl rfl)
theorem dX6_layBest_49 : decode cX6_layBest 49 = .ok (.iload_n 2, 1) := dk_28 (dk_at dksX6_layBest_2 2 rfl rfl)
theorem dX6_layBest_50 : decode cX6_layBest 50 = .ok (.invokevirtual 374, 3) := dk_182 1 118 (dk_at dksX6_layBest_2 3 rfl rfl)
theorem dX6_layBest_53 : decode cX6_layBest 53 = .ok (.iload_n 1, 1) := dk_27 (dk_at dksX6_layBest_2 6 rfl rfl)
theorem dX6_layBest_54 : decode cX6_layBest 54 = .ok (.if_icmp .ne 7, 3) := dk_160 0 7 (dk_at dksX6_layBest_2 7 rfl rfl)
theorem dX6_layBest_57 : decode cX6_layBest 57 = .ok (.iconst 0, 1) := dk_3 (dk_at dksX6_layBest_2 10 rfl rfl)
theorem dX6_layBest_58 : decode cX6_layBest 58 = .ok (.goto 4, 3) := dk_167 0 4 (dk_at dksX6_layBest_2 11 rfl rfl)
theorem dX6_layBest_61 : decode cX6_layBest 61 = .ok (.iconst (-1), 1) := dk_2 (dk_at dksX6_layBest_2 14 rfl rfl)
theorem dX6_layBest_62 : decode cX6_layBest 62 = .ok (.iastore, 1) := dk_79 (dk_at dksX6_layBest_2 15 rfl rfl)
theorem dX6_layBest_63 : decode cX6_layBest 63 = .ok (.iinc 2 1, 3) := dk_132 2 1 (dk_at dksX6_layBest_2 16 rfl rfl)
theorem dX6_layBest_66 : decode cX6_layBest 66 = .ok (.goto (-37), 3) := dk_167 255 219 (dk_at dksX6_layBest_2 19 rfl rfl)
theorem dX6_layBest_69 : decode cX6_layBest 69 = .ok (.aload_n 0, 1) := dk_42 (dk_at dksX6_layBest_2 22 rfl rfl)
theorem dX6_layBest_70 : decode cX6_layBest 70 = .ok (.getfield 7, 3) := dk_180 0 7 (dk_at dksX6_layBest_3 0 rfl rfl)
theorem dX6_layBest_73 : decode cX6_layBest 73 = .ok (.iconst 1, 1) := dk_4 (dk_at dksX6_layBest_3 3 rfl rfl)
theorem dX6_layBest_74 : decode cX6_layBest 74 = .ok (.isub, 1) := dk_100 (dk_at dksX6_layBest_3 4 rfl rfl)
theorem dX6_layBest_75 : decode cX6_layBest 75 = .ok (.istore_n 2, 1) := dk_61 (dk_at dksX6_layBest_3 5 rfl rfl)
theorem dX6_layBest_76 : decode cX6_layBest 76 = .ok (.iload_n 2, 1) := dk_28 (dk_at dksX6_layBest_3 6 rfl rfl)
theorem dX6_layBest_77 : decode cX6_layBest 77 = .ok (.ifCond .lt 73, 3) := dk_155 0 73 (dk_at dksX6_layBest_3 7 rfl rfl)
theorem dX6_layBest_80 : decode cX6_layBest 80 = .ok (.iconst 0, 1) := dk_3 (dk_at dksX6_layBest_3 10 rfl rfl)
theorem dX6_layBest_81 : decode cX6_layBest 81 = .ok (.istore_n 3, 1) := dk_62 (dk_at dksX6_layBest_3 11 rfl rfl)
theorem dX6_layBest_82 : decode cX6_layBest 82 = .ok (.iload_n 3, 1) := dk_29 (dk_at dksX6_layBest_3 12 rfl rfl)
theorem dX6_layBest_83 : decode cX6_layBest 83 = .ok (.bipush 64, 2) := dk_16 64 (dk_at dksX6_layBest_3 13 rfl rfl)
theorem dX6_layBest_85 : decode cX6_layBest 85 = .ok (.if_icmp .ge 59, 3) := dk_162 0 59 (dk_at dksX6_layBest_3 15 rfl rfl)
theorem dX6_layBest_88 : decode cX6_layBest 88 = .ok (.iconst (-1), 1) := dk_2 (dk_at dksX6_layBest_3 18 rfl rfl)
theorem dX6_layBest_89 : decode cX6_layBest 89 = .ok (.istore 4, 2) := dk_54 4 (dk_at dksX6_layBest_3 19 rfl rfl)
theorem dX6_layBest_91 : decode cX6_layBest 91 = .ok (.iconst (-1), 1) := dk_2 (dk_at dksX6_layBest_3 21 rfl rfl)
theorem dX6_layBest_92 : decode cX6_layBest 92 = .ok (.istore 5, 2) := dk_54 5 (dk_at dksX6_layBest_3 22 rfl rfl)
theorem dX6_layBest_94 : decode cX6_layBest 94 = .ok (.iload 5, 2) := dk_21 5 (dk_at dksX6_layBest_4 0 rfl rfl)
theorem dX6_layBest_96 : decode cX6_layBest 96 = .ok (.aload_n 0, 1) := dk_42 (dk_at dksX6_layBest_4 2 rfl rfl)
theorem dX6_layBest_97 : decode cX6_layBest 97 = .ok (.getfield 13, 3) := dk_180 0 13 (dk_at dksX6_layBest_4 3 rfl rfl)
theorem dX6_layBest_100 : decode cX6_layBest 100 = .ok (.if_icmp .ge 25, 3) := dk_162 0 25 (dk_at dksX6_layBest_4 6 rfl rfl)
theorem dX6_layBest_103 : decode cX6_layBest 103 = .ok (.aload_n 0, 1) := dk_42 (dk_at dksX6_layBest_4 9 rfl rfl)
theorem dX6_layBest_104 : decode cX6_layBest 104 = .ok (.iload 4, 2) := dk_21 4 (dk_at dksX6_layBest_4 10 rfl rfl)
theorem dX6_layBest_106 : decode cX6_layBest 106 = .ok (.aload_n 0, 1) := dk_42 (dk_at dksX6_layBest_4 12 rfl rfl)
theorem dX6_layBest_107 : decode cX6_layBest 107 = .ok (.iload_n 2, 1) := dk_28 (dk_at dksX6_layBest_4 13 rfl rfl)
theorem dX6_layBest_108 : decode cX6_layBest 108 = .ok (.iload_n 3, 1) := dk_29 (dk_at dksX6_layBest_4 14 rfl rfl)
theorem dX6_layBest_109 : decode cX6_layBest 109 = .ok (.iload 5, 2) := dk_21 5 (dk_at dksX6_layBest_4 15 rfl rfl)
theorem dX6_layBest_111 : decode cX6_layBest 111 = .ok (.invokevirtual 377, 3) := dk_182 1 121 (dk_at dksX6_layBest_4 17 rfl rfl)
theorem dX6_layBest_114 : decode cX6_layBest 114 = .ok (.invokevirtual 332, 3) := dk_182 1 76 (dk_at dksX6_layBest_4 20 rfl rfl)
theorem dX6_layBest_117 : decode cX6_layBest 117 = .ok (.istore 4, 2) := dk_54 4 (dk_at dksX6_layBest_5 0 rfl rfl)
theorem dX6_layBest_119 : decode cX6_layBest 119 = .ok (.iinc 5 1, 3) := dk_132 5 1 (dk_at dksX6_layBest_5 2 rfl rfl)
theorem dX6_layBest_122 : decode cX6_layBest 122 = .ok (.goto (-28), 3) := dk_167 255 228 (dk_at dksX6_layBest_5 5 rfl rfl)
theorem dX6_layBest_125 : decode cX6_layBest 125 = .ok (.aload_n 0, 1) := dk_42 (dk_at dksX6_layBest_5 8 rfl rfl)
theorem dX6_layBest_126 : decode cX6_layBest 126 = .ok (.getfield 135, 3) := dk_180 0 135 (dk_at dksX6_layBest_5 9 rfl rfl)
theorem dX6_layBest_129 : decode cX6_layBest 129 = .ok (.bipush 64, 2) := dk_16 64 (dk_at dksX6_layBest_5 12 rfl rfl)
theorem dX6_layBest_131 : decode cX6_layBest 131 = .ok (.iload_n 2, 1) := dk_28 (dk_at dksX6_layBest_5 14 rfl rfl)
theorem dX6_layBest_132 : decode cX6_layBest 132 = .ok (.imul, 1) := dk_104 (dk_at dksX6_layBest_5 15 rfl rfl)
theorem dX6_layBest_133 : decode cX6_layBest 133 = .ok (.iload_n 3, 1) := dk_29 (dk_at dksX6_layBest_5 16 rfl rfl)
theorem dX6_layBest_134 : decode cX6_layBest 134 = .ok (.iadd, 1) := dk_96 (dk_at dksX6_layBest_5 17 rfl rfl)
theorem dX6_layBest_135 : decode cX6_layBest 135 = .ok (.iload 4, 2) := dk_21 4 (dk_at dksX6_layBest_5 18 rfl rfl)
theorem dX6_layBest_137 : decode cX6_layBest 137 = .ok (.iastore, 1) := dk_79 (dk_at dksX6_layBest_5 20 rfl rfl)
theorem dX6_layBest_138 : decode cX6_layBest 138 = .ok (.iinc 3 1, 3) := dk_132 3 1 (dk_at dksX6_layBest_5 21 rfl rfl)
theorem dX6_layBest_141 : decode cX6_layBest 141 = .ok (.goto (-59), 3) := dk_167 255 197 (dk_at dksX6_layBest_6 0 rfl rfl)
theorem dX6_layBest_144 : decode cX6_layBest 144 = .ok (.iinc 2 (-1), 3) := dk_132 2 255 (dk_at dksX6_layBest_6 3 rfl rfl)
theorem dX6_layBest_147 : decode cX6_layBest 147 = .ok (.goto (-71), 3) := dk_167 255 185 (dk_at dksX6_layBest_6 6 rfl rfl)
theorem dX6_layBest_150 : decode cX6_layBest 150 = .ok (.aload_n 0, 1) := dk_42 (dk_at dksX6_layBest_6 9 rfl rfl)
theorem dX6_layBest_151 : decode cX6_layBest 151 = .ok (.aload_n 0, 1) := dk_42 (dk_at dksX6_layBest_6 10 rfl rfl)
theorem dX6_layBest_152 : decode cX6_layBest 152 = .ok (.getfield 135, 3) := dk_180 0 135 (dk_at dksX6_layBest_6 11 rfl rfl)
theorem dX6_layBest_155 : decode cX6_layBest 155 = .ok (.iconst 0, 1) := dk_3 (dk_at dksX6_layBest_6 14 rfl rfl)
theorem dX6_layBest_156 : decode cX6_layBest 156 = .ok (.iaload, 1) := dk_46 (dk_at dksX6_layBest_6 15 rfl rfl)
theorem dX6_layBest_157 : decode cX6_layBest 157 = .ok (.putfield 132, 3) := dk_181 0 132 (dk_at dksX6_layBest_6 16 rfl rfl)
theorem dX6_layBest_160 : decode cX6_layBest 160 = .ok (.iconst 0, 1) := dk_3 (dk_at dksX6_layBest_6 19 rfl rfl)
theorem dX6_layBest_161 : decode cX6_layBest 161 = .ok (.istore_n 2, 1) := dk_61 (dk_at dksX6_layBest_6 20 rfl rfl)
theorem dX6_layBest_162 : decode cX6_layBest 162 = .ok (.iconst 0, 1) := dk_3 (dk_at dksX6_layBest_6 21 rfl rfl)
theorem dX6_layBest_163 : decode cX6_layBest 163 = .ok (.istore_n 3, 1) := dk_62 (dk_at dksX6_layBest_6 22 rfl rfl)
theorem dX6_layBest_164 : decode cX6_layBest 164 = .ok (.iload_n 3, 1) := dk_29 (dk_at dksX6_layBest_6 23 rfl rfl)
theorem dX6_layBest_165 : decode cX6_layBest 165 = .ok (.aload_n 0, 1) := dk_42 (dk_at dksX6_layBest_7 0 rfl rfl)
theorem dX6_layBest_166 : decode cX6_layBest 166 = .ok (.getfield 7, 3) := dk_180 0 7 (dk_at dksX6_layBest_7 1 rfl rfl)
theorem dX6_layBest_169 : decode cX6_layBest 169 = .ok (.if_icmp .ge 64, 3) := dk_162 0 64 (dk_at dksX6_layBest_7 4 rfl rfl)
theorem dX6_layBest_172 : decode cX6_layBest 172 = .ok (.iconst (-1), 1) := dk_2 (dk_at dksX6_layBest_7 7 rfl rfl)
theorem dX6_layBest_173 : decode cX6_layBest 173 = .ok (.istore 4, 2) := dk_54 4 (dk_at dksX6_layBest_7 8 rfl rfl)
theorem dX6_layBest_175 : decode cX6_layBest 175 = .ok (.aload_n 0, 1) := dk_42 (dk_at dksX6_layBest_7 10 rfl rfl)
theorem dX6_layBest_176 : decode cX6_layBest 176 = .ok (.iload_n 3, 1) := dk_29 (dk_at dksX6_layBest_7 11 rfl rfl)
theorem dX6_layBest_177 : decode cX6_layBest 177 = .ok (.iload_n 2, 1) := dk_28 (dk_at dksX6_layBest_7 12 rfl rfl)
theorem dX6_layBest_178 : decode cX6_layBest 178 = .ok (.iload 4, 2) := dk_21 4 (dk_at dksX6_layBest_7 13 rfl rfl)
theorem dX6_layBest_180 : decode cX6_layBest 180 = .ok (.invokevirtual 377, 3) := dk_182 1 121 (dk_at dksX6_layBest_7 15 rfl rfl)
theorem dX6_layBest_183 : decode cX6_layBest 183 = .ok (.aload_n 0, 1) := dk_42 (dk_at dksX6_layBest_7 18 rfl rfl)
theorem dX6_layBest_184 : decode cX6_layBest 184 = .ok (.getfield 135, 3) := dk_180 0 135 (dk_at dksX6_layBest_7 19 rfl rfl)
theorem dX6_layBest_187 : decode cX6_layBest 187 = .ok (.bipush 64, 2) := dk_16 64 (dk_at dksX6_layBest_7 22 rfl rfl)
theorem dX6_layBest_189 : decode cX6_layBest 189 = .ok (.iload_n 3, 1) := dk_29 (dk_at dksX6_layBest_8 0 rfl rfl)
theorem dX6_layBest_190 : decode cX6_layBest 190 = .ok (.imul, 1) := dk_104 (dk_at dksX6_layBest_8 1 rfl rfl)
theorem dX6_layBest_191 : decode cX6_layBest 191 = .ok (.iload_n 2, 1) := dk_28 (dk_at dksX6_layBest_8 2 rfl rfl)
theorem dX6_layBest_192 : decode cX6_layBest 192 = .ok (.iadd, 1) := dk_96 (dk_at dksX6_layBest_8 3 rfl rfl)
theorem dX6_layBest_193 : decode cX6_layBest 193 = .ok (.iaload, 1) := dk_46 (dk_at dksX6_layBest_8 4 rfl rfl)
theorem dX6_layBest_194 : decode cX6_layBest 194 = .ok (.if_icmp .eq 9, 3) := dk_159 0 9 (dk_at dksX6_layBest_8 5 rfl rfl)
theorem dX6_layBest_197 : decode cX6_layBest 197 = .ok (.iinc 4 1, 3) := dk_132 4 1 (dk_at dksX6_layBest_8 8 rfl rfl)
theorem dX6_layBest_200 : decode cX6_layBest 200 = .ok (.goto (-25), 3) := dk_167 255 231 (dk_at dksX6_layBest_8 11 rfl rfl)
theorem dX6_layBest_203 : decode cX6_layBest 203 = .ok (.aload_n 0, 1) := dk_42 (dk_at dksX6_layBest_8 14 rfl rfl)
theorem dX6_layBest_204 : decode cX6_layBest 204 = .ok (.getfield 126, 3) := dk_180 0 126 (dk_at dksX6_layBest_8 15 rfl rfl)
theorem dX6_layBest_207 : decode cX6_layBest 207 = .ok (.iload_n 3, 1) := dk_29 (dk_at dksX6_layBest_8 18 rfl rfl)
theorem dX6_layBest_208 : decode cX6_layBest 208 = .ok (.iload 4, 2) := dk_21 4 (dk_at dksX6_layBest_8 19 rfl rfl)
theorem dX6_layBest_210 : decode cX6_layBest 210 = .ok (.iastore, 1) := dk_79 (dk_at dksX6_layBest_8 21 rfl rfl)
theorem dX6_layBest_211 : decode cX6_layBest 211 = .ok (.iload_n 2, 1) := dk_28 (dk_at dksX6_layBest_8 22 rfl rfl)
theorem dX6_layBest_212 : decode cX6_layBest 212 = .ok (.iload 4, 2) := dk_21 4 (dk_at dksX6_layBest_9 0 rfl rfl)
theorem dX6_layBest_214 : decode cX6_layBest 214 = .ok (.ifCond .ge 7, 3) := dk_156 0 7 (dk_at dksX6_layBest_9 2 rfl rfl)
theorem dX6_layBest_217 : decode cX6_layBest 217 = .ok (.iconst 0, 1) := dk_3 (dk_at dksX6_layBest_9 5 rfl rfl)
theorem dX6_layBest_218 : decode cX6_layBest 218 = .ok (.goto 7, 3) := dk_167 0 7 (dk_at dksX6_layBest_9 6 rfl rfl)
theorem dX6_layBest_221 : decode cX6_layBest 221 = .ok (.iconst 1, 1) := dk_4 (dk_at dksX6_layBest_9 9 rfl rfl)
theorem dX6_layBest_222 : decode cX6_layBest 222 = .ok (.iload 4, 2) := dk_21 4 (dk_at dksX6_layBest_9 10 rfl rfl)
theorem dX6_layBest_224 : decode cX6_layBest 224 = .ok (.ishl, 1) := dk_120 (dk_at dksX6_layBest_9 12 rfl rfl)
theorem dX6_layBest_225 : decode cX6_layBest 225 = .ok (.ior, 1) := dk_128 (dk_at dksX6_layBest_9 13 rfl rfl)
theorem dX6_layBest_226 : decode cX6_layBest 226 = .ok (.istore_n 2, 1) := dk_61 (dk_at dksX6_layBest_9 14 rfl rfl)
theorem dX6_layBest_227 : decode cX6_layBest 227 = .ok (.iinc 3 1, 3) := dk_132 3 1 (dk_at dksX6_layBest_9 15 rfl rfl)
theorem dX6_layBest_230 : decode cX6_layBest 230 = .ok (.goto (-66), 3) := dk_167 255 190 (dk_at dksX6_layBest_9 18 rfl rfl)
theorem dX6_layBest_233 : decode cX6_layBest 233 = .ok (.return_, 1) := dk_177 (dk_at dksX6_layBest_9 21 rfl rfl)
abbrev cX6_layDeeds : ByteArray := prog_23_method_58_code
def yX6_layDeeds : MethodName := ⟨RX6, "layDeeds", "()V"⟩
def dkwX6_layDeeds_2 : List UInt8 := [167, 255, 212, 177]
abbrev dktX6_layDeeds_2 : List UInt8 := dkwX6_layDeeds_2 ++ []
def dkwX6_layDeeds_1 : List UInt8 := [16, 6, 27, 104, 28, 96, 42, 27, 28, 182, 1, 85, 79, 132, 2, 1, 167, 255, 228, 132, 1, 1]
abbrev dktX6_layDeeds_1 : List UInt8 := dkwX6_layDeeds_1 ++ dktX6_layDeeds_2
def dkwX6_layDeeds_0 : List UInt8 := [3, 60, 27, 42, 180, 0, 13, 162, 0, 42, 3, 61, 28, 42, 180, 0, 7, 162, 0, 26, 42, 180, 0, 129]
abbrev dktX6_layDeeds_0 : List UInt8 := dkwX6_layDeeds_0 ++ dktX6_layDeeds_1
theorem dksX6_layDeeds_0 : cX6_layDeeds.data.toList.drop 0 = dktX6_layDeeds_0 := by decide +kernel
theorem dksX6_layDeeds_1 : cX6_layDeeds.data.toList.drop 24 = dktX6_layDeeds_1 := dk_seg dksX6_layDeeds_0 24 rfl rfl
theorem dksX6_layDeeds_2 : cX6_layDeeds.data.toList.drop 46 = dktX6_layDeeds_2 := dk_seg dksX6_layDeeds_1 22 rfl rfl
theorem dX6_layDeeds_0 : decode cX6_layDeeds 0 = .ok (.iconst 0, 1) := dk_3 (dk_at dksX6_layDeeds_0 0 rfl rfl)
theorem dX6_layDeeds_1 : decode cX6_layDeeds 1 = .ok (.istore_n 1, 1) := dk_60 (dk_at dksX6_layDeeds_0 1 rfl rfl)
theorem dX6_layDeeds_2 : decode cX6_layDeeds 2 = .ok (.iload_n 1, 1) := dk_27 (dk_at dksX6_layDeeds_0 2 rfl rfl)
theorem dX6_layDeeds_3 : decode cX6_layDeeds 3 = .ok (.aload_n 0, 1) := dk_42 (dk_at dksX6_layDeeds_0 3 rfl rfl)
theorem dX6_layDeeds_4 : decode cX6_layDeeds 4 = .ok (.getfield 13, 3) := dk_180 0 13 (dk_at dksX6_layDeeds_0 4 rfl rfl)
theorem dX6_layDeeds_7 : decode cX6_layDeeds 7 = .ok (.if_icmp .ge 42, 3) := dk_162 0 42 (dk_at dksX6_layDeeds_0 7 rfl rfl)
theorem dX6_layDeeds_10 : decode cX6_layDeeds 10 = .ok (.iconst 0, 1) := dk_3 (dk_at dksX6_layDeeds_0 10 rfl rfl)
theorem dX6_layDeeds_11 : decode cX6_layDeeds 11 = .ok (.istore_n 2, 1) := dk_61 (dk_at dksX6_layDeeds_0 11 rfl rfl)
theorem dX6_layDeeds_12 : decode cX6_layDeeds 12 = .ok (.iload_n 2, 1) := dk_28 (dk_at dksX6_layDeeds_0 12 rfl rfl)
theorem dX6_layDeeds_13 : decode cX6_layDeeds 13 = .ok (.aload_n 0, 1) := dk_42 (dk_at dksX6_layDeeds_0 13 rfl rfl)
theorem dX6_layDeeds_14 : decode cX6_layDeeds 14 = .ok (.getfield 7, 3) := dk_180 0 7 (dk_at dksX6_layDeeds_0 14 rfl rfl)
theorem dX6_layDeeds_17 : decode cX6_layDeeds 17 = .ok (.if_icmp .ge 26, 3) := dk_162 0 26 (dk_at dksX6_layDeeds_0 17 rfl rfl)
theorem dX6_layDeeds_20 : decode cX6_layDeeds 20 = .ok (.aload_n 0, 1) := dk_42 (dk_at dksX6_layDeeds_0 20 rfl rfl)
theorem dX6_layDeeds_21 : decode cX6_layDeeds 21 = .ok (.getfield 129, 3) := dk_180 0 129 (dk_at dksX6_layDeeds_0 21 rfl rfl)
theorem dX6_layDeeds_24 : decode cX6_layDeeds 24 = .ok (.bipush 6, 2) := dk_16 6 (dk_at dksX6_layDeeds_1 0 rfl rfl)
theorem dX6_layDeeds_26 : decode cX6_layDeeds 26 = .ok (.iload_n 1, 1) := dk_27 (dk_at dksX6_layDeeds_1 2 rfl rfl)
theorem dX6_layDeeds_27 : decode cX6_layDeeds 27 = .ok (.imul, 1) := dk_104 (dk_at dksX6_layDeeds_1 3 rfl rfl)
theorem dX6_layDeeds_28 : decode cX6_layDeeds 28 = .ok (.iload_n 2, 1) := dk_28 (dk_at dksX6_layDeeds_1 4 rfl rfl)
theorem dX6_layDeeds_29 : decode cX6_layDeeds 29 = .ok (.iadd, 1) := dk_96 (dk_at dksX6_layDeeds_1 5 rfl rfl)
theorem dX6_layDeeds_30 : decode cX6_layDeeds 30 = .ok (.aload_n 0, 1) := dk_42 (dk_at dksX6_layDeeds_1 6 rfl rfl)
theorem dX6_layDeeds_31 : decode cX6_layDeeds 31 = .ok (.iload_n 1, 1) := dk_27 (dk_at dksX6_layDeeds_1 7 rfl rfl)
theorem dX6_layDeeds_32 : decode cX6_layDeeds 32 = .ok (.iload_n 2, 1) := dk_28 (dk_at dksX6_layDeeds_1 8 rfl rfl)
theorem dX6_layDeeds_33 : decode cX6_layDeeds 33 = .ok (.invokevirtual 341, 3) := dk_182 1 85 (dk_at dksX6_layDeeds_1 9 rfl rfl)
theorem dX6_layDeeds_36 : decode cX6_layDeeds 36 = .ok (.iastore, 1) := dk_79 (dk_at dksX6_layDeeds_1 12 rfl rfl)
theorem dX6_layDeeds_37 : decode cX6_layDeeds 37 = .ok (.iinc 2 1, 3) := dk_132 2 1 (dk_at dksX6_layDeeds_1 13 rfl rfl)
theorem dX6_layDeeds_40 : decode cX6_layDeeds 40 = .ok (.goto (-28), 3) := dk_167 255 228 (dk_at dksX6_layDeeds_1 16 rfl rfl)
theorem dX6_layDeeds_43 : decode cX6_layDeeds 43 = .ok (.iinc 1 1, 3) := dk_132 1 1 (dk_at dksX6_layDeeds_1 19 rfl rfl)
theorem dX6_layDeeds_46 : decode cX6_layDeeds 46 = .ok (.goto (-44), 3) := dk_167 255 212 (dk_at dksX6_layDeeds_2 0 rfl rfl)
theorem dX6_layDeeds_49 : decode cX6_layDeeds 49 = .ok (.return_, 1) := dk_177 (dk_at dksX6_layDeeds_2 3 rfl rfl)
abbrev cX6_ones : ByteArray := prog_23_method_59_code
def yX6_ones : MethodName := ⟨RX6, "ones", "(I)I"⟩
def dkwX6_ones_0 : List UInt8 := [3, 61, 27, 62, 29, 153, 0, 15, 132, 2, 1, 29, 29, 4, 100, 126, 62, 167, 255, 243, 28, 172]
abbrev dktX6_ones_0 : List UInt8 := dkwX6_ones_0 ++ []
theorem dksX6_ones_0 : cX6_ones.data.toList.drop 0 = dktX6_ones_0 := by decide +kernel
theorem dX6_ones_0 : decode cX6_ones 0 = .ok (.iconst 0, 1) := dk_3 (dk_at dksX6_ones_0 0 rfl rfl)
theorem dX6_ones_1 : decode cX6_ones 1 = .ok (.istore_n 2, 1) := dk_61 (dk_at dksX6_ones_0 1 rfl rfl)
theorem dX6_ones_2 : decode cX6_ones 2 = .ok (.iload_n 1, 1) := dk_27 (dk_at dksX6_ones_0 2 rfl rfl)
theorem dX6_ones_3 : decode cX6_ones 3 = .ok (.istore_n 3, 1) := dk_62 (dk_at dksX6_ones_0 3 rfl rfl)
theorem dX6_ones_4 : decode cX6_ones 4 = .ok (.iload_n 3, 1) := dk_29 (dk_at dksX6_ones_0 4 rfl rfl)
theorem dX6_ones_5 : decode cX6_ones 5 = .ok (.ifCond .eq 15, 3) := dk_153 0 15 (dk_at dksX6_ones_0 5 rfl rfl)
theorem dX6_ones_8 : decode cX6_ones 8 = .ok (.iinc 2 1, 3) := dk_132 2 1 (dk_at dksX6_ones_0 8 rfl rfl)
theorem dX6_ones_11 : decode cX6_ones 11 = .ok (.iload_n 3, 1) := dk_29 (dk_at dksX6_ones_0 11 rfl rfl)
theorem dX6_ones_12 : decode cX6_ones 12 = .ok (.iload_n 3, 1) := dk_29 (dk_at dksX6_ones_0 12 rfl rfl)
theorem dX6_ones_13 : decode cX6_ones 13 = .ok (.iconst 1, 1) := dk_4 (dk_at dksX6_ones_0 13 rfl rfl)
theorem dX6_ones_14 : decode cX6_ones 14 = .ok (.isub, 1) := dk_100 (dk_at dksX6_ones_0 14 rfl rfl)
theorem dX6_ones_15 : decode cX6_ones 15 = .ok (.iand, 1) := dk_126 (dk_at dksX6_ones_0 15 rfl rfl)
theorem dX6_ones_16 : decode cX6_ones 16 = .ok (.istore_n 3, 1) := dk_62 (dk_at dksX6_ones_0 16 rfl rfl)
theorem dX6_ones_17 : decode cX6_ones 17 = .ok (.goto (-13), 3) := dk_167 255 243 (dk_at dksX6_ones_0 17 rfl rfl)
theorem dX6_ones_20 : decode cX6_ones 20 = .ok (.iload_n 2, 1) := dk_28 (dk_at dksX6_ones_0 20 rfl rfl)
theorem dX6_ones_21 : decode cX6_ones 21 = .ok (.ireturn, 1) := dk_172 (dk_at dksX6_ones_0 21 rfl rfl)
abbrev cX6_onwardBy : ByteArray := prog_23_method_60_code
def yX6_onwardBy : MethodName := ⟨RX6, "onwardBy", "(III)I"⟩
def dkwX6_onwardBy_3 : List UInt8 := [96, 172]
abbrev dktX6_onwardBy_3 : List UInt8 := dkwX6_onwardBy_3 ++ []
def dkwX6_onwardBy_2 : List UInt8 := [167, 0, 25, 21, 4, 29, 156, 0, 7, 3, 167, 0, 14, 42, 180, 0, 129, 16, 6, 29, 104, 27, 96, 46]
abbrev dktX6_onwardBy_2 : List UInt8 := dkwX6_onwardBy_2 ++ dktX6_onwardBy_3
def dkwX6_onwardBy_1 : List UInt8 := [104, 29, 156, 0, 7, 28, 167, 0, 8, 28, 4, 29, 120, 128, 96, 46, 54, 4, 21, 4, 156, 0, 7, 2]
abbrev dktX6_onwardBy_1 : List UInt8 := dkwX6_onwardBy_1 ++ dktX6_onwardBy_2
def dkwX6_onwardBy_0 : List UInt8 := [29, 155, 0, 14, 42, 28, 29, 182, 1, 112, 153, 0, 5, 2, 172, 42, 180, 0, 135, 16, 64, 27, 4, 96]
abbrev dktX6_onwardBy_0 : List UInt8 := dkwX6_onwardBy_0 ++ dktX6_onwardBy_1
theorem dksX6_onwardBy_0 : cX6_onwardBy.data.toList.drop 0 = dktX6_onwardBy_0 := by decide +kernel
theorem dksX6_onwardBy_1 : cX6_onwardBy.data.toList.drop 24 = dktX6_onwardBy_1 := dk_seg dksX6_onwardBy_0 24 rfl rfl
theorem dksX6_onwardBy_2 : cX6_onwardBy.data.toList.drop 48 = dktX6_onwardBy_2 := dk_seg dksX6_onwardBy_1 24 rfl rfl
theorem dksX6_onwardBy_3 : cX6_onwardBy.data.toList.drop 72 = dktX6_onwardBy_3 := dk_seg dksX6_onwardBy_2 24 rfl rfl
theorem dX6_onwardBy_0 : decode cX6_onwardBy 0 = .ok (.iload_n 3, 1) := dk_29 (dk_at dksX6_onwardBy_0 0 rfl rfl)
theorem dX6_onwardBy_1 : decode cX6_onwardBy 1 = .ok (.ifCond .lt 14, 3) := dk_155 0 14 (dk_at dksX6_onwardBy_0 1 rfl rfl)
theorem dX6_onwardBy_4 : decode cX6_onwardBy 4 = .ok (.aload_n 0, 1) := dk_42 (dk_at dksX6_onwardBy_0 4 rfl rfl)
theorem dX6_onwardBy_5 : decode cX6_onwardBy 5 = .ok (.iload_n 2, 1) := dk_28 (dk_at dksX6_onwardBy_0 5 rfl rfl)
theorem dX6_onwardBy_6 : decode cX6_onwardBy 6 = .ok (.iload_n 3, 1) := dk_29 (dk_at dksX6_onwardBy_0 6 rfl rfl)
theorem dX6_onwardBy_7 : decode cX6_onwardBy 7 = .ok (.invokevirtual 368, 3) := dk_182 1 112 (dk_at dksX6_onwardBy_0 7 rfl rfl)
theorem dX6_onwardBy_10 : decode cX6_onwardBy 10 = .ok (.ifCond .eq 5, 3) := dk_153 0 5 (dk_at dksX6_onwardBy_0 10 rfl rfl)
theorem dX6_onwardBy_13 : decode cX6_onwardBy 13 = .ok (.iconst (-1), 1) := dk_2 (dk_at dksX6_onwardBy_0 13 rfl rfl)
theorem dX6_onwardBy_14 : decode cX6_onwardBy 14 = .ok (.ireturn, 1) := dk_172 (dk_at dksX6_onwardBy_0 14 rfl rfl)
theorem dX6_onwardBy_15 : decode cX6_onwardBy 15 = .ok (.aload_n 0, 1) := dk_42 (dk_at dksX6_onwardBy_0 15 rfl rfl)
theorem dX6_onwardBy_16 : decode cX6_onwardBy 16 = .ok (.getfield 135, 3) := dk_180 0 135 (dk_at dksX6_onwardBy_0 16 rfl rfl)
theorem dX6_onwardBy_19 : decode cX6_onwardBy 19 = .ok (.bipush 64, 2) := dk_16 64 (dk_at dksX6_onwardBy_0 19 rfl rfl)
theorem dX6_onwardBy_21 : decode cX6_onwardBy 21 = .ok (.iload_n 1, 1) := dk_27 (dk_at dksX6_onwardBy_0 21 rfl rfl)
theorem dX6_onwardBy_22 : decode cX6_onwardBy 22 = .ok (.iconst 1, 1) := dk_4 (dk_at dksX6_onwardBy_0 22 rfl rfl)
theorem dX6_onwardBy_23 : decode cX6_onwardBy 23 = .ok (.iadd, 1) := dk_96 (dk_at dksX6_onwardBy_0 23 rfl rfl)
theorem dX6_onwardBy_24 : decode cX6_onwardBy 24 = .ok (.imul, 1) := dk_104 (dk_at dksX6_onwardBy_1 0 rfl rfl)
theorem dX6_onwardBy_25 : decode cX6_onwardBy 25 = .ok (.iload_n 3, 1) := dk_29 (dk_at dksX6_onwardBy_1 1 rfl rfl)
theorem dX6_onwardBy_26 : decode cX6_onwardBy 26 = .ok (.ifCond .ge 7, 3) := dk_156 0 7 (dk_at dksX6_onwardBy_1 2 rfl rfl)
theorem dX6_onwardBy_29 : decode cX6_onwardBy 29 = .ok (.iload_n 2, 1) := dk_28 (dk_at dksX6_onwardBy_1 5 rfl rfl)
theorem dX6_onwardBy_30 : decode cX6_onwardBy 30 = .ok (.goto 8, 3) := dk_167 0 8 (dk_at dksX6_onwardBy_1 6 rfl rfl)
theorem dX6_onwardBy_33 : decode cX6_onwardBy 33 = .ok (.iload_n 2, 1) := dk_28 (dk_at dksX6_onwardBy_1 9 rfl rfl)
theorem dX6_onwardBy_34 : decode cX6_onwardBy 34 = .ok (.iconst 1, 1) := dk_4 (dk_at dksX6_onwardBy_1 10 rfl rfl)
theorem dX6_onwardBy_35 : decode cX6_onwardBy 35 = .ok (.iload_n 3, 1) := dk_29 (dk_at dksX6_onwardBy_1 11 rfl rfl)
theorem dX6_onwardBy_36 : decode cX6_onwardBy 36 = .ok (.ishl, 1) := dk_120 (dk_at dksX6_onwardBy_1 12 rfl rfl)
theorem dX6_onwardBy_37 : decode cX6_onwardBy 37 = .ok (.ior, 1) := dk_128 (dk_at dksX6_onwardBy_1 13 rfl rfl)
theorem dX6_onwardBy_38 : decode cX6_onwardBy 38 = .ok (.iadd, 1) := dk_96 (dk_at dksX6_onwardBy_1 14 rfl rfl)
theorem dX6_onwardBy_39 : decode cX6_onwardBy 39 = .ok (.iaload, 1) := dk_46 (dk_at dksX6_onwardBy_1 15 rfl rfl)
theorem dX6_onwardBy_40 : decode cX6_onwardBy 40 = .ok (.istore 4, 2) := dk_54 4 (dk_at dksX6_onwardBy_1 16 rfl rfl)
theorem dX6_onwardBy_42 : decode cX6_onwardBy 42 = .ok (.iload 4, 2) := dk_21 4 (dk_at dksX6_onwardBy_1 18 rfl rfl)
theorem dX6_onwardBy_44 : decode cX6_onwardBy 44 = .ok (.ifCond .ge 7, 3) := dk_156 0 7 (dk_at dksX6_onwardBy_1 20 rfl rfl)
theorem dX6_onwardBy_47 : decode cX6_onwardBy 47 = .ok (.iconst (-1), 1) := dk_2 (dk_at dksX6_onwardBy_1 23 rfl rfl)
theorem dX6_onwardBy_48 : decode cX6_onwardBy 48 = .ok (.goto 25, 3) := dk_167 0 25 (dk_at dksX6_onwardBy_2 0 rfl rfl)
theorem dX6_onwardBy_51 : decode cX6_onwardBy 51 = .ok (.iload 4, 2) := dk_21 4 (dk_at dksX6_onwardBy_2 3 rfl rfl)
theorem dX6_onwardBy_53 : decode cX6_onwardBy 53 = .ok (.iload_n 3, 1) := dk_29 (dk_at dksX6_onwardBy_2 5 rfl rfl)
theorem dX6_onwardBy_54 : decode cX6_onwardBy 54 = .ok (.ifCond .ge 7, 3) := dk_156 0 7 (dk_at dksX6_onwardBy_2 6 rfl rfl)
theorem dX6_onwardBy_57 : decode cX6_onwardBy 57 = .ok (.iconst 0, 1) := dk_3 (dk_at dksX6_onwardBy_2 9 rfl rfl)
theorem dX6_onwardBy_58 : decode cX6_onwardBy 58 = .ok (.goto 14, 3) := dk_167 0 14 (dk_at dksX6_onwardBy_2 10 rfl rfl)
theorem dX6_onwardBy_61 : decode cX6_onwardBy 61 = .ok (.aload_n 0, 1) := dk_42 (dk_at dksX6_onwardBy_2 13 rfl rfl)
theorem dX6_onwardBy_62 : decode cX6_onwardBy 62 = .ok (.getfield 129, 3) := dk_180 0 129 (dk_at dksX6_onwardBy_2 14 rfl rfl)
theorem dX6_onwardBy_65 : decode cX6_onwardBy 65 = .ok (.bipush 6, 2) := dk_16 6 (dk_at dksX6_onwardBy_2 17 rfl rfl)
theorem dX6_onwardBy_67 : decode cX6_onwardBy 67 = .ok (.iload_n 3, 1) := dk_29 (dk_at dksX6_onwardBy_2 19 rfl rfl)
theorem dX6_onwardBy_68 : decode cX6_onwardBy 68 = .ok (.imul, 1) := dk_104 (dk_at dksX6_onwardBy_2 20 rfl rfl)
theorem dX6_onwardBy_69 : decode cX6_onwardBy 69 = .ok (.iload_n 1, 1) := dk_27 (dk_at dksX6_onwardBy_2 21 rfl rfl)
theorem dX6_onwardBy_70 : decode cX6_onwardBy 70 = .ok (.iadd, 1) := dk_96 (dk_at dksX6_onwardBy_2 22 rfl rfl)
theorem dX6_onwardBy_71 : decode cX6_onwardBy 71 = .ok (.iaload, 1) := dk_46 (dk_at dksX6_onwardBy_2 23 rfl rfl)
theorem dX6_onwardBy_72 : decode cX6_onwardBy 72 = .ok (.iadd, 1) := dk_96 (dk_at dksX6_onwardBy_3 0 rfl rfl)
theorem dX6_onwardBy_73 : decode cX6_onwardBy 73 = .ok (.ireturn, 1) := dk_172 (dk_at dksX6_onwardBy_3 1 rfl rfl)
abbrev cX6_has : ByteArray := prog_23_method_3_code
def yX6_has : MethodName := ⟨RX6, "has", "(II)Z"⟩
def dkwX6_has_0 : List UInt8 := [27, 28, 122, 4, 126, 4, 160, 0, 7, 4, 167, 0, 4, 3, 172]
abbrev dktX6_has_0 : List UInt8 := dkwX6_has_0 ++ []
theorem dksX6_has_0 : cX6_has.data.toList.drop 0 = dktX6_has_0 := by decide +kernel
theorem dX6_has_0 : decode cX6_has 0 = .ok (.iload_n 1, 1) := dk_27 (dk_at dksX6_has_0 0 rfl rfl)
theorem dX6_has_1 : decode cX6_has 1 = .ok (.iload_n 2, 1) := dk_28 (dk_at dksX6_has_0 1 rfl rfl)
theorem dX6_has_2 : decode cX6_has 2 = .ok (.ishr, 1) := dk_122 (dk_at dksX6_has_0 2 rfl rfl)
theorem dX6_has_3 : decode cX6_has 3 = .ok (.iconst 1, 1) := dk_4 (dk_at dksX6_has_0 3 rfl rfl)
theorem dX6_has_4 : decode cX6_has 4 = .ok (.iand, 1) := dk_126 (dk_at dksX6_has_0 4 rfl rfl)
theorem dX6_has_5 : decode cX6_has 5 = .ok (.iconst 1, 1) := dk_4 (dk_at dksX6_has_0 5 rfl rfl)
theorem dX6_has_6 : decode cX6_has 6 = .ok (.if_icmp .ne 7, 3) := dk_160 0 7 (dk_at dksX6_has_0 6 rfl rfl)
theorem dX6_has_9 : decode cX6_has 9 = .ok (.iconst 1, 1) := dk_4 (dk_at dksX6_has_0 9 rfl rfl)
theorem dX6_has_10 : decode cX6_has 10 = .ok (.goto 4, 3) := dk_167 0 4 (dk_at dksX6_has_0 10 rfl rfl)
theorem dX6_has_13 : decode cX6_has 13 = .ok (.iconst 0, 1) := dk_3 (dk_at dksX6_has_0 13 rfl rfl)
theorem dX6_has_14 : decode cX6_has 14 = .ok (.ireturn, 1) := dk_172 (dk_at dksX6_has_0 14 rfl rfl)
abbrev cX6_can : ByteArray := prog_23_method_64_code
def yX6_can : MethodName := ⟨RX6, "can", "()I"⟩
def dkwX6_can_1 : List UInt8 := [161, 0, 9, 4, 28, 120, 167, 0, 4, 3, 128, 60, 132, 2, 1, 167, 255, 225, 27, 172]
abbrev dktX6_can_1 : List UInt8 := dkwX6_can_1 ++ []
def dkwX6_can_0 : List UInt8 := [42, 182, 1, 115, 3, 60, 3, 61, 28, 8, 162, 0, 32, 27, 42, 28, 182, 1, 127, 42, 28, 182, 1, 88]
abbrev dktX6_can_0 : List UInt8 := dkwX6_can_0 ++ dktX6_can_1
theorem dksX6_can_0 : cX6_can.data.toList.drop 0 = dktX6_can_0 := by decide +kernel
theorem dksX6_can_1 : cX6_can.data.toList.drop 24 = dktX6_can_1 := dk_seg dksX6_can_0 24 rfl rfl
theorem dX6_can_0 : decode cX6_can 0 = .ok (.aload_n 0, 1) := dk_42 (dk_at dksX6_can_0 0 rfl rfl)
theorem dX6_can_1 : decode cX6_can 1 = .ok (.invokevirtual 371, 3) := dk_182 1 115 (dk_at dksX6_can_0 1 rfl rfl)
theorem dX6_can_4 : decode cX6_can 4 = .ok (.iconst 0, 1) := dk_3 (dk_at dksX6_can_0 4 rfl rfl)
theorem dX6_can_5 : decode cX6_can 5 = .ok (.istore_n 1, 1) := dk_60 (dk_at dksX6_can_0 5 rfl rfl)
theorem dX6_can_6 : decode cX6_can 6 = .ok (.iconst 0, 1) := dk_3 (dk_at dksX6_can_0 6 rfl rfl)
theorem dX6_can_7 : decode cX6_can 7 = .ok (.istore_n 2, 1) := dk_61 (dk_at dksX6_can_0 7 rfl rfl)
theorem dX6_can_8 : decode cX6_can 8 = .ok (.iload_n 2, 1) := dk_28 (dk_at dksX6_can_0 8 rfl rfl)
theorem dX6_can_9 : decode cX6_can 9 = .ok (.iconst 5, 1) := dk_8 (dk_at dksX6_can_0 9 rfl rfl)
theorem dX6_can_10 : decode cX6_can 10 = .ok (.if_icmp .ge 32, 3) := dk_162 0 32 (dk_at dksX6_can_0 10 rfl rfl)
theorem dX6_can_13 : decode cX6_can 13 = .ok (.iload_n 1, 1) := dk_27 (dk_at dksX6_can_0 13 rfl rfl)
theorem dX6_can_14 : decode cX6_can 14 = .ok (.aload_n 0, 1) := dk_42 (dk_at dksX6_can_0 14 rfl rfl)
theorem dX6_can_15 : decode cX6_can 15 = .ok (.iload_n 2, 1) := dk_28 (dk_at dksX6_can_0 15 rfl rfl)
theorem dX6_can_16 : decode cX6_can 16 = .ok (.invokevirtual 383, 3) := dk_182 1 127 (dk_at dksX6_can_0 16 rfl rfl)
theorem dX6_can_19 : decode cX6_can 19 = .ok (.aload_n 0, 1) := dk_42 (dk_at dksX6_can_0 19 rfl rfl)
theorem dX6_can_20 : decode cX6_can 20 = .ok (.iload_n 2, 1) := dk_28 (dk_at dksX6_can_0 20 rfl rfl)
theorem dX6_can_21 : decode cX6_can 21 = .ok (.invokevirtual 344, 3) := dk_182 1 88 (dk_at dksX6_can_0 21 rfl rfl)
theorem dX6_can_24 : decode cX6_can 24 = .ok (.if_icmp .lt 9, 3) := dk_161 0 9 (dk_at dksX6_can_1 0 rfl rfl)
theorem dX6_can_27 : decode cX6_can 27 = .ok (.iconst 1, 1) := dk_4 (dk_at dksX6_can_1 3 rfl rfl)
theorem dX6_can_28 : decode cX6_can 28 = .ok (.iload_n 2, 1) := dk_28 (dk_at dksX6_can_1 4 rfl rfl)
theorem dX6_can_29 : decode cX6_can 29 = .ok (.ishl, 1) := dk_120 (dk_at dksX6_can_1 5 rfl rfl)
theorem dX6_can_30 : decode cX6_can 30 = .ok (.goto 4, 3) := dk_167 0 4 (dk_at dksX6_can_1 6 rfl rfl)
theorem dX6_can_33 : decode cX6_can 33 = .ok (.iconst 0, 1) := dk_3 (dk_at dksX6_can_1 9 rfl rfl)
theorem dX6_can_34 : decode cX6_can 34 = .ok (.ior, 1) := dk_128 (dk_at dksX6_can_1 10 rfl rfl)
theorem dX6_can_35 : decode cX6_can 35 = .ok (.istore_n 1, 1) := dk_60 (dk_at dksX6_can_1 11 rfl rfl)
theorem dX6_can_36 : decode cX6_can 36 = .ok (.iinc 2 1, 3) := dk_132 2 1 (dk_at dksX6_can_1 12 rfl rfl)
theorem dX6_can_39 : decode cX6_can 39 = .ok (.goto (-31), 3) := dk_167 255 225 (dk_at dksX6_can_1 15 rfl rfl)
theorem dX6_can_42 : decode cX6_can 42 = .ok (.iload_n 1, 1) := dk_27 (dk_at dksX6_can_1 18 rfl rfl)
theorem dX6_can_43 : decode cX6_can 43 = .ok (.ireturn, 1) := dk_172 (dk_at dksX6_can_1 19 rfl rfl)
abbrev cX6_mostOf : ByteArray := prog_23_method_63_code
def yX6_mostOf : MethodName := ⟨RX6, "mostOf", "(I)I"⟩
def dkwX6_mostOf_8 : List UInt8 := [182, 1, 76, 61, 132, 3, 1, 167, 255, 235, 28, 172]
abbrev dktX6_mostOf_8 : List UInt8 := dkwX6_mostOf_8 ++ []
def dkwX6_mostOf_7 : List UInt8 := [132, 2, 1, 167, 255, 120, 3, 61, 3, 62, 29, 16, 64, 162, 0, 21, 42, 28, 42, 180, 0, 138, 29, 46]
abbrev dktX6_mostOf_7 : List UInt8 := dkwX6_mostOf_7 ++ dktX6_mostOf_8
def dkwX6_mostOf_6 : List UInt8 := [180, 0, 138, 29, 46, 21, 5, 182, 1, 76, 79, 132, 4, 1, 167, 255, 169, 132, 3, 255, 167, 255, 156]
abbrev dktX6_mostOf_6 : List UInt8 := dkwX6_mostOf_6 ++ dktX6_mostOf_7
def dkwX6_mostOf_5 : List UInt8 := [126, 46, 42, 180, 0, 129, 16, 6, 28, 104, 21, 4, 96, 46, 96, 54, 5, 42, 180, 0, 138, 29, 42, 42]
abbrev dktX6_mostOf_5 : List UInt8 := dkwX6_mostOf_5 ++ dktX6_mostOf_6
def dkwX6_mostOf_4 : List UInt8 := [21, 4, 120, 2, 130, 126, 46, 156, 0, 6, 167, 0, 49, 42, 180, 0, 138, 29, 4, 21, 4, 120, 2, 130]
abbrev dktX6_mostOf_4 : List UInt8 := dkwX6_mostOf_4 ++ dktX6_mostOf_5
def dkwX6_mostOf_3 : List UInt8 := [42, 180, 0, 7, 162, 0, 84, 42, 29, 21, 4, 182, 1, 112, 153, 0, 68, 42, 180, 0, 138, 29, 4]
abbrev dktX6_mostOf_3 : List UInt8 := dkwX6_mostOf_3 ++ dktX6_mostOf_4
def dkwX6_mostOf_2 : List UInt8 := [159, 0, 6, 167, 0, 115, 4, 42, 180, 0, 7, 120, 4, 100, 62, 29, 155, 0, 102, 3, 54, 4, 21, 4]
abbrev dktX6_mostOf_2 : List UInt8 := dkwX6_mostOf_2 ++ dktX6_mostOf_3
def dkwX6_mostOf_1 : List UInt8 := [132, 2, 1, 167, 255, 232, 3, 61, 28, 42, 180, 0, 13, 162, 0, 134, 42, 180, 0, 41, 28, 46, 27]
abbrev dktX6_mostOf_1 : List UInt8 := dkwX6_mostOf_1 ++ dktX6_mostOf_2
def dkwX6_mostOf_0 : List UInt8 := [3, 61, 28, 16, 64, 162, 0, 24, 42, 180, 0, 138, 28, 28, 154, 0, 7, 3, 167, 0, 4, 2, 79]
abbrev dktX6_mostOf_0 : List UInt8 := dkwX6_mostOf_0 ++ dktX6_mostOf_1
theorem dksX6_mostOf_0 : cX6_mostOf.data.toList.drop 0 = dktX6_mostOf_0 := by decide +kernel
theorem dksX6_mostOf_1 : cX6_mostOf.data.toList.drop 23 = dktX6_mostOf_1 := dk_seg dksX6_mostOf_0 23 rfl rfl
theorem dksX6_mostOf_2 : cX6_mostOf.data.toList.drop 46 = dktX6_mostOf_2 := dk_seg dksX6_mostOf_1 23 rfl rfl
theorem dksX6_mostOf_3 : cX6_mostOf.data.toList.drop 70 = dktX6_mostOf_3 := dk_seg dksX6_mostOf_2 24 rfl rfl
theorem dksX6_mostOf_4 : cX6_mostOf.data.toList.drop 93 = dktX6_mostOf_4 := dk_seg dksX6_mostOf_3 23 rfl rfl
theorem dksX6_mostOf_5 : cX6_mostOf.data.toList.drop 117 = dktX6_mostOf_5 := dk_seg dksX6_mostOf_4 24 rfl rfl
theorem dksX6_mostOf_6 : cX6_mostOf.data.toList.drop 141 = dktX6_mostOf_6 := dk_seg dksX6_mostOf_5 24 rfl rfl
theorem dksX6_mostOf_7 : cX6_mostOf.data.toList.drop 164 = dktX6_mostOf_7 := dk_seg dksX6_mostOf_6 23 rfl rfl
theorem dksX6_mostOf_8 : cX6_mostOf.data.toList.drop 188 = dktX6_mostOf_8 := dk_seg dksX6_mostOf_7 24 rfl rfl
theorem dX6_mostOf_0 : decode cX6_mostOf 0 = .ok (.iconst 0, 1) := dk_3 (dk_at dksX6_mostOf_0 0 rfl rfl)
theorem dX6_mostOf_1 : decode cX6_mostOf 1 = .ok (.istore_n 2, 1) := dk_61 (dk_at dksX6_mostOf_0 1 rfl rfl)
theorem dX6_mostOf_2 : decode cX6_mostOf 2 = .ok (.iload_n 2, 1) := dk_28 (dk_at dksX6_mostOf_0 2 rfl rfl)
theorem dX6_mostOf_3 : decode cX6_mostOf 3 = .ok (.bipush 64, 2) := dk_16 64 (dk_at dksX6_mostOf_0 3 rfl rfl)
theorem dX6_mostOf_5 : decode cX6_mostOf 5 = .ok (.if_icmp .ge 24, 3) := dk_162 0 24 (dk_at dksX6_mostOf_0 5 rfl rfl)
theorem dX6_mostOf_8 : decode cX6_mostOf 8 = .ok (.aload_n 0, 1) := dk_42 (dk_at dksX6_mostOf_0 8 rfl rfl)
theorem dX6_mostOf_9 : decode cX6_mostOf 9 = .ok (.getfield 138, 3) := dk_180 0 138 (dk_at dksX6_mostOf_0 9 rfl rfl)
theorem dX6_mostOf_12 : decode cX6_mostOf 12 = .ok (.iload_n 2, 1) := dk_28 (dk_at dksX6_mostOf_0 12 rfl rfl)
theorem dX6_mostOf_13 : decode cX6_mostOf 13 = .ok (.iload_n 2, 1) := dk_28 (dk_at dksX6_mostOf_0 13 rfl rfl)
theorem dX6_mostOf_14 : decode cX6_mostOf 14 = .ok (.ifCond .ne 7, 3) := dk_154 0 7 (dk_at dksX6_mostOf_0 14 rfl rfl)
theorem dX6_mostOf_17 : decode cX6_mostOf 17 = .ok (.iconst 0, 1) := dk_3 (dk_at dksX6_mostOf_0 17 rfl rfl)
theorem dX6_mostOf_18 : decode cX6_mostOf 18 = .ok (.goto 4, 3) := dk_167 0 4 (dk_at dksX6_mostOf_0 18 rfl rfl)
theorem dX6_mostOf_21 : decode cX6_mostOf 21 = .ok (.iconst (-1), 1) := dk_2 (dk_at dksX6_mostOf_0 21 rfl rfl)
theorem dX6_mostOf_22 : decode cX6_mostOf 22 = .ok (.iastore, 1) := dk_79 (dk_at dksX6_mostOf_0 22 rfl rfl)
theorem dX6_mostOf_23 : decode cX6_mostOf 23 = .ok (.iinc 2 1, 3) := dk_132 2 1 (dk_at dksX6_mostOf_1 0 rfl rfl)
theorem dX6_mostOf_26 : decode cX6_mostOf 26 = .ok (.goto (-24), 3) := dk_167 255 232 (dk_at dksX6_mostOf_1 3 rfl rfl)
theorem dX6_mostOf_29 : decode cX6_mostOf 29 = .ok (.iconst 0, 1) := dk_3 (dk_at dksX6_mostOf_1 6 rfl rfl)
theorem dX6_mostOf_30 : decode cX6_mostOf 30 = .ok (.istore_n 2, 1) := dk_61 (dk_at dksX6_mostOf_1 7 rfl rfl)
theorem dX6_mostOf_31 : decode cX6_mostOf 31 = .ok (.iload_n 2, 1) := dk_28 (dk_at dksX6_mostOf_1 8 rfl rfl)
theorem dX6_mostOf_32 : decode cX6_mostOf 32 = .ok (.aload_n 0, 1) := dk_42 (dk_at dksX6_mostOf_1 9 rfl rfl)
theorem dX6_mostOf_33 : decode cX6_mostOf 33 = .ok (.getfield 13, 3) := dk_180 0 13 (dk_at dksX6_mostOf_1 10 rfl rfl)
theorem dX6_mostOf_36 : decode cX6_mostOf 36 = .ok (.if_icmp .ge 134, 3) := dk_162 0 134 (dk_at dksX6_mostOf_1 13 rfl rfl)
theorem dX6_mostOf_39 : decode cX6_mostOf 39 = .ok (.aload_n 0, 1) := dk_42 (dk_at dksX6_mostOf_1 16 rfl rfl)
theorem dX6_mostOf_40 : decode cX6_mostOf 40 = .ok (.getfield 41, 3) := dk_180 0 41 (dk_at dksX6_mostOf_1 17 rfl rfl)
theorem dX6_mostOf_43 : decode cX6_mostOf 43 = .ok (.iload_n 2, 1) := dk_28 (dk_at dksX6_mostOf_1 20 rfl rfl)
theorem dX6_mostOf_44 : decode cX6_mostOf 44 = .ok (.iaload, 1) := dk_46 (dk_at dksX6_mostOf_1 21 rfl rfl)
theorem dX6_mostOf_45 : decode cX6_mostOf 45 = .ok (.iload_n 1, 1) := dk_27 (dk_at dksX6_mostOf_1 22 rfl rfl)
theorem dX6_mostOf_46 : decode cX6_mostOf 46 = .ok (.if_icmp .eq 6, 3) := dk_159 0 6 (dk_at dksX6_mostOf_2 0 rfl rfl)
theorem dX6_mostOf_49 : decode cX6_mostOf 49 = .ok (.goto 115, 3) := dk_167 0 115 (dk_at dksX6_mostOf_2 3 rfl rfl)
theorem dX6_mostOf_52 : decode cX6_mostOf 52 = .ok (.iconst 1, 1) := dk_4 (dk_at dksX6_mostOf_2 6 rfl rfl)
theorem dX6_mostOf_53 : decode cX6_mostOf 53 = .ok (.aload_n 0, 1) := dk_42 (dk_at dksX6_mostOf_2 7 rfl rfl)
theorem dX6_mostOf_54 : decode cX6_mostOf 54 = .ok (.getfield 7, 3) := dk_180 0 7 (dk_at dksX6_mostOf_2 8 rfl rfl)
theorem dX6_mostOf_57 : decode cX6_mostOf 57 = .ok (.ishl, 1) := dk_120 (dk_at dksX6_mostOf_2 11 rfl rfl)
theorem dX6_mostOf_58 : decode cX6_mostOf 58 = .ok (.iconst 1, 1) := dk_4 (dk_at dksX6_mostOf_2 12 rfl rfl)
theorem dX6_mostOf_59 : decode cX6_mostOf 59 = .ok (.isub, 1) := dk_100 (dk_at dksX6_mostOf_2 13 rfl rfl)
theorem dX6_mostOf_60 : decode cX6_mostOf 60 = .ok (.istore_n 3, 1) := dk_62 (dk_at dksX6_mostOf_2 14 rfl rfl)
theorem dX6_mostOf_61 : decode cX6_mostOf 61 = .ok (.iload_n 3, 1) := dk_29 (dk_at dksX6_mostOf_2 15 rfl rfl)
theorem dX6_mostOf_62 : decode cX6_mostOf 62 = .ok (.ifCond .lt 102, 3) := dk_155 0 102 (dk_at dksX6_mostOf_2 16 rfl rfl)
theorem dX6_mostOf_65 : decode cX6_mostOf 65 = .ok (.iconst 0, 1) := dk_3 (dk_at dksX6_mostOf_2 19 rfl rfl)
theorem dX6_mostOf_66 : decode cX6_mostOf 66 = .ok (.istore 4, 2) := dk_54 4 (dk_at dksX6_mostOf_2 20 rfl rfl)
theorem dX6_mostOf_68 : decode cX6_mostOf 68 = .ok (.iload 4, 2) := dk_21 4 (dk_at dksX6_mostOf_2 22 rfl rfl)
theorem dX6_mostOf_70 : decode cX6_mostOf 70 = .ok (.aload_n 0, 1) := dk_42 (dk_at dksX6_mostOf_3 0 rfl rfl)
theorem dX6_mostOf_71 : decode cX6_mostOf 71 = .ok (.getfield 7, 3) := dk_180 0 7 (dk_at dksX6_mostOf_3 1 rfl rfl)
theorem dX6_mostOf_74 : decode cX6_mostOf 74 = .ok (.if_icmp .ge 84, 3) := dk_162 0 84 (dk_at dksX6_mostOf_3 4 rfl rfl)
theorem dX6_mostOf_77 : decode cX6_mostOf 77 = .ok (.aload_n 0, 1) := dk_42 (dk_at dksX6_mostOf_3 7 rfl rfl)
theorem dX6_mostOf_78 : decode cX6_mostOf 78 = .ok (.iload_n 3, 1) := dk_29 (dk_at dksX6_mostOf_3 8 rfl rfl)
theorem dX6_mostOf_79 : decode cX6_mostOf 79 = .ok (.iload 4, 2) := dk_21 4 (dk_at dksX6_mostOf_3 9 rfl rfl)
theorem dX6_mostOf_81 : decode cX6_mostOf 81 = .ok (.invokevirtual 368, 3) := dk_182 1 112 (dk_at dksX6_mostOf_3 11 rfl rfl)
theorem dX6_mostOf_84 : decode cX6_mostOf 84 = .ok (.ifCond .eq 68, 3) := dk_153 0 68 (dk_at dksX6_mostOf_3 14 rfl rfl)
theorem dX6_mostOf_87 : decode cX6_mostOf 87 = .ok (.aload_n 0, 1) := dk_42 (dk_at dksX6_mostOf_3 17 rfl rfl)
theorem dX6_mostOf_88 : decode cX6_mostOf 88 = .ok (.getfield 138, 3) := dk_180 0 138 (dk_at dksX6_mostOf_3 18 rfl rfl)
theorem dX6_mostOf_91 : decode cX6_mostOf 91 = .ok (.iload_n 3, 1) := dk_29 (dk_at dksX6_mostOf_3 21 rfl rfl)
theorem dX6_mostOf_92 : decode cX6_mostOf 92 = .ok (.iconst 1, 1) := dk_4 (dk_at dksX6_mostOf_3 22 rfl rfl)
theorem dX6_mostOf_93 : decode cX6_mostOf 93 = .ok (.iload 4, 2) := dk_21 4 (dk_at dksX6_mostOf_4 0 rfl rfl)
theorem dX6_mostOf_95 : decode cX6_mostOf 95 = .ok (.ishl, 1) := dk_120 (dk_at dksX6_mostOf_4 2 rfl rfl)
theorem dX6_mostOf_96 : decode cX6_mostOf 96 = .ok (.iconst (-1), 1) := dk_2 (dk_at dksX6_mostOf_4 3 rfl rfl)
theorem dX6_mostOf_97 : decode cX6_mostOf 97 = .ok (.ixor, 1) := dk_130 (dk_at dksX6_mostOf_4 4 rfl rfl)
theorem dX6_mostOf_98 : decode cX6_mostOf 98 = .ok (.iand, 1) := dk_126 (dk_at dksX6_mostOf_4 5 rfl rfl)
theorem dX6_mostOf_99 : decode cX6_mostOf 99 = .ok (.iaload, 1) := dk_46 (dk_at dksX6_mostOf_4 6 rfl rfl)
theorem dX6_mostOf_100 : decode cX6_mostOf 100 = .ok (.ifCond .ge 6, 3) := dk_156 0 6 (dk_at dksX6_mostOf_4 7 rfl rfl)
theorem dX6_mostOf_103 : decode cX6_mostOf 103 = .ok (.goto 49, 3) := dk_167 0 49 (dk_at dksX6_mostOf_4 10 rfl rfl)
theorem dX6_mostOf_106 : decode cX6_mostOf 106 = .ok (.aload_n 0, 1) := dk_42 (dk_at dksX6_mostOf_4 13 rfl rfl)
theorem dX6_mostOf_107 : decode cX6_mostOf 107 = .ok (.getfield 138, 3) := dk_180 0 138 (dk_at dksX6_mostOf_4 14 rfl rfl)
theorem dX6_mostOf_110 : decode cX6_mostOf 110 = .ok (.iload_n 3, 1) := dk_29 (dk_at dksX6_mostOf_4 17 rfl rfl)
theorem dX6_mostOf_111 : decode cX6_mostOf 111 = .ok (.iconst 1, 1) := dk_4 (dk_at dksX6_mostOf_4 18 rfl rfl)
theorem dX6_mostOf_112 : decode cX6_mostOf 112 = .ok (.iload 4, 2) := dk_21 4 (dk_at dksX6_mostOf_4 19 rfl rfl)
theorem dX6_mostOf_114 : decode cX6_mostOf 114 = .ok (.ishl, 1) := dk_120 (dk_at dksX6_mostOf_4 21 rfl rfl)
theorem dX6_mostOf_115 : decode cX6_mostOf 115 = .ok (.iconst (-1), 1) := dk_2 (dk_at dksX6_mostOf_4 22 rfl rfl)
theorem dX6_mostOf_116 : decode cX6_mostOf 116 = .ok (.ixor, 1) := dk_130 (dk_at dksX6_mostOf_4 23 rfl rfl)
theorem dX6_mostOf_117 : decode cX6_mostOf 117 = .ok (.iand, 1) := dk_126 (dk_at dksX6_mostOf_5 0 rfl rfl)
theorem dX6_mostOf_118 : decode cX6_mostOf 118 = .ok (.iaload, 1) := dk_46 (dk_at dksX6_mostOf_5 1 rfl rfl)
theorem dX6_mostOf_119 : decode cX6_mostOf 119 = .ok (.aload_n 0, 1) := dk_42 (dk_at dksX6_mostOf_5 2 rfl rfl)
theorem dX6_mostOf_120 : decode cX6_mostOf 120 = .ok (.getfield 129, 3) := dk_180 0 129 (dk_at dksX6_mostOf_5 3 rfl rfl)
theorem dX6_mostOf_123 : decode cX6_mostOf 123 = .ok (.bipush 6, 2) := dk_16 6 (dk_at dksX6_mostOf_5 6 rfl rfl)
theorem dX6_mostOf_125 : decode cX6_mostOf 125 = .ok (.iload_n 2, 1) := dk_28 (dk_at dksX6_mostOf_5 8 rfl rfl)
theorem dX6_mostOf_126 : decode cX6_mostOf 126 = .ok (.imul, 1) := dk_104 (dk_at dksX6_mostOf_5 9 rfl rfl)
theorem dX6_mostOf_127 : decode cX6_mostOf 127 = .ok (.iload 4, 2) := dk_21 4 (dk_at dksX6_mostOf_5 10 rfl rfl)
theorem dX6_mostOf_129 : decode cX6_mostOf 129 = .ok (.iadd, 1) := dk_96 (dk_at dksX6_mostOf_5 12 rfl rfl)
theorem dX6_mostOf_130 : decode cX6_mostOf 130 = .ok (.iaload, 1) := dk_46 (dk_at dksX6_mostOf_5 13 rfl rfl)
theorem dX6_mostOf_131 : decode cX6_mostOf 131 = .ok (.iadd, 1) := dk_96 (dk_at dksX6_mostOf_5 14 rfl rfl)
theorem dX6_mostOf_132 : decode cX6_mostOf 132 = .ok (.istore 5, 2) := dk_54 5 (dk_at dksX6_mostOf_5 15 rfl rfl)
theorem dX6_mostOf_134 : decode cX6_mostOf 134 = .ok (.aload_n 0, 1) := dk_42 (dk_at dksX6_mostOf_5 17 rfl rfl)
theorem dX6_mostOf_135 : decode cX6_mostOf 135 = .ok (.getfield 138, 3) := dk_180 0 138 (dk_at dksX6_mostOf_5 18 rfl rfl)
theorem dX6_mostOf_138 : decode cX6_mostOf 138 = .ok (.iload_n 3, 1) := dk_29 (dk_at dksX6_mostOf_5 21 rfl rfl)
theorem dX6_mostOf_139 : decode cX6_mostOf 139 = .ok (.aload_n 0, 1) := dk_42 (dk_at dksX6_mostOf_5 22 rfl rfl)
theorem dX6_mostOf_140 : decode cX6_mostOf 140 = .ok (.aload_n 0, 1) := dk_42 (dk_at dksX6_mostOf_5 23 rfl rfl)
theorem dX6_mostOf_141 : decode cX6_mostOf 141 = .ok (.getfield 138, 3) := dk_180 0 138 (dk_at dksX6_mostOf_6 0 rfl rfl)
theorem dX6_mostOf_144 : decode cX6_mostOf 144 = .ok (.iload_n 3, 1) := dk_29 (dk_at dksX6_mostOf_6 3 rfl rfl)
theorem dX6_mostOf_145 : decode cX6_mostOf 145 = .ok (.iaload, 1) := dk_46 (dk_at dksX6_mostOf_6 4 rfl rfl)
theorem dX6_mostOf_146 : decode cX6_mostOf 146 = .ok (.iload 5, 2) := dk_21 5 (dk_at dksX6_mostOf_6 5 rfl rfl)
theorem dX6_mostOf_148 : decode cX6_mostOf 148 = .ok (.invokevirtual 332, 3) := dk_182 1 76 (dk_at dksX6_mostOf_6 7 rfl rfl)
theorem dX6_mostOf_151 : decode cX6_mostOf 151 = .ok (.iastore, 1) := dk_79 (dk_at dksX6_mostOf_6 10 rfl rfl)
theorem dX6_mostOf_152 : decode cX6_mostOf 152 = .ok (.iinc 4 1, 3) := dk_132 4 1 (dk_at dksX6_mostOf_6 11 rfl rfl)
theorem dX6_mostOf_155 : decode cX6_mostOf 155 = .ok (.goto (-87), 3) := dk_167 255 169 (dk_at dksX6_mostOf_6 14 rfl rfl)
theorem dX6_mostOf_158 : decode cX6_mostOf 158 = .ok (.iinc 3 (-1), 3) := dk_132 3 255 (dk_at dksX6_mostOf_6 17 rfl rfl)
theorem dX6_mostOf_161 : decode cX6_mostOf 161 = .ok (.goto (-100), 3) := dk_167 255 156 (dk_at dksX6_mostOf_6 20 rfl rfl)
theorem dX6_mostOf_164 : decode cX6_mostOf 164 = .ok (.iinc 2 1, 3) := dk_132 2 1 (dk_at dksX6_mostOf_7 0 rfl rfl)
theorem dX6_mostOf_167 : decode cX6_mostOf 167 = .ok (.goto (-136), 3) := dk_167 255 120 (dk_at dksX6_mostOf_7 3 rfl rfl)
theorem dX6_mostOf_170 : decode cX6_mostOf 170 = .ok (.iconst 0, 1) := dk_3 (dk_at dksX6_mostOf_7 6 rfl rfl)
theorem dX6_mostOf_171 : decode cX6_mostOf 171 = .ok (.istore_n 2, 1) := dk_61 (dk_at dksX6_mostOf_7 7 rfl rfl)
theorem dX6_mostOf_172 : decode cX6_mostOf 172 = .ok (.iconst 0, 1) := dk_3 (dk_at dksX6_mostOf_7 8 rfl rfl)
theorem dX6_mostOf_173 : decode cX6_mostOf 173 = .ok (.istore_n 3, 1) := dk_62 (dk_at dksX6_mostOf_7 9 rfl rfl)
theorem dX6_mostOf_174 : decode cX6_mostOf 174 = .ok (.iload_n 3, 1) := dk_29 (dk_at dksX6_mostOf_7 10 rfl rfl)
theorem dX6_mostOf_175 : decode cX6_mostOf 175 = .ok (.bipush 64, 2) := dk_16 64 (dk_at dksX6_mostOf_7 11 rfl rfl)
theorem dX6_mostOf_177 : decode cX6_mostOf 177 = .ok (.if_icmp .ge 21, 3) := dk_162 0 21 (dk_at dksX6_mostOf_7 13 rfl rfl)
theorem dX6_mostOf_180 : decode cX6_mostOf 180 = .ok (.aload_n 0, 1) := dk_42 (dk_at dksX6_mostOf_7 16 rfl rfl)
theorem dX6_mostOf_181 : decode cX6_mostOf 181 = .ok (.iload_n 2, 1) := dk_28 (dk_at dksX6_mostOf_7 17 rfl rfl)
theorem dX6_mostOf_182 : decode cX6_mostOf 182 = .ok (.aload_n 0, 1) := dk_42 (dk_at dksX6_mostOf_7 18 rfl rfl)
theorem dX6_mostOf_183 : decode cX6_mostOf 183 = .ok (.getfield 138, 3) := dk_180 0 138 (dk_at dksX6_mostOf_7 19 rfl rfl)
theorem dX6_mostOf_186 : decode cX6_mostOf 186 = .ok (.iload_n 3, 1) := dk_29 (dk_at dksX6_mostOf_7 22 rfl rfl)
theorem dX6_mostOf_187 : decode cX6_mostOf 187 = .ok (.iaload, 1) := dk_46 (dk_at dksX6_mostOf_7 23 rfl rfl)
theorem dX6_mostOf_188 : decode cX6_mostOf 188 = .ok (.invokevirtual 332, 3) := dk_182 1 76 (dk_at dksX6_mostOf_8 0 rfl rfl)
theorem dX6_mostOf_191 : decode cX6_mostOf 191 = .ok (.istore_n 2, 1) := dk_61 (dk_at dksX6_mostOf_8 3 rfl rfl)
theorem dX6_mostOf_192 : decode cX6_mostOf 192 = .ok (.iinc 3 1, 3) := dk_132 3 1 (dk_at dksX6_mostOf_8 4 rfl rfl)
theorem dX6_mostOf_195 : decode cX6_mostOf 195 = .ok (.goto (-21), 3) := dk_167 255 235 (dk_at dksX6_mostOf_8 7 rfl rfl)
theorem dX6_mostOf_198 : decode cX6_mostOf 198 = .ok (.iload_n 2, 1) := dk_28 (dk_at dksX6_mostOf_8 10 rfl rfl)
theorem dX6_mostOf_199 : decode cX6_mostOf 199 = .ok (.ireturn, 1) := dk_172 (dk_at dksX6_mostOf_8 11 rfl rfl)
abbrev cX6_back : ByteArray := prog_23_method_68_code
def yX6_back : MethodName := ⟨RX6, "back", "()I"⟩
def dkwX6_back_2 : List UInt8 := [42, 28, 182, 1, 136, 153, 0, 7, 4, 167, 0, 4, 3, 100, 60, 132, 2, 1, 167, 255, 204, 27, 172]
abbrev dktX6_back_2 : List UInt8 := dkwX6_back_2 ++ []
def dkwX6_back_1 : List UInt8 := [28, 182, 1, 130, 155, 0, 16, 42, 28, 182, 1, 130, 28, 159, 0, 7, 4, 167, 0, 4, 3, 96, 60, 27]
abbrev dktX6_back_1 : List UInt8 := dkwX6_back_1 ++ dktX6_back_2
def dkwX6_back_0 : List UInt8 := [42, 182, 1, 133, 153, 0, 6, 16, 251, 172, 3, 60, 3, 61, 28, 42, 180, 0, 7, 162, 0, 50, 27, 42]
abbrev dktX6_back_0 : List UInt8 := dkwX6_back_0 ++ dktX6_back_1
theorem dksX6_back_0 : cX6_back.data.toList.drop 0 = dktX6_back_0 := by decide +kernel
theorem dksX6_back_1 : cX6_back.data.toList.drop 24 = dktX6_back_1 := dk_seg dksX6_back_0 24 rfl rfl
theorem dksX6_back_2 : cX6_back.data.toList.drop 48 = dktX6_back_2 := dk_seg dksX6_back_1 24 rfl rfl
theorem dX6_back_0 : decode cX6_back 0 = .ok (.aload_n 0, 1) := dk_42 (dk_at dksX6_back_0 0 rfl rfl)
theorem dX6_back_1 : decode cX6_back 1 = .ok (.invokevirtual 389, 3) := dk_182 1 133 (dk_at dksX6_back_0 1 rfl rfl)
theorem dX6_back_4 : decode cX6_back 4 = .ok (.ifCond .eq 6, 3) := dk_153 0 6 (dk_at dksX6_back_0 4 rfl rfl)
theorem dX6_back_7 : decode cX6_back 7 = .ok (.bipush (-5), 2) := dk_16 251 (dk_at dksX6_back_0 7 rfl rfl)
theorem dX6_back_9 : decode cX6_back 9 = .ok (.ireturn, 1) := dk_172 (dk_at dksX6_back_0 9 rfl rfl)
theorem dX6_back_10 : decode cX6_back 10 = .ok (.iconst 0, 1) := dk_3 (dk_at dksX6_back_0 10 rfl rfl)
theorem dX6_back_11 : decode cX6_back 11 = .ok (.istore_n 1, 1) := dk_60 (dk_at dksX6_back_0 11 rfl rfl)
theorem dX6_back_12 : decode cX6_back 12 = .ok (.iconst 0, 1) := dk_3 (dk_at dksX6_back_0 12 rfl rfl)
theorem dX6_back_13 : decode cX6_back 13 = .ok (.istore_n 2, 1) := dk_61 (dk_at dksX6_back_0 13 rfl rfl)
theorem dX6_back_14 : decode cX6_back 14 = .ok (.iload_n 2, 1) := dk_28 (dk_at dksX6_back_0 14 rfl rfl)
theorem dX6_back_15 : decode cX6_back 15 = .ok (.aload_n 0, 1) := dk_42 (dk_at dksX6_back_0 15 rfl rfl)
theorem dX6_back_16 : decode cX6_back 16 = .ok (.getfield 7, 3) := dk_180 0 7 (dk_at dksX6_back_0 16 rfl rfl)
theorem dX6_back_19 : decode cX6_back 19 = .ok (.if_icmp .ge 50, 3) := dk_162 0 50 (dk_at dksX6_back_0 19 rfl rfl)
theorem dX6_back_22 : decode cX6_back 22 = .ok (.iload_n 1, 1) := dk_27 (dk_at dksX6_back_0 22 rfl rfl)
theorem dX6_back_23 : decode cX6_back 23 = .ok (.aload_n 0, 1) := dk_42 (dk_at dksX6_back_0 23 rfl rfl)
theorem dX6_back_24 : decode cX6_back 24 = .ok (.iload_n 2, 1) := dk_28 (dk_at dksX6_back_1 0 rfl rfl)
theorem dX6_back_25 : decode cX6_back 25 = .ok (.invokevirtual 386, 3) := dk_182 1 130 (dk_at dksX6_back_1 1 rfl rfl)
theorem dX6_back_28 : decode cX6_back 28 = .ok (.ifCond .lt 16, 3) := dk_155 0 16 (dk_at dksX6_back_1 4 rfl rfl)
theorem dX6_back_31 : decode cX6_back 31 = .ok (.aload_n 0, 1) := dk_42 (dk_at dksX6_back_1 7 rfl rfl)
theorem dX6_back_32 : decode cX6_back 32 = .ok (.iload_n 2, 1) := dk_28 (dk_at dksX6_back_1 8 rfl rfl)
theorem dX6_back_33 : decode cX6_back 33 = .ok (.invokevirtual 386, 3) := dk_182 1 130 (dk_at dksX6_back_1 9 rfl rfl)
theorem dX6_back_36 : decode cX6_back 36 = .ok (.iload_n 2, 1) := dk_28 (dk_at dksX6_back_1 12 rfl rfl)
theorem dX6_back_37 : decode cX6_back 37 = .ok (.if_icmp .eq 7, 3) := dk_159 0 7 (dk_at dksX6_back_1 13 rfl rfl)
theorem dX6_back_40 : decode cX6_back 40 = .ok (.iconst 1, 1) := dk_4 (dk_at dksX6_back_1 16 rfl rfl)
theorem dX6_back_41 : decode cX6_back 41 = .ok (.goto 4, 3) := dk_167 0 4 (dk_at dksX6_back_1 17 rfl rfl)
theorem dX6_back_44 : decode cX6_back 44 = .ok (.iconst 0, 1) := dk_3 (dk_at dksX6_back_1 20 rfl rfl)
theorem dX6_back_45 : decode cX6_back 45 = .ok (.iadd, 1) := dk_96 (dk_at dksX6_back_1 21 rfl rfl)
theorem dX6_back_46 : decode cX6_back 46 = .ok (.istore_n 1, 1) := dk_60 (dk_at dksX6_back_1 22 rfl rfl)
theorem dX6_back_47 : decode cX6_back 47 = .ok (.iload_n 1, 1) := dk_27 (dk_at dksX6_back_1 23 rfl rfl)
theorem dX6_back_48 : decode cX6_back 48 = .ok (.aload_n 0, 1) := dk_42 (dk_at dksX6_back_2 0 rfl rfl)
theorem dX6_back_49 : decode cX6_back 49 = .ok (.iload_n 2, 1) := dk_28 (dk_at dksX6_back_2 1 rfl rfl)
theorem dX6_back_50 : decode cX6_back 50 = .ok (.invokevirtual 392, 3) := dk_182 1 136 (dk_at dksX6_back_2 2 rfl rfl)
theorem dX6_back_53 : decode cX6_back 53 = .ok (.ifCond .eq 7, 3) := dk_153 0 7 (dk_at dksX6_back_2 5 rfl rfl)
theorem dX6_back_56 : decode cX6_back 56 = .ok (.iconst 1, 1) := dk_4 (dk_at dksX6_back_2 8 rfl rfl)
theorem dX6_back_57 : decode cX6_back 57 = .ok (.goto 4, 3) := dk_167 0 4 (dk_at dksX6_back_2 9 rfl rfl)
theorem dX6_back_60 : decode cX6_back 60 = .ok (.iconst 0, 1) := dk_3 (dk_at dksX6_back_2 12 rfl rfl)
theorem dX6_back_61 : decode cX6_back 61 = .ok (.isub, 1) := dk_100 (dk_at dksX6_back_2 13 rfl rfl)
theorem dX6_back_62 : decode cX6_back 62 = .ok (.istore_n 1, 1) := dk_60 (dk_at dksX6_back_2 14 rfl rfl)
theorem dX6_back_63 : decode cX6_back 63 = .ok (.iinc 2 1, 3) := dk_132 2 1 (dk_at dksX6_back_2 15 rfl rfl)
theorem dX6_back_66 : decode cX6_back 66 = .ok (.goto (-52), 3) := dk_167 255 204 (dk_at dksX6_back_2 18 rfl rfl)
theorem dX6_back_69 : decode cX6_back 69 = .ok (.iload_n 1, 1) := dk_27 (dk_at dksX6_back_2 21 rfl rfl)
theorem dX6_back_70 : decode cX6_back 70 = .ok (.ireturn, 1) := dk_172 (dk_at dksX6_back_2 22 rfl rfl)
abbrev cX6_isClash : ByteArray := prog_23_method_65_code
def yX6_isClash : MethodName := ⟨RX6, "isClash", "()Z"⟩
def dkwX6_isClash_3 : List UInt8 := [167, 255, 188, 3, 172]
abbrev dktX6_isClash_3 : List UInt8 := dkwX6_isClash_3 ++ []
def dkwX6_isClash_2 : List UInt8 := [42, 180, 0, 23, 27, 46, 182, 1, 6, 155, 0, 5, 4, 172, 132, 2, 1, 167, 255, 206, 132, 1, 1]
abbrev dktX6_isClash_2 : List UInt8 := dkwX6_isClash_2 ++ dktX6_isClash_3
def dkwX6_isClash_1 : List UInt8 := [180, 0, 23, 27, 46, 155, 0, 33, 42, 180, 0, 23, 27, 46, 42, 180, 0, 23, 28, 46, 160, 0, 18, 42]
abbrev dktX6_isClash_1 : List UInt8 := dkwX6_isClash_1 ++ dktX6_isClash_2
def dkwX6_isClash_0 : List UInt8 := [3, 60, 27, 42, 180, 0, 7, 162, 0, 66, 27, 4, 96, 61, 28, 42, 180, 0, 7, 162, 0, 48, 42]
abbrev dktX6_isClash_0 : List UInt8 := dkwX6_isClash_0 ++ dktX6_isClash_1
theorem dksX6_isClash_0 : cX6_isClash.data.toList.drop 0 = dktX6_isClash_0 := by decide +kernel
theorem dksX6_isClash_1 : cX6_isClash.data.toList.drop 23 = dktX6_isClash_1 := dk_seg dksX6_isClash_0 23 rfl rfl
theorem dksX6_isClash_2 : cX6_isClash.data.toList.drop 47 = dktX6_isClash_2 := dk_seg dksX6_isClash_1 24 rfl rfl
theorem dksX6_isClash_3 : cX6_isClash.data.toList.drop 70 = dktX6_isClash_3 := dk_seg dksX6_isClash_2 23 rfl rfl
theorem dX6_isClash_0 : decode cX6_isClash 0 = .ok (.iconst 0, 1) := dk_3 (dk_at dksX6_isClash_0 0 rfl rfl)
theorem dX6_isClash_1 : decode cX6_isClash 1 = .ok (.istore_n 1, 1) := dk_60 (dk_at dksX6_isClash_0 1 rfl rfl)
theorem dX6_isClash_2 : decode cX6_isClash 2 = .ok (.iload_n 1, 1) := dk_27 (dk_at dksX6_isClash_0 2 rfl rfl)
theorem dX6_isClash_3 : decode cX6_isClash 3 = .ok (.aload_n 0, 1) := dk_42 (dk_at dksX6_isClash_0 3 rfl rfl)
theorem dX6_isClash_4 : decode cX6_isClash 4 = .ok (.getfield 7, 3) := dk_180 0 7 (dk_at dksX6_isClash_0 4 rfl rfl)
theorem dX6_isClash_7 : decode cX6_isClash 7 = .ok (.if_icmp .ge 66, 3) := dk_162 0 66 (dk_at dksX6_isClash_0 7 rfl rfl)
theorem dX6_isClash_10 : decode cX6_isClash 10 = .ok (.iload_n 1, 1) := dk_27 (dk_at dksX6_isClash_0 10 rfl rfl)
theorem dX6_isClash_11 : decode cX6_isClash 11 = .ok (.iconst 1, 1) := dk_4 (dk_at dksX6_isClash_0 11 rfl rfl)
theorem dX6_isClash_12 : decode cX6_isClash 12 = .ok (.iadd, 1) := dk_96 (dk_at dksX6_isClash_0 12 rfl rfl)
theorem dX6_isClash_13 : decode cX6_isClash 13 = .ok (.istore_n 2, 1) := dk_61 (dk_at dksX6_isClash_0 13 rfl rfl)
theorem dX6_isClash_14 : decode cX6_isClash 14 = .ok (.iload_n 2, 1) := dk_28 (dk_at dksX6_isClash_0 14 rfl rfl)
theorem dX6_isClash_15 : decode cX6_isClash 15 = .ok (.aload_n 0, 1) := dk_42 (dk_at dksX6_isClash_0 15 rfl rfl)
theorem dX6_isClash_16 : decode cX6_isClash 16 = .ok (.getfield 7, 3) := dk_180 0 7 (dk_at dksX6_isClash_0 16 rfl rfl)
theorem dX6_isClash_19 : decode cX6_isClash 19 = .ok (.if_icmp .ge 48, 3) := dk_162 0 48 (dk_at dksX6_isClash_0 19 rfl rfl)
theorem dX6_isClash_22 : decode cX6_isClash 22 = .ok (.aload_n 0, 1) := dk_42 (dk_at dksX6_isClash_0 22 rfl rfl)
theorem dX6_isClash_23 : decode cX6_isClash 23 = .ok (.getfield 23, 3) := dk_180 0 23 (dk_at dksX6_isClash_1 0 rfl rfl)
theorem dX6_isClash_26 : decode cX6_isClash 26 = .ok (.iload_n 1, 1) := dk_27 (dk_at dksX6_isClash_1 3 rfl rfl)
theorem dX6_isClash_27 : decode cX6_isClash 27 = .ok (.iaload, 1) := dk_46 (dk_at dksX6_isClash_1 4 rfl rfl)
theorem dX6_isClash_28 : decode cX6_isClash 28 = .ok (.ifCond .lt 33, 3) := dk_155 0 33 (dk_at dksX6_isClash_1 5 rfl rfl)
theorem dX6_isClash_31 : decode cX6_isClash 31 = .ok (.aload_n 0, 1) := dk_42 (dk_at dksX6_isClash_1 8 rfl rfl)
theorem dX6_isClash_32 : decode cX6_isClash 32 = .ok (.getfield 23, 3) := dk_180 0 23 (dk_at dksX6_isClash_1 9 rfl rfl)
theorem dX6_isClash_35 : decode cX6_isClash 35 = .ok (.iload_n 1, 1) := dk_27 (dk_at dksX6_isClash_1 12 rfl rfl)
theorem dX6_isClash_36 : decode cX6_isClash 36 = .ok (.iaload, 1) := dk_46 (dk_at dksX6_isClash_1 13 rfl rfl)
theorem dX6_isClash_37 : decode cX6_isClash 37 = .ok (.aload_n 0, 1) := dk_42 (dk_at dksX6_isClash_1 14 rfl rfl)
theorem dX6_isClash_38 : decode cX6_isClash 38 = .ok (.getfield 23, 3) := dk_180 0 23 (dk_at dksX6_isClash_1 15 rfl rfl)
theorem dX6_isClash_41 : decode cX6_isClash 41 = .ok (.iload_n 2, 1) := dk_28 (dk_at dksX6_isClash_1 18 rfl rfl)
theorem dX6_isClash_42 : decode cX6_isClash 42 = .ok (.iaload, 1) := dk_46 (dk_at dksX6_isClash_1 19 rfl rfl)
theorem dX6_isClash_43 : decode cX6_isClash 43 = .ok (.if_icmp .ne 18, 3) := dk_160 0 18 (dk_at dksX6_isClash_1 20 rfl rfl)
theorem dX6_isClash_46 : decode cX6_isClash 46 = .ok (.aload_n 0, 1) := dk_42 (dk_at dksX6_isClash_1 23 rfl rfl)
theorem dX6_isClash_47 : decode cX6_isClash 47 = .ok (.aload_n 0, 1) := dk_42 (dk_at dksX6_isClash_2 0 rfl rfl)
theorem dX6_isClash_48 : decode cX6_isClash 48 = .ok (.getfield 23, 3) := dk_180 0 23 (dk_at dksX6_isClash_2 1 rfl rfl)
theorem dX6_isClash_51 : decode cX6_isClash 51 = .ok (.iload_n 1, 1) := dk_27 (dk_at dksX6_isClash_2 4 rfl rfl)
theorem dX6_isClash_52 : decode cX6_isClash 52 = .ok (.iaload, 1) := dk_46 (dk_at dksX6_isClash_2 5 rfl rfl)
theorem dX6_isClash_53 : decode cX6_isClash 53 = .ok (.invokevirtual 262, 3) := dk_182 1 6 (dk_at dksX6_isClash_2 6 rfl rfl)
theorem dX6_isClash_56 : decode cX6_isClash 56 = .ok (.ifCond .lt 5, 3) := dk_155 0 5 (dk_at dksX6_isClash_2 9 rfl rfl)
theorem dX6_isClash_59 : decode cX6_isClash 59 = .ok (.iconst 1, 1) := dk_4 (dk_at dksX6_isClash_2 12 rfl rfl)
theorem dX6_isClash_60 : decode cX6_isClash 60 = .ok (.ireturn, 1) := dk_172 (dk_at dksX6_isClash_2 13 rfl rfl)
theorem dX6_isClash_61 : decode cX6_isClash 61 = .ok (.iinc 2 1, 3) := dk_132 2 1 (dk_at dksX6_isClash_2 14 rfl rfl)
theorem dX6_isClash_64 : decode cX6_isClash 64 = .ok (.goto (-50), 3) := dk_167 255 206 (dk_at dksX6_isClash_2 17 rfl rfl)
theorem dX6_isClash_67 : decode cX6_isClash 67 = .ok (.iinc 1 1, 3) := dk_132 1 1 (dk_at dksX6_isClash_2 20 rfl rfl)
theorem dX6_isClash_70 : decode cX6_isClash 70 = .ok (.goto (-68), 3) := dk_167 255 188 (dk_at dksX6_isClash_3 0 rfl rfl)
theorem dX6_isClash_73 : decode cX6_isClash 73 = .ok (.iconst 0, 1) := dk_3 (dk_at dksX6_isClash_3 3 rfl rfl)
theorem dX6_isClash_74 : decode cX6_isClash 74 = .ok (.ireturn, 1) := dk_172 (dk_at dksX6_isClash_3 4 rfl rfl)
abbrev cX6_dueFor : ByteArray := prog_23_method_66_code
def yX6_dueFor : MethodName := ⟨RX6, "dueFor", "(I)I"⟩
def dkwX6_dueFor_1 : List UInt8 := [180, 0, 23, 28, 46, 42, 180, 0, 26, 27, 46, 160, 0, 5, 28, 172, 132, 2, 1, 167, 255, 228, 2, 172]
abbrev dktX6_dueFor_1 : List UInt8 := dkwX6_dueFor_1 ++ []
def dkwX6_dueFor_0 : List UInt8 := [42, 180, 0, 26, 27, 46, 156, 0, 5, 2, 172, 3, 61, 28, 42, 180, 0, 7, 162, 0, 26, 42]
abbrev dktX6_dueFor_0 : List UInt8 := dkwX6_dueFor_0 ++ dktX6_dueFor_1
theorem dksX6_dueFor_0 : cX6_dueFor.data.toList.drop 0 = dktX6_dueFor_0 := by decide +kernel
theorem dksX6_dueFor_1 : cX6_dueFor.data.toList.drop 22 = dktX6_dueFor_1 := dk_seg dksX6_dueFor_0 22 rfl rfl
theorem dX6_dueFor_0 : decode cX6_dueFor 0 = .ok (.aload_n 0, 1) := dk_42 (dk_at dksX6_dueFor_0 0 rfl rfl)
theorem dX6_dueFor_1 : decode cX6_dueFor 1 = .ok (.getfield 26, 3) := dk_180 0 26 (dk_at dksX6_dueFor_0 1 rfl rfl)
theorem dX6_dueFor_4 : decode cX6_dueFor 4 = .ok (.iload_n 1, 1) := dk_27 (dk_at dksX6_dueFor_0 4 rfl rfl)
theorem dX6_dueFor_5 : decode cX6_dueFor 5 = .ok (.iaload, 1) := dk_46 (dk_at dksX6_dueFor_0 5 rfl rfl)
theorem dX6_dueFor_6 : decode cX6_dueFor 6 = .ok (.ifCond .ge 5, 3) := dk_156 0 5 (dk_at dksX6_dueFor_0 6 rfl rfl)
theorem dX6_dueFor_9 : decode cX6_dueFor 9 = .ok (.iconst (-1), 1) := dk_2 (dk_at dksX6_dueFor_0 9 rfl rfl)
theorem dX6_dueFor_10 : decode cX6_dueFor 10 = .ok (.ireturn, 1) := dk_172 (dk_at dksX6_dueFor_0 10 rfl rfl)
theorem dX6_dueFor_11 : decode cX6_dueFor 11 = .ok (.iconst 0, 1) := dk_3 (dk_at dksX6_dueFor_0 11 rfl rfl)
theorem dX6_dueFor_12 : decode cX6_dueFor 12 = .ok (.istore_n 2, 1) := dk_61 (dk_at dksX6_dueFor_0 12 rfl rfl)
theorem dX6_dueFor_13 : decode cX6_dueFor 13 = .ok (.iload_n 2, 1) := dk_28 (dk_at dksX6_dueFor_0 13 rfl rfl)
theorem dX6_dueFor_14 : decode cX6_dueFor 14 = .ok (.aload_n 0, 1) := dk_42 (dk_at dksX6_dueFor_0 14 rfl rfl)
theorem dX6_dueFor_15 : decode cX6_dueFor 15 = .ok (.getfield 7, 3) := dk_180 0 7 (dk_at dksX6_dueFor_0 15 rfl rfl)
theorem dX6_dueFor_18 : decode cX6_dueFor 18 = .ok (.if_icmp .ge 26, 3) := dk_162 0 26 (dk_at dksX6_dueFor_0 18 rfl rfl)
theorem dX6_dueFor_21 : decode cX6_dueFor 21 = .ok (.aload_n 0, 1) := dk_42 (dk_at dksX6_dueFor_0 21 rfl rfl)
theorem dX6_dueFor_22 : decode cX6_dueFor 22 = .ok (.getfield 23, 3) := dk_180 0 23 (dk_at dksX6_dueFor_1 0 rfl rfl)
theorem dX6_dueFor_25 : decode cX6_dueFor 25 = .ok (.iload_n 2, 1) := dk_28 (dk_at dksX6_dueFor_1 3 rfl rfl)
theorem dX6_dueFor_26 : decode cX6_dueFor 26 = .ok (.iaload, 1) := dk_46 (dk_at dksX6_dueFor_1 4 rfl rfl)
theorem dX6_dueFor_27 : decode cX6_dueFor 27 = .ok (.aload_n 0, 1) := dk_42 (dk_at dksX6_dueFor_1 5 rfl rfl)
theorem dX6_dueFor_28 : decode cX6_dueFor 28 = .ok (.getfield 26, 3) := dk_180 0 26 (dk_at dksX6_dueFor_1 6 rfl rfl)
theorem dX6_dueFor_31 : decode cX6_dueFor 31 = .ok (.iload_n 1, 1) := dk_27 (dk_at dksX6_dueFor_1 9 rfl rfl)
theorem dX6_dueFor_32 : decode cX6_dueFor 32 = .ok (.iaload, 1) := dk_46 (dk_at dksX6_dueFor_1 10 rfl rfl)
theorem dX6_dueFor_33 : decode cX6_dueFor 33 = .ok (.if_icmp .ne 5, 3) := dk_160 0 5 (dk_at dksX6_dueFor_1 11 rfl rfl)
theorem dX6_dueFor_36 : decode cX6_dueFor 36 = .ok (.iload_n 2, 1) := dk_28 (dk_at dksX6_dueFor_1 14 rfl rfl)
theorem dX6_dueFor_37 : decode cX6_dueFor 37 = .ok (.ireturn, 1) := dk_172 (dk_at dksX6_dueFor_1 15 rfl rfl)
theorem dX6_dueFor_38 : decode cX6_dueFor 38 = .ok (.iinc 2 1, 3) := dk_132 2 1 (dk_at dksX6_dueFor_1 16 rfl rfl)
theorem dX6_dueFor_41 : decode cX6_dueFor 41 = .ok (.goto (-28), 3) := dk_167 255 228 (dk_at dksX6_dueFor_1 19 rfl rfl)
theorem dX6_dueFor_44 : decode cX6_dueFor 44 = .ok (.iconst (-1), 1) := dk_2 (dk_at dksX6_dueFor_1 22 rfl rfl)
theorem dX6_dueFor_45 : decode cX6_dueFor 45 = .ok (.ireturn, 1) := dk_172 (dk_at dksX6_dueFor_1 23 rfl rfl)
abbrev cX6_isRing : ByteArray := prog_23_method_67_code
def yX6_isRing : MethodName := ⟨RX6, "isRing", "(I)Z"⟩
def dkwX6_isRing_1 : List UInt8 := [167, 255, 245, 28, 27, 160, 0, 7, 4, 167, 0, 4, 3, 172]
abbrev dktX6_isRing_1 : List UInt8 := dkwX6_isRing_1 ++ []
def dkwX6_isRing_0 : List UInt8 := [42, 27, 182, 1, 130, 61, 28, 27, 160, 0, 5, 3, 172, 28, 27, 164, 0, 12, 42, 28, 182, 1, 130, 61]
abbrev dktX6_isRing_0 : List UInt8 := dkwX6_isRing_0 ++ dktX6_isRing_1
theorem dksX6_isRing_0 : cX6_isRing.data.toList.drop 0 = dktX6_isRing_0 := by decide +kernel
theorem dksX6_isRing_1 : cX6_isRing.data.toList.drop 24 = dktX6_isRing_1 := dk_seg dksX6_isRing_0 24 rfl rfl
theorem dX6_isRing_0 : decode cX6_isRing 0 = .ok (.aload_n 0, 1) := dk_42 (dk_at dksX6_isRing_0 0 rfl rfl)
theorem dX6_isRing_1 : decode cX6_isRing 1 = .ok (.iload_n 1, 1) := dk_27 (dk_at dksX6_isRing_0 1 rfl rfl)
theorem dX6_isRing_2 : decode cX6_isRing 2 = .ok (.invokevirtual 386, 3) := dk_182 1 130 (dk_at dksX6_isRing_0 2 rfl rfl)
theorem dX6_isRing_5 : decode cX6_isRing 5 = .ok (.istore_n 2, 1) := dk_61 (dk_at dksX6_isRing_0 5 rfl rfl)
theorem dX6_isRing_6 : decode cX6_isRing 6 = .ok (.iload_n 2, 1) := dk_28 (dk_at dksX6_isRing_0 6 rfl rfl)
theorem dX6_isRing_7 : decode cX6_isRing 7 = .ok (.iload_n 1, 1) := dk_27 (dk_at dksX6_isRing_0 7 rfl rfl)
theorem dX6_isRing_8 : decode cX6_isRing 8 = .ok (.if_icmp .ne 5, 3) := dk_160 0 5 (dk_at dksX6_isRing_0 8 rfl rfl)
theorem dX6_isRing_11 : decode cX6_isRing 11 = .ok (.iconst 0, 1) := dk_3 (dk_at dksX6_isRing_0 11 rfl rfl)
theorem dX6_isRing_12 : decode cX6_isRing 12 = .ok (.ireturn, 1) := dk_172 (dk_at dksX6_isRing_0 12 rfl rfl)
theorem dX6_isRing_13 : decode cX6_isRing 13 = .ok (.iload_n 2, 1) := dk_28 (dk_at dksX6_isRing_0 13 rfl rfl)
theorem dX6_isRing_14 : decode cX6_isRing 14 = .ok (.iload_n 1, 1) := dk_27 (dk_at dksX6_isRing_0 14 rfl rfl)
theorem dX6_isRing_15 : decode cX6_isRing 15 = .ok (.if_icmp .le 12, 3) := dk_164 0 12 (dk_at dksX6_isRing_0 15 rfl rfl)
theorem dX6_isRing_18 : decode cX6_isRing 18 = .ok (.aload_n 0, 1) := dk_42 (dk_at dksX6_isRing_0 18 rfl rfl)
theorem dX6_isRing_19 : decode cX6_isRing 19 = .ok (.iload_n 2, 1) := dk_28 (dk_at dksX6_isRing_0 19 rfl rfl)
theorem dX6_isRing_20 : decode cX6_isRing 20 = .ok (.invokevirtual 386, 3) := dk_182 1 130 (dk_at dksX6_isRing_0 20 rfl rfl)
theorem dX6_isRing_23 : decode cX6_isRing 23 = .ok (.istore_n 2, 1) := dk_61 (dk_at dksX6_isRing_0 23 rfl rfl)
theorem dX6_isRing_24 : decode cX6_isRing 24 = .ok (.goto (-11), 3) := dk_167 255 245 (dk_at dksX6_isRing_1 0 rfl rfl)
theorem dX6_isRing_27 : decode cX6_isRing 27 = .ok (.iload_n 2, 1) := dk_28 (dk_at dksX6_isRing_1 3 rfl rfl)
theorem dX6_isRing_28 : decode cX6_isRing 28 = .ok (.iload_n 1, 1) := dk_27 (dk_at dksX6_isRing_1 4 rfl rfl)
theorem dX6_isRing_29 : decode cX6_isRing 29 = .ok (.if_icmp .ne 7, 3) := dk_160 0 7 (dk_at dksX6_isRing_1 5 rfl rfl)
theorem dX6_isRing_32 : decode cX6_isRing 32 = .ok (.iconst 1, 1) := dk_4 (dk_at dksX6_isRing_1 8 rfl rfl)
theorem dX6_isRing_33 : decode cX6_isRing 33 = .ok (.goto 4, 3) := dk_167 0 4 (dk_at dksX6_isRing_1 9 rfl rfl)
theorem dX6_isRing_36 : decode cX6_isRing 36 = .ok (.iconst 0, 1) := dk_3 (dk_at dksX6_isRing_1 12 rfl rfl)
theorem dX6_isRing_37 : decode cX6_isRing 37 = .ok (.ireturn, 1) := dk_172 (dk_at dksX6_isRing_1 13 rfl rfl)
abbrev cX6_gusted : ByteArray := prog_23_method_70_code
def yX6_gusted : MethodName := ⟨RX6, "gusted", "(I)I"⟩
def dkwX6_gusted_0 : List UInt8 := [42, 27, 3, 8, 182, 0, 248, 153, 0, 11, 42, 27, 182, 1, 139, 167, 0, 5, 16, 254, 172]
abbrev dktX6_gusted_0 : List UInt8 := dkwX6_gusted_0 ++ []
theorem dksX6_gusted_0 : cX6_gusted.data.toList.drop 0 = dktX6_gusted_0 := by decide +kernel
theorem dX6_gusted_0 : decode cX6_gusted 0 = .ok (.aload_n 0, 1) := dk_42 (dk_at dksX6_gusted_0 0 rfl rfl)
theorem dX6_gusted_1 : decode cX6_gusted 1 = .ok (.iload_n 1, 1) := dk_27 (dk_at dksX6_gusted_0 1 rfl rfl)
theorem dX6_gusted_2 : decode cX6_gusted 2 = .ok (.iconst 0, 1) := dk_3 (dk_at dksX6_gusted_0 2 rfl rfl)
theorem dX6_gusted_3 : decode cX6_gusted 3 = .ok (.iconst 5, 1) := dk_8 (dk_at dksX6_gusted_0 3 rfl rfl)
theorem dX6_gusted_4 : decode cX6_gusted 4 = .ok (.invokevirtual 248, 3) := dk_182 0 248 (dk_at dksX6_gusted_0 4 rfl rfl)
theorem dX6_gusted_7 : decode cX6_gusted 7 = .ok (.ifCond .eq 11, 3) := dk_153 0 11 (dk_at dksX6_gusted_0 7 rfl rfl)
theorem dX6_gusted_10 : decode cX6_gusted 10 = .ok (.aload_n 0, 1) := dk_42 (dk_at dksX6_gusted_0 10 rfl rfl)
theorem dX6_gusted_11 : decode cX6_gusted 11 = .ok (.iload_n 1, 1) := dk_27 (dk_at dksX6_gusted_0 11 rfl rfl)
theorem dX6_gusted_12 : decode cX6_gusted 12 = .ok (.invokevirtual 395, 3) := dk_182 1 139 (dk_at dksX6_gusted_0 12 rfl rfl)
theorem dX6_gusted_15 : decode cX6_gusted 15 = .ok (.goto 5, 3) := dk_167 0 5 (dk_at dksX6_gusted_0 15 rfl rfl)
theorem dX6_gusted_18 : decode cX6_gusted 18 = .ok (.bipush (-2), 2) := dk_16 254 (dk_at dksX6_gusted_0 18 rfl rfl)
theorem dX6_gusted_20 : decode cX6_gusted 20 = .ok (.ireturn, 1) := dk_172 (dk_at dksX6_gusted_0 20 rfl rfl)
abbrev cX6_gustedBy : ByteArray := prog_23_method_69_code
def yX6_gustedBy : MethodName := ⟨RX6, "gustedBy", "(I)I"⟩
def dkwX6_gustedBy_0 : List UInt8 := [42, 182, 1, 106, 42, 27, 182, 1, 98, 61, 42, 2, 182, 1, 91, 62, 42, 182, 1, 109, 29, 172]
abbrev dktX6_gustedBy_0 : List UInt8 := dkwX6_gustedBy_0 ++ []
theorem dksX6_gustedBy_0 : cX6_gustedBy.data.toList.drop 0 = dktX6_gustedBy_0 := by decide +kernel
theorem dX6_gustedBy_0 : decode cX6_gustedBy 0 = .ok (.aload_n 0, 1) := dk_42 (dk_at dksX6_gustedBy_0 0 rfl rfl)
theorem dX6_gustedBy_1 : decode cX6_gustedBy 1 = .ok (.invokevirtual 362, 3) := dk_182 1 106 (dk_at dksX6_gustedBy_0 1 rfl rfl)
theorem dX6_gustedBy_4 : decode cX6_gustedBy 4 = .ok (.aload_n 0, 1) := dk_42 (dk_at dksX6_gustedBy_0 4 rfl rfl)
theorem dX6_gustedBy_5 : decode cX6_gustedBy 5 = .ok (.iload_n 1, 1) := dk_27 (dk_at dksX6_gustedBy_0 5 rfl rfl)
theorem dX6_gustedBy_6 : decode cX6_gustedBy 6 = .ok (.invokevirtual 354, 3) := dk_182 1 98 (dk_at dksX6_gustedBy_0 6 rfl rfl)
theorem dX6_gustedBy_9 : decode cX6_gustedBy 9 = .ok (.istore_n 2, 1) := dk_61 (dk_at dksX6_gustedBy_0 9 rfl rfl)
theorem dX6_gustedBy_10 : decode cX6_gustedBy 10 = .ok (.aload_n 0, 1) := dk_42 (dk_at dksX6_gustedBy_0 10 rfl rfl)
theorem dX6_gustedBy_11 : decode cX6_gustedBy 11 = .ok (.iconst (-1), 1) := dk_2 (dk_at dksX6_gustedBy_0 11 rfl rfl)
theorem dX6_gustedBy_12 : decode cX6_gustedBy 12 = .ok (.invokevirtual 347, 3) := dk_182 1 91 (dk_at dksX6_gustedBy_0 12 rfl rfl)
theorem dX6_gustedBy_15 : decode cX6_gustedBy 15 = .ok (.istore_n 3, 1) := dk_62 (dk_at dksX6_gustedBy_0 15 rfl rfl)
theorem dX6_gustedBy_16 : decode cX6_gustedBy 16 = .ok (.aload_n 0, 1) := dk_42 (dk_at dksX6_gustedBy_0 16 rfl rfl)
theorem dX6_gustedBy_17 : decode cX6_gustedBy 17 = .ok (.invokevirtual 365, 3) := dk_182 1 109 (dk_at dksX6_gustedBy_0 17 rfl rfl)
theorem dX6_gustedBy_20 : decode cX6_gustedBy 20 = .ok (.iload_n 3, 1) := dk_29 (dk_at dksX6_gustedBy_0 20 rfl rfl)
theorem dX6_gustedBy_21 : decode cX6_gustedBy 21 = .ok (.ireturn, 1) := dk_172 (dk_at dksX6_gustedBy_0 21 rfl rfl)
abbrev cX6_lucky : ByteArray := prog_23_method_71_code
def yX6_lucky : MethodName := ⟨RX6, "lucky", "()I"⟩
def dkwX6_lucky_1 : List UInt8 := [28, 163, 0, 6, 167, 0, 8, 29, 60, 21, 4, 61, 132, 3, 1, 167, 255, 224, 27, 172]
abbrev dktX6_lucky_1 : List UInt8 := dkwX6_lucky_1 ++ []
def dkwX6_lucky_0 : List UInt8 := [16, 251, 60, 2, 61, 3, 62, 29, 42, 180, 0, 7, 162, 0, 30, 42, 29, 182, 1, 139, 54, 4, 21, 4]
abbrev dktX6_lucky_0 : List UInt8 := dkwX6_lucky_0 ++ dktX6_lucky_1
theorem dksX6_lucky_0 : cX6_lucky.data.toList.drop 0 = dktX6_lucky_0 := by decide +kernel
theorem dksX6_lucky_1 : cX6_lucky.data.toList.drop 24 = dktX6_lucky_1 := dk_seg dksX6_lucky_0 24 rfl rfl
theorem dX6_lucky_0 : decode cX6_lucky 0 = .ok (.bipush (-5), 2) := dk_16 251 (dk_at dksX6_lucky_0 0 rfl rfl)
theorem dX6_lucky_2 : decode cX6_lucky 2 = .ok (.istore_n 1, 1) := dk_60 (dk_at dksX6_lucky_0 2 rfl rfl)
theorem dX6_lucky_3 : decode cX6_lucky 3 = .ok (.iconst (-1), 1) := dk_2 (dk_at dksX6_lucky_0 3 rfl rfl)
theorem dX6_lucky_4 : decode cX6_lucky 4 = .ok (.istore_n 2, 1) := dk_61 (dk_at dksX6_lucky_0 4 rfl rfl)
theorem dX6_lucky_5 : decode cX6_lucky 5 = .ok (.iconst 0, 1) := dk_3 (dk_at dksX6_lucky_0 5 rfl rfl)
theorem dX6_lucky_6 : decode cX6_lucky 6 = .ok (.istore_n 3, 1) := dk_62 (dk_at dksX6_lucky_0 6 rfl rfl)
theorem dX6_lucky_7 : decode cX6_lucky 7 = .ok (.iload_n 3, 1) := dk_29 (dk_at dksX6_lucky_0 7 rfl rfl)
theorem dX6_lucky_8 : decode cX6_lucky 8 = .ok (.aload_n 0, 1) := dk_42 (dk_at dksX6_lucky_0 8 rfl rfl)
theorem dX6_lucky_9 : decode cX6_lucky 9 = .ok (.getfield 7, 3) := dk_180 0 7 (dk_at dksX6_lucky_0 9 rfl rfl)
theorem dX6_lucky_12 : decode cX6_lucky 12 = .ok (.if_icmp .ge 30, 3) := dk_162 0 30 (dk_at dksX6_lucky_0 12 rfl rfl)
theorem dX6_lucky_15 : decode cX6_lucky 15 = .ok (.aload_n 0, 1) := dk_42 (dk_at dksX6_lucky_0 15 rfl rfl)
theorem dX6_lucky_16 : decode cX6_lucky 16 = .ok (.iload_n 3, 1) := dk_29 (dk_at dksX6_lucky_0 16 rfl rfl)
theorem dX6_lucky_17 : decode cX6_lucky 17 = .ok (.invokevirtual 395, 3) := dk_182 1 139 (dk_at dksX6_lucky_0 17 rfl rfl)
theorem dX6_lucky_20 : decode cX6_lucky 20 = .ok (.istore 4, 2) := dk_54 4 (dk_at dksX6_lucky_0 20 rfl rfl)
theorem dX6_lucky_22 : decode cX6_lucky 22 = .ok (.iload 4, 2) := dk_21 4 (dk_at dksX6_lucky_0 22 rfl rfl)
theorem dX6_lucky_24 : decode cX6_lucky 24 = .ok (.iload_n 2, 1) := dk_28 (dk_at dksX6_lucky_1 0 rfl rfl)
theorem dX6_lucky_25 : decode cX6_lucky 25 = .ok (.if_icmp .gt 6, 3) := dk_163 0 6 (dk_at dksX6_lucky_1 1 rfl rfl)
theorem dX6_lucky_28 : decode cX6_lucky 28 = .ok (.goto 8, 3) := dk_167 0 8 (dk_at dksX6_lucky_1 4 rfl rfl)
theorem dX6_lucky_31 : decode cX6_lucky 31 = .ok (.iload_n 3, 1) := dk_29 (dk_at dksX6_lucky_1 7 rfl rfl)
theorem dX6_lucky_32 : decode cX6_lucky 32 = .ok (.istore_n 1, 1) := dk_60 (dk_at dksX6_lucky_1 8 rfl rfl)
theorem dX6_lucky_33 : decode cX6_lucky 33 = .ok (.iload 4, 2) := dk_21 4 (dk_at dksX6_lucky_1 9 rfl rfl)
theorem dX6_lucky_35 : decode cX6_lucky 35 = .ok (.istore_n 2, 1) := dk_61 (dk_at dksX6_lucky_1 11 rfl rfl)
theorem dX6_lucky_36 : decode cX6_lucky 36 = .ok (.iinc 3 1, 3) := dk_132 3 1 (dk_at dksX6_lucky_1 12 rfl rfl)
theorem dX6_lucky_39 : decode cX6_lucky 39 = .ok (.goto (-32), 3) := dk_167 255 224 (dk_at dksX6_lucky_1 15 rfl rfl)
theorem dX6_lucky_42 : decode cX6_lucky 42 = .ok (.iload_n 1, 1) := dk_27 (dk_at dksX6_lucky_1 18 rfl rfl)
theorem dX6_lucky_43 : decode cX6_lucky 43 = .ok (.ireturn, 1) := dk_172 (dk_at dksX6_lucky_1 19 rfl rfl)
abbrev cX6_swap : ByteArray := prog_23_method_72_code
def yX6_swap : MethodName := ⟨RX6, "swap", "()I"⟩
def dkwX6_swap_3 : List UInt8 := [21, 5, 60, 132, 4, 1, 167, 255, 203, 132, 3, 1, 167, 255, 184, 28, 172]
abbrev dktX6_swap_3 : List UInt8 := dkwX6_swap_3 ++ []
def dkwX6_swap_2 : List UInt8 := [29, 21, 4, 182, 1, 101, 21, 5, 27, 163, 0, 6, 167, 0, 14, 16, 10, 29, 104, 21, 4, 96, 61]
abbrev dktX6_swap_2 : List UInt8 := dkwX6_swap_2 ++ dktX6_swap_3
def dkwX6_swap_1 : List UInt8 := [21, 4, 42, 180, 0, 7, 162, 0, 50, 42, 29, 21, 4, 182, 1, 101, 42, 2, 182, 1, 91, 54, 5, 42]
abbrev dktX6_swap_1 : List UInt8 := dkwX6_swap_1 ++ dktX6_swap_2
def dkwX6_swap_0 : List UInt8 := [42, 2, 182, 1, 91, 60, 16, 251, 61, 3, 62, 29, 42, 180, 0, 7, 162, 0, 70, 29, 4, 96, 54, 4]
abbrev dktX6_swap_0 : List UInt8 := dkwX6_swap_0 ++ dktX6_swap_1
theorem dksX6_swap_0 : cX6_swap.data.toList.drop 0 = dktX6_swap_0 := by decide +kernel
theorem dksX6_swap_1 : cX6_swap.data.toList.drop 24 = dktX6_swap_1 := dk_seg dksX6_swap_0 24 rfl rfl
theorem dksX6_swap_2 : cX6_swap.data.toList.drop 48 = dktX6_swap_2 := dk_seg dksX6_swap_1 24 rfl rfl
theorem dksX6_swap_3 : cX6_swap.data.toList.drop 71 = dktX6_swap_3 := dk_seg dksX6_swap_2 23 rfl rfl
theorem dX6_swap_0 : decode cX6_swap 0 = .ok (.aload_n 0, 1) := dk_42 (dk_at dksX6_swap_0 0 rfl rfl)
theorem dX6_swap_1 : decode cX6_swap 1 = .ok (.iconst (-1), 1) := dk_2 (dk_at dksX6_swap_0 1 rfl rfl)
theorem dX6_swap_2 : decode cX6_swap 2 = .ok (.invokevirtual 347, 3) := dk_182 1 91 (dk_at dksX6_swap_0 2 rfl rfl)
theorem dX6_swap_5 : decode cX6_swap 5 = .ok (.istore_n 1, 1) := dk_60 (dk_at dksX6_swap_0 5 rfl rfl)
theorem dX6_swap_6 : decode cX6_swap 6 = .ok (.bipush (-5), 2) := dk_16 251 (dk_at dksX6_swap_0 6 rfl rfl)
theorem dX6_swap_8 : decode cX6_swap 8 = .ok (.istore_n 2, 1) := dk_61 (dk_at dksX6_swap_0 8 rfl rfl)
theorem dX6_swap_9 : decode cX6_swap 9 = .ok (.iconst 0, 1) := dk_3 (dk_at dksX6_swap_0 9 rfl rfl)
theorem dX6_swap_10 : decode cX6_swap 10 = .ok (.istore_n 3, 1) := dk_62 (dk_at dksX6_swap_0 10 rfl rfl)
theorem dX6_swap_11 : decode cX6_swap 11 = .ok (.iload_n 3, 1) := dk_29 (dk_at dksX6_swap_0 11 rfl rfl)
theorem dX6_swap_12 : decode cX6_swap 12 = .ok (.aload_n 0, 1) := dk_42 (dk_at dksX6_swap_0 12 rfl rfl)
theorem dX6_swap_13 : decode cX6_swap 13 = .ok (.getfield 7, 3) := dk_180 0 7 (dk_at dksX6_swap_0 13 rfl rfl)
theorem dX6_swap_16 : decode cX6_swap 16 = .ok (.if_icmp .ge 70, 3) := dk_162 0 70 (dk_at dksX6_swap_0 16 rfl rfl)
theorem dX6_swap_19 : decode cX6_swap 19 = .ok (.iload_n 3, 1) := dk_29 (dk_at dksX6_swap_0 19 rfl rfl)
theorem dX6_swap_20 : decode cX6_swap 20 = .ok (.iconst 1, 1) := dk_4 (dk_at dksX6_swap_0 20 rfl rfl)
theorem dX6_swap_21 : decode cX6_swap 21 = .ok (.iadd, 1) := dk_96 (dk_at dksX6_swap_0 21 rfl rfl)
theorem dX6_swap_22 : decode cX6_swap 22 = .ok (.istore 4, 2) := dk_54 4 (dk_at dksX6_swap_0 22 rfl rfl)
theorem dX6_swap_24 : decode cX6_swap 24 = .ok (.iload 4, 2) := dk_21 4 (dk_at dksX6_swap_1 0 rfl rfl)
theorem dX6_swap_26 : decode cX6_swap 26 = .ok (.aload_n 0, 1) := dk_42 (dk_at dksX6_swap_1 2 rfl rfl)
theorem dX6_swap_27 : decode cX6_swap 27 = .ok (.getfield 7, 3) := dk_180 0 7 (dk_at dksX6_swap_1 3 rfl rfl)
theorem dX6_swap_30 : decode cX6_swap 30 = .ok (.if_icmp .ge 50, 3) := dk_162 0 50 (dk_at dksX6_swap_1 6 rfl rfl)
theorem dX6_swap_33 : decode cX6_swap 33 = .ok (.aload_n 0, 1) := dk_42 (dk_at dksX6_swap_1 9 rfl rfl)
theorem dX6_swap_34 : decode cX6_swap 34 = .ok (.iload_n 3, 1) := dk_29 (dk_at dksX6_swap_1 10 rfl rfl)
theorem dX6_swap_35 : decode cX6_swap 35 = .ok (.iload 4, 2) := dk_21 4 (dk_at dksX6_swap_1 11 rfl rfl)
theorem dX6_swap_37 : decode cX6_swap 37 = .ok (.invokevirtual 357, 3) := dk_182 1 101 (dk_at dksX6_swap_1 13 rfl rfl)
theorem dX6_swap_40 : decode cX6_swap 40 = .ok (.aload_n 0, 1) := dk_42 (dk_at dksX6_swap_1 16 rfl rfl)
theorem dX6_swap_41 : decode cX6_swap 41 = .ok (.iconst (-1), 1) := dk_2 (dk_at dksX6_swap_1 17 rfl rfl)
theorem dX6_swap_42 : decode cX6_swap 42 = .ok (.invokevirtual 347, 3) := dk_182 1 91 (dk_at dksX6_swap_1 18 rfl rfl)
theorem dX6_swap_45 : decode cX6_swap 45 = .ok (.istore 5, 2) := dk_54 5 (dk_at dksX6_swap_1 21 rfl rfl)
theorem dX6_swap_47 : decode cX6_swap 47 = .ok (.aload_n 0, 1) := dk_42 (dk_at dksX6_swap_1 23 rfl rfl)
theorem dX6_swap_48 : decode cX6_swap 48 = .ok (.iload_n 3, 1) := dk_29 (dk_at dksX6_swap_2 0 rfl rfl)
theorem dX6_swap_49 : decode cX6_swap 49 = .ok (.iload 4, 2) := dk_21 4 (dk_at dksX6_swap_2 1 rfl rfl)
theorem dX6_swap_51 : decode cX6_swap 51 = .ok (.invokevirtual 357, 3) := dk_182 1 101 (dk_at dksX6_swap_2 3 rfl rfl)
theorem dX6_swap_54 : decode cX6_swap 54 = .ok (.iload 5, 2) := dk_21 5 (dk_at dksX6_swap_2 6 rfl rfl)
theorem dX6_swap_56 : decode cX6_swap 56 = .ok (.iload_n 1, 1) := dk_27 (dk_at dksX6_swap_2 8 rfl rfl)
theorem dX6_swap_57 : decode cX6_swap 57 = .ok (.if_icmp .gt 6, 3) := dk_163 0 6 (dk_at dksX6_swap_2 9 rfl rfl)
theorem dX6_swap_60 : decode cX6_swap 60 = .ok (.goto 14, 3) := dk_167 0 14 (dk_at dksX6_swap_2 12 rfl rfl)
theorem dX6_swap_63 : decode cX6_swap 63 = .ok (.bipush 10, 2) := dk_16 10 (dk_at dksX6_swap_2 15 rfl rfl)
theorem dX6_swap_65 : decode cX6_swap 65 = .ok (.iload_n 3, 1) := dk_29 (dk_at dksX6_swap_2 17 rfl rfl)
theorem dX6_swap_66 : decode cX6_swap 66 = .ok (.imul, 1) := dk_104 (dk_at dksX6_swap_2 18 rfl rfl)
theorem dX6_swap_67 : decode cX6_swap 67 = .ok (.iload 4, 2) := dk_21 4 (dk_at dksX6_swap_2 19 rfl rfl)
theorem dX6_swap_69 : decode cX6_swap 69 = .ok (.iadd, 1) := dk_96 (dk_at dksX6_swap_2 21 rfl rfl)
theorem dX6_swap_70 : decode cX6_swap 70 = .ok (.istore_n 2, 1) := dk_61 (dk_at dksX6_swap_2 22 rfl rfl)
theorem dX6_swap_71 : decode cX6_swap 71 = .ok (.iload 5, 2) := dk_21 5 (dk_at dksX6_swap_3 0 rfl rfl)
theorem dX6_swap_73 : decode cX6_swap 73 = .ok (.istore_n 1, 1) := dk_60 (dk_at dksX6_swap_3 2 rfl rfl)
theorem dX6_swap_74 : decode cX6_swap 74 = .ok (.iinc 4 1, 3) := dk_132 4 1 (dk_at dksX6_swap_3 3 rfl rfl)
theorem dX6_swap_77 : decode cX6_swap 77 = .ok (.goto (-53), 3) := dk_167 255 203 (dk_at dksX6_swap_3 6 rfl rfl)
theorem dX6_swap_80 : decode cX6_swap 80 = .ok (.iinc 3 1, 3) := dk_132 3 1 (dk_at dksX6_swap_3 9 rfl rfl)
theorem dX6_swap_83 : decode cX6_swap 83 = .ok (.goto (-72), 3) := dk_167 255 184 (dk_at dksX6_swap_3 12 rfl rfl)
theorem dX6_swap_86 : decode cX6_swap 86 = .ok (.iload_n 2, 1) := dk_28 (dk_at dksX6_swap_3 15 rfl rfl)
theorem dX6_swap_87 : decode cX6_swap 87 = .ok (.ireturn, 1) := dk_172 (dk_at dksX6_swap_3 16 rfl rfl)
abbrev cX6_quarrel : ByteArray := prog_23_method_73_code
def yX6_quarrel : MethodName := ⟨RX6, "quarrel", "(III)I"⟩
def dkwX6_quarrel_2 : List UInt8 := [182, 1, 85, 100, 172]
abbrev dktX6_quarrel_2 : List UInt8 := dkwX6_quarrel_2 ++ []
def dkwX6_quarrel_1 : List UInt8 := [17, 216, 239, 172, 27, 28, 160, 0, 9, 17, 216, 238, 167, 0, 16, 42, 27, 29, 182, 1, 85, 42, 28, 29]
abbrev dktX6_quarrel_1 : List UInt8 := dkwX6_quarrel_1 ++ dktX6_quarrel_2
def dkwX6_quarrel_0 : List UInt8 := [42, 27, 182, 1, 0, 153, 0, 19, 42, 28, 182, 1, 0, 153, 0, 11, 42, 29, 182, 1, 3, 154, 0, 7]
abbrev dktX6_quarrel_0 : List UInt8 := dkwX6_quarrel_0 ++ dktX6_quarrel_1
theorem dksX6_quarrel_0 : cX6_quarrel.data.toList.drop 0 = dktX6_quarrel_0 := by decide +kernel
theorem dksX6_quarrel_1 : cX6_quarrel.data.toList.drop 24 = dktX6_quarrel_1 := dk_seg dksX6_quarrel_0 24 rfl rfl
theorem dksX6_quarrel_2 : cX6_quarrel.data.toList.drop 48 = dktX6_quarrel_2 := dk_seg dksX6_quarrel_1 24 rfl rfl
theorem dX6_quarrel_0 : decode cX6_quarrel 0 = .ok (.aload_n 0, 1) := dk_42 (dk_at dksX6_quarrel_0 0 rfl rfl)
theorem dX6_quarrel_1 : decode cX6_quarrel 1 = .ok (.iload_n 1, 1) := dk_27 (dk_at dksX6_quarrel_0 1 rfl rfl)
theorem dX6_quarrel_2 : decode cX6_quarrel 2 = .ok (.invokevirtual 256, 3) := dk_182 1 0 (dk_at dksX6_quarrel_0 2 rfl rfl)
theorem dX6_quarrel_5 : decode cX6_quarrel 5 = .ok (.ifCond .eq 19, 3) := dk_153 0 19 (dk_at dksX6_quarrel_0 5 rfl rfl)
theorem dX6_quarrel_8 : decode cX6_quarrel 8 = .ok (.aload_n 0, 1) := dk_42 (dk_at dksX6_quarrel_0 8 rfl rfl)
theorem dX6_quarrel_9 : decode cX6_quarrel 9 = .ok (.iload_n 2, 1) := dk_28 (dk_at dksX6_quarrel_0 9 rfl rfl)
theorem dX6_quarrel_10 : decode cX6_quarrel 10 = .ok (.invokevirtual 256, 3) := dk_182 1 0 (dk_at dksX6_quarrel_0 10 rfl rfl)
theorem dX6_quarrel_13 : decode cX6_quarrel 13 = .ok (.ifCond .eq 11, 3) := dk_153 0 11 (dk_at dksX6_quarrel_0 13 rfl rfl)
theorem dX6_quarrel_16 : decode cX6_quarrel 16 = .ok (.aload_n 0, 1) := dk_42 (dk_at dksX6_quarrel_0 16 rfl rfl)
theorem dX6_quarrel_17 : decode cX6_quarrel 17 = .ok (.iload_n 3, 1) := dk_29 (dk_at dksX6_quarrel_0 17 rfl rfl)
theorem dX6_quarrel_18 : decode cX6_quarrel 18 = .ok (.invokevirtual 259, 3) := dk_182 1 3 (dk_at dksX6_quarrel_0 18 rfl rfl)
theorem dX6_quarrel_21 : decode cX6_quarrel 21 = .ok (.ifCond .ne 7, 3) := dk_154 0 7 (dk_at dksX6_quarrel_0 21 rfl rfl)
theorem dX6_quarrel_24 : decode cX6_quarrel 24 = .ok (.sipush (-10001), 3) := dk_17 216 239 (dk_at dksX6_quarrel_1 0 rfl rfl)
theorem dX6_quarrel_27 : decode cX6_quarrel 27 = .ok (.ireturn, 1) := dk_172 (dk_at dksX6_quarrel_1 3 rfl rfl)
theorem dX6_quarrel_28 : decode cX6_quarrel 28 = .ok (.iload_n 1, 1) := dk_27 (dk_at dksX6_quarrel_1 4 rfl rfl)
theorem dX6_quarrel_29 : decode cX6_quarrel 29 = .ok (.iload_n 2, 1) := dk_28 (dk_at dksX6_quarrel_1 5 rfl rfl)
theorem dX6_quarrel_30 : decode cX6_quarrel 30 = .ok (.if_icmp .ne 9, 3) := dk_160 0 9 (dk_at dksX6_quarrel_1 6 rfl rfl)
theorem dX6_quarrel_33 : decode cX6_quarrel 33 = .ok (.sipush (-10002), 3) := dk_17 216 238 (dk_at dksX6_quarrel_1 9 rfl rfl)
theorem dX6_quarrel_36 : decode cX6_quarrel 36 = .ok (.goto 16, 3) := dk_167 0 16 (dk_at dksX6_quarrel_1 12 rfl rfl)
theorem dX6_quarrel_39 : decode cX6_quarrel 39 = .ok (.aload_n 0, 1) := dk_42 (dk_at dksX6_quarrel_1 15 rfl rfl)
theorem dX6_quarrel_40 : decode cX6_quarrel 40 = .ok (.iload_n 1, 1) := dk_27 (dk_at dksX6_quarrel_1 16 rfl rfl)
theorem dX6_quarrel_41 : decode cX6_quarrel 41 = .ok (.iload_n 3, 1) := dk_29 (dk_at dksX6_quarrel_1 17 rfl rfl)
theorem dX6_quarrel_42 : decode cX6_quarrel 42 = .ok (.invokevirtual 341, 3) := dk_182 1 85 (dk_at dksX6_quarrel_1 18 rfl rfl)
theorem dX6_quarrel_45 : decode cX6_quarrel 45 = .ok (.aload_n 0, 1) := dk_42 (dk_at dksX6_quarrel_1 21 rfl rfl)
theorem dX6_quarrel_46 : decode cX6_quarrel 46 = .ok (.iload_n 2, 1) := dk_28 (dk_at dksX6_quarrel_1 22 rfl rfl)
theorem dX6_quarrel_47 : decode cX6_quarrel 47 = .ok (.iload_n 3, 1) := dk_29 (dk_at dksX6_quarrel_1 23 rfl rfl)
theorem dX6_quarrel_48 : decode cX6_quarrel 48 = .ok (.invokevirtual 341, 3) := dk_182 1 85 (dk_at dksX6_quarrel_2 0 rfl rfl)
theorem dX6_quarrel_51 : decode cX6_quarrel 51 = .ok (.isub, 1) := dk_100 (dk_at dksX6_quarrel_2 3 rfl rfl)
theorem dX6_quarrel_52 : decode cX6_quarrel 52 = .ok (.ireturn, 1) := dk_172 (dk_at dksX6_quarrel_2 4 rfl rfl)
abbrev cX6_how : ByteArray := prog_23_method_74_code
def yX6_how : MethodName := ⟨RX6, "how", "(I)I"⟩
def dkwX6_how_3 : List UInt8 := [3, 96, 61, 132, 4, 1, 167, 255, 200, 27, 154, 0, 7, 28, 167, 0, 4, 29, 172]
abbrev dktX6_how_3 : List UInt8 := dkwX6_how_3 ++ []
def dkwX6_how_2 : List UInt8 := [167, 0, 27, 28, 42, 42, 180, 0, 26, 21, 4, 46, 21, 4, 182, 1, 79, 158, 0, 7, 4, 167, 0, 4]
abbrev dktX6_how_2 : List UInt8 := dkwX6_how_2 ++ dktX6_how_3
def dkwX6_how_1 : List UInt8 := [180, 0, 7, 162, 0, 53, 42, 180, 0, 26, 21, 4, 46, 156, 0, 13, 29, 4, 21, 4, 120, 128, 62]
abbrev dktX6_how_1 : List UInt8 := dkwX6_how_1 ++ dktX6_how_2
def dkwX6_how_0 : List UInt8 := [42, 27, 3, 4, 182, 0, 248, 154, 0, 5, 2, 172, 3, 61, 3, 62, 3, 54, 4, 21, 4, 42]
abbrev dktX6_how_0 : List UInt8 := dkwX6_how_0 ++ dktX6_how_1
theorem dksX6_how_0 : cX6_how.data.toList.drop 0 = dktX6_how_0 := by decide +kernel
theorem dksX6_how_1 : cX6_how.data.toList.drop 22 = dktX6_how_1 := dk_seg dksX6_how_0 22 rfl rfl
theorem dksX6_how_2 : cX6_how.data.toList.drop 45 = dktX6_how_2 := dk_seg dksX6_how_1 23 rfl rfl
theorem dksX6_how_3 : cX6_how.data.toList.drop 69 = dktX6_how_3 := dk_seg dksX6_how_2 24 rfl rfl
theorem dX6_how_0 : decode cX6_how 0 = .ok (.aload_n 0, 1) := dk_42 (dk_at dksX6_how_0 0 rfl rfl)
theorem dX6_how_1 : decode cX6_how 1 = .ok (.iload_n 1, 1) := dk_27 (dk_at dksX6_how_0 1 rfl rfl)
theorem dX6_how_2 : decode cX6_how 2 = .ok (.iconst 0, 1) := dk_3 (dk_at dksX6_how_0 2 rfl rfl)
theorem dX6_how_3 : decode cX6_how 3 = .ok (.iconst 1, 1) := dk_4 (dk_at dksX6_how_0 3 rfl rfl)
theorem dX6_how_4 : decode cX6_how 4 = .ok (.invokevirtual 248, 3) := dk_182 0 248 (dk_at dksX6_how_0 4 rfl rfl)
theorem dX6_how_7 : decode cX6_how 7 = .ok (.ifCond .ne 5, 3) := dk_154 0 5 (dk_at dksX6_how_0 7 rfl rfl)
theorem dX6_how_10 : decode cX6_how 10 = .ok (.iconst (-1), 1) := dk_2 (dk_at dksX6_how_0 10 rfl rfl)
theorem dX6_how_11 : decode cX6_how 11 = .ok (.ireturn, 1) := dk_172 (dk_at dksX6_how_0 11 rfl rfl)
theorem dX6_how_12 : decode cX6_how 12 = .ok (.iconst 0, 1) := dk_3 (dk_at dksX6_how_0 12 rfl rfl)
theorem dX6_how_13 : decode cX6_how 13 = .ok (.istore_n 2, 1) := dk_61 (dk_at dksX6_how_0 13 rfl rfl)
theorem dX6_how_14 : decode cX6_how 14 = .ok (.iconst 0, 1) := dk_3 (dk_at dksX6_how_0 14 rfl rfl)
theorem dX6_how_15 : decode cX6_how 15 = .ok (.istore_n 3, 1) := dk_62 (dk_at dksX6_how_0 15 rfl rfl)
theorem dX6_how_16 : decode cX6_how 16 = .ok (.iconst 0, 1) := dk_3 (dk_at dksX6_how_0 16 rfl rfl)
theorem dX6_how_17 : decode cX6_how 17 = .ok (.istore 4, 2) := dk_54 4 (dk_at dksX6_how_0 17 rfl rfl)
theorem dX6_how_19 : decode cX6_how 19 = .ok (.iload 4, 2) := dk_21 4 (dk_at dksX6_how_0 19 rfl rfl)
theorem dX6_how_21 : decode cX6_how 21 = .ok (.aload_n 0, 1) := dk_42 (dk_at dksX6_how_0 21 rfl rfl)
theorem dX6_how_22 : decode cX6_how 22 = .ok (.getfield 7, 3) := dk_180 0 7 (dk_at dksX6_how_1 0 rfl rfl)
theorem dX6_how_25 : decode cX6_how 25 = .ok (.if_icmp .ge 53, 3) := dk_162 0 53 (dk_at dksX6_how_1 3 rfl rfl)
theorem dX6_how_28 : decode cX6_how 28 = .ok (.aload_n 0, 1) := dk_42 (dk_at dksX6_how_1 6 rfl rfl)
theorem dX6_how_29 : decode cX6_how 29 = .ok (.getfield 26, 3) := dk_180 0 26 (dk_at dksX6_how_1 7 rfl rfl)
theorem dX6_how_32 : decode cX6_how 32 = .ok (.iload 4, 2) := dk_21 4 (dk_at dksX6_how_1 10 rfl rfl)
theorem dX6_how_34 : decode cX6_how 34 = .ok (.iaload, 1) := dk_46 (dk_at dksX6_how_1 12 rfl rfl)
theorem dX6_how_35 : decode cX6_how 35 = .ok (.ifCond .ge 13, 3) := dk_156 0 13 (dk_at dksX6_how_1 13 rfl rfl)
theorem dX6_how_38 : decode cX6_how 38 = .ok (.iload_n 3, 1) := dk_29 (dk_at dksX6_how_1 16 rfl rfl)
theorem dX6_how_39 : decode cX6_how 39 = .ok (.iconst 1, 1) := dk_4 (dk_at dksX6_how_1 17 rfl rfl)
theorem dX6_how_40 : decode cX6_how 40 = .ok (.iload 4, 2) := dk_21 4 (dk_at dksX6_how_1 18 rfl rfl)
theorem dX6_how_42 : decode cX6_how 42 = .ok (.ishl, 1) := dk_120 (dk_at dksX6_how_1 20 rfl rfl)
theorem dX6_how_43 : decode cX6_how 43 = .ok (.ior, 1) := dk_128 (dk_at dksX6_how_1 21 rfl rfl)
theorem dX6_how_44 : decode cX6_how 44 = .ok (.istore_n 3, 1) := dk_62 (dk_at dksX6_how_1 22 rfl rfl)
theorem dX6_how_45 : decode cX6_how 45 = .ok (.goto 27, 3) := dk_167 0 27 (dk_at dksX6_how_2 0 rfl rfl)
theorem dX6_how_48 : decode cX6_how 48 = .ok (.iload_n 2, 1) := dk_28 (dk_at dksX6_how_2 3 rfl rfl)
theorem dX6_how_49 : decode cX6_how 49 = .ok (.aload_n 0, 1) := dk_42 (dk_at dksX6_how_2 4 rfl rfl)
theorem dX6_how_50 : decode cX6_how 50 = .ok (.aload_n 0, 1) := dk_42 (dk_at dksX6_how_2 5 rfl rfl)
theorem dX6_how_51 : decode cX6_how 51 = .ok (.getfield 26, 3) := dk_180 0 26 (dk_at dksX6_how_2 6 rfl rfl)
theorem dX6_how_54 : decode cX6_how 54 = .ok (.iload 4, 2) := dk_21 4 (dk_at dksX6_how_2 9 rfl rfl)
theorem dX6_how_56 : decode cX6_how 56 = .ok (.iaload, 1) := dk_46 (dk_at dksX6_how_2 11 rfl rfl)
theorem dX6_how_57 : decode cX6_how 57 = .ok (.iload 4, 2) := dk_21 4 (dk_at dksX6_how_2 12 rfl rfl)
theorem dX6_how_59 : decode cX6_how 59 = .ok (.invokevirtual 335, 3) := dk_182 1 79 (dk_at dksX6_how_2 14 rfl rfl)
theorem dX6_how_62 : decode cX6_how 62 = .ok (.ifCond .le 7, 3) := dk_158 0 7 (dk_at dksX6_how_2 17 rfl rfl)
theorem dX6_how_65 : decode cX6_how 65 = .ok (.iconst 1, 1) := dk_4 (dk_at dksX6_how_2 20 rfl rfl)
theorem dX6_how_66 : decode cX6_how 66 = .ok (.goto 4, 3) := dk_167 0 4 (dk_at dksX6_how_2 21 rfl rfl)
theorem dX6_how_69 : decode cX6_how 69 = .ok (.iconst 0, 1) := dk_3 (dk_at dksX6_how_3 0 rfl rfl)
theorem dX6_how_70 : decode cX6_how 70 = .ok (.iadd, 1) := dk_96 (dk_at dksX6_how_3 1 rfl rfl)
theorem dX6_how_71 : decode cX6_how 71 = .ok (.istore_n 2, 1) := dk_61 (dk_at dksX6_how_3 2 rfl rfl)
theorem dX6_how_72 : decode cX6_how 72 = .ok (.iinc 4 1, 3) := dk_132 4 1 (dk_at dksX6_how_3 3 rfl rfl)
theorem dX6_how_75 : decode cX6_how 75 = .ok (.goto (-56), 3) := dk_167 255 200 (dk_at dksX6_how_3 6 rfl rfl)
theorem dX6_how_78 : decode cX6_how 78 = .ok (.iload_n 1, 1) := dk_27 (dk_at dksX6_how_3 9 rfl rfl)
theorem dX6_how_79 : decode cX6_how 79 = .ok (.ifCond .ne 7, 3) := dk_154 0 7 (dk_at dksX6_how_3 10 rfl rfl)
theorem dX6_how_82 : decode cX6_how 82 = .ok (.iload_n 2, 1) := dk_28 (dk_at dksX6_how_3 13 rfl rfl)
theorem dX6_how_83 : decode cX6_how 83 = .ok (.goto 4, 3) := dk_167 0 4 (dk_at dksX6_how_3 14 rfl rfl)
theorem dX6_how_86 : decode cX6_how 86 = .ok (.iload_n 3, 1) := dk_29 (dk_at dksX6_how_3 17 rfl rfl)
theorem dX6_how_87 : decode cX6_how 87 = .ok (.ireturn, 1) := dk_172 (dk_at dksX6_how_3 18 rfl rfl)
abbrev cX6_see : ByteArray := prog_23_method_75_code
def yX6_see : MethodName := ⟨RX6, "see", "(II)I"⟩
def dkwX6_see_3 : List UInt8 := [180, 0, 141, 4, 96, 181, 0, 141, 42, 180, 0, 141, 172]
abbrev dktX6_see_3 : List UInt8 := dkwX6_see_3 ++ []
def dkwX6_see_2 : List UInt8 := [172, 42, 180, 0, 144, 42, 180, 0, 141, 27, 79, 42, 180, 0, 147, 42, 180, 0, 141, 28, 79, 42, 89]
abbrev dktX6_see_2 : List UInt8 := dkwX6_see_2 ++ dktX6_see_3
def dkwX6_see_1 : List UInt8 := [3, 17, 3, 231, 182, 0, 248, 154, 0, 6, 16, 254, 172, 42, 180, 0, 141, 16, 6, 160, 0, 6, 16, 252]
abbrev dktX6_see_1 : List UInt8 := dkwX6_see_1 ++ dktX6_see_2
def dkwX6_see_0 : List UInt8 := [27, 2, 160, 0, 10, 42, 3, 181, 0, 141, 3, 172, 42, 27, 182, 1, 0, 154, 0, 5, 2, 172, 42, 28]
abbrev dktX6_see_0 : List UInt8 := dkwX6_see_0 ++ dktX6_see_1
theorem dksX6_see_0 : cX6_see.data.toList.drop 0 = dktX6_see_0 := by decide +kernel
theorem dksX6_see_1 : cX6_see.data.toList.drop 24 = dktX6_see_1 := dk_seg dksX6_see_0 24 rfl rfl
theorem dksX6_see_2 : cX6_see.data.toList.drop 48 = dktX6_see_2 := dk_seg dksX6_see_1 24 rfl rfl
theorem dksX6_see_3 : cX6_see.data.toList.drop 71 = dktX6_see_3 := dk_seg dksX6_see_2 23 rfl rfl
theorem dX6_see_0 : decode cX6_see 0 = .ok (.iload_n 1, 1) := dk_27 (dk_at dksX6_see_0 0 rfl rfl)
theorem dX6_see_1 : decode cX6_see 1 = .ok (.iconst (-1), 1) := dk_2 (dk_at dksX6_see_0 1 rfl rfl)
theorem dX6_see_2 : decode cX6_see 2 = .ok (.if_icmp .ne 10, 3) := dk_160 0 10 (dk_at dksX6_see_0 2 rfl rfl)
theorem dX6_see_5 : decode cX6_see 5 = .ok (.aload_n 0, 1) := dk_42 (dk_at dksX6_see_0 5 rfl rfl)
theorem dX6_see_6 : decode cX6_see 6 = .ok (.iconst 0, 1) := dk_3 (dk_at dksX6_see_0 6 rfl rfl)
theorem dX6_see_7 : decode cX6_see 7 = .ok (.putfield 141, 3) := dk_181 0 141 (dk_at dksX6_see_0 7 rfl rfl)
theorem dX6_see_10 : decode cX6_see 10 = .ok (.iconst 0, 1) := dk_3 (dk_at dksX6_see_0 10 rfl rfl)
theorem dX6_see_11 : decode cX6_see 11 = .ok (.ireturn, 1) := dk_172 (dk_at dksX6_see_0 11 rfl rfl)
theorem dX6_see_12 : decode cX6_see 12 = .ok (.aload_n 0, 1) := dk_42 (dk_at dksX6_see_0 12 rfl rfl)
theorem dX6_see_13 : decode cX6_see 13 = .ok (.iload_n 1, 1) := dk_27 (dk_at dksX6_see_0 13 rfl rfl)
theorem dX6_see_14 : decode cX6_see 14 = .ok (.invokevirtual 256, 3) := dk_182 1 0 (dk_at dksX6_see_0 14 rfl rfl)
theorem dX6_see_17 : decode cX6_see 17 = .ok (.ifCond .ne 5, 3) := dk_154 0 5 (dk_at dksX6_see_0 17 rfl rfl)
theorem dX6_see_20 : decode cX6_see 20 = .ok (.iconst (-1), 1) := dk_2 (dk_at dksX6_see_0 20 rfl rfl)
theorem dX6_see_21 : decode cX6_see 21 = .ok (.ireturn, 1) := dk_172 (dk_at dksX6_see_0 21 rfl rfl)
theorem dX6_see_22 : decode cX6_see 22 = .ok (.aload_n 0, 1) := dk_42 (dk_at dksX6_see_0 22 rfl rfl)
theorem dX6_see_23 : decode cX6_see 23 = .ok (.iload_n 2, 1) := dk_28 (dk_at dksX6_see_0 23 rfl rfl)
theorem dX6_see_24 : decode cX6_see 24 = .ok (.iconst 0, 1) := dk_3 (dk_at dksX6_see_1 0 rfl rfl)
theorem dX6_see_25 : decode cX6_see 25 = .ok (.sipush 999, 3) := dk_17 3 231 (dk_at dksX6_see_1 1 rfl rfl)
theorem dX6_see_28 : decode cX6_see 28 = .ok (.invokevirtual 248, 3) := dk_182 0 248 (dk_at dksX6_see_1 4 rfl rfl)
theorem dX6_see_31 : decode cX6_see 31 = .ok (.ifCond .ne 6, 3) := dk_154 0 6 (dk_at dksX6_see_1 7 rfl rfl)
theorem dX6_see_34 : decode cX6_see 34 = .ok (.bipush (-2), 2) := dk_16 254 (dk_at dksX6_see_1 10 rfl rfl)
theorem dX6_see_36 : decode cX6_see 36 = .ok (.ireturn, 1) := dk_172 (dk_at dksX6_see_1 12 rfl rfl)
theorem dX6_see_37 : decode cX6_see 37 = .ok (.aload_n 0, 1) := dk_42 (dk_at dksX6_see_1 13 rfl rfl)
theorem dX6_see_38 : decode cX6_see 38 = .ok (.getfield 141, 3) := dk_180 0 141 (dk_at dksX6_see_1 14 rfl rfl)
theorem dX6_see_41 : decode cX6_see 41 = .ok (.bipush 6, 2) := dk_16 6 (dk_at dksX6_see_1 17 rfl rfl)
theorem dX6_see_43 : decode cX6_see 43 = .ok (.if_icmp .ne 6, 3) := dk_160 0 6 (dk_at dksX6_see_1 19 rfl rfl)
theorem dX6_see_46 : decode cX6_see 46 = .ok (.bipush (-4), 2) := dk_16 252 (dk_at dksX6_see_1 22 rfl rfl)
theorem dX6_see_48 : decode cX6_see 48 = .ok (.ireturn, 1) := dk_172 (dk_at dksX6_see_2 0 rfl rfl)
theorem dX6_see_49 : decode cX6_see 49 = .ok (.aload_n 0, 1) := dk_42 (dk_at dksX6_see_2 1 rfl rfl)
theorem dX6_see_50 : decode cX6_see 50 = .ok (.getfield 144, 3) := dk_180 0 144 (dk_at dksX6_see_2 2 rfl rfl)
theorem dX6_see_53 : decode cX6_see 53 = .ok (.aload_n 0, 1) := dk_42 (dk_at dksX6_see_2 5 rfl rfl)
theorem dX6_see_54 : decode cX6_see 54 = .ok (.getfield 141, 3) := dk_180 0 141 (dk_at dksX6_see_2 6 rfl rfl)
theorem dX6_see_57 : decode cX6_see 57 = .ok (.iload_n 1, 1) := dk_27 (dk_at dksX6_see_2 9 rfl rfl)
theorem dX6_see_58 : decode cX6_see 58 = .ok (.iastore, 1) := dk_79 (dk_at dksX6_see_2 10 rfl rfl)
theorem dX6_see_59 : decode cX6_see 59 = .ok (.aload_n 0, 1) := dk_42 (dk_at dksX6_see_2 11 rfl rfl)
theorem dX6_see_60 : decode cX6_see 60 = .ok (.getfield 147, 3) := dk_180 0 147 (dk_at dksX6_see_2 12 rfl rfl)
theorem dX6_see_63 : decode cX6_see 63 = .ok (.aload_n 0, 1) := dk_42 (dk_at dksX6_see_2 15 rfl rfl)
theorem dX6_see_64 : decode cX6_see 64 = .ok (.getfield 141, 3) := dk_180 0 141 (dk_at dksX6_see_2 16 rfl rfl)
theorem dX6_see_67 : decode cX6_see 67 = .ok (.iload_n 2, 1) := dk_28 (dk_at dksX6_see_2 19 rfl rfl)
theorem dX6_see_68 : decode cX6_see 68 = .ok (.iastore, 1) := dk_79 (dk_at dksX6_see_2 20 rfl rfl)
theorem dX6_see_69 : decode cX6_see 69 = .ok (.aload_n 0, 1) := dk_42 (dk_at dksX6_see_2 21 rfl rfl)
theorem dX6_see_70 : decode cX6_see 70 = .ok (.dup, 1) := dk_89 (dk_at dksX6_see_2 22 rfl rfl)
theorem dX6_see_71 : decode cX6_see 71 = .ok (.getfield 141, 3) := dk_180 0 141 (dk_at dksX6_see_3 0 rfl rfl)
theorem dX6_see_74 : decode cX6_see 74 = .ok (.iconst 1, 1) := dk_4 (dk_at dksX6_see_3 3 rfl rfl)
theorem dX6_see_75 : decode cX6_see 75 = .ok (.iadd, 1) := dk_96 (dk_at dksX6_see_3 4 rfl rfl)
theorem dX6_see_76 : decode cX6_see 76 = .ok (.putfield 141, 3) := dk_181 0 141 (dk_at dksX6_see_3 5 rfl rfl)
theorem dX6_see_79 : decode cX6_see 79 = .ok (.aload_n 0, 1) := dk_42 (dk_at dksX6_see_3 8 rfl rfl)
theorem dX6_see_80 : decode cX6_see 80 = .ok (.getfield 141, 3) := dk_180 0 141 (dk_at dksX6_see_3 9 rfl rfl)
theorem dX6_see_83 : decode cX6_see 83 = .ok (.ireturn, 1) := dk_172 (dk_at dksX6_see_3 12 rfl rfl)
abbrev cX6_wore : ByteArray := prog_23_method_77_code
def yX6_wore : MethodName := ⟨RX6, "wore", "(I)I"⟩
def dkwX6_wore_0 : List UInt8 := [42, 27, 182, 1, 0, 153, 0, 11, 42, 27, 182, 1, 142, 167, 0, 4, 2, 172]
abbrev dktX6_wore_0 : List UInt8 := dkwX6_wore_0 ++ []
theorem dksX6_wore_0 : cX6_wore.data.toList.drop 0 = dktX6_wore_0 := by decide +kernel
theorem dX6_wore_0 : decode cX6_wore 0 = .ok (.aload_n 0, 1) := dk_42 (dk_at dksX6_wore_0 0 rfl rfl)
theorem dX6_wore_1 : decode cX6_wore 1 = .ok (.iload_n 1, 1) := dk_27 (dk_at dksX6_wore_0 1 rfl rfl)
theorem dX6_wore_2 : decode cX6_wore 2 = .ok (.invokevirtual 256, 3) := dk_182 1 0 (dk_at dksX6_wore_0 2 rfl rfl)
theorem dX6_wore_5 : decode cX6_wore 5 = .ok (.ifCond .eq 11, 3) := dk_153 0 11 (dk_at dksX6_wore_0 5 rfl rfl)
theorem dX6_wore_8 : decode cX6_wore 8 = .ok (.aload_n 0, 1) := dk_42 (dk_at dksX6_wore_0 8 rfl rfl)
theorem dX6_wore_9 : decode cX6_wore 9 = .ok (.iload_n 1, 1) := dk_27 (dk_at dksX6_wore_0 9 rfl rfl)
theorem dX6_wore_10 : decode cX6_wore 10 = .ok (.invokevirtual 398, 3) := dk_182 1 142 (dk_at dksX6_wore_0 10 rfl rfl)
theorem dX6_wore_13 : decode cX6_wore 13 = .ok (.goto 4, 3) := dk_167 0 4 (dk_at dksX6_wore_0 13 rfl rfl)
theorem dX6_wore_16 : decode cX6_wore 16 = .ok (.iconst (-1), 1) := dk_2 (dk_at dksX6_wore_0 16 rfl rfl)
theorem dX6_wore_17 : decode cX6_wore 17 = .ok (.ireturn, 1) := dk_172 (dk_at dksX6_wore_0 17 rfl rfl)
abbrev cX6_woreOn : ByteArray := prog_23_method_76_code
def yX6_woreOn : MethodName := ⟨RX6, "woreOn", "(I)I"⟩
def dkwX6_woreOn_4 : List UInt8 := [167, 255, 166, 28, 172]
abbrev dktX6_woreOn_4 : List UInt8 := dkwX6_woreOn_4 ++ []
def dkwX6_woreOn_3 : List UInt8 := [132, 6, 1, 167, 255, 209, 28, 21, 5, 153, 0, 9, 4, 29, 120, 167, 0, 4, 3, 128, 61, 132, 3, 1]
abbrev dktX6_woreOn_3 : List UInt8 := dkwX6_woreOn_3 ++ dktX6_woreOn_4
def dkwX6_woreOn_2 : List UInt8 := [160, 0, 15, 42, 180, 0, 147, 21, 6, 46, 21, 4, 160, 0, 7, 4, 167, 0, 4, 3, 54, 5]
abbrev dktX6_woreOn_2 : List UInt8 := dkwX6_woreOn_2 ++ dktX6_woreOn_3
def dkwX6_woreOn_1 : List UInt8 := [54, 6, 21, 6, 42, 180, 0, 141, 162, 0, 44, 21, 5, 153, 0, 30, 42, 180, 0, 144, 21, 6, 46, 27]
abbrev dktX6_woreOn_1 : List UInt8 := dkwX6_woreOn_1 ++ dktX6_woreOn_2
def dkwX6_woreOn_0 : List UInt8 := [3, 61, 3, 62, 29, 42, 180, 0, 7, 162, 0, 88, 42, 27, 29, 182, 1, 85, 54, 4, 4, 54, 5, 3]
abbrev dktX6_woreOn_0 : List UInt8 := dkwX6_woreOn_0 ++ dktX6_woreOn_1
theorem dksX6_woreOn_0 : cX6_woreOn.data.toList.drop 0 = dktX6_woreOn_0 := by decide +kernel
theorem dksX6_woreOn_1 : cX6_woreOn.data.toList.drop 24 = dktX6_woreOn_1 := dk_seg dksX6_woreOn_0 24 rfl rfl
theorem dksX6_woreOn_2 : cX6_woreOn.data.toList.drop 48 = dktX6_woreOn_2 := dk_seg dksX6_woreOn_1 24 rfl rfl
theorem dksX6_woreOn_3 : cX6_woreOn.data.toList.drop 70 = dktX6_woreOn_3 := dk_seg dksX6_woreOn_2 22 rfl rfl
theorem dksX6_woreOn_4 : cX6_woreOn.data.toList.drop 94 = dktX6_woreOn_4 := dk_seg dksX6_woreOn_3 24 rfl rfl
theorem dX6_woreOn_0 : decode cX6_woreOn 0 = .ok (.iconst 0, 1) := dk_3 (dk_at dksX6_woreOn_0 0 rfl rfl)
theorem dX6_woreOn_1 : decode cX6_woreOn 1 = .ok (.istore_n 2, 1) := dk_61 (dk_at dksX6_woreOn_0 1 rfl rfl)
theorem dX6_woreOn_2 : decode cX6_woreOn 2 = .ok (.iconst 0, 1) := dk_3 (dk_at dksX6_woreOn_0 2 rfl rfl)
theorem dX6_woreOn_3 : decode cX6_woreOn 3 = .ok (.istore_n 3, 1) := dk_62 (dk_at dksX6_woreOn_0 3 rfl rfl)
theorem dX6_woreOn_4 : decode cX6_woreOn 4 = .ok (.iload_n 3, 1) := dk_29 (dk_at dksX6_woreOn_0 4 rfl rfl)
theorem dX6_woreOn_5 : decode cX6_woreOn 5 = .ok (.aload_n 0, 1) := dk_42 (dk_at dksX6_woreOn_0 5 rfl rfl)
theorem dX6_woreOn_6 : decode cX6_woreOn 6 = .ok (.getfield 7, 3) := dk_180 0 7 (dk_at dksX6_woreOn_0 6 rfl rfl)
theorem dX6_woreOn_9 : decode cX6_woreOn 9 = .ok (.if_icmp .ge 88, 3) := dk_162 0 88 (dk_at dksX6_woreOn_0 9 rfl rfl)
theorem dX6_woreOn_12 : decode cX6_woreOn 12 = .ok (.aload_n 0, 1) := dk_42 (dk_at dksX6_woreOn_0 12 rfl rfl)
theorem dX6_woreOn_13 : decode cX6_woreOn 13 = .ok (.iload_n 1, 1) := dk_27 (dk_at dksX6_woreOn_0 13 rfl rfl)
theorem dX6_woreOn_14 : decode cX6_woreOn 14 = .ok (.iload_n 3, 1) := dk_29 (dk_at dksX6_woreOn_0 14 rfl rfl)
theorem dX6_woreOn_15 : decode cX6_woreOn 15 = .ok (.invokevirtual 341, 3) := dk_182 1 85 (dk_at dksX6_woreOn_0 15 rfl rfl)
theorem dX6_woreOn_18 : decode cX6_woreOn 18 = .ok (.istore 4, 2) := dk_54 4 (dk_at dksX6_woreOn_0 18 rfl rfl)
theorem dX6_woreOn_20 : decode cX6_woreOn 20 = .ok (.iconst 1, 1) := dk_4 (dk_at dksX6_woreOn_0 20 rfl rfl)
theorem dX6_woreOn_21 : decode cX6_woreOn 21 = .ok (.istore 5, 2) := dk_54 5 (dk_at dksX6_woreOn_0 21 rfl rfl)
theorem dX6_woreOn_23 : decode cX6_woreOn 23 = .ok (.iconst 0, 1) := dk_3 (dk_at dksX6_woreOn_0 23 rfl rfl)
theorem dX6_woreOn_24 : decode cX6_woreOn 24 = .ok (.istore 6, 2) := dk_54 6 (dk_at dksX6_woreOn_1 0 rfl rfl)
theorem dX6_woreOn_26 : decode cX6_woreOn 26 = .ok (.iload 6, 2) := dk_21 6 (dk_at dksX6_woreOn_1 2 rfl rfl)
theorem dX6_woreOn_28 : decode cX6_woreOn 28 = .ok (.aload_n 0, 1) := dk_42 (dk_at dksX6_woreOn_1 4 rfl rfl)
theorem dX6_woreOn_29 : decode cX6_woreOn 29 = .ok (.getfield 141, 3) := dk_180 0 141 (dk_at dksX6_woreOn_1 5 rfl rfl)
theorem dX6_woreOn_32 : decode cX6_woreOn 32 = .ok (.if_icmp .ge 44, 3) := dk_162 0 44 (dk_at dksX6_woreOn_1 8 rfl rfl)
theorem dX6_woreOn_35 : decode cX6_woreOn 35 = .ok (.iload 5, 2) := dk_21 5 (dk_at dksX6_woreOn_1 11 rfl rfl)
theorem dX6_woreOn_37 : decode cX6_woreOn 37 = .ok (.ifCond .eq 30, 3) := dk_153 0 30 (dk_at dksX6_woreOn_1 13 rfl rfl)
theorem dX6_woreOn_40 : decode cX6_woreOn 40 = .ok (.aload_n 0, 1) := dk_42 (dk_at dksX6_woreOn_1 16 rfl rfl)
theorem dX6_woreOn_41 : decode cX6_woreOn 41 = .ok (.getfield 144, 3) := dk_180 0 144 (dk_at dksX6_woreOn_1 17 rfl rfl)
theorem dX6_woreOn_44 : decode cX6_woreOn 44 = .ok (.iload 6, 2) := dk_21 6 (dk_at dksX6_woreOn_1 20 rfl rfl)
theorem dX6_woreOn_46 : decode cX6_woreOn 46 = .ok (.iaload, 1) := dk_46 (dk_at dksX6_woreOn_1 22 rfl rfl)
theorem dX6_woreOn_47 : decode cX6_woreOn 47 = .ok (.iload_n 1, 1) := dk_27 (dk_at dksX6_woreOn_1 23 rfl rfl)
theorem dX6_woreOn_48 : decode cX6_woreOn 48 = .ok (.if_icmp .ne 15, 3) := dk_160 0 15 (dk_at dksX6_woreOn_2 0 rfl rfl)
theorem dX6_woreOn_51 : decode cX6_woreOn 51 = .ok (.aload_n 0, 1) := dk_42 (dk_at dksX6_woreOn_2 3 rfl rfl)
theorem dX6_woreOn_52 : decode cX6_woreOn 52 = .ok (.getfield 147, 3) := dk_180 0 147 (dk_at dksX6_woreOn_2 4 rfl rfl)
theorem dX6_woreOn_55 : decode cX6_woreOn 55 = .ok (.iload 6, 2) := dk_21 6 (dk_at dksX6_woreOn_2 7 rfl rfl)
theorem dX6_woreOn_57 : decode cX6_woreOn 57 = .ok (.iaload, 1) := dk_46 (dk_at dksX6_woreOn_2 9 rfl rfl)
theorem dX6_woreOn_58 : decode cX6_woreOn 58 = .ok (.iload 4, 2) := dk_21 4 (dk_at dksX6_woreOn_2 10 rfl rfl)
theorem dX6_woreOn_60 : decode cX6_woreOn 60 = .ok (.if_icmp .ne 7, 3) := dk_160 0 7 (dk_at dksX6_woreOn_2 12 rfl rfl)
theorem dX6_woreOn_63 : decode cX6_woreOn 63 = .ok (.iconst 1, 1) := dk_4 (dk_at dksX6_woreOn_2 15 rfl rfl)
theorem dX6_woreOn_64 : decode cX6_woreOn 64 = .ok (.goto 4, 3) := dk_167 0 4 (dk_at dksX6_woreOn_2 16 rfl rfl)
theorem dX6_woreOn_67 : decode cX6_woreOn 67 = .ok (.iconst 0, 1) := dk_3 (dk_at dksX6_woreOn_2 19 rfl rfl)
theorem dX6_woreOn_68 : decode cX6_woreOn 68 = .ok (.istore 5, 2) := dk_54 5 (dk_at dksX6_woreOn_2 20 rfl rfl)
theorem dX6_woreOn_70 : decode cX6_woreOn 70 = .ok (.iinc 6 1, 3) := dk_132 6 1 (dk_at dksX6_woreOn_3 0 rfl rfl)
theorem dX6_woreOn_73 : decode cX6_woreOn 73 = .ok (.goto (-47), 3) := dk_167 255 209 (dk_at dksX6_woreOn_3 3 rfl rfl)
theorem dX6_woreOn_76 : decode cX6_woreOn 76 = .ok (.iload_n 2, 1) := dk_28 (dk_at dksX6_woreOn_3 6 rfl rfl)
theorem dX6_woreOn_77 : decode cX6_woreOn 77 = .ok (.iload 5, 2) := dk_21 5 (dk_at dksX6_woreOn_3 7 rfl rfl)
theorem dX6_woreOn_79 : decode cX6_woreOn 79 = .ok (.ifCond .eq 9, 3) := dk_153 0 9 (dk_at dksX6_woreOn_3 9 rfl rfl)
theorem dX6_woreOn_82 : decode cX6_woreOn 82 = .ok (.iconst 1, 1) := dk_4 (dk_at dksX6_woreOn_3 12 rfl rfl)
theorem dX6_woreOn_83 : decode cX6_woreOn 83 = .ok (.iload_n 3, 1) := dk_29 (dk_at dksX6_woreOn_3 13 rfl rfl)
theorem dX6_woreOn_84 : decode cX6_woreOn 84 = .ok (.ishl, 1) := dk_120 (dk_at dksX6_woreOn_3 14 rfl rfl)
theorem dX6_woreOn_85 : decode cX6_woreOn 85 = .ok (.goto 4, 3) := dk_167 0 4 (dk_at dksX6_woreOn_3 15 rfl rfl)
theorem dX6_woreOn_88 : decode cX6_woreOn 88 = .ok (.iconst 0, 1) := dk_3 (dk_at dksX6_woreOn_3 18 rfl rfl)
theorem dX6_woreOn_89 : decode cX6_woreOn 89 = .ok (.ior, 1) := dk_128 (dk_at dksX6_woreOn_3 19 rfl rfl)
theorem dX6_woreOn_90 : decode cX6_woreOn 90 = .ok (.istore_n 2, 1) := dk_61 (dk_at dksX6_woreOn_3 20 rfl rfl)
theorem dX6_woreOn_91 : decode cX6_woreOn 91 = .ok (.iinc 3 1, 3) := dk_132 3 1 (dk_at dksX6_woreOn_3 21 rfl rfl)
theorem dX6_woreOn_94 : decode cX6_woreOn 94 = .ok (.goto (-90), 3) := dk_167 255 166 (dk_at dksX6_woreOn_4 0 rfl rfl)
theorem dX6_woreOn_97 : decode cX6_woreOn 97 = .ok (.iload_n 2, 1) := dk_28 (dk_at dksX6_woreOn_4 3 rfl rfl)
theorem dX6_woreOn_98 : decode cX6_woreOn 98 = .ok (.ireturn, 1) := dk_172 (dk_at dksX6_woreOn_4 4 rfl rfl)
abbrev cX6_who : ByteArray := prog_23_method_78_code
def yX6_who : MethodName := ⟨RX6, "who", "()I"⟩
def dkwX6_who_9 : List UInt8 := [167, 255, 238, 27, 172]
abbrev dktX6_who_9 : List UInt8 := dkwX6_who_9 ++ []
def dkwX6_who_8 : List UInt8 := [3, 60, 3, 61, 28, 16, 64, 162, 0, 18, 27, 42, 180, 0, 150, 28, 46, 96, 60, 132, 2, 1]
abbrev dktX6_who_8 : List UInt8 := dkwX6_who_8 ++ dktX6_who_9
def dkwX6_who_7 : List UInt8 := [167, 255, 200, 42, 180, 0, 150, 21, 4, 21, 5, 79, 132, 4, 255, 167, 255, 174, 132, 1, 1, 167, 255, 105]
abbrev dktX6_who_7 : List UInt8 := dkwX6_who_7 ++ dktX6_who_8
def dkwX6_who_6 : List UInt8 := [180, 0, 150, 21, 4, 4, 21, 6, 120, 2, 130, 126, 46, 167, 0, 4, 3, 96, 54, 5, 132, 6, 1]
abbrev dktX6_who_6 : List UInt8 := dkwX6_who_6 ++ dktX6_who_7
def dkwX6_who_5 : List UInt8 := [42, 21, 4, 21, 6, 182, 1, 112, 153, 0, 30, 42, 29, 21, 6, 182, 1, 112, 153, 0, 20, 42]
abbrev dktX6_who_5 : List UInt8 := dkwX6_who_5 ++ dktX6_who_6
def dkwX6_who_4 : List UInt8 := [54, 4, 21, 4, 155, 0, 83, 3, 54, 5, 3, 54, 6, 21, 6, 42, 180, 0, 7, 162, 0, 53, 21, 5]
abbrev dktX6_who_4 : List UInt8 := dkwX6_who_4 ++ dktX6_who_5
def dkwX6_who_3 : List UInt8 := [3, 61, 132, 3, 1, 167, 255, 225, 28, 154, 0, 6, 167, 0, 98, 42, 27, 182, 1, 142, 62, 16, 63]
abbrev dktX6_who_3 : List UInt8 := dkwX6_who_3 ++ dktX6_who_4
def dkwX6_who_2 : List UInt8 := [180, 0, 141, 162, 0, 29, 28, 154, 0, 13, 42, 180, 0, 144, 29, 46, 27, 160, 0, 7, 4, 167, 0, 4]
abbrev dktX6_who_2 : List UInt8 := dkwX6_who_2 ++ dktX6_who_3
def dkwX6_who_1 : List UInt8 := [132, 1, 1, 167, 255, 232, 3, 60, 27, 42, 180, 0, 13, 162, 0, 149, 3, 61, 3, 62, 29, 42]
abbrev dktX6_who_1 : List UInt8 := dkwX6_who_1 ++ dktX6_who_2
def dkwX6_who_0 : List UInt8 := [3, 60, 27, 16, 64, 162, 0, 24, 42, 180, 0, 150, 27, 27, 154, 0, 7, 4, 167, 0, 4, 3, 79]
abbrev dktX6_who_0 : List UInt8 := dkwX6_who_0 ++ dktX6_who_1
theorem dksX6_who_0 : cX6_who.data.toList.drop 0 = dktX6_who_0 := by decide +kernel
theorem dksX6_who_1 : cX6_who.data.toList.drop 23 = dktX6_who_1 := dk_seg dksX6_who_0 23 rfl rfl
theorem dksX6_who_2 : cX6_who.data.toList.drop 45 = dktX6_who_2 := dk_seg dksX6_who_1 22 rfl rfl
theorem dksX6_who_3 : cX6_who.data.toList.drop 69 = dktX6_who_3 := dk_seg dksX6_who_2 24 rfl rfl
theorem dksX6_who_4 : cX6_who.data.toList.drop 92 = dktX6_who_4 := dk_seg dksX6_who_3 23 rfl rfl
theorem dksX6_who_5 : cX6_who.data.toList.drop 116 = dktX6_who_5 := dk_seg dksX6_who_4 24 rfl rfl
theorem dksX6_who_6 : cX6_who.data.toList.drop 138 = dktX6_who_6 := dk_seg dksX6_who_5 22 rfl rfl
theorem dksX6_who_7 : cX6_who.data.toList.drop 161 = dktX6_who_7 := dk_seg dksX6_who_6 23 rfl rfl
theorem dksX6_who_8 : cX6_who.data.toList.drop 185 = dktX6_who_8 := dk_seg dksX6_who_7 24 rfl rfl
theorem dksX6_who_9 : cX6_who.data.toList.drop 207 = dktX6_who_9 := dk_seg dksX6_who_8 22 rfl rfl
theorem dX6_who_0 : decode cX6_who 0 = .ok (.iconst 0, 1) := dk_3 (dk_at dksX6_who_0 0 rfl rfl)
theorem dX6_who_1 : decode cX6_who 1 = .ok (.istore_n 1, 1) := dk_60 (dk_at dksX6_who_0 1 rfl rfl)
theorem dX6_who_2 : decode cX6_who 2 = .ok (.iload_n 1, 1) := dk_27 (dk_at dksX6_who_0 2 rfl rfl)
theorem dX6_who_3 : decode cX6_who 3 = .ok (.bipush 64, 2) := dk_16 64 (dk_at dksX6_who_0 3 rfl rfl)
theorem dX6_who_5 : decode cX6_who 5 = .ok (.if_icmp .ge 24, 3) := dk_162 0 24 (dk_at dksX6_who_0 5 rfl rfl)
theorem dX6_who_8 : decode cX6_who 8 = .ok (.aload_n 0, 1) := dk_42 (dk_at dksX6_who_0 8 rfl rfl)
theorem dX6_who_9 : decode cX6_who 9 = .ok (.getfield 150, 3) := dk_180 0 150 (dk_at dksX6_who_0 9 rfl rfl)
theorem dX6_who_12 : decode cX6_who 12 = .ok (.iload_n 1, 1) := dk_27 (dk_at dksX6_who_0 12 rfl rfl)
theorem dX6_who_13 : decode cX6_who 13 = .ok (.iload_n 1, 1) := dk_27 (dk_at dksX6_who_0 13 rfl rfl)
theorem dX6_who_14 : decode cX6_who 14 = .ok (.ifCond .ne 7, 3) := dk_154 0 7 (dk_at dksX6_who_0 14 rfl rfl)
theorem dX6_who_17 : decode cX6_who 17 = .ok (.iconst 1, 1) := dk_4 (dk_at dksX6_who_0 17 rfl rfl)
theorem dX6_who_18 : decode cX6_who 18 = .ok (.goto 4, 3) := dk_167 0 4 (dk_at dksX6_who_0 18 rfl rfl)
theorem dX6_who_21 : decode cX6_who 21 = .ok (.iconst 0, 1) := dk_3 (dk_at dksX6_who_0 21 rfl rfl)
theorem dX6_who_22 : decode cX6_who 22 = .ok (.iastore, 1) := dk_79 (dk_at dksX6_who_0 22 rfl rfl)
theorem dX6_who_23 : decode cX6_who 23 = .ok (.iinc 1 1, 3) := dk_132 1 1 (dk_at dksX6_who_1 0 rfl rfl)
theorem dX6_who_26 : decode cX6_who 26 = .ok (.goto (-24), 3) := dk_167 255 232 (dk_at dksX6_who_1 3 rfl rfl)
theorem dX6_who_29 : decode cX6_who 29 = .ok (.iconst 0, 1) := dk_3 (dk_at dksX6_who_1 6 rfl rfl)
theorem dX6_who_30 : decode cX6_who 30 = .ok (.istore_n 1, 1) := dk_60 (dk_at dksX6_who_1 7 rfl rfl)
theorem dX6_who_31 : decode cX6_who 31 = .ok (.iload_n 1, 1) := dk_27 (dk_at dksX6_who_1 8 rfl rfl)
theorem dX6_who_32 : decode cX6_who 32 = .ok (.aload_n 0, 1) := dk_42 (dk_at dksX6_who_1 9 rfl rfl)
theorem dX6_who_33 : decode cX6_who 33 = .ok (.getfield 13, 3) := dk_180 0 13 (dk_at dksX6_who_1 10 rfl rfl)
theorem dX6_who_36 : decode cX6_who 36 = .ok (.if_icmp .ge 149, 3) := dk_162 0 149 (dk_at dksX6_who_1 13 rfl rfl)
theorem dX6_who_39 : decode cX6_who 39 = .ok (.iconst 0, 1) := dk_3 (dk_at dksX6_who_1 16 rfl rfl)
theorem dX6_who_40 : decode cX6_who 40 = .ok (.istore_n 2, 1) := dk_61 (dk_at dksX6_who_1 17 rfl rfl)
theorem dX6_who_41 : decode cX6_who 41 = .ok (.iconst 0, 1) := dk_3 (dk_at dksX6_who_1 18 rfl rfl)
theorem dX6_who_42 : decode cX6_who 42 = .ok (.istore_n 3, 1) := dk_62 (dk_at dksX6_who_1 19 rfl rfl)
theorem dX6_who_43 : decode cX6_who 43 = .ok (.iload_n 3, 1) := dk_29 (dk_at dksX6_who_1 20 rfl rfl)
theorem dX6_who_44 : decode cX6_who 44 = .ok (.aload_n 0, 1) := dk_42 (dk_at dksX6_who_1 21 rfl rfl)
theorem dX6_who_45 : decode cX6_who 45 = .ok (.getfield 141, 3) := dk_180 0 141 (dk_at dksX6_who_2 0 rfl rfl)
theorem dX6_who_48 : decode cX6_who 48 = .ok (.if_icmp .ge 29, 3) := dk_162 0 29 (dk_at dksX6_who_2 3 rfl rfl)
theorem dX6_who_51 : decode cX6_who 51 = .ok (.iload_n 2, 1) := dk_28 (dk_at dksX6_who_2 6 rfl rfl)
theorem dX6_who_52 : decode cX6_who 52 = .ok (.ifCond .ne 13, 3) := dk_154 0 13 (dk_at dksX6_who_2 7 rfl rfl)
theorem dX6_who_55 : decode cX6_who 55 = .ok (.aload_n 0, 1) := dk_42 (dk_at dksX6_who_2 10 rfl rfl)
theorem dX6_who_56 : decode cX6_who 56 = .ok (.getfield 144, 3) := dk_180 0 144 (dk_at dksX6_who_2 11 rfl rfl)
theorem dX6_who_59 : decode cX6_who 59 = .ok (.iload_n 3, 1) := dk_29 (dk_at dksX6_who_2 14 rfl rfl)
theorem dX6_who_60 : decode cX6_who 60 = .ok (.iaload, 1) := dk_46 (dk_at dksX6_who_2 15 rfl rfl)
theorem dX6_who_61 : decode cX6_who 61 = .ok (.iload_n 1, 1) := dk_27 (dk_at dksX6_who_2 16 rfl rfl)
theorem dX6_who_62 : decode cX6_who 62 = .ok (.if_icmp .ne 7, 3) := dk_160 0 7 (dk_at dksX6_who_2 17 rfl rfl)
theorem dX6_who_65 : decode cX6_who 65 = .ok (.iconst 1, 1) := dk_4 (dk_at dksX6_who_2 20 rfl rfl)
theorem dX6_who_66 : decode cX6_who 66 = .ok (.goto 4, 3) := dk_167 0 4 (dk_at dksX6_who_2 21 rfl rfl)
theorem dX6_who_69 : decode cX6_who 69 = .ok (.iconst 0, 1) := dk_3 (dk_at dksX6_who_3 0 rfl rfl)
theorem dX6_who_70 : decode cX6_who 70 = .ok (.istore_n 2, 1) := dk_61 (dk_at dksX6_who_3 1 rfl rfl)
theorem dX6_who_71 : decode cX6_who 71 = .ok (.iinc 3 1, 3) := dk_132 3 1 (dk_at dksX6_who_3 2 rfl rfl)
theorem dX6_who_74 : decode cX6_who 74 = .ok (.goto (-31), 3) := dk_167 255 225 (dk_at dksX6_who_3 5 rfl rfl)
theorem dX6_who_77 : decode cX6_who 77 = .ok (.iload_n 2, 1) := dk_28 (dk_at dksX6_who_3 8 rfl rfl)
theorem dX6_who_78 : decode cX6_who 78 = .ok (.ifCond .ne 6, 3) := dk_154 0 6 (dk_at dksX6_who_3 9 rfl rfl)
theorem dX6_who_81 : decode cX6_who 81 = .ok (.goto 98, 3) := dk_167 0 98 (dk_at dksX6_who_3 12 rfl rfl)
theorem dX6_who_84 : decode cX6_who 84 = .ok (.aload_n 0, 1) := dk_42 (dk_at dksX6_who_3 15 rfl rfl)
theorem dX6_who_85 : decode cX6_who 85 = .ok (.iload_n 1, 1) := dk_27 (dk_at dksX6_who_3 16 rfl rfl)
theorem dX6_who_86 : decode cX6_who 86 = .ok (.invokevirtual 398, 3) := dk_182 1 142 (dk_at dksX6_who_3 17 rfl rfl)
theorem dX6_who_89 : decode cX6_who 89 = .ok (.istore_n 3, 1) := dk_62 (dk_at dksX6_who_3 20 rfl rfl)
theorem dX6_who_90 : decode cX6_who 90 = .ok (.bipush 63, 2) := dk_16 63 (dk_at dksX6_who_3 21 rfl rfl)
theorem dX6_who_92 : decode cX6_who 92 = .ok (.istore 4, 2) := dk_54 4 (dk_at dksX6_who_4 0 rfl rfl)
theorem dX6_who_94 : decode cX6_who 94 = .ok (.iload 4, 2) := dk_21 4 (dk_at dksX6_who_4 2 rfl rfl)
theorem dX6_who_96 : decode cX6_who 96 = .ok (.ifCond .lt 83, 3) := dk_155 0 83 (dk_at dksX6_who_4 4 rfl rfl)
theorem dX6_who_99 : decode cX6_who 99 = .ok (.iconst 0, 1) := dk_3 (dk_at dksX6_who_4 7 rfl rfl)
theorem dX6_who_100 : decode cX6_who 100 = .ok (.istore 5, 2) := dk_54 5 (dk_at dksX6_who_4 8 rfl rfl)
theorem dX6_who_102 : decode cX6_who 102 = .ok (.iconst 0, 1) := dk_3 (dk_at dksX6_who_4 10 rfl rfl)
theorem dX6_who_103 : decode cX6_who 103 = .ok (.istore 6, 2) := dk_54 6 (dk_at dksX6_who_4 11 rfl rfl)
theorem dX6_who_105 : decode cX6_who 105 = .ok (.iload 6, 2) := dk_21 6 (dk_at dksX6_who_4 13 rfl rfl)
theorem dX6_who_107 : decode cX6_who 107 = .ok (.aload_n 0, 1) := dk_42 (dk_at dksX6_who_4 15 rfl rfl)
theorem dX6_who_108 : decode cX6_who 108 = .ok (.getfield 7, 3) := dk_180 0 7 (dk_at dksX6_who_4 16 rfl rfl)
theorem dX6_who_111 : decode cX6_who 111 = .ok (.if_icmp .ge 53, 3) := dk_162 0 53 (dk_at dksX6_who_4 19 rfl rfl)
theorem dX6_who_114 : decode cX6_who 114 = .ok (.iload 5, 2) := dk_21 5 (dk_at dksX6_who_4 22 rfl rfl)
theorem dX6_who_116 : decode cX6_who 116 = .ok (.aload_n 0, 1) := dk_42 (dk_at dksX6_who_5 0 rfl rfl)
theorem dX6_who_117 : decode cX6_who 117 = .ok (.iload 4, 2) := dk_21 4 (dk_at dksX6_who_5 1 rfl rfl)
theorem dX6_who_119 : decode cX6_who 119 = .ok (.iload 6, 2) := dk_21 6 (dk_at dksX6_who_5 3 rfl rfl)
theorem dX6_who_121 : decode cX6_who 121 = .ok (.invokevirtual 368, 3) := dk_182 1 112 (dk_at dksX6_who_5 5 rfl rfl)
theorem dX6_who_124 : decode cX6_who 124 = .ok (.ifCond .eq 30, 3) := dk_153 0 30 (dk_at dksX6_who_5 8 rfl rfl)
theorem dX6_who_127 : decode cX6_who 127 = .ok (.aload_n 0, 1) := dk_42 (dk_at dksX6_who_5 11 rfl rfl)
theorem dX6_who_128 : decode cX6_who 128 = .ok (.iload_n 3, 1) := dk_29 (dk_at dksX6_who_5 12 rfl rfl)
theorem dX6_who_129 : decode cX6_who 129 = .ok (.iload 6, 2) := dk_21 6 (dk_at dksX6_who_5 13 rfl rfl)
theorem dX6_who_131 : decode cX6_who 131 = .ok (.invokevirtual 368, 3) := dk_182 1 112 (dk_at dksX6_who_5 15 rfl rfl)
theorem dX6_who_134 : decode cX6_who 134 = .ok (.ifCond .eq 20, 3) := dk_153 0 20 (dk_at dksX6_who_5 18 rfl rfl)
theorem dX6_who_137 : decode cX6_who 137 = .ok (.aload_n 0, 1) := dk_42 (dk_at dksX6_who_5 21 rfl rfl)
theorem dX6_who_138 : decode cX6_who 138 = .ok (.getfield 150, 3) := dk_180 0 150 (dk_at dksX6_who_6 0 rfl rfl)
theorem dX6_who_141 : decode cX6_who 141 = .ok (.iload 4, 2) := dk_21 4 (dk_at dksX6_who_6 3 rfl rfl)
theorem dX6_who_143 : decode cX6_who 143 = .ok (.iconst 1, 1) := dk_4 (dk_at dksX6_who_6 5 rfl rfl)
theorem dX6_who_144 : decode cX6_who 144 = .ok (.iload 6, 2) := dk_21 6 (dk_at dksX6_who_6 6 rfl rfl)
theorem dX6_who_146 : decode cX6_who 146 = .ok (.ishl, 1) := dk_120 (dk_at dksX6_who_6 8 rfl rfl)
theorem dX6_who_147 : decode cX6_who 147 = .ok (.iconst (-1), 1) := dk_2 (dk_at dksX6_who_6 9 rfl rfl)
theorem dX6_who_148 : decode cX6_who 148 = .ok (.ixor, 1) := dk_130 (dk_at dksX6_who_6 10 rfl rfl)
theorem dX6_who_149 : decode cX6_who 149 = .ok (.iand, 1) := dk_126 (dk_at dksX6_who_6 11 rfl rfl)
theorem dX6_who_150 : decode cX6_who 150 = .ok (.iaload, 1) := dk_46 (dk_at dksX6_who_6 12 rfl rfl)
theorem dX6_who_151 : decode cX6_who 151 = .ok (.goto 4, 3) := dk_167 0 4 (dk_at dksX6_who_6 13 rfl rfl)
theorem dX6_who_154 : decode cX6_who 154 = .ok (.iconst 0, 1) := dk_3 (dk_at dksX6_who_6 16 rfl rfl)
theorem dX6_who_155 : decode cX6_who 155 = .ok (.iadd, 1) := dk_96 (dk_at dksX6_who_6 17 rfl rfl)
theorem dX6_who_156 : decode cX6_who 156 = .ok (.istore 5, 2) := dk_54 5 (dk_at dksX6_who_6 18 rfl rfl)
theorem dX6_who_158 : decode cX6_who 158 = .ok (.iinc 6 1, 3) := dk_132 6 1 (dk_at dksX6_who_6 20 rfl rfl)
theorem dX6_who_161 : decode cX6_who 161 = .ok (.goto (-56), 3) := dk_167 255 200 (dk_at dksX6_who_7 0 rfl rfl)
theorem dX6_who_164 : decode cX6_who 164 = .ok (.aload_n 0, 1) := dk_42 (dk_at dksX6_who_7 3 rfl rfl)
theorem dX6_who_165 : decode cX6_who 165 = .ok (.getfield 150, 3) := dk_180 0 150 (dk_at dksX6_who_7 4 rfl rfl)
theorem dX6_who_168 : decode cX6_who 168 = .ok (.iload 4, 2) := dk_21 4 (dk_at dksX6_who_7 7 rfl rfl)
theorem dX6_who_170 : decode cX6_who 170 = .ok (.iload 5, 2) := dk_21 5 (dk_at dksX6_who_7 9 rfl rfl)
theorem dX6_who_172 : decode cX6_who 172 = .ok (.iastore, 1) := dk_79 (dk_at dksX6_who_7 11 rfl rfl)
theorem dX6_who_173 : decode cX6_who 173 = .ok (.iinc 4 (-1), 3) := dk_132 4 255 (dk_at dksX6_who_7 12 rfl rfl)
theorem dX6_who_176 : decode cX6_who 176 = .ok (.goto (-82), 3) := dk_167 255 174 (dk_at dksX6_who_7 15 rfl rfl)
theorem dX6_who_179 : decode cX6_who 179 = .ok (.iinc 1 1, 3) := dk_132 1 1 (dk_at dksX6_who_7 18 rfl rfl)
theorem dX6_who_182 : decode cX6_who 182 = .ok (.goto (-151), 3) := dk_167 255 105 (dk_at dksX6_who_7 21 rfl rfl)
theorem dX6_who_185 : decode cX6_who 185 = .ok (.iconst 0, 1) := dk_3 (dk_at dksX6_who_8 0 rfl rfl)
theorem dX6_who_186 : decode cX6_who 186 = .ok (.istore_n 1, 1) := dk_60 (dk_at dksX6_who_8 1 rfl rfl)
theorem dX6_who_187 : decode cX6_who 187 = .ok (.iconst 0, 1) := dk_3 (dk_at dksX6_who_8 2 rfl rfl)
theorem dX6_who_188 : decode cX6_who 188 = .ok (.istore_n 2, 1) := dk_61 (dk_at dksX6_who_8 3 rfl rfl)
theorem dX6_who_189 : decode cX6_who 189 = .ok (.iload_n 2, 1) := dk_28 (dk_at dksX6_who_8 4 rfl rfl)
theorem dX6_who_190 : decode cX6_who 190 = .ok (.bipush 64, 2) := dk_16 64 (dk_at dksX6_who_8 5 rfl rfl)
theorem dX6_who_192 : decode cX6_who 192 = .ok (.if_icmp .ge 18, 3) := dk_162 0 18 (dk_at dksX6_who_8 7 rfl rfl)
theorem dX6_who_195 : decode cX6_who 195 = .ok (.iload_n 1, 1) := dk_27 (dk_at dksX6_who_8 10 rfl rfl)
theorem dX6_who_196 : decode cX6_who 196 = .ok (.aload_n 0, 1) := dk_42 (dk_at dksX6_who_8 11 rfl rfl)
theorem dX6_who_197 : decode cX6_who 197 = .ok (.getfield 150, 3) := dk_180 0 150 (dk_at dksX6_who_8 12 rfl rfl)
theorem dX6_who_200 : decode cX6_who 200 = .ok (.iload_n 2, 1) := dk_28 (dk_at dksX6_who_8 15 rfl rfl)
theorem dX6_who_201 : decode cX6_who 201 = .ok (.iaload, 1) := dk_46 (dk_at dksX6_who_8 16 rfl rfl)
theorem dX6_who_202 : decode cX6_who 202 = .ok (.iadd, 1) := dk_96 (dk_at dksX6_who_8 17 rfl rfl)
theorem dX6_who_203 : decode cX6_who 203 = .ok (.istore_n 1, 1) := dk_60 (dk_at dksX6_who_8 18 rfl rfl)
theorem dX6_who_204 : decode cX6_who 204 = .ok (.iinc 2 1, 3) := dk_132 2 1 (dk_at dksX6_who_8 19 rfl rfl)
theorem dX6_who_207 : decode cX6_who 207 = .ok (.goto (-18), 3) := dk_167 255 238 (dk_at dksX6_who_9 0 rfl rfl)
theorem dX6_who_210 : decode cX6_who 210 = .ok (.iload_n 1, 1) := dk_27 (dk_at dksX6_who_9 3 rfl rfl)
theorem dX6_who_211 : decode cX6_who 211 = .ok (.ireturn, 1) := dk_172 (dk_at dksX6_who_9 4 rfl rfl)
abbrev cX6_odds : ByteArray := prog_23_method_81_code
def yX6_odds : MethodName := ⟨RX6, "odds", "(II)J"⟩
def dkwX6_odds_4 : List UInt8 := [180, 0, 7, 28, 182, 1, 150, 173]
abbrev dktX6_odds_4 : List UInt8 := dkwX6_odds_4 ++ []
def dkwX6_odds_3 : List UInt8 := [161, 0, 7, 4, 167, 0, 4, 3, 96, 62, 42, 182, 1, 109, 132, 4, 1, 167, 255, 207, 42, 29, 42]
abbrev dktX6_odds_3 : List UInt8 := dkwX6_odds_3 ++ dktX6_odds_4
def dkwX6_odds_2 : List UInt8 := [182, 1, 106, 42, 21, 4, 182, 1, 98, 54, 5, 29, 42, 27, 182, 1, 91, 42, 27, 182, 1, 88]
abbrev dktX6_odds_2 : List UInt8 := dkwX6_odds_2 ++ dktX6_odds_3
def dkwX6_odds_1 : List UInt8 := [154, 0, 7, 20, 1, 148, 173, 3, 62, 3, 54, 4, 21, 4, 42, 180, 0, 7, 162, 0, 46, 42]
abbrev dktX6_odds_1 : List UInt8 := dkwX6_odds_1 ++ dktX6_odds_2
def dkwX6_odds_0 : List UInt8 := [42, 27, 182, 0, 252, 153, 0, 20, 42, 28, 3, 4, 182, 0, 248, 153, 0, 10, 42, 180, 0, 7]
abbrev dktX6_odds_0 : List UInt8 := dkwX6_odds_0 ++ dktX6_odds_1
theorem dksX6_odds_0 : cX6_odds.data.toList.drop 0 = dktX6_odds_0 := by decide +kernel
theorem dksX6_odds_1 : cX6_odds.data.toList.drop 22 = dktX6_odds_1 := dk_seg dksX6_odds_0 22 rfl rfl
theorem dksX6_odds_2 : cX6_odds.data.toList.drop 44 = dktX6_odds_2 := dk_seg dksX6_odds_1 22 rfl rfl
theorem dksX6_odds_3 : cX6_odds.data.toList.drop 66 = dktX6_odds_3 := dk_seg dksX6_odds_2 22 rfl rfl
theorem dksX6_odds_4 : cX6_odds.data.toList.drop 89 = dktX6_odds_4 := dk_seg dksX6_odds_3 23 rfl rfl
theorem dX6_odds_0 : decode cX6_odds 0 = .ok (.aload_n 0, 1) := dk_42 (dk_at dksX6_odds_0 0 rfl rfl)
theorem dX6_odds_1 : decode cX6_odds 1 = .ok (.iload_n 1, 1) := dk_27 (dk_at dksX6_odds_0 1 rfl rfl)
theorem dX6_odds_2 : decode cX6_odds 2 = .ok (.invokevirtual 252, 3) := dk_182 0 252 (dk_at dksX6_odds_0 2 rfl rfl)
theorem dX6_odds_5 : decode cX6_odds 5 = .ok (.ifCond .eq 20, 3) := dk_153 0 20 (dk_at dksX6_odds_0 5 rfl rfl)
theorem dX6_odds_8 : decode cX6_odds 8 = .ok (.aload_n 0, 1) := dk_42 (dk_at dksX6_odds_0 8 rfl rfl)
theorem dX6_odds_9 : decode cX6_odds 9 = .ok (.iload_n 2, 1) := dk_28 (dk_at dksX6_odds_0 9 rfl rfl)
theorem dX6_odds_10 : decode cX6_odds 10 = .ok (.iconst 0, 1) := dk_3 (dk_at dksX6_odds_0 10 rfl rfl)
theorem dX6_odds_11 : decode cX6_odds 11 = .ok (.iconst 1, 1) := dk_4 (dk_at dksX6_odds_0 11 rfl rfl)
theorem dX6_odds_12 : decode cX6_odds 12 = .ok (.invokevirtual 248, 3) := dk_182 0 248 (dk_at dksX6_odds_0 12 rfl rfl)
theorem dX6_odds_15 : decode cX6_odds 15 = .ok (.ifCond .eq 10, 3) := dk_153 0 10 (dk_at dksX6_odds_0 15 rfl rfl)
theorem dX6_odds_18 : decode cX6_odds 18 = .ok (.aload_n 0, 1) := dk_42 (dk_at dksX6_odds_0 18 rfl rfl)
theorem dX6_odds_19 : decode cX6_odds 19 = .ok (.getfield 7, 3) := dk_180 0 7 (dk_at dksX6_odds_0 19 rfl rfl)
theorem dX6_odds_22 : decode cX6_odds 22 = .ok (.ifCond .ne 7, 3) := dk_154 0 7 (dk_at dksX6_odds_1 0 rfl rfl)
theorem dX6_odds_25 : decode cX6_odds 25 = .ok (.ldc2_w 404, 3) := dk_20 1 148 (dk_at dksX6_odds_1 3 rfl rfl)
theorem dX6_odds_28 : decode cX6_odds 28 = .ok (.lreturn, 1) := dk_173 (dk_at dksX6_odds_1 6 rfl rfl)
theorem dX6_odds_29 : decode cX6_odds 29 = .ok (.iconst 0, 1) := dk_3 (dk_at dksX6_odds_1 7 rfl rfl)
theorem dX6_odds_30 : decode cX6_odds 30 = .ok (.istore_n 3, 1) := dk_62 (dk_at dksX6_odds_1 8 rfl rfl)
theorem dX6_odds_31 : decode cX6_odds 31 = .ok (.iconst 0, 1) := dk_3 (dk_at dksX6_odds_1 9 rfl rfl)
theorem dX6_odds_32 : decode cX6_odds 32 = .ok (.istore 4, 2) := dk_54 4 (dk_at dksX6_odds_1 10 rfl rfl)
theorem dX6_odds_34 : decode cX6_odds 34 = .ok (.iload 4, 2) := dk_21 4 (dk_at dksX6_odds_1 12 rfl rfl)
theorem dX6_odds_36 : decode cX6_odds 36 = .ok (.aload_n 0, 1) := dk_42 (dk_at dksX6_odds_1 14 rfl rfl)
theorem dX6_odds_37 : decode cX6_odds 37 = .ok (.getfield 7, 3) := dk_180 0 7 (dk_at dksX6_odds_1 15 rfl rfl)
theorem dX6_odds_40 : decode cX6_odds 40 = .ok (.if_icmp .ge 46, 3) := dk_162 0 46 (dk_at dksX6_odds_1 18 rfl rfl)
theorem dX6_odds_43 : decode cX6_odds 43 = .ok (.aload_n 0, 1) := dk_42 (dk_at dksX6_odds_1 21 rfl rfl)
theorem dX6_odds_44 : decode cX6_odds 44 = .ok (.invokevirtual 362, 3) := dk_182 1 106 (dk_at dksX6_odds_2 0 rfl rfl)
theorem dX6_odds_47 : decode cX6_odds 47 = .ok (.aload_n 0, 1) := dk_42 (dk_at dksX6_odds_2 3 rfl rfl)
theorem dX6_odds_48 : decode cX6_odds 48 = .ok (.iload 4, 2) := dk_21 4 (dk_at dksX6_odds_2 4 rfl rfl)
theorem dX6_odds_50 : decode cX6_odds 50 = .ok (.invokevirtual 354, 3) := dk_182 1 98 (dk_at dksX6_odds_2 6 rfl rfl)
theorem dX6_odds_53 : decode cX6_odds 53 = .ok (.istore 5, 2) := dk_54 5 (dk_at dksX6_odds_2 9 rfl rfl)
theorem dX6_odds_55 : decode cX6_odds 55 = .ok (.iload_n 3, 1) := dk_29 (dk_at dksX6_odds_2 11 rfl rfl)
theorem dX6_odds_56 : decode cX6_odds 56 = .ok (.aload_n 0, 1) := dk_42 (dk_at dksX6_odds_2 12 rfl rfl)
theorem dX6_odds_57 : decode cX6_odds 57 = .ok (.iload_n 1, 1) := dk_27 (dk_at dksX6_odds_2 13 rfl rfl)
theorem dX6_odds_58 : decode cX6_odds 58 = .ok (.invokevirtual 347, 3) := dk_182 1 91 (dk_at dksX6_odds_2 14 rfl rfl)
theorem dX6_odds_61 : decode cX6_odds 61 = .ok (.aload_n 0, 1) := dk_42 (dk_at dksX6_odds_2 17 rfl rfl)
theorem dX6_odds_62 : decode cX6_odds 62 = .ok (.iload_n 1, 1) := dk_27 (dk_at dksX6_odds_2 18 rfl rfl)
theorem dX6_odds_63 : decode cX6_odds 63 = .ok (.invokevirtual 344, 3) := dk_182 1 88 (dk_at dksX6_odds_2 19 rfl rfl)
theorem dX6_odds_66 : decode cX6_odds 66 = .ok (.if_icmp .lt 7, 3) := dk_161 0 7 (dk_at dksX6_odds_3 0 rfl rfl)
theorem dX6_odds_69 : decode cX6_odds 69 = .ok (.iconst 1, 1) := dk_4 (dk_at dksX6_odds_3 3 rfl rfl)
theorem dX6_odds_70 : decode cX6_odds 70 = .ok (.goto 4, 3) := dk_167 0 4 (dk_at dksX6_odds_3 4 rfl rfl)
theorem dX6_odds_73 : decode cX6_odds 73 = .ok (.iconst 0, 1) := dk_3 (dk_at dksX6_odds_3 7 rfl rfl)
theorem dX6_odds_74 : decode cX6_odds 74 = .ok (.iadd, 1) := dk_96 (dk_at dksX6_odds_3 8 rfl rfl)
theorem dX6_odds_75 : decode cX6_odds 75 = .ok (.istore_n 3, 1) := dk_62 (dk_at dksX6_odds_3 9 rfl rfl)
theorem dX6_odds_76 : decode cX6_odds 76 = .ok (.aload_n 0, 1) := dk_42 (dk_at dksX6_odds_3 10 rfl rfl)
theorem dX6_odds_77 : decode cX6_odds 77 = .ok (.invokevirtual 365, 3) := dk_182 1 109 (dk_at dksX6_odds_3 11 rfl rfl)
theorem dX6_odds_80 : decode cX6_odds 80 = .ok (.iinc 4 1, 3) := dk_132 4 1 (dk_at dksX6_odds_3 14 rfl rfl)
theorem dX6_odds_83 : decode cX6_odds 83 = .ok (.goto (-49), 3) := dk_167 255 207 (dk_at dksX6_odds_3 17 rfl rfl)
theorem dX6_odds_86 : decode cX6_odds 86 = .ok (.aload_n 0, 1) := dk_42 (dk_at dksX6_odds_3 20 rfl rfl)
theorem dX6_odds_87 : decode cX6_odds 87 = .ok (.iload_n 3, 1) := dk_29 (dk_at dksX6_odds_3 21 rfl rfl)
theorem dX6_odds_88 : decode cX6_odds 88 = .ok (.aload_n 0, 1) := dk_42 (dk_at dksX6_odds_3 22 rfl rfl)
theorem dX6_odds_89 : decode cX6_odds 89 = .ok (.getfield 7, 3) := dk_180 0 7 (dk_at dksX6_odds_4 0 rfl rfl)
theorem dX6_odds_92 : decode cX6_odds 92 = .ok (.iload_n 2, 1) := dk_28 (dk_at dksX6_odds_4 3 rfl rfl)
theorem dX6_odds_93 : decode cX6_odds 93 = .ok (.invokevirtual 406, 3) := dk_182 1 150 (dk_at dksX6_odds_4 4 rfl rfl)
theorem dX6_odds_96 : decode cX6_odds 96 = .ok (.lreturn, 1) := dk_173 (dk_at dksX6_odds_4 7 rfl rfl)
abbrev cX6_lowest : ByteArray := prog_23_method_80_code
def yX6_lowest : MethodName := ⟨RX6, "lowest", "(III)J"⟩
def dkwX6_lowest_1 : List UInt8 := [133, 173]
abbrev dktX6_lowest_1 : List UInt8 := dkwX6_lowest_1 ++ []
def dkwX6_lowest_0 : List UInt8 := [42, 27, 28, 182, 1, 145, 54, 4, 29, 154, 0, 11, 27, 21, 4, 108, 133, 167, 0, 8, 28, 21, 4, 108]
abbrev dktX6_lowest_0 : List UInt8 := dkwX6_lowest_0 ++ dktX6_lowest_1
theorem dksX6_lowest_0 : cX6_lowest.data.toList.drop 0 = dktX6_lowest_0 := by decide +kernel
theorem dksX6_lowest_1 : cX6_lowest.data.toList.drop 24 = dktX6_lowest_1 := dk_seg dksX6_lowest_0 24 rfl rfl
theorem dX6_lowest_0 : decode cX6_lowest 0 = .ok (.aload_n 0, 1) := dk_42 (dk_at dksX6_lowest_0 0 rfl rfl)
theorem dX6_lowest_1 : decode cX6_lowest 1 = .ok (.iload_n 1, 1) := dk_27 (dk_at dksX6_lowest_0 1 rfl rfl)
theorem dX6_lowest_2 : decode cX6_lowest 2 = .ok (.iload_n 2, 1) := dk_28 (dk_at dksX6_lowest_0 2 rfl rfl)
theorem dX6_lowest_3 : decode cX6_lowest 3 = .ok (.invokevirtual 401, 3) := dk_182 1 145 (dk_at dksX6_lowest_0 3 rfl rfl)
theorem dX6_lowest_6 : decode cX6_lowest 6 = .ok (.istore 4, 2) := dk_54 4 (dk_at dksX6_lowest_0 6 rfl rfl)
theorem dX6_lowest_8 : decode cX6_lowest 8 = .ok (.iload_n 3, 1) := dk_29 (dk_at dksX6_lowest_0 8 rfl rfl)
theorem dX6_lowest_9 : decode cX6_lowest 9 = .ok (.ifCond .ne 11, 3) := dk_154 0 11 (dk_at dksX6_lowest_0 9 rfl rfl)
theorem dX6_lowest_12 : decode cX6_lowest 12 = .ok (.iload_n 1, 1) := dk_27 (dk_at dksX6_lowest_0 12 rfl rfl)
theorem dX6_lowest_13 : decode cX6_lowest 13 = .ok (.iload 4, 2) := dk_21 4 (dk_at dksX6_lowest_0 13 rfl rfl)
theorem dX6_lowest_15 : decode cX6_lowest 15 = .ok (.idiv, 1) := dk_108 (dk_at dksX6_lowest_0 15 rfl rfl)
theorem dX6_lowest_16 : decode cX6_lowest 16 = .ok (.i2l, 1) := dk_133 (dk_at dksX6_lowest_0 16 rfl rfl)
theorem dX6_lowest_17 : decode cX6_lowest 17 = .ok (.goto 8, 3) := dk_167 0 8 (dk_at dksX6_lowest_0 17 rfl rfl)
theorem dX6_lowest_20 : decode cX6_lowest 20 = .ok (.iload_n 2, 1) := dk_28 (dk_at dksX6_lowest_0 20 rfl rfl)
theorem dX6_lowest_21 : decode cX6_lowest 21 = .ok (.iload 4, 2) := dk_21 4 (dk_at dksX6_lowest_0 21 rfl rfl)
theorem dX6_lowest_23 : decode cX6_lowest 23 = .ok (.idiv, 1) := dk_108 (dk_at dksX6_lowest_0 23 rfl rfl)
theorem dX6_lowest_24 : decode cX6_lowest 24 = .ok (.i2l, 1) := dk_133 (dk_at dksX6_lowest_1 0 rfl rfl)
theorem dX6_lowest_25 : decode cX6_lowest 25 = .ok (.lreturn, 1) := dk_173 (dk_at dksX6_lowest_1 1 rfl rfl)
abbrev cX6_divisor : ByteArray := prog_23_method_79_code
def yX6_divisor : MethodName := ⟨RX6, "divisor", "(II)I"⟩
def dkwX6_divisor_1 : List UInt8 := [167, 255, 238, 29, 172]
abbrev dktX6_divisor_1 : List UInt8 := dkwX6_divisor_1 ++ []
def dkwX6_divisor_0 : List UInt8 := [27, 62, 28, 54, 4, 21, 4, 153, 0, 19, 29, 21, 4, 112, 54, 5, 21, 4, 62, 21, 5, 54, 4]
abbrev dktX6_divisor_0 : List UInt8 := dkwX6_divisor_0 ++ dktX6_divisor_1
theorem dksX6_divisor_0 : cX6_divisor.data.toList.drop 0 = dktX6_divisor_0 := by decide +kernel
theorem dksX6_divisor_1 : cX6_divisor.data.toList.drop 23 = dktX6_divisor_1 := dk_seg dksX6_divisor_0 23 rfl rfl
theorem dX6_divisor_0 : decode cX6_divisor 0 = .ok (.iload_n 1, 1) := dk_27 (dk_at dksX6_divisor_0 0 rfl rfl)
theorem dX6_divisor_1 : decode cX6_divisor 1 = .ok (.istore_n 3, 1) := dk_62 (dk_at dksX6_divisor_0 1 rfl rfl)
theorem dX6_divisor_2 : decode cX6_divisor 2 = .ok (.iload_n 2, 1) := dk_28 (dk_at dksX6_divisor_0 2 rfl rfl)
theorem dX6_divisor_3 : decode cX6_divisor 3 = .ok (.istore 4, 2) := dk_54 4 (dk_at dksX6_divisor_0 3 rfl rfl)
theorem dX6_divisor_5 : decode cX6_divisor 5 = .ok (.iload 4, 2) := dk_21 4 (dk_at dksX6_divisor_0 5 rfl rfl)
theorem dX6_divisor_7 : decode cX6_divisor 7 = .ok (.ifCond .eq 19, 3) := dk_153 0 19 (dk_at dksX6_divisor_0 7 rfl rfl)
theorem dX6_divisor_10 : decode cX6_divisor 10 = .ok (.iload_n 3, 1) := dk_29 (dk_at dksX6_divisor_0 10 rfl rfl)
theorem dX6_divisor_11 : decode cX6_divisor 11 = .ok (.iload 4, 2) := dk_21 4 (dk_at dksX6_divisor_0 11 rfl rfl)
theorem dX6_divisor_13 : decode cX6_divisor 13 = .ok (.irem, 1) := dk_112 (dk_at dksX6_divisor_0 13 rfl rfl)
theorem dX6_divisor_14 : decode cX6_divisor 14 = .ok (.istore 5, 2) := dk_54 5 (dk_at dksX6_divisor_0 14 rfl rfl)
theorem dX6_divisor_16 : decode cX6_divisor 16 = .ok (.iload 4, 2) := dk_21 4 (dk_at dksX6_divisor_0 16 rfl rfl)
theorem dX6_divisor_18 : decode cX6_divisor 18 = .ok (.istore_n 3, 1) := dk_62 (dk_at dksX6_divisor_0 18 rfl rfl)
theorem dX6_divisor_19 : decode cX6_divisor 19 = .ok (.iload 5, 2) := dk_21 5 (dk_at dksX6_divisor_0 19 rfl rfl)
theorem dX6_divisor_21 : decode cX6_divisor 21 = .ok (.istore 4, 2) := dk_54 4 (dk_at dksX6_divisor_0 21 rfl rfl)
theorem dX6_divisor_23 : decode cX6_divisor 23 = .ok (.goto (-18), 3) := dk_167 255 238 (dk_at dksX6_divisor_1 0 rfl rfl)
theorem dX6_divisor_26 : decode cX6_divisor 26 = .ok (.iload_n 3, 1) := dk_29 (dk_at dksX6_divisor_1 3 rfl rfl)
theorem dX6_divisor_27 : decode cX6_divisor 27 = .ok (.ireturn, 1) := dk_172 (dk_at dksX6_divisor_1 4 rfl rfl)
abbrev cX6_mean : ByteArray := prog_23_method_82_code
def yX6_mean : MethodName := ⟨RX6, "mean", "(II)J"⟩
def dkwX6_mean_2 : List UInt8 := [21, 4, 182, 1, 85, 96, 62, 132, 4, 1, 167, 255, 234, 42, 29, 42, 180, 0, 7, 28, 182, 1, 150, 173]
abbrev dktX6_mean_2 : List UInt8 := dkwX6_mean_2 ++ []
def dkwX6_mean_1 : List UInt8 := [154, 0, 7, 20, 1, 148, 173, 3, 62, 3, 54, 4, 21, 4, 42, 180, 0, 7, 162, 0, 19, 29, 42, 27]
abbrev dktX6_mean_1 : List UInt8 := dkwX6_mean_1 ++ dktX6_mean_2
def dkwX6_mean_0 : List UInt8 := [42, 27, 182, 1, 0, 153, 0, 20, 42, 28, 3, 4, 182, 0, 248, 153, 0, 10, 42, 180, 0, 7]
abbrev dktX6_mean_0 : List UInt8 := dkwX6_mean_0 ++ dktX6_mean_1
theorem dksX6_mean_0 : cX6_mean.data.toList.drop 0 = dktX6_mean_0 := by decide +kernel
theorem dksX6_mean_1 : cX6_mean.data.toList.drop 22 = dktX6_mean_1 := dk_seg dksX6_mean_0 22 rfl rfl
theorem dksX6_mean_2 : cX6_mean.data.toList.drop 46 = dktX6_mean_2 := dk_seg dksX6_mean_1 24 rfl rfl
theorem dX6_mean_0 : decode cX6_mean 0 = .ok (.aload_n 0, 1) := dk_42 (dk_at dksX6_mean_0 0 rfl rfl)
theorem dX6_mean_1 : decode cX6_mean 1 = .ok (.iload_n 1, 1) := dk_27 (dk_at dksX6_mean_0 1 rfl rfl)
theorem dX6_mean_2 : decode cX6_mean 2 = .ok (.invokevirtual 256, 3) := dk_182 1 0 (dk_at dksX6_mean_0 2 rfl rfl)
theorem dX6_mean_5 : decode cX6_mean 5 = .ok (.ifCond .eq 20, 3) := dk_153 0 20 (dk_at dksX6_mean_0 5 rfl rfl)
theorem dX6_mean_8 : decode cX6_mean 8 = .ok (.aload_n 0, 1) := dk_42 (dk_at dksX6_mean_0 8 rfl rfl)
theorem dX6_mean_9 : decode cX6_mean 9 = .ok (.iload_n 2, 1) := dk_28 (dk_at dksX6_mean_0 9 rfl rfl)
theorem dX6_mean_10 : decode cX6_mean 10 = .ok (.iconst 0, 1) := dk_3 (dk_at dksX6_mean_0 10 rfl rfl)
theorem dX6_mean_11 : decode cX6_mean 11 = .ok (.iconst 1, 1) := dk_4 (dk_at dksX6_mean_0 11 rfl rfl)
theorem dX6_mean_12 : decode cX6_mean 12 = .ok (.invokevirtual 248, 3) := dk_182 0 248 (dk_at dksX6_mean_0 12 rfl rfl)
theorem dX6_mean_15 : decode cX6_mean 15 = .ok (.ifCond .eq 10, 3) := dk_153 0 10 (dk_at dksX6_mean_0 15 rfl rfl)
theorem dX6_mean_18 : decode cX6_mean 18 = .ok (.aload_n 0, 1) := dk_42 (dk_at dksX6_mean_0 18 rfl rfl)
theorem dX6_mean_19 : decode cX6_mean 19 = .ok (.getfield 7, 3) := dk_180 0 7 (dk_at dksX6_mean_0 19 rfl rfl)
theorem dX6_mean_22 : decode cX6_mean 22 = .ok (.ifCond .ne 7, 3) := dk_154 0 7 (dk_at dksX6_mean_1 0 rfl rfl)
theorem dX6_mean_25 : decode cX6_mean 25 = .ok (.ldc2_w 404, 3) := dk_20 1 148 (dk_at dksX6_mean_1 3 rfl rfl)
theorem dX6_mean_28 : decode cX6_mean 28 = .ok (.lreturn, 1) := dk_173 (dk_at dksX6_mean_1 6 rfl rfl)
theorem dX6_mean_29 : decode cX6_mean 29 = .ok (.iconst 0, 1) := dk_3 (dk_at dksX6_mean_1 7 rfl rfl)
theorem dX6_mean_30 : decode cX6_mean 30 = .ok (.istore_n 3, 1) := dk_62 (dk_at dksX6_mean_1 8 rfl rfl)
theorem dX6_mean_31 : decode cX6_mean 31 = .ok (.iconst 0, 1) := dk_3 (dk_at dksX6_mean_1 9 rfl rfl)
theorem dX6_mean_32 : decode cX6_mean 32 = .ok (.istore 4, 2) := dk_54 4 (dk_at dksX6_mean_1 10 rfl rfl)
theorem dX6_mean_34 : decode cX6_mean 34 = .ok (.iload 4, 2) := dk_21 4 (dk_at dksX6_mean_1 12 rfl rfl)
theorem dX6_mean_36 : decode cX6_mean 36 = .ok (.aload_n 0, 1) := dk_42 (dk_at dksX6_mean_1 14 rfl rfl)
theorem dX6_mean_37 : decode cX6_mean 37 = .ok (.getfield 7, 3) := dk_180 0 7 (dk_at dksX6_mean_1 15 rfl rfl)
theorem dX6_mean_40 : decode cX6_mean 40 = .ok (.if_icmp .ge 19, 3) := dk_162 0 19 (dk_at dksX6_mean_1 18 rfl rfl)
theorem dX6_mean_43 : decode cX6_mean 43 = .ok (.iload_n 3, 1) := dk_29 (dk_at dksX6_mean_1 21 rfl rfl)
theorem dX6_mean_44 : decode cX6_mean 44 = .ok (.aload_n 0, 1) := dk_42 (dk_at dksX6_mean_1 22 rfl rfl)
theorem dX6_mean_45 : decode cX6_mean 45 = .ok (.iload_n 1, 1) := dk_27 (dk_at dksX6_mean_1 23 rfl rfl)
theorem dX6_mean_46 : decode cX6_mean 46 = .ok (.iload 4, 2) := dk_21 4 (dk_at dksX6_mean_2 0 rfl rfl)
theorem dX6_mean_48 : decode cX6_mean 48 = .ok (.invokevirtual 341, 3) := dk_182 1 85 (dk_at dksX6_mean_2 2 rfl rfl)
theorem dX6_mean_51 : decode cX6_mean 51 = .ok (.iadd, 1) := dk_96 (dk_at dksX6_mean_2 5 rfl rfl)
theorem dX6_mean_52 : decode cX6_mean 52 = .ok (.istore_n 3, 1) := dk_62 (dk_at dksX6_mean_2 6 rfl rfl)
theorem dX6_mean_53 : decode cX6_mean 53 = .ok (.iinc 4 1, 3) := dk_132 4 1 (dk_at dksX6_mean_2 7 rfl rfl)
theorem dX6_mean_56 : decode cX6_mean 56 = .ok (.goto (-22), 3) := dk_167 255 234 (dk_at dksX6_mean_2 10 rfl rfl)
theorem dX6_mean_59 : decode cX6_mean 59 = .ok (.aload_n 0, 1) := dk_42 (dk_at dksX6_mean_2 13 rfl rfl)
theorem dX6_mean_60 : decode cX6_mean 60 = .ok (.iload_n 3, 1) := dk_29 (dk_at dksX6_mean_2 14 rfl rfl)
theorem dX6_mean_61 : decode cX6_mean 61 = .ok (.aload_n 0, 1) := dk_42 (dk_at dksX6_mean_2 15 rfl rfl)
theorem dX6_mean_62 : decode cX6_mean 62 = .ok (.getfield 7, 3) := dk_180 0 7 (dk_at dksX6_mean_2 16 rfl rfl)
theorem dX6_mean_65 : decode cX6_mean 65 = .ok (.iload_n 2, 1) := dk_28 (dk_at dksX6_mean_2 19 rfl rfl)
theorem dX6_mean_66 : decode cX6_mean 66 = .ok (.invokevirtual 406, 3) := dk_182 1 150 (dk_at dksX6_mean_2 20 rfl rfl)
theorem dX6_mean_69 : decode cX6_mean 69 = .ok (.lreturn, 1) := dk_173 (dk_at dksX6_mean_2 23 rfl rfl)
abbrev cX6_book : ByteArray := prog_23_method_83_code
def yX6_book : MethodName := ⟨RX6, "book", "(II)I"⟩
def dkwX6_book_3 : List UInt8 := [181, 0, 153, 42, 180, 0, 153, 172]
abbrev dktX6_book_3 : List UInt8 := dkwX6_book_3 ++ []
def dkwX6_book_2 : List UInt8 := [42, 180, 0, 153, 27, 79, 42, 180, 0, 159, 42, 180, 0, 153, 28, 79, 42, 89, 180, 0, 153, 4, 96]
abbrev dktX6_book_2 : List UInt8 := dkwX6_book_2 ++ dktX6_book_3
def dkwX6_book_1 : List UInt8 := [182, 1, 3, 154, 0, 5, 2, 172, 42, 180, 0, 153, 16, 8, 160, 0, 6, 16, 252, 172, 42, 180, 0, 156]
abbrev dktX6_book_1 : List UInt8 := dkwX6_book_1 ++ dktX6_book_2
def dkwX6_book_0 : List UInt8 := [27, 2, 160, 0, 10, 42, 3, 181, 0, 153, 3, 172, 42, 27, 182, 1, 0, 153, 0, 11, 42, 28]
abbrev dktX6_book_0 : List UInt8 := dkwX6_book_0 ++ dktX6_book_1
theorem dksX6_book_0 : cX6_book.data.toList.drop 0 = dktX6_book_0 := by decide +kernel
theorem dksX6_book_1 : cX6_book.data.toList.drop 22 = dktX6_book_1 := dk_seg dksX6_book_0 22 rfl rfl
theorem dksX6_book_2 : cX6_book.data.toList.drop 46 = dktX6_book_2 := dk_seg dksX6_book_1 24 rfl rfl
theorem dksX6_book_3 : cX6_book.data.toList.drop 69 = dktX6_book_3 := dk_seg dksX6_book_2 23 rfl rfl
theorem dX6_book_0 : decode cX6_book 0 = .ok (.iload_n 1, 1) := dk_27 (dk_at dksX6_book_0 0 rfl rfl)
theorem dX6_book_1 : decode cX6_book 1 = .ok (.iconst (-1), 1) := dk_2 (dk_at dksX6_book_0 1 rfl rfl)
theorem dX6_book_2 : decode cX6_book 2 = .ok (.if_icmp .ne 10, 3) := dk_160 0 10 (dk_at dksX6_book_0 2 rfl rfl)
theorem dX6_book_5 : decode cX6_book 5 = .ok (.aload_n 0, 1) := dk_42 (dk_at dksX6_book_0 5 rfl rfl)
theorem dX6_book_6 : decode cX6_book 6 = .ok (.iconst 0, 1) := dk_3 (dk_at dksX6_book_0 6 rfl rfl)
theorem dX6_book_7 : decode cX6_book 7 = .ok (.putfield 153, 3) := dk_181 0 153 (dk_at dksX6_book_0 7 rfl rfl)
theorem dX6_book_10 : decode cX6_book 10 = .ok (.iconst 0, 1) := dk_3 (dk_at dksX6_book_0 10 rfl rfl)
theorem dX6_book_11 : decode cX6_book 11 = .ok (.ireturn, 1) := dk_172 (dk_at dksX6_book_0 11 rfl rfl)
theorem dX6_book_12 : decode cX6_book 12 = .ok (.aload_n 0, 1) := dk_42 (dk_at dksX6_book_0 12 rfl rfl)
theorem dX6_book_13 : decode cX6_book 13 = .ok (.iload_n 1, 1) := dk_27 (dk_at dksX6_book_0 13 rfl rfl)
theorem dX6_book_14 : decode cX6_book 14 = .ok (.invokevirtual 256, 3) := dk_182 1 0 (dk_at dksX6_book_0 14 rfl rfl)
theorem dX6_book_17 : decode cX6_book 17 = .ok (.ifCond .eq 11, 3) := dk_153 0 11 (dk_at dksX6_book_0 17 rfl rfl)
theorem dX6_book_20 : decode cX6_book 20 = .ok (.aload_n 0, 1) := dk_42 (dk_at dksX6_book_0 20 rfl rfl)
theorem dX6_book_21 : decode cX6_book 21 = .ok (.iload_n 2, 1) := dk_28 (dk_at dksX6_book_0 21 rfl rfl)
theorem dX6_book_22 : decode cX6_book 22 = .ok (.invokevirtual 259, 3) := dk_182 1 3 (dk_at dksX6_book_1 0 rfl rfl)
theorem dX6_book_25 : decode cX6_book 25 = .ok (.ifCond .ne 5, 3) := dk_154 0 5 (dk_at dksX6_book_1 3 rfl rfl)
theorem dX6_book_28 : decode cX6_book 28 = .ok (.iconst (-1), 1) := dk_2 (dk_at dksX6_book_1 6 rfl rfl)
theorem dX6_book_29 : decode cX6_book 29 = .ok (.ireturn, 1) := dk_172 (dk_at dksX6_book_1 7 rfl rfl)
theorem dX6_book_30 : decode cX6_book 30 = .ok (.aload_n 0, 1) := dk_42 (dk_at dksX6_book_1 8 rfl rfl)
theorem dX6_book_31 : decode cX6_book 31 = .ok (.getfield 153, 3) := dk_180 0 153 (dk_at dksX6_book_1 9 rfl rfl)
theorem dX6_book_34 : decode cX6_book 34 = .ok (.bipush 8, 2) := dk_16 8 (dk_at dksX6_book_1 12 rfl rfl)
theorem dX6_book_36 : decode cX6_book 36 = .ok (.if_icmp .ne 6, 3) := dk_160 0 6 (dk_at dksX6_book_1 14 rfl rfl)
theorem dX6_book_39 : decode cX6_book 39 = .ok (.bipush (-4), 2) := dk_16 252 (dk_at dksX6_book_1 17 rfl rfl)
theorem dX6_book_41 : decode cX6_book 41 = .ok (.ireturn, 1) := dk_172 (dk_at dksX6_book_1 19 rfl rfl)
theorem dX6_book_42 : decode cX6_book 42 = .ok (.aload_n 0, 1) := dk_42 (dk_at dksX6_book_1 20 rfl rfl)
theorem dX6_book_43 : decode cX6_book 43 = .ok (.getfield 156, 3) := dk_180 0 156 (dk_at dksX6_book_1 21 rfl rfl)
theorem dX6_book_46 : decode cX6_book 46 = .ok (.aload_n 0, 1) := dk_42 (dk_at dksX6_book_2 0 rfl rfl)
theorem dX6_book_47 : decode cX6_book 47 = .ok (.getfield 153, 3) := dk_180 0 153 (dk_at dksX6_book_2 1 rfl rfl)
theorem dX6_book_50 : decode cX6_book 50 = .ok (.iload_n 1, 1) := dk_27 (dk_at dksX6_book_2 4 rfl rfl)
theorem dX6_book_51 : decode cX6_book 51 = .ok (.iastore, 1) := dk_79 (dk_at dksX6_book_2 5 rfl rfl)
theorem dX6_book_52 : decode cX6_book 52 = .ok (.aload_n 0, 1) := dk_42 (dk_at dksX6_book_2 6 rfl rfl)
theorem dX6_book_53 : decode cX6_book 53 = .ok (.getfield 159, 3) := dk_180 0 159 (dk_at dksX6_book_2 7 rfl rfl)
theorem dX6_book_56 : decode cX6_book 56 = .ok (.aload_n 0, 1) := dk_42 (dk_at dksX6_book_2 10 rfl rfl)
theorem dX6_book_57 : decode cX6_book 57 = .ok (.getfield 153, 3) := dk_180 0 153 (dk_at dksX6_book_2 11 rfl rfl)
theorem dX6_book_60 : decode cX6_book 60 = .ok (.iload_n 2, 1) := dk_28 (dk_at dksX6_book_2 14 rfl rfl)
theorem dX6_book_61 : decode cX6_book 61 = .ok (.iastore, 1) := dk_79 (dk_at dksX6_book_2 15 rfl rfl)
theorem dX6_book_62 : decode cX6_book 62 = .ok (.aload_n 0, 1) := dk_42 (dk_at dksX6_book_2 16 rfl rfl)
theorem dX6_book_63 : decode cX6_book 63 = .ok (.dup, 1) := dk_89 (dk_at dksX6_book_2 17 rfl rfl)
theorem dX6_book_64 : decode cX6_book 64 = .ok (.getfield 153, 3) := dk_180 0 153 (dk_at dksX6_book_2 18 rfl rfl)
theorem dX6_book_67 : decode cX6_book 67 = .ok (.iconst 1, 1) := dk_4 (dk_at dksX6_book_2 21 rfl rfl)
theorem dX6_book_68 : decode cX6_book 68 = .ok (.iadd, 1) := dk_96 (dk_at dksX6_book_2 22 rfl rfl)
theorem dX6_book_69 : decode cX6_book 69 = .ok (.putfield 153, 3) := dk_181 0 153 (dk_at dksX6_book_3 0 rfl rfl)
theorem dX6_book_72 : decode cX6_book 72 = .ok (.aload_n 0, 1) := dk_42 (dk_at dksX6_book_3 3 rfl rfl)
theorem dX6_book_73 : decode cX6_book 73 = .ok (.getfield 153, 3) := dk_180 0 153 (dk_at dksX6_book_3 4 rfl rfl)
theorem dX6_book_76 : decode cX6_book 76 = .ok (.ireturn, 1) := dk_172 (dk_at dksX6_book_3 7 rfl rfl)
abbrev cX6_looked : ByteArray := prog_23_method_84_code
def yX6_looked : MethodName := ⟨RX6, "looked", "()I"⟩
def dkwX6_looked_1 : List UInt8 := [180, 0, 156, 27, 46, 159, 0, 5, 27, 172, 132, 1, 1, 167, 255, 223, 16, 251, 172]
abbrev dktX6_looked_1 : List UInt8 := dkwX6_looked_1 ++ []
def dkwX6_looked_0 : List UInt8 := [3, 60, 27, 42, 180, 0, 153, 162, 0, 31, 42, 180, 0, 26, 42, 180, 0, 159, 27, 46, 46, 42]
abbrev dktX6_looked_0 : List UInt8 := dkwX6_looked_0 ++ dktX6_looked_1
theorem dksX6_looked_0 : cX6_looked.data.toList.drop 0 = dktX6_looked_0 := by decide +kernel
theorem dksX6_looked_1 : cX6_looked.data.toList.drop 22 = dktX6_looked_1 := dk_seg dksX6_looked_0 22 rfl rfl
theorem dX6_looked_0 : decode cX6_looked 0 = .ok (.iconst 0, 1) := dk_3 (dk_at dksX6_looked_0 0 rfl rfl)
theorem dX6_looked_1 : decode cX6_looked 1 = .ok (.istore_n 1, 1) := dk_60 (dk_at dksX6_looked_0 1 rfl rfl)
theorem dX6_looked_2 : decode cX6_looked 2 = .ok (.iload_n 1, 1) := dk_27 (dk_at dksX6_looked_0 2 rfl rfl)
theorem dX6_looked_3 : decode cX6_looked 3 = .ok (.aload_n 0, 1) := dk_42 (dk_at dksX6_looked_0 3 rfl rfl)
theorem dX6_looked_4 : decode cX6_looked 4 = .ok (.getfield 153, 3) := dk_180 0 153 (dk_at dksX6_looked_0 4 rfl rfl)
theorem dX6_looked_7 : decode cX6_looked 7 = .ok (.if_icmp .ge 31, 3) := dk_162 0 31 (dk_at dksX6_looked_0 7 rfl rfl)
theorem dX6_looked_10 : decode cX6_looked 10 = .ok (.aload_n 0, 1) := dk_42 (dk_at dksX6_looked_0 10 rfl rfl)
theorem dX6_looked_11 : decode cX6_looked 11 = .ok (.getfield 26, 3) := dk_180 0 26 (dk_at dksX6_looked_0 11 rfl rfl)
theorem dX6_looked_14 : decode cX6_looked 14 = .ok (.aload_n 0, 1) := dk_42 (dk_at dksX6_looked_0 14 rfl rfl)
theorem dX6_looked_15 : decode cX6_looked 15 = .ok (.getfield 159, 3) := dk_180 0 159 (dk_at dksX6_looked_0 15 rfl rfl)
theorem dX6_looked_18 : decode cX6_looked 18 = .ok (.iload_n 1, 1) := dk_27 (dk_at dksX6_looked_0 18 rfl rfl)
theorem dX6_looked_19 : decode cX6_looked 19 = .ok (.iaload, 1) := dk_46 (dk_at dksX6_looked_0 19 rfl rfl)
theorem dX6_looked_20 : decode cX6_looked 20 = .ok (.iaload, 1) := dk_46 (dk_at dksX6_looked_0 20 rfl rfl)
theorem dX6_looked_21 : decode cX6_looked 21 = .ok (.aload_n 0, 1) := dk_42 (dk_at dksX6_looked_0 21 rfl rfl)
theorem dX6_looked_22 : decode cX6_looked 22 = .ok (.getfield 156, 3) := dk_180 0 156 (dk_at dksX6_looked_1 0 rfl rfl)
theorem dX6_looked_25 : decode cX6_looked 25 = .ok (.iload_n 1, 1) := dk_27 (dk_at dksX6_looked_1 3 rfl rfl)
theorem dX6_looked_26 : decode cX6_looked 26 = .ok (.iaload, 1) := dk_46 (dk_at dksX6_looked_1 4 rfl rfl)
theorem dX6_looked_27 : decode cX6_looked 27 = .ok (.if_icmp .eq 5, 3) := dk_159 0 5 (dk_at dksX6_looked_1 5 rfl rfl)
theorem dX6_looked_30 : decode cX6_looked 30 = .ok (.iload_n 1, 1) := dk_27 (dk_at dksX6_looked_1 8 rfl rfl)
theorem dX6_looked_31 : decode cX6_looked 31 = .ok (.ireturn, 1) := dk_172 (dk_at dksX6_looked_1 9 rfl rfl)
theorem dX6_looked_32 : decode cX6_looked 32 = .ok (.iinc 1 1, 3) := dk_132 1 1 (dk_at dksX6_looked_1 10 rfl rfl)
theorem dX6_looked_35 : decode cX6_looked 35 = .ok (.goto (-33), 3) := dk_167 255 223 (dk_at dksX6_looked_1 13 rfl rfl)
theorem dX6_looked_38 : decode cX6_looked 38 = .ok (.bipush (-5), 2) := dk_16 251 (dk_at dksX6_looked_1 16 rfl rfl)
theorem dX6_looked_40 : decode cX6_looked 40 = .ok (.ireturn, 1) := dk_172 (dk_at dksX6_looked_1 18 rfl rfl)
abbrev cX6_judge : ByteArray := prog_23_method_85_code
def yX6_judge : MethodName := ⟨RX6, "judge", "(II)I"⟩
def dkwX6_judge_4 : List UInt8 := [167, 255, 187, 16, 251, 172]
abbrev dktX6_judge_4 : List UInt8 := dkwX6_judge_4 ++ []
def dkwX6_judge_3 : List UInt8 := [104, 28, 96, 29, 96, 47, 42, 180, 0, 26, 29, 46, 133, 148, 153, 0, 5, 29, 172, 132, 3, 1]
abbrev dktX6_judge_3 : List UInt8 := dkwX6_judge_3 ++ dktX6_judge_4
def dkwX6_judge_2 : List UInt8 := [180, 0, 238, 27, 46, 29, 100, 4, 100, 164, 0, 8, 16, 100, 29, 96, 172, 42, 180, 0, 241, 16, 60, 27]
abbrev dktX6_judge_2 : List UInt8 := dkwX6_judge_2 ++ dktX6_judge_3
def dkwX6_judge_1 : List UInt8 := [29, 42, 180, 0, 7, 162, 0, 67, 42, 180, 0, 235, 27, 46, 155, 0, 21, 28, 155, 0, 17, 28, 42]
abbrev dktX6_judge_1 : List UInt8 := dkwX6_judge_1 ++ dktX6_judge_2
def dkwX6_judge_0 : List UInt8 := [42, 27, 182, 1, 154, 154, 0, 5, 2, 172, 42, 180, 0, 235, 27, 46, 158, 0, 6, 16, 244, 172, 3, 62]
abbrev dktX6_judge_0 : List UInt8 := dkwX6_judge_0 ++ dktX6_judge_1
theorem dksX6_judge_0 : cX6_judge.data.toList.drop 0 = dktX6_judge_0 := by decide +kernel
theorem dksX6_judge_1 : cX6_judge.data.toList.drop 24 = dktX6_judge_1 := dk_seg dksX6_judge_0 24 rfl rfl
theorem dksX6_judge_2 : cX6_judge.data.toList.drop 47 = dktX6_judge_2 := dk_seg dksX6_judge_1 23 rfl rfl
theorem dksX6_judge_3 : cX6_judge.data.toList.drop 71 = dktX6_judge_3 := dk_seg dksX6_judge_2 24 rfl rfl
theorem dksX6_judge_4 : cX6_judge.data.toList.drop 93 = dktX6_judge_4 := dk_seg dksX6_judge_3 22 rfl rfl
theorem dX6_judge_0 : decode cX6_judge 0 = .ok (.aload_n 0, 1) := dk_42 (dk_at dksX6_judge_0 0 rfl rfl)
theorem dX6_judge_1 : decode cX6_judge 1 = .ok (.iload_n 1, 1) := dk_27 (dk_at dksX6_judge_0 1 rfl rfl)
theorem dX6_judge_2 : decode cX6_judge 2 = .ok (.invokevirtual 410, 3) := dk_182 1 154 (dk_at dksX6_judge_0 2 rfl rfl)
theorem dX6_judge_5 : decode cX6_judge 5 = .ok (.ifCond .ne 5, 3) := dk_154 0 5 (dk_at dksX6_judge_0 5 rfl rfl)
theorem dX6_judge_8 : decode cX6_judge 8 = .ok (.iconst (-1), 1) := dk_2 (dk_at dksX6_judge_0 8 rfl rfl)
theorem dX6_judge_9 : decode cX6_judge 9 = .ok (.ireturn, 1) := dk_172 (dk_at dksX6_judge_0 9 rfl rfl)
theorem dX6_judge_10 : decode cX6_judge 10 = .ok (.aload_n 0, 1) := dk_42 (dk_at dksX6_judge_0 10 rfl rfl)
theorem dX6_judge_11 : decode cX6_judge 11 = .ok (.getfield 235, 3) := dk_180 0 235 (dk_at dksX6_judge_0 11 rfl rfl)
theorem dX6_judge_14 : decode cX6_judge 14 = .ok (.iload_n 1, 1) := dk_27 (dk_at dksX6_judge_0 14 rfl rfl)
theorem dX6_judge_15 : decode cX6_judge 15 = .ok (.iaload, 1) := dk_46 (dk_at dksX6_judge_0 15 rfl rfl)
theorem dX6_judge_16 : decode cX6_judge 16 = .ok (.ifCond .le 6, 3) := dk_158 0 6 (dk_at dksX6_judge_0 16 rfl rfl)
theorem dX6_judge_19 : decode cX6_judge 19 = .ok (.bipush (-12), 2) := dk_16 244 (dk_at dksX6_judge_0 19 rfl rfl)
theorem dX6_judge_21 : decode cX6_judge 21 = .ok (.ireturn, 1) := dk_172 (dk_at dksX6_judge_0 21 rfl rfl)
theorem dX6_judge_22 : decode cX6_judge 22 = .ok (.iconst 0, 1) := dk_3 (dk_at dksX6_judge_0 22 rfl rfl)
theorem dX6_judge_23 : decode cX6_judge 23 = .ok (.istore_n 3, 1) := dk_62 (dk_at dksX6_judge_0 23 rfl rfl)
theorem dX6_judge_24 : decode cX6_judge 24 = .ok (.iload_n 3, 1) := dk_29 (dk_at dksX6_judge_1 0 rfl rfl)
theorem dX6_judge_25 : decode cX6_judge 25 = .ok (.aload_n 0, 1) := dk_42 (dk_at dksX6_judge_1 1 rfl rfl)
theorem dX6_judge_26 : decode cX6_judge 26 = .ok (.getfield 7, 3) := dk_180 0 7 (dk_at dksX6_judge_1 2 rfl rfl)
theorem dX6_judge_29 : decode cX6_judge 29 = .ok (.if_icmp .ge 67, 3) := dk_162 0 67 (dk_at dksX6_judge_1 5 rfl rfl)
theorem dX6_judge_32 : decode cX6_judge 32 = .ok (.aload_n 0, 1) := dk_42 (dk_at dksX6_judge_1 8 rfl rfl)
theorem dX6_judge_33 : decode cX6_judge 33 = .ok (.getfield 235, 3) := dk_180 0 235 (dk_at dksX6_judge_1 9 rfl rfl)
theorem dX6_judge_36 : decode cX6_judge 36 = .ok (.iload_n 1, 1) := dk_27 (dk_at dksX6_judge_1 12 rfl rfl)
theorem dX6_judge_37 : decode cX6_judge 37 = .ok (.iaload, 1) := dk_46 (dk_at dksX6_judge_1 13 rfl rfl)
theorem dX6_judge_38 : decode cX6_judge 38 = .ok (.ifCond .lt 21, 3) := dk_155 0 21 (dk_at dksX6_judge_1 14 rfl rfl)
theorem dX6_judge_41 : decode cX6_judge 41 = .ok (.iload_n 2, 1) := dk_28 (dk_at dksX6_judge_1 17 rfl rfl)
theorem dX6_judge_42 : decode cX6_judge 42 = .ok (.ifCond .lt 17, 3) := dk_155 0 17 (dk_at dksX6_judge_1 18 rfl rfl)
theorem dX6_judge_45 : decode cX6_judge 45 = .ok (.iload_n 2, 1) := dk_28 (dk_at dksX6_judge_1 21 rfl rfl)
theorem dX6_judge_46 : decode cX6_judge 46 = .ok (.aload_n 0, 1) := dk_42 (dk_at dksX6_judge_1 22 rfl rfl)
theorem dX6_judge_47 : decode cX6_judge 47 = .ok (.getfield 238, 3) := dk_180 0 238 (dk_at dksX6_judge_2 0 rfl rfl)
theorem dX6_judge_50 : decode cX6_judge 50 = .ok (.iload_n 1, 1) := dk_27 (dk_at dksX6_judge_2 3 rfl rfl)
theorem dX6_judge_51 : decode cX6_judge 51 = .ok (.iaload, 1) := dk_46 (dk_at dksX6_judge_2 4 rfl rfl)
theorem dX6_judge_52 : decode cX6_judge 52 = .ok (.iload_n 3, 1) := dk_29 (dk_at dksX6_judge_2 5 rfl rfl)
theorem dX6_judge_53 : decode cX6_judge 53 = .ok (.isub, 1) := dk_100 (dk_at dksX6_judge_2 6 rfl rfl)
theorem dX6_judge_54 : decode cX6_judge 54 = .ok (.iconst 1, 1) := dk_4 (dk_at dksX6_judge_2 7 rfl rfl)
theorem dX6_judge_55 : decode cX6_judge 55 = .ok (.isub, 1) := dk_100 (dk_at dksX6_judge_2 8 rfl rfl)
theorem dX6_judge_56 : decode cX6_judge 56 = .ok (.if_icmp .le 8, 3) := dk_164 0 8 (dk_at dksX6_judge_2 9 rfl rfl)
theorem dX6_judge_59 : decode cX6_judge 59 = .ok (.bipush 100, 2) := dk_16 100 (dk_at dksX6_judge_2 12 rfl rfl)
theorem dX6_judge_61 : decode cX6_judge 61 = .ok (.iload_n 3, 1) := dk_29 (dk_at dksX6_judge_2 14 rfl rfl)
theorem dX6_judge_62 : decode cX6_judge 62 = .ok (.iadd, 1) := dk_96 (dk_at dksX6_judge_2 15 rfl rfl)
theorem dX6_judge_63 : decode cX6_judge 63 = .ok (.ireturn, 1) := dk_172 (dk_at dksX6_judge_2 16 rfl rfl)
theorem dX6_judge_64 : decode cX6_judge 64 = .ok (.aload_n 0, 1) := dk_42 (dk_at dksX6_judge_2 17 rfl rfl)
theorem dX6_judge_65 : decode cX6_judge 65 = .ok (.getfield 241, 3) := dk_180 0 241 (dk_at dksX6_judge_2 18 rfl rfl)
theorem dX6_judge_68 : decode cX6_judge 68 = .ok (.bipush 60, 2) := dk_16 60 (dk_at dksX6_judge_2 21 rfl rfl)
theorem dX6_judge_70 : decode cX6_judge 70 = .ok (.iload_n 1, 1) := dk_27 (dk_at dksX6_judge_2 23 rfl rfl)
theorem dX6_judge_71 : decode cX6_judge 71 = .ok (.imul, 1) := dk_104 (dk_at dksX6_judge_3 0 rfl rfl)
theorem dX6_judge_72 : decode cX6_judge 72 = .ok (.iload_n 2, 1) := dk_28 (dk_at dksX6_judge_3 1 rfl rfl)
theorem dX6_judge_73 : decode cX6_judge 73 = .ok (.iadd, 1) := dk_96 (dk_at dksX6_judge_3 2 rfl rfl)
theorem dX6_judge_74 : decode cX6_judge 74 = .ok (.iload_n 3, 1) := dk_29 (dk_at dksX6_judge_3 3 rfl rfl)
theorem dX6_judge_75 : decode cX6_judge 75 = .ok (.iadd, 1) := dk_96 (dk_at dksX6_judge_3 4 rfl rfl)
theorem dX6_judge_76 : decode cX6_judge 76 = .ok (.laload, 1) := dk_47 (dk_at dksX6_judge_3 5 rfl rfl)
theorem dX6_judge_77 : decode cX6_judge 77 = .ok (.aload_n 0, 1) := dk_42 (dk_at dksX6_judge_3 6 rfl rfl)
theorem dX6_judge_78 : decode cX6_judge 78 = .ok (.getfield 26, 3) := dk_180 0 26 (dk_at dksX6_judge_3 7 rfl rfl)
theorem dX6_judge_81 : decode cX6_judge 81 = .ok (.iload_n 3, 1) := dk_29 (dk_at dksX6_judge_3 10 rfl rfl)
theorem dX6_judge_82 : decode cX6_judge 82 = .ok (.iaload, 1) := dk_46 (dk_at dksX6_judge_3 11 rfl rfl)
theorem dX6_judge_83 : decode cX6_judge 83 = .ok (.i2l, 1) := dk_133 (dk_at dksX6_judge_3 12 rfl rfl)
theorem dX6_judge_84 : decode cX6_judge 84 = .ok (.lcmp, 1) := dk_148 (dk_at dksX6_judge_3 13 rfl rfl)
theorem dX6_judge_85 : decode cX6_judge 85 = .ok (.ifCond .eq 5, 3) := dk_153 0 5 (dk_at dksX6_judge_3 14 rfl rfl)
theorem dX6_judge_88 : decode cX6_judge 88 = .ok (.iload_n 3, 1) := dk_29 (dk_at dksX6_judge_3 17 rfl rfl)
theorem dX6_judge_89 : decode cX6_judge 89 = .ok (.ireturn, 1) := dk_172 (dk_at dksX6_judge_3 18 rfl rfl)
theorem dX6_judge_90 : decode cX6_judge 90 = .ok (.iinc 3 1, 3) := dk_132 3 1 (dk_at dksX6_judge_3 19 rfl rfl)
theorem dX6_judge_93 : decode cX6_judge 93 = .ok (.goto (-69), 3) := dk_167 255 187 (dk_at dksX6_judge_4 0 rfl rfl)
theorem dX6_judge_96 : decode cX6_judge 96 = .ok (.bipush (-5), 2) := dk_16 251 (dk_at dksX6_judge_4 3 rfl rfl)
theorem dX6_judge_98 : decode cX6_judge 98 = .ok (.ireturn, 1) := dk_172 (dk_at dksX6_judge_4 5 rfl rfl)
abbrev cX6_isTape : ByteArray := prog_23_method_100_code
def yX6_isTape : MethodName := ⟨RX6, "isTape", "(I)Z"⟩
def dkwX6_isTape_0 : List UInt8 := [42, 27, 3, 8, 182, 0, 248, 172]
abbrev dktX6_isTape_0 : List UInt8 := dkwX6_isTape_0 ++ []
theorem dksX6_isTape_0 : cX6_isTape.data.toList.drop 0 = dktX6_isTape_0 := by decide +kernel
theorem dX6_isTape_0 : decode cX6_isTape 0 = .ok (.aload_n 0, 1) := dk_42 (dk_at dksX6_isTape_0 0 rfl rfl)
theorem dX6_isTape_1 : decode cX6_isTape 1 = .ok (.iload_n 1, 1) := dk_27 (dk_at dksX6_isTape_0 1 rfl rfl)
theorem dX6_isTape_2 : decode cX6_isTape 2 = .ok (.iconst 0, 1) := dk_3 (dk_at dksX6_isTape_0 2 rfl rfl)
theorem dX6_isTape_3 : decode cX6_isTape 3 = .ok (.iconst 5, 1) := dk_8 (dk_at dksX6_isTape_0 3 rfl rfl)
theorem dX6_isTape_4 : decode cX6_isTape 4 = .ok (.invokevirtual 248, 3) := dk_182 0 248 (dk_at dksX6_isTape_0 4 rfl rfl)
theorem dX6_isTape_7 : decode cX6_isTape 7 = .ok (.ireturn, 1) := dk_172 (dk_at dksX6_isTape_0 7 rfl rfl)
abbrev cX6_image : ByteArray := prog_23_method_86_code
def yX6_image : MethodName := ⟨RX6, "image", "()I"⟩
def dkwX6_image_12 : List UInt8 := [132, 1, 1, 167, 255, 223, 42, 180, 0, 13, 172]
abbrev dktX6_image_12 : List UInt8 := dkwX6_image_12 ++ []
def dkwX6_image_11 : List UInt8 := [180, 0, 223, 27, 42, 180, 0, 156, 27, 46, 79, 42, 180, 0, 226, 27, 42, 180, 0, 159, 27, 46, 79]
abbrev dktX6_image_11 : List UInt8 := dkwX6_image_11 ++ dktX6_image_12
def dkwX6_image_10 : List UInt8 := [42, 180, 0, 50, 27, 46, 79, 132, 1, 1, 167, 255, 236, 3, 60, 27, 16, 8, 162, 0, 33, 42]
abbrev dktX6_image_10 : List UInt8 := dkwX6_image_10 ++ dktX6_image_11
def dkwX6_image_9 : List UInt8 := [180, 0, 47, 27, 46, 79, 132, 1, 1, 167, 255, 235, 3, 60, 27, 8, 162, 0, 21, 42, 180, 0, 214, 27]
abbrev dktX6_image_9 : List UInt8 := dkwX6_image_9 ++ dktX6_image_10
def dkwX6_image_8 : List UInt8 := [46, 79, 132, 1, 1, 167, 255, 115, 3, 60, 27, 16, 24, 162, 0, 21, 42, 180, 0, 211, 27, 42]
abbrev dktX6_image_8 : List UInt8 := dkwX6_image_8 ++ dktX6_image_9
def dkwX6_image_7 : List UInt8 := [46, 79, 42, 180, 0, 217, 27, 42, 180, 0, 144, 27, 46, 79, 42, 180, 0, 220, 27, 42, 180, 0, 147, 27]
abbrev dktX6_image_7 : List UInt8 := dkwX6_image_7 ++ dktX6_image_8
def dkwX6_image_6 : List UInt8 := [46, 79, 42, 180, 0, 205, 27, 42, 180, 0, 41, 27, 46, 79, 42, 180, 0, 208, 27, 42, 180, 0, 44, 27]
abbrev dktX6_image_6 : List UInt8 := dkwX6_image_6 ++ dktX6_image_7
def dkwX6_image_5 : List UInt8 := [46, 79, 42, 180, 0, 199, 27, 42, 180, 0, 35, 27, 46, 79, 42, 180, 0, 202, 27, 42, 180, 0, 38, 27]
abbrev dktX6_image_5 : List UInt8 := dkwX6_image_5 ++ dktX6_image_6
def dkwX6_image_4 : List UInt8 := [46, 79, 42, 180, 0, 193, 27, 42, 180, 0, 29, 27, 46, 79, 42, 180, 0, 196, 27, 42, 180, 0, 32, 27]
abbrev dktX6_image_4 : List UInt8 := dkwX6_image_4 ++ dktX6_image_5
def dkwX6_image_3 : List UInt8 := [46, 79, 42, 180, 0, 187, 27, 42, 180, 0, 23, 27, 46, 79, 42, 180, 0, 190, 27, 42, 180, 0, 26, 27]
abbrev dktX6_image_3 : List UInt8 := dkwX6_image_3 ++ dktX6_image_4
def dkwX6_image_2 : List UInt8 := [180, 0, 153, 181, 0, 181, 3, 60, 27, 16, 6, 162, 0, 141, 42, 180, 0, 184, 27, 42, 180, 0, 19, 27]
abbrev dktX6_image_2 : List UInt8 := dkwX6_image_2 ++ dktX6_image_3
def dkwX6_image_1 : List UInt8 := [180, 0, 13, 181, 0, 172, 42, 42, 180, 0, 16, 181, 0, 175, 42, 42, 180, 0, 141, 181, 0, 178, 42, 42]
abbrev dktX6_image_1 : List UInt8 := dkwX6_image_1 ++ dktX6_image_2
def dkwX6_image_0 : List UInt8 := [42, 4, 181, 0, 162, 42, 42, 180, 0, 56, 181, 0, 166, 42, 42, 180, 0, 7, 181, 0, 169, 42, 42]
abbrev dktX6_image_0 : List UInt8 := dkwX6_image_0 ++ dktX6_image_1
theorem dksX6_image_0 : cX6_image.data.toList.drop 0 = dktX6_image_0 := by decide +kernel
theorem dksX6_image_1 : cX6_image.data.toList.drop 23 = dktX6_image_1 := dk_seg dksX6_image_0 23 rfl rfl
theorem dksX6_image_2 : cX6_image.data.toList.drop 47 = dktX6_image_2 := dk_seg dksX6_image_1 24 rfl rfl
theorem dksX6_image_3 : cX6_image.data.toList.drop 71 = dktX6_image_3 := dk_seg dksX6_image_2 24 rfl rfl
theorem dksX6_image_4 : cX6_image.data.toList.drop 95 = dktX6_image_4 := dk_seg dksX6_image_3 24 rfl rfl
theorem dksX6_image_5 : cX6_image.data.toList.drop 119 = dktX6_image_5 := dk_seg dksX6_image_4 24 rfl rfl
theorem dksX6_image_6 : cX6_image.data.toList.drop 143 = dktX6_image_6 := dk_seg dksX6_image_5 24 rfl rfl
theorem dksX6_image_7 : cX6_image.data.toList.drop 167 = dktX6_image_7 := dk_seg dksX6_image_6 24 rfl rfl
theorem dksX6_image_8 : cX6_image.data.toList.drop 191 = dktX6_image_8 := dk_seg dksX6_image_7 24 rfl rfl
theorem dksX6_image_9 : cX6_image.data.toList.drop 213 = dktX6_image_9 := dk_seg dksX6_image_8 22 rfl rfl
theorem dksX6_image_10 : cX6_image.data.toList.drop 237 = dktX6_image_10 := dk_seg dksX6_image_9 24 rfl rfl
theorem dksX6_image_11 : cX6_image.data.toList.drop 259 = dktX6_image_11 := dk_seg dksX6_image_10 22 rfl rfl
theorem dksX6_image_12 : cX6_image.data.toList.drop 282 = dktX6_image_12 := dk_seg dksX6_image_11 23 rfl rfl
theorem dX6_image_0 : decode cX6_image 0 = .ok (.aload_n 0, 1) := dk_42 (dk_at dksX6_image_0 0 rfl rfl)
theorem dX6_image_1 : decode cX6_image 1 = .ok (.iconst 1, 1) := dk_4 (dk_at dksX6_image_0 1 rfl rfl)
theorem dX6_image_2 : decode cX6_image 2 = .ok (.putfield 162, 3) := dk_181 0 162 (dk_at dksX6_image_0 2 rfl rfl)
theorem dX6_image_5 : decode cX6_image 5 = .ok (.aload_n 0, 1) := dk_42 (dk_at dksX6_image_0 5 rfl rfl)
theorem dX6_image_6 : decode cX6_image 6 = .ok (.aload_n 0, 1) := dk_42 (dk_at dksX6_image_0 6 rfl rfl)
theorem dX6_image_7 : decode cX6_image 7 = .ok (.getfield 56, 3) := dk_180 0 56 (dk_at dksX6_image_0 7 rfl rfl)
theorem dX6_image_10 : decode cX6_image 10 = .ok (.putfield 166, 3) := dk_181 0 166 (dk_at dksX6_image_0 10 rfl rfl)
theorem dX6_image_13 : decode cX6_image 13 = .ok (.aload_n 0, 1) := dk_42 (dk_at dksX6_image_0 13 rfl rfl)
theorem dX6_image_14 : decode cX6_image 14 = .ok (.aload_n 0, 1) := dk_42 (dk_at dksX6_image_0 14 rfl rfl)
theorem dX6_image_15 : decode cX6_image 15 = .ok (.getfield 7, 3) := dk_180 0 7 (dk_at dksX6_image_0 15 rfl rfl)
theorem dX6_image_18 : decode cX6_image 18 = .ok (.putfield 169, 3) := dk_181 0 169 (dk_at dksX6_image_0 18 rfl rfl)
theorem dX6_image_21 : decode cX6_image 21 = .ok (.aload_n 0, 1) := dk_42 (dk_at dksX6_image_0 21 rfl rfl)
theorem dX6_image_22 : decode cX6_image 22 = .ok (.aload_n 0, 1) := dk_42 (dk_at dksX6_image_0 22 rfl rfl)
theorem dX6_image_23 : decode cX6_image 23 = .ok (.getfield 13, 3) := dk_180 0 13 (dk_at dksX6_image_1 0 rfl rfl)
theorem dX6_image_26 : decode cX6_image 26 = .ok (.putfield 172, 3) := dk_181 0 172 (dk_at dksX6_image_1 3 rfl rfl)
theorem dX6_image_29 : decode cX6_image 29 = .ok (.aload_n 0, 1) := dk_42 (dk_at dksX6_image_1 6 rfl rfl)
theorem dX6_image_30 : decode cX6_image 30 = .ok (.aload_n 0, 1) := dk_42 (dk_at dksX6_image_1 7 rfl rfl)
theorem dX6_image_31 : decode cX6_image 31 = .ok (.getfield 16, 3) := dk_180 0 16 (dk_at dksX6_image_1 8 rfl rfl)
theorem dX6_image_34 : decode cX6_image 34 = .ok (.putfield 175, 3) := dk_181 0 175 (dk_at dksX6_image_1 11 rfl rfl)
theorem dX6_image_37 : decode cX6_image 37 = .ok (.aload_n 0, 1) := dk_42 (dk_at dksX6_image_1 14 rfl rfl)
theorem dX6_image_38 : decode cX6_image 38 = .ok (.aload_n 0, 1) := dk_42 (dk_at dksX6_image_1 15 rfl rfl)
theorem dX6_image_39 : decode cX6_image 39 = .ok (.getfield 141, 3) := dk_180 0 141 (dk_at dksX6_image_1 16 rfl rfl)
theorem dX6_image_42 : decode cX6_image 42 = .ok (.putfield 178, 3) := dk_181 0 178 (dk_at dksX6_image_1 19 rfl rfl)
theorem dX6_image_45 : decode cX6_image 45 = .ok (.aload_n 0, 1) := dk_42 (dk_at dksX6_image_1 22 rfl rfl)
theorem dX6_image_46 : decode cX6_image 46 = .ok (.aload_n 0, 1) := dk_42 (dk_at dksX6_image_1 23 rfl rfl)
theorem dX6_image_47 : decode cX6_image 47 = .ok (.getfield 153, 3) := dk_180 0 153 (dk_at dksX6_image_2 0 rfl rfl)
theorem dX6_image_50 : decode cX6_image 50 = .ok (.putfield 181, 3) := dk_181 0 181 (dk_at dksX6_image_2 3 rfl rfl)
theorem dX6_image_53 : decode cX6_image 53 = .ok (.iconst 0, 1) := dk_3 (dk_at dksX6_image_2 6 rfl rfl)
theorem dX6_image_54 : decode cX6_image 54 = .ok (.istore_n 1, 1) := dk_60 (dk_at dksX6_image_2 7 rfl rfl)
theorem dX6_image_55 : decode cX6_image 55 = .ok (.iload_n 1, 1) := dk_27 (dk_at dksX6_image_2 8 rfl rfl)
theorem dX6_image_56 : decode cX6_image 56 = .ok (.bipush 6, 2) := dk_16 6 (dk_at dksX6_image_2 9 rfl rfl)
theorem dX6_image_58 : decode cX6_image 58 = .ok (.if_icmp .ge 141, 3) := dk_162 0 141 (dk_at dksX6_image_2 11 rfl rfl)
theorem dX6_image_61 : decode cX6_image 61 = .ok (.aload_n 0, 1) := dk_42 (dk_at dksX6_image_2 14 rfl rfl)
theorem dX6_image_62 : decode cX6_image 62 = .ok (.getfield 184, 3) := dk_180 0 184 (dk_at dksX6_image_2 15 rfl rfl)
theorem dX6_image_65 : decode cX6_image 65 = .ok (.iload_n 1, 1) := dk_27 (dk_at dksX6_image_2 18 rfl rfl)
theorem dX6_image_66 : decode cX6_image 66 = .ok (.aload_n 0, 1) := dk_42 (dk_at dksX6_image_2 19 rfl rfl)
theorem dX6_image_67 : decode cX6_image 67 = .ok (.getfield 19, 3) := dk_180 0 19 (dk_at dksX6_image_2 20 rfl rfl)
theorem dX6_image_70 : decode cX6_image 70 = .ok (.iload_n 1, 1) := dk_27 (dk_at dksX6_image_2 23 rfl rfl)
theorem dX6_image_71 : decode cX6_image 71 = .ok (.iaload, 1) := dk_46 (dk_at dksX6_image_3 0 rfl rfl)
theorem dX6_image_72 : decode cX6_image 72 = .ok (.iastore, 1) := dk_79 (dk_at dksX6_image_3 1 rfl rfl)
theorem dX6_image_73 : decode cX6_image 73 = .ok (.aload_n 0, 1) := dk_42 (dk_at dksX6_image_3 2 rfl rfl)
theorem dX6_image_74 : decode cX6_image 74 = .ok (.getfield 187, 3) := dk_180 0 187 (dk_at dksX6_image_3 3 rfl rfl)
theorem dX6_image_77 : decode cX6_image 77 = .ok (.iload_n 1, 1) := dk_27 (dk_at dksX6_image_3 6 rfl rfl)
theorem dX6_image_78 : decode cX6_image 78 = .ok (.aload_n 0, 1) := dk_42 (dk_at dksX6_image_3 7 rfl rfl)
theorem dX6_image_79 : decode cX6_image 79 = .ok (.getfield 23, 3) := dk_180 0 23 (dk_at dksX6_image_3 8 rfl rfl)
theorem dX6_image_82 : decode cX6_image 82 = .ok (.iload_n 1, 1) := dk_27 (dk_at dksX6_image_3 11 rfl rfl)
theorem dX6_image_83 : decode cX6_image 83 = .ok (.iaload, 1) := dk_46 (dk_at dksX6_image_3 12 rfl rfl)
theorem dX6_image_84 : decode cX6_image 84 = .ok (.iastore, 1) := dk_79 (dk_at dksX6_image_3 13 rfl rfl)
theorem dX6_image_85 : decode cX6_image 85 = .ok (.aload_n 0, 1) := dk_42 (dk_at dksX6_image_3 14 rfl rfl)
theorem dX6_image_86 : decode cX6_image 86 = .ok (.getfield 190, 3) := dk_180 0 190 (dk_at dksX6_image_3 15 rfl rfl)
theorem dX6_image_89 : decode cX6_image 89 = .ok (.iload_n 1, 1) := dk_27 (dk_at dksX6_image_3 18 rfl rfl)
theorem dX6_image_90 : decode cX6_image 90 = .ok (.aload_n 0, 1) := dk_42 (dk_at dksX6_image_3 19 rfl rfl)
theorem dX6_image_91 : decode cX6_image 91 = .ok (.getfield 26, 3) := dk_180 0 26 (dk_at dksX6_image_3 20 rfl rfl)
theorem dX6_image_94 : decode cX6_image 94 = .ok (.iload_n 1, 1) := dk_27 (dk_at dksX6_image_3 23 rfl rfl)
theorem dX6_image_95 : decode cX6_image 95 = .ok (.iaload, 1) := dk_46 (dk_at dksX6_image_4 0 rfl rfl)
theorem dX6_image_96 : decode cX6_image 96 = .ok (.iastore, 1) := dk_79 (dk_at dksX6_image_4 1 rfl rfl)
theorem dX6_image_97 : decode cX6_image 97 = .ok (.aload_n 0, 1) := dk_42 (dk_at dksX6_image_4 2 rfl rfl)
theorem dX6_image_98 : decode cX6_image 98 = .ok (.getfield 193, 3) := dk_180 0 193 (dk_at dksX6_image_4 3 rfl rfl)
theorem dX6_image_101 : decode cX6_image 101 = .ok (.iload_n 1, 1) := dk_27 (dk_at dksX6_image_4 6 rfl rfl)
theorem dX6_image_102 : decode cX6_image 102 = .ok (.aload_n 0, 1) := dk_42 (dk_at dksX6_image_4 7 rfl rfl)
theorem dX6_image_103 : decode cX6_image 103 = .ok (.getfield 29, 3) := dk_180 0 29 (dk_at dksX6_image_4 8 rfl rfl)
theorem dX6_image_106 : decode cX6_image 106 = .ok (.iload_n 1, 1) := dk_27 (dk_at dksX6_image_4 11 rfl rfl)
theorem dX6_image_107 : decode cX6_image 107 = .ok (.iaload, 1) := dk_46 (dk_at dksX6_image_4 12 rfl rfl)
theorem dX6_image_108 : decode cX6_image 108 = .ok (.iastore, 1) := dk_79 (dk_at dksX6_image_4 13 rfl rfl)
theorem dX6_image_109 : decode cX6_image 109 = .ok (.aload_n 0, 1) := dk_42 (dk_at dksX6_image_4 14 rfl rfl)
theorem dX6_image_110 : decode cX6_image 110 = .ok (.getfield 196, 3) := dk_180 0 196 (dk_at dksX6_image_4 15 rfl rfl)
theorem dX6_image_113 : decode cX6_image 113 = .ok (.iload_n 1, 1) := dk_27 (dk_at dksX6_image_4 18 rfl rfl)
theorem dX6_image_114 : decode cX6_image 114 = .ok (.aload_n 0, 1) := dk_42 (dk_at dksX6_image_4 19 rfl rfl)
theorem dX6_image_115 : decode cX6_image 115 = .ok (.getfield 32, 3) := dk_180 0 32 (dk_at dksX6_image_4 20 rfl rfl)
theorem dX6_image_118 : decode cX6_image 118 = .ok (.iload_n 1, 1) := dk_27 (dk_at dksX6_image_4 23 rfl rfl)
theorem dX6_image_119 : decode cX6_image 119 = .ok (.iaload, 1) := dk_46 (dk_at dksX6_image_5 0 rfl rfl)
theorem dX6_image_120 : decode cX6_image 120 = .ok (.iastore, 1) := dk_79 (dk_at dksX6_image_5 1 rfl rfl)
theorem dX6_image_121 : decode cX6_image 121 = .ok (.aload_n 0, 1) := dk_42 (dk_at dksX6_image_5 2 rfl rfl)
theorem dX6_image_122 : decode cX6_image 122 = .ok (.getfield 199, 3) := dk_180 0 199 (dk_at dksX6_image_5 3 rfl rfl)
theorem dX6_image_125 : decode cX6_image 125 = .ok (.iload_n 1, 1) := dk_27 (dk_at dksX6_image_5 6 rfl rfl)
theorem dX6_image_126 : decode cX6_image 126 = .ok (.aload_n 0, 1) := dk_42 (dk_at dksX6_image_5 7 rfl rfl)
theorem dX6_image_127 : decode cX6_image 127 = .ok (.getfield 35, 3) := dk_180 0 35 (dk_at dksX6_image_5 8 rfl rfl)
theorem dX6_image_130 : decode cX6_image 130 = .ok (.iload_n 1, 1) := dk_27 (dk_at dksX6_image_5 11 rfl rfl)
theorem dX6_image_131 : decode cX6_image 131 = .ok (.iaload, 1) := dk_46 (dk_at dksX6_image_5 12 rfl rfl)
theorem dX6_image_132 : decode cX6_image 132 = .ok (.iastore, 1) := dk_79 (dk_at dksX6_image_5 13 rfl rfl)
theorem dX6_image_133 : decode cX6_image 133 = .ok (.aload_n 0, 1) := dk_42 (dk_at dksX6_image_5 14 rfl rfl)
theorem dX6_image_134 : decode cX6_image 134 = .ok (.getfield 202, 3) := dk_180 0 202 (dk_at dksX6_image_5 15 rfl rfl)
theorem dX6_image_137 : decode cX6_image 137 = .ok (.iload_n 1, 1) := dk_27 (dk_at dksX6_image_5 18 rfl rfl)
theorem dX6_image_138 : decode cX6_image 138 = .ok (.aload_n 0, 1) := dk_42 (dk_at dksX6_image_5 19 rfl rfl)
theorem dX6_image_139 : decode cX6_image 139 = .ok (.getfield 38, 3) := dk_180 0 38 (dk_at dksX6_image_5 20 rfl rfl)
theorem dX6_image_142 : decode cX6_image 142 = .ok (.iload_n 1, 1) := dk_27 (dk_at dksX6_image_5 23 rfl rfl)
theorem dX6_image_143 : decode cX6_image 143 = .ok (.iaload, 1) := dk_46 (dk_at dksX6_image_6 0 rfl rfl)
theorem dX6_image_144 : decode cX6_image 144 = .ok (.iastore, 1) := dk_79 (dk_at dksX6_image_6 1 rfl rfl)
theorem dX6_image_145 : decode cX6_image 145 = .ok (.aload_n 0, 1) := dk_42 (dk_at dksX6_image_6 2 rfl rfl)
theorem dX6_image_146 : decode cX6_image 146 = .ok (.getfield 205, 3) := dk_180 0 205 (dk_at dksX6_image_6 3 rfl rfl)
theorem dX6_image_149 : decode cX6_image 149 = .ok (.iload_n 1, 1) := dk_27 (dk_at dksX6_image_6 6 rfl rfl)
theorem dX6_image_150 : decode cX6_image 150 = .ok (.aload_n 0, 1) := dk_42 (dk_at dksX6_image_6 7 rfl rfl)
theorem dX6_image_151 : decode cX6_image 151 = .ok (.getfield 41, 3) := dk_180 0 41 (dk_at dksX6_image_6 8 rfl rfl)
theorem dX6_image_154 : decode cX6_image 154 = .ok (.iload_n 1, 1) := dk_27 (dk_at dksX6_image_6 11 rfl rfl)
theorem dX6_image_155 : decode cX6_image 155 = .ok (.iaload, 1) := dk_46 (dk_at dksX6_image_6 12 rfl rfl)
theorem dX6_image_156 : decode cX6_image 156 = .ok (.iastore, 1) := dk_79 (dk_at dksX6_image_6 13 rfl rfl)
theorem dX6_image_157 : decode cX6_image 157 = .ok (.aload_n 0, 1) := dk_42 (dk_at dksX6_image_6 14 rfl rfl)
theorem dX6_image_158 : decode cX6_image 158 = .ok (.getfield 208, 3) := dk_180 0 208 (dk_at dksX6_image_6 15 rfl rfl)
theorem dX6_image_161 : decode cX6_image 161 = .ok (.iload_n 1, 1) := dk_27 (dk_at dksX6_image_6 18 rfl rfl)
theorem dX6_image_162 : decode cX6_image 162 = .ok (.aload_n 0, 1) := dk_42 (dk_at dksX6_image_6 19 rfl rfl)
theorem dX6_image_163 : decode cX6_image 163 = .ok (.getfield 44, 3) := dk_180 0 44 (dk_at dksX6_image_6 20 rfl rfl)
theorem dX6_image_166 : decode cX6_image 166 = .ok (.iload_n 1, 1) := dk_27 (dk_at dksX6_image_6 23 rfl rfl)
theorem dX6_image_167 : decode cX6_image 167 = .ok (.iaload, 1) := dk_46 (dk_at dksX6_image_7 0 rfl rfl)
theorem dX6_image_168 : decode cX6_image 168 = .ok (.iastore, 1) := dk_79 (dk_at dksX6_image_7 1 rfl rfl)
theorem dX6_image_169 : decode cX6_image 169 = .ok (.aload_n 0, 1) := dk_42 (dk_at dksX6_image_7 2 rfl rfl)
theorem dX6_image_170 : decode cX6_image 170 = .ok (.getfield 217, 3) := dk_180 0 217 (dk_at dksX6_image_7 3 rfl rfl)
theorem dX6_image_173 : decode cX6_image 173 = .ok (.iload_n 1, 1) := dk_27 (dk_at dksX6_image_7 6 rfl rfl)
theorem dX6_image_174 : decode cX6_image 174 = .ok (.aload_n 0, 1) := dk_42 (dk_at dksX6_image_7 7 rfl rfl)
theorem dX6_image_175 : decode cX6_image 175 = .ok (.getfield 144, 3) := dk_180 0 144 (dk_at dksX6_image_7 8 rfl rfl)
theorem dX6_image_178 : decode cX6_image 178 = .ok (.iload_n 1, 1) := dk_27 (dk_at dksX6_image_7 11 rfl rfl)
theorem dX6_image_179 : decode cX6_image 179 = .ok (.iaload, 1) := dk_46 (dk_at dksX6_image_7 12 rfl rfl)
theorem dX6_image_180 : decode cX6_image 180 = .ok (.iastore, 1) := dk_79 (dk_at dksX6_image_7 13 rfl rfl)
theorem dX6_image_181 : decode cX6_image 181 = .ok (.aload_n 0, 1) := dk_42 (dk_at dksX6_image_7 14 rfl rfl)
theorem dX6_image_182 : decode cX6_image 182 = .ok (.getfield 220, 3) := dk_180 0 220 (dk_at dksX6_image_7 15 rfl rfl)
theorem dX6_image_185 : decode cX6_image 185 = .ok (.iload_n 1, 1) := dk_27 (dk_at dksX6_image_7 18 rfl rfl)
theorem dX6_image_186 : decode cX6_image 186 = .ok (.aload_n 0, 1) := dk_42 (dk_at dksX6_image_7 19 rfl rfl)
theorem dX6_image_187 : decode cX6_image 187 = .ok (.getfield 147, 3) := dk_180 0 147 (dk_at dksX6_image_7 20 rfl rfl)
theorem dX6_image_190 : decode cX6_image 190 = .ok (.iload_n 1, 1) := dk_27 (dk_at dksX6_image_7 23 rfl rfl)
theorem dX6_image_191 : decode cX6_image 191 = .ok (.iaload, 1) := dk_46 (dk_at dksX6_image_8 0 rfl rfl)
theorem dX6_image_192 : decode cX6_image 192 = .ok (.iastore, 1) := dk_79 (dk_at dksX6_image_8 1 rfl rfl)
theorem dX6_image_193 : decode cX6_image 193 = .ok (.iinc 1 1, 3) := dk_132 1 1 (dk_at dksX6_image_8 2 rfl rfl)
theorem dX6_image_196 : decode cX6_image 196 = .ok (.goto (-141), 3) := dk_167 255 115 (dk_at dksX6_image_8 5 rfl rfl)
theorem dX6_image_199 : decode cX6_image 199 = .ok (.iconst 0, 1) := dk_3 (dk_at dksX6_image_8 8 rfl rfl)
theorem dX6_image_200 : decode cX6_image 200 = .ok (.istore_n 1, 1) := dk_60 (dk_at dksX6_image_8 9 rfl rfl)
theorem dX6_image_201 : decode cX6_image 201 = .ok (.iload_n 1, 1) := dk_27 (dk_at dksX6_image_8 10 rfl rfl)
theorem dX6_image_202 : decode cX6_image 202 = .ok (.bipush 24, 2) := dk_16 24 (dk_at dksX6_image_8 11 rfl rfl)
theorem dX6_image_204 : decode cX6_image 204 = .ok (.if_icmp .ge 21, 3) := dk_162 0 21 (dk_at dksX6_image_8 13 rfl rfl)
theorem dX6_image_207 : decode cX6_image 207 = .ok (.aload_n 0, 1) := dk_42 (dk_at dksX6_image_8 16 rfl rfl)
theorem dX6_image_208 : decode cX6_image 208 = .ok (.getfield 211, 3) := dk_180 0 211 (dk_at dksX6_image_8 17 rfl rfl)
theorem dX6_image_211 : decode cX6_image 211 = .ok (.iload_n 1, 1) := dk_27 (dk_at dksX6_image_8 20 rfl rfl)
theorem dX6_image_212 : decode cX6_image 212 = .ok (.aload_n 0, 1) := dk_42 (dk_at dksX6_image_8 21 rfl rfl)
theorem dX6_image_213 : decode cX6_image 213 = .ok (.getfield 47, 3) := dk_180 0 47 (dk_at dksX6_image_9 0 rfl rfl)
theorem dX6_image_216 : decode cX6_image 216 = .ok (.iload_n 1, 1) := dk_27 (dk_at dksX6_image_9 3 rfl rfl)
theorem dX6_image_217 : decode cX6_image 217 = .ok (.iaload, 1) := dk_46 (dk_at dksX6_image_9 4 rfl rfl)
theorem dX6_image_218 : decode cX6_image 218 = .ok (.iastore, 1) := dk_79 (dk_at dksX6_image_9 5 rfl rfl)
theorem dX6_image_219 : decode cX6_image 219 = .ok (.iinc 1 1, 3) := dk_132 1 1 (dk_at dksX6_image_9 6 rfl rfl)
theorem dX6_image_222 : decode cX6_image 222 = .ok (.goto (-21), 3) := dk_167 255 235 (dk_at dksX6_image_9 9 rfl rfl)
theorem dX6_image_225 : decode cX6_image 225 = .ok (.iconst 0, 1) := dk_3 (dk_at dksX6_image_9 12 rfl rfl)
theorem dX6_image_226 : decode cX6_image 226 = .ok (.istore_n 1, 1) := dk_60 (dk_at dksX6_image_9 13 rfl rfl)
theorem dX6_image_227 : decode cX6_image 227 = .ok (.iload_n 1, 1) := dk_27 (dk_at dksX6_image_9 14 rfl rfl)
theorem dX6_image_228 : decode cX6_image 228 = .ok (.iconst 5, 1) := dk_8 (dk_at dksX6_image_9 15 rfl rfl)
theorem dX6_image_229 : decode cX6_image 229 = .ok (.if_icmp .ge 21, 3) := dk_162 0 21 (dk_at dksX6_image_9 16 rfl rfl)
theorem dX6_image_232 : decode cX6_image 232 = .ok (.aload_n 0, 1) := dk_42 (dk_at dksX6_image_9 19 rfl rfl)
theorem dX6_image_233 : decode cX6_image 233 = .ok (.getfield 214, 3) := dk_180 0 214 (dk_at dksX6_image_9 20 rfl rfl)
theorem dX6_image_236 : decode cX6_image 236 = .ok (.iload_n 1, 1) := dk_27 (dk_at dksX6_image_9 23 rfl rfl)
theorem dX6_image_237 : decode cX6_image 237 = .ok (.aload_n 0, 1) := dk_42 (dk_at dksX6_image_10 0 rfl rfl)
theorem dX6_image_238 : decode cX6_image 238 = .ok (.getfield 50, 3) := dk_180 0 50 (dk_at dksX6_image_10 1 rfl rfl)
theorem dX6_image_241 : decode cX6_image 241 = .ok (.iload_n 1, 1) := dk_27 (dk_at dksX6_image_10 4 rfl rfl)
theorem dX6_image_242 : decode cX6_image 242 = .ok (.iaload, 1) := dk_46 (dk_at dksX6_image_10 5 rfl rfl)
theorem dX6_image_243 : decode cX6_image 243 = .ok (.iastore, 1) := dk_79 (dk_at dksX6_image_10 6 rfl rfl)
theorem dX6_image_244 : decode cX6_image 244 = .ok (.iinc 1 1, 3) := dk_132 1 1 (dk_at dksX6_image_10 7 rfl rfl)
theorem dX6_image_247 : decode cX6_image 247 = .ok (.goto (-20), 3) := dk_167 255 236 (dk_at dksX6_image_10 10 rfl rfl)
theorem dX6_image_250 : decode cX6_image 250 = .ok (.iconst 0, 1) := dk_3 (dk_at dksX6_image_10 13 rfl rfl)
theorem dX6_image_251 : decode cX6_image 251 = .ok (.istore_n 1, 1) := dk_60 (dk_at dksX6_image_10 14 rfl rfl)
theorem dX6_image_252 : decode cX6_image 252 = .ok (.iload_n 1, 1) := dk_27 (dk_at dksX6_image_10 15 rfl rfl)
theorem dX6_image_253 : decode cX6_image 253 = .ok (.bipush 8, 2) := dk_16 8 (dk_at dksX6_image_10 16 rfl rfl)
theorem dX6_image_255 : decode cX6_image 255 = .ok (.if_icmp .ge 33, 3) := dk_162 0 33 (dk_at dksX6_image_10 18 rfl rfl)
theorem dX6_image_258 : decode cX6_image 258 = .ok (.aload_n 0, 1) := dk_42 (dk_at dksX6_image_10 21 rfl rfl)
theorem dX6_image_259 : decode cX6_image 259 = .ok (.getfield 223, 3) := dk_180 0 223 (dk_at dksX6_image_11 0 rfl rfl)
theorem dX6_image_262 : decode cX6_image 262 = .ok (.iload_n 1, 1) := dk_27 (dk_at dksX6_image_11 3 rfl rfl)
theorem dX6_image_263 : decode cX6_image 263 = .ok (.aload_n 0, 1) := dk_42 (dk_at dksX6_image_11 4 rfl rfl)
theorem dX6_image_264 : decode cX6_image 264 = .ok (.getfield 156, 3) := dk_180 0 156 (dk_at dksX6_image_11 5 rfl rfl)
theorem dX6_image_267 : decode cX6_image 267 = .ok (.iload_n 1, 1) := dk_27 (dk_at dksX6_image_11 8 rfl rfl)
theorem dX6_image_268 : decode cX6_image 268 = .ok (.iaload, 1) := dk_46 (dk_at dksX6_image_11 9 rfl rfl)
theorem dX6_image_269 : decode cX6_image 269 = .ok (.iastore, 1) := dk_79 (dk_at dksX6_image_11 10 rfl rfl)
theorem dX6_image_270 : decode cX6_image 270 = .ok (.aload_n 0, 1) := dk_42 (dk_at dksX6_image_11 11 rfl rfl)
theorem dX6_image_271 : decode cX6_image 271 = .ok (.getfield 226, 3) := dk_180 0 226 (dk_at dksX6_image_11 12 rfl rfl)
theorem dX6_image_274 : decode cX6_image 274 = .ok (.iload_n 1, 1) := dk_27 (dk_at dksX6_image_11 15 rfl rfl)
theorem dX6_image_275 : decode cX6_image 275 = .ok (.aload_n 0, 1) := dk_42 (dk_at dksX6_image_11 16 rfl rfl)
theorem dX6_image_276 : decode cX6_image 276 = .ok (.getfield 159, 3) := dk_180 0 159 (dk_at dksX6_image_11 17 rfl rfl)
theorem dX6_image_279 : decode cX6_image 279 = .ok (.iload_n 1, 1) := dk_27 (dk_at dksX6_image_11 20 rfl rfl)
theorem dX6_image_280 : decode cX6_image 280 = .ok (.iaload, 1) := dk_46 (dk_at dksX6_image_11 21 rfl rfl)
theorem dX6_image_281 : decode cX6_image 281 = .ok (.iastore, 1) := dk_79 (dk_at dksX6_image_11 22 rfl rfl)
theorem dX6_image_282 : decode cX6_image 282 = .ok (.iinc 1 1, 3) := dk_132 1 1 (dk_at dksX6_image_12 0 rfl rfl)
theorem dX6_image_285 : decode cX6_image 285 = .ok (.goto (-33), 3) := dk_167 255 223 (dk_at dksX6_image_12 3 rfl rfl)
theorem dX6_image_288 : decode cX6_image 288 = .ok (.aload_n 0, 1) := dk_42 (dk_at dksX6_image_12 6 rfl rfl)
theorem dX6_image_289 : decode cX6_image 289 = .ok (.getfield 13, 3) := dk_180 0 13 (dk_at dksX6_image_12 7 rfl rfl)
theorem dX6_image_292 : decode cX6_image 292 = .ok (.ireturn, 1) := dk_172 (dk_at dksX6_image_12 10 rfl rfl)
abbrev cX6_undo : ByteArray := prog_23_method_87_code
def yX6_undo : MethodName := ⟨RX6, "undo", "()I"⟩
def dkwX6_undo_12 : List UInt8 := [27, 46, 79, 132, 1, 1, 167, 255, 223, 42, 180, 0, 13, 172]
abbrev dktX6_undo_12 : List UInt8 := dkwX6_undo_12 ++ []
def dkwX6_undo_11 : List UInt8 := [162, 0, 33, 42, 180, 0, 156, 27, 42, 180, 0, 223, 27, 46, 79, 42, 180, 0, 159, 27, 42, 180, 0, 226]
abbrev dktX6_undo_11 : List UInt8 := dkwX6_undo_11 ++ dktX6_undo_12
def dkwX6_undo_10 : List UInt8 := [42, 180, 0, 50, 27, 42, 180, 0, 214, 27, 46, 79, 132, 1, 1, 167, 255, 236, 3, 60, 27, 16, 8]
abbrev dktX6_undo_10 : List UInt8 := dkwX6_undo_10 ++ dktX6_undo_11
def dkwX6_undo_9 : List UInt8 := [180, 0, 47, 27, 42, 180, 0, 211, 27, 46, 79, 132, 1, 1, 167, 255, 235, 3, 60, 27, 8, 162, 0, 21]
abbrev dktX6_undo_9 : List UInt8 := dkwX6_undo_9 ++ dktX6_undo_10
def dkwX6_undo_8 : List UInt8 := [42, 180, 0, 220, 27, 46, 79, 132, 1, 1, 167, 255, 115, 3, 60, 27, 16, 24, 162, 0, 21, 42]
abbrev dktX6_undo_8 : List UInt8 := dkwX6_undo_8 ++ dktX6_undo_9
def dkwX6_undo_7 : List UInt8 := [42, 180, 0, 208, 27, 46, 79, 42, 180, 0, 144, 27, 42, 180, 0, 217, 27, 46, 79, 42, 180, 0, 147, 27]
abbrev dktX6_undo_7 : List UInt8 := dkwX6_undo_7 ++ dktX6_undo_8
def dkwX6_undo_6 : List UInt8 := [42, 180, 0, 202, 27, 46, 79, 42, 180, 0, 41, 27, 42, 180, 0, 205, 27, 46, 79, 42, 180, 0, 44, 27]
abbrev dktX6_undo_6 : List UInt8 := dkwX6_undo_6 ++ dktX6_undo_7
def dkwX6_undo_5 : List UInt8 := [42, 180, 0, 196, 27, 46, 79, 42, 180, 0, 35, 27, 42, 180, 0, 199, 27, 46, 79, 42, 180, 0, 38, 27]
abbrev dktX6_undo_5 : List UInt8 := dkwX6_undo_5 ++ dktX6_undo_6
def dkwX6_undo_4 : List UInt8 := [42, 180, 0, 190, 27, 46, 79, 42, 180, 0, 29, 27, 42, 180, 0, 193, 27, 46, 79, 42, 180, 0, 32, 27]
abbrev dktX6_undo_4 : List UInt8 := dkwX6_undo_4 ++ dktX6_undo_5
def dkwX6_undo_3 : List UInt8 := [42, 180, 0, 184, 27, 46, 79, 42, 180, 0, 23, 27, 42, 180, 0, 187, 27, 46, 79, 42, 180, 0, 26, 27]
abbrev dktX6_undo_3 : List UInt8 := dkwX6_undo_3 ++ dktX6_undo_4
def dkwX6_undo_2 : List UInt8 := [181, 0, 141, 42, 42, 180, 0, 181, 181, 0, 153, 3, 60, 27, 16, 6, 162, 0, 141, 42, 180, 0, 19, 27]
abbrev dktX6_undo_2 : List UInt8 := dkwX6_undo_2 ++ dktX6_undo_3
def dkwX6_undo_1 : List UInt8 := [181, 0, 7, 42, 42, 180, 0, 172, 181, 0, 13, 42, 42, 180, 0, 175, 181, 0, 16, 42, 42, 180, 0, 178]
abbrev dktX6_undo_1 : List UInt8 := dkwX6_undo_1 ++ dktX6_undo_2
def dkwX6_undo_0 : List UInt8 := [42, 180, 0, 162, 154, 0, 6, 16, 253, 172, 42, 42, 180, 0, 166, 181, 0, 56, 42, 42, 180, 0, 169]
abbrev dktX6_undo_0 : List UInt8 := dkwX6_undo_0 ++ dktX6_undo_1
theorem dksX6_undo_0 : cX6_undo.data.toList.drop 0 = dktX6_undo_0 := by decide +kernel
theorem dksX6_undo_1 : cX6_undo.data.toList.drop 23 = dktX6_undo_1 := dk_seg dksX6_undo_0 23 rfl rfl
theorem dksX6_undo_2 : cX6_undo.data.toList.drop 47 = dktX6_undo_2 := dk_seg dksX6_undo_1 24 rfl rfl
theorem dksX6_undo_3 : cX6_undo.data.toList.drop 71 = dktX6_undo_3 := dk_seg dksX6_undo_2 24 rfl rfl
theorem dksX6_undo_4 : cX6_undo.data.toList.drop 95 = dktX6_undo_4 := dk_seg dksX6_undo_3 24 rfl rfl
theorem dksX6_undo_5 : cX6_undo.data.toList.drop 119 = dktX6_undo_5 := dk_seg dksX6_undo_4 24 rfl rfl
theorem dksX6_undo_6 : cX6_undo.data.toList.drop 143 = dktX6_undo_6 := dk_seg dksX6_undo_5 24 rfl rfl
theorem dksX6_undo_7 : cX6_undo.data.toList.drop 167 = dktX6_undo_7 := dk_seg dksX6_undo_6 24 rfl rfl
theorem dksX6_undo_8 : cX6_undo.data.toList.drop 191 = dktX6_undo_8 := dk_seg dksX6_undo_7 24 rfl rfl
theorem dksX6_undo_9 : cX6_undo.data.toList.drop 213 = dktX6_undo_9 := dk_seg dksX6_undo_8 22 rfl rfl
theorem dksX6_undo_10 : cX6_undo.data.toList.drop 237 = dktX6_undo_10 := dk_seg dksX6_undo_9 24 rfl rfl
theorem dksX6_undo_11 : cX6_undo.data.toList.drop 260 = dktX6_undo_11 := dk_seg dksX6_undo_10 23 rfl rfl
theorem dksX6_undo_12 : cX6_undo.data.toList.drop 284 = dktX6_undo_12 := dk_seg dksX6_undo_11 24 rfl rfl
theorem dX6_undo_0 : decode cX6_undo 0 = .ok (.aload_n 0, 1) := dk_42 (dk_at dksX6_undo_0 0 rfl rfl)
theorem dX6_undo_1 : decode cX6_undo 1 = .ok (.getfield 162, 3) := dk_180 0 162 (dk_at dksX6_undo_0 1 rfl rfl)
theorem dX6_undo_4 : decode cX6_undo 4 = .ok (.ifCond .ne 6, 3) := dk_154 0 6 (dk_at dksX6_undo_0 4 rfl rfl)
theorem dX6_undo_7 : decode cX6_undo 7 = .ok (.bipush (-3), 2) := dk_16 253 (dk_at dksX6_undo_0 7 rfl rfl)
theorem dX6_undo_9 : decode cX6_undo 9 = .ok (.ireturn, 1) := dk_172 (dk_at dksX6_undo_0 9 rfl rfl)
theorem dX6_undo_10 : decode cX6_undo 10 = .ok (.aload_n 0, 1) := dk_42 (dk_at dksX6_undo_0 10 rfl rfl)
theorem dX6_undo_11 : decode cX6_undo 11 = .ok (.aload_n 0, 1) := dk_42 (dk_at dksX6_undo_0 11 rfl rfl)
theorem dX6_undo_12 : decode cX6_undo 12 = .ok (.getfield 166, 3) := dk_180 0 166 (dk_at dksX6_undo_0 12 rfl rfl)
theorem dX6_undo_15 : decode cX6_undo 15 = .ok (.putfield 56, 3) := dk_181 0 56 (dk_at dksX6_undo_0 15 rfl rfl)
theorem dX6_undo_18 : decode cX6_undo 18 = .ok (.aload_n 0, 1) := dk_42 (dk_at dksX6_undo_0 18 rfl rfl)
theorem dX6_undo_19 : decode cX6_undo 19 = .ok (.aload_n 0, 1) := dk_42 (dk_at dksX6_undo_0 19 rfl rfl)
theorem dX6_undo_20 : decode cX6_undo 20 = .ok (.getfield 169, 3) := dk_180 0 169 (dk_at dksX6_undo_0 20 rfl rfl)
theorem dX6_undo_23 : decode cX6_undo 23 = .ok (.putfield 7, 3) := dk_181 0 7 (dk_at dksX6_undo_1 0 rfl rfl)
theorem dX6_undo_26 : decode cX6_undo 26 = .ok (.aload_n 0, 1) := dk_42 (dk_at dksX6_undo_1 3 rfl rfl)
theorem dX6_undo_27 : decode cX6_undo 27 = .ok (.aload_n 0, 1) := dk_42 (dk_at dksX6_undo_1 4 rfl rfl)
theorem dX6_undo_28 : decode cX6_undo 28 = .ok (.getfield 172, 3) := dk_180 0 172 (dk_at dksX6_undo_1 5 rfl rfl)
theorem dX6_undo_31 : decode cX6_undo 31 = .ok (.putfield 13, 3) := dk_181 0 13 (dk_at dksX6_undo_1 8 rfl rfl)
theorem dX6_undo_34 : decode cX6_undo 34 = .ok (.aload_n 0, 1) := dk_42 (dk_at dksX6_undo_1 11 rfl rfl)
theorem dX6_undo_35 : decode cX6_undo 35 = .ok (.aload_n 0, 1) := dk_42 (dk_at dksX6_undo_1 12 rfl rfl)
theorem dX6_undo_36 : decode cX6_undo 36 = .ok (.getfield 175, 3) := dk_180 0 175 (dk_at dksX6_undo_1 13 rfl rfl)
theorem dX6_undo_39 : decode cX6_undo 39 = .ok (.putfield 16, 3) := dk_181 0 16 (dk_at dksX6_undo_1 16 rfl rfl)
theorem dX6_undo_42 : decode cX6_undo 42 = .ok (.aload_n 0, 1) := dk_42 (dk_at dksX6_undo_1 19 rfl rfl)
theorem dX6_undo_43 : decode cX6_undo 43 = .ok (.aload_n 0, 1) := dk_42 (dk_at dksX6_undo_1 20 rfl rfl)
theorem dX6_undo_44 : decode cX6_undo 44 = .ok (.getfield 178, 3) := dk_180 0 178 (dk_at dksX6_undo_1 21 rfl rfl)
theorem dX6_undo_47 : decode cX6_undo 47 = .ok (.putfield 141, 3) := dk_181 0 141 (dk_at dksX6_undo_2 0 rfl rfl)
theorem dX6_undo_50 : decode cX6_undo 50 = .ok (.aload_n 0, 1) := dk_42 (dk_at dksX6_undo_2 3 rfl rfl)
theorem dX6_undo_51 : decode cX6_undo 51 = .ok (.aload_n 0, 1) := dk_42 (dk_at dksX6_undo_2 4 rfl rfl)
theorem dX6_undo_52 : decode cX6_undo 52 = .ok (.getfield 181, 3) := dk_180 0 181 (dk_at dksX6_undo_2 5 rfl rfl)
theorem dX6_undo_55 : decode cX6_undo 55 = .ok (.putfield 153, 3) := dk_181 0 153 (dk_at dksX6_undo_2 8 rfl rfl)
theorem dX6_undo_58 : decode cX6_undo 58 = .ok (.iconst 0, 1) := dk_3 (dk_at dksX6_undo_2 11 rfl rfl)
theorem dX6_undo_59 : decode cX6_undo 59 = .ok (.istore_n 1, 1) := dk_60 (dk_at dksX6_undo_2 12 rfl rfl)
theorem dX6_undo_60 : decode cX6_undo 60 = .ok (.iload_n 1, 1) := dk_27 (dk_at dksX6_undo_2 13 rfl rfl)
theorem dX6_undo_61 : decode cX6_undo 61 = .ok (.bipush 6, 2) := dk_16 6 (dk_at dksX6_undo_2 14 rfl rfl)
theorem dX6_undo_63 : decode cX6_undo 63 = .ok (.if_icmp .ge 141, 3) := dk_162 0 141 (dk_at dksX6_undo_2 16 rfl rfl)
theorem dX6_undo_66 : decode cX6_undo 66 = .ok (.aload_n 0, 1) := dk_42 (dk_at dksX6_undo_2 19 rfl rfl)
theorem dX6_undo_67 : decode cX6_undo 67 = .ok (.getfield 19, 3) := dk_180 0 19 (dk_at dksX6_undo_2 20 rfl rfl)
theorem dX6_undo_70 : decode cX6_undo 70 = .ok (.iload_n 1, 1) := dk_27 (dk_at dksX6_undo_2 23 rfl rfl)
theorem dX6_undo_71 : decode cX6_undo 71 = .ok (.aload_n 0, 1) := dk_42 (dk_at dksX6_undo_3 0 rfl rfl)
theorem dX6_undo_72 : decode cX6_undo 72 = .ok (.getfield 184, 3) := dk_180 0 184 (dk_at dksX6_undo_3 1 rfl rfl)
theorem dX6_undo_75 : decode cX6_undo 75 = .ok (.iload_n 1, 1) := dk_27 (dk_at dksX6_undo_3 4 rfl rfl)
theorem dX6_undo_76 : decode cX6_undo 76 = .ok (.iaload, 1) := dk_46 (dk_at dksX6_undo_3 5 rfl rfl)
theorem dX6_undo_77 : decode cX6_undo 77 = .ok (.iastore, 1) := dk_79 (dk_at dksX6_undo_3 6 rfl rfl)
theorem dX6_undo_78 : decode cX6_undo 78 = .ok (.aload_n 0, 1) := dk_42 (dk_at dksX6_undo_3 7 rfl rfl)
theorem dX6_undo_79 : decode cX6_undo 79 = .ok (.getfield 23, 3) := dk_180 0 23 (dk_at dksX6_undo_3 8 rfl rfl)
theorem dX6_undo_82 : decode cX6_undo 82 = .ok (.iload_n 1, 1) := dk_27 (dk_at dksX6_undo_3 11 rfl rfl)
theorem dX6_undo_83 : decode cX6_undo 83 = .ok (.aload_n 0, 1) := dk_42 (dk_at dksX6_undo_3 12 rfl rfl)
theorem dX6_undo_84 : decode cX6_undo 84 = .ok (.getfield 187, 3) := dk_180 0 187 (dk_at dksX6_undo_3 13 rfl rfl)
theorem dX6_undo_87 : decode cX6_undo 87 = .ok (.iload_n 1, 1) := dk_27 (dk_at dksX6_undo_3 16 rfl rfl)
theorem dX6_undo_88 : decode cX6_undo 88 = .ok (.iaload, 1) := dk_46 (dk_at dksX6_undo_3 17 rfl rfl)
theorem dX6_undo_89 : decode cX6_undo 89 = .ok (.iastore, 1) := dk_79 (dk_at dksX6_undo_3 18 rfl rfl)
theorem dX6_undo_90 : decode cX6_undo 90 = .ok (.aload_n 0, 1) := dk_42 (dk_at dksX6_undo_3 19 rfl rfl)
theorem dX6_undo_91 : decode cX6_undo 91 = .ok (.getfield 26, 3) := dk_180 0 26 (dk_at dksX6_undo_3 20 rfl rfl)
theorem dX6_undo_94 : decode cX6_undo 94 = .ok (.iload_n 1, 1) := dk_27 (dk_at dksX6_undo_3 23 rfl rfl)
theorem dX6_undo_95 : decode cX6_undo 95 = .ok (.aload_n 0, 1) := dk_42 (dk_at dksX6_undo_4 0 rfl rfl)
theorem dX6_undo_96 : decode cX6_undo 96 = .ok (.getfield 190, 3) := dk_180 0 190 (dk_at dksX6_undo_4 1 rfl rfl)
theorem dX6_undo_99 : decode cX6_undo 99 = .ok (.iload_n 1, 1) := dk_27 (dk_at dksX6_undo_4 4 rfl rfl)
theorem dX6_undo_100 : decode cX6_undo 100 = .ok (.iaload, 1) := dk_46 (dk_at dksX6_undo_4 5 rfl rfl)
theorem dX6_undo_101 : decode cX6_undo 101 = .ok (.iastore, 1) := dk_79 (dk_at dksX6_undo_4 6 rfl rfl)
theorem dX6_undo_102 : decode cX6_undo 102 = .ok (.aload_n 0, 1) := dk_42 (dk_at dksX6_undo_4 7 rfl rfl)
theorem dX6_undo_103 : decode cX6_undo 103 = .ok (.getfield 29, 3) := dk_180 0 29 (dk_at dksX6_undo_4 8 rfl rfl)
theorem dX6_undo_106 : decode cX6_undo 106 = .ok (.iload_n 1, 1) := dk_27 (dk_at dksX6_undo_4 11 rfl rfl)
theorem dX6_undo_107 : decode cX6_undo 107 = .ok (.aload_n 0, 1) := dk_42 (dk_at dksX6_undo_4 12 rfl rfl)
theorem dX6_undo_108 : decode cX6_undo 108 = .ok (.getfield 193, 3) := dk_180 0 193 (dk_at dksX6_undo_4 13 rfl rfl)
theorem dX6_undo_111 : decode cX6_undo 111 = .ok (.iload_n 1, 1) := dk_27 (dk_at dksX6_undo_4 16 rfl rfl)
theorem dX6_undo_112 : decode cX6_undo 112 = .ok (.iaload, 1) := dk_46 (dk_at dksX6_undo_4 17 rfl rfl)
theorem dX6_undo_113 : decode cX6_undo 113 = .ok (.iastore, 1) := dk_79 (dk_at dksX6_undo_4 18 rfl rfl)
theorem dX6_undo_114 : decode cX6_undo 114 = .ok (.aload_n 0, 1) := dk_42 (dk_at dksX6_undo_4 19 rfl rfl)
theorem dX6_undo_115 : decode cX6_undo 115 = .ok (.getfield 32, 3) := dk_180 0 32 (dk_at dksX6_undo_4 20 rfl rfl)
theorem dX6_undo_118 : decode cX6_undo 118 = .ok (.iload_n 1, 1) := dk_27 (dk_at dksX6_undo_4 23 rfl rfl)
theorem dX6_undo_119 : decode cX6_undo 119 = .ok (.aload_n 0, 1) := dk_42 (dk_at dksX6_undo_5 0 rfl rfl)
theorem dX6_undo_120 : decode cX6_undo 120 = .ok (.getfield 196, 3) := dk_180 0 196 (dk_at dksX6_undo_5 1 rfl rfl)
theorem dX6_undo_123 : decode cX6_undo 123 = .ok (.iload_n 1, 1) := dk_27 (dk_at dksX6_undo_5 4 rfl rfl)
theorem dX6_undo_124 : decode cX6_undo 124 = .ok (.iaload, 1) := dk_46 (dk_at dksX6_undo_5 5 rfl rfl)
theorem dX6_undo_125 : decode cX6_undo 125 = .ok (.iastore, 1) := dk_79 (dk_at dksX6_undo_5 6 rfl rfl)
theorem dX6_undo_126 : decode cX6_undo 126 = .ok (.aload_n 0, 1) := dk_42 (dk_at dksX6_undo_5 7 rfl rfl)
theorem dX6_undo_127 : decode cX6_undo 127 = .ok (.getfield 35, 3) := dk_180 0 35 (dk_at dksX6_undo_5 8 rfl rfl)
theorem dX6_undo_130 : decode cX6_undo 130 = .ok (.iload_n 1, 1) := dk_27 (dk_at dksX6_undo_5 11 rfl rfl)
theorem dX6_undo_131 : decode cX6_undo 131 = .ok (.aload_n 0, 1) := dk_42 (dk_at dksX6_undo_5 12 rfl rfl)
theorem dX6_undo_132 : decode cX6_undo 132 = .ok (.getfield 199, 3) := dk_180 0 199 (dk_at dksX6_undo_5 13 rfl rfl)
theorem dX6_undo_135 : decode cX6_undo 135 = .ok (.iload_n 1, 1) := dk_27 (dk_at dksX6_undo_5 16 rfl rfl)
theorem dX6_undo_136 : decode cX6_undo 136 = .ok (.iaload, 1) := dk_46 (dk_at dksX6_undo_5 17 rfl rfl)
theorem dX6_undo_137 : decode cX6_undo 137 = .ok (.iastore, 1) := dk_79 (dk_at dksX6_undo_5 18 rfl rfl)
theorem dX6_undo_138 : decode cX6_undo 138 = .ok (.aload_n 0, 1) := dk_42 (dk_at dksX6_undo_5 19 rfl rfl)
theorem dX6_undo_139 : decode cX6_undo 139 = .ok (.getfield 38, 3) := dk_180 0 38 (dk_at dksX6_undo_5 20 rfl rfl)
theorem dX6_undo_142 : decode cX6_undo 142 = .ok (.iload_n 1, 1) := dk_27 (dk_at dksX6_undo_5 23 rfl rfl)
theorem dX6_undo_143 : decode cX6_undo 143 = .ok (.aload_n 0, 1) := dk_42 (dk_at dksX6_undo_6 0 rfl rfl)
theorem dX6_undo_144 : decode cX6_undo 144 = .ok (.getfield 202, 3) := dk_180 0 202 (dk_at dksX6_undo_6 1 rfl rfl)
theorem dX6_undo_147 : decode cX6_undo 147 = .ok (.iload_n 1, 1) := dk_27 (dk_at dksX6_undo_6 4 rfl rfl)
theorem dX6_undo_148 : decode cX6_undo 148 = .ok (.iaload, 1) := dk_46 (dk_at dksX6_undo_6 5 rfl rfl)
theorem dX6_undo_149 : decode cX6_undo 149 = .ok (.iastore, 1) := dk_79 (dk_at dksX6_undo_6 6 rfl rfl)
theorem dX6_undo_150 : decode cX6_undo 150 = .ok (.aload_n 0, 1) := dk_42 (dk_at dksX6_undo_6 7 rfl rfl)
theorem dX6_undo_151 : decode cX6_undo 151 = .ok (.getfield 41, 3) := dk_180 0 41 (dk_at dksX6_undo_6 8 rfl rfl)
theorem dX6_undo_154 : decode cX6_undo 154 = .ok (.iload_n 1, 1) := dk_27 (dk_at dksX6_undo_6 11 rfl rfl)
theorem dX6_undo_155 : decode cX6_undo 155 = .ok (.aload_n 0, 1) := dk_42 (dk_at dksX6_undo_6 12 rfl rfl)
theorem dX6_undo_156 : decode cX6_undo 156 = .ok (.getfield 205, 3) := dk_180 0 205 (dk_at dksX6_undo_6 13 rfl rfl)
theorem dX6_undo_159 : decode cX6_undo 159 = .ok (.iload_n 1, 1) := dk_27 (dk_at dksX6_undo_6 16 rfl rfl)
theorem dX6_undo_160 : decode cX6_undo 160 = .ok (.iaload, 1) := dk_46 (dk_at dksX6_undo_6 17 rfl rfl)
theorem dX6_undo_161 : decode cX6_undo 161 = .ok (.iastore, 1) := dk_79 (dk_at dksX6_undo_6 18 rfl rfl)
theorem dX6_undo_162 : decode cX6_undo 162 = .ok (.aload_n 0, 1) := dk_42 (dk_at dksX6_undo_6 19 rfl rfl)
theorem dX6_undo_163 : decode cX6_undo 163 = .ok (.getfield 44, 3) := dk_180 0 44 (dk_at dksX6_undo_6 20 rfl rfl)
theorem dX6_undo_166 : decode cX6_undo 166 = .ok (.iload_n 1, 1) := dk_27 (dk_at dksX6_undo_6 23 rfl rfl)
theorem dX6_undo_167 : decode cX6_undo 167 = .ok (.aload_n 0, 1) := dk_42 (dk_at dksX6_undo_7 0 rfl rfl)
theorem dX6_undo_168 : decode cX6_undo 168 = .ok (.getfield 208, 3) := dk_180 0 208 (dk_at dksX6_undo_7 1 rfl rfl)
theorem dX6_undo_171 : decode cX6_undo 171 = .ok (.iload_n 1, 1) := dk_27 (dk_at dksX6_undo_7 4 rfl rfl)
theorem dX6_undo_172 : decode cX6_undo 172 = .ok (.iaload, 1) := dk_46 (dk_at dksX6_undo_7 5 rfl rfl)
theorem dX6_undo_173 : decode cX6_undo 173 = .ok (.iastore, 1) := dk_79 (dk_at dksX6_undo_7 6 rfl rfl)
theorem dX6_undo_174 : decode cX6_undo 174 = .ok (.aload_n 0, 1) := dk_42 (dk_at dksX6_undo_7 7 rfl rfl)
theorem dX6_undo_175 : decode cX6_undo 175 = .ok (.getfield 144, 3) := dk_180 0 144 (dk_at dksX6_undo_7 8 rfl rfl)
theorem dX6_undo_178 : decode cX6_undo 178 = .ok (.iload_n 1, 1) := dk_27 (dk_at dksX6_undo_7 11 rfl rfl)
theorem dX6_undo_179 : decode cX6_undo 179 = .ok (.aload_n 0, 1) := dk_42 (dk_at dksX6_undo_7 12 rfl rfl)
theorem dX6_undo_180 : decode cX6_undo 180 = .ok (.getfield 217, 3) := dk_180 0 217 (dk_at dksX6_undo_7 13 rfl rfl)
theorem dX6_undo_183 : decode cX6_undo 183 = .ok (.iload_n 1, 1) := dk_27 (dk_at dksX6_undo_7 16 rfl rfl)
theorem dX6_undo_184 : decode cX6_undo 184 = .ok (.iaload, 1) := dk_46 (dk_at dksX6_undo_7 17 rfl rfl)
theorem dX6_undo_185 : decode cX6_undo 185 = .ok (.iastore, 1) := dk_79 (dk_at dksX6_undo_7 18 rfl rfl)
theorem dX6_undo_186 : decode cX6_undo 186 = .ok (.aload_n 0, 1) := dk_42 (dk_at dksX6_undo_7 19 rfl rfl)
theorem dX6_undo_187 : decode cX6_undo 187 = .ok (.getfield 147, 3) := dk_180 0 147 (dk_at dksX6_undo_7 20 rfl rfl)
theorem dX6_undo_190 : decode cX6_undo 190 = .ok (.iload_n 1, 1) := dk_27 (dk_at dksX6_undo_7 23 rfl rfl)
theorem dX6_undo_191 : decode cX6_undo 191 = .ok (.aload_n 0, 1) := dk_42 (dk_at dksX6_undo_8 0 rfl rfl)
theorem dX6_undo_192 : decode cX6_undo 192 = .ok (.getfield 220, 3) := dk_180 0 220 (dk_at dksX6_undo_8 1 rfl rfl)
theorem dX6_undo_195 : decode cX6_undo 195 = .ok (.iload_n 1, 1) := dk_27 (dk_at dksX6_undo_8 4 rfl rfl)
theorem dX6_undo_196 : decode cX6_undo 196 = .ok (.iaload, 1) := dk_46 (dk_at dksX6_undo_8 5 rfl rfl)
theorem dX6_undo_197 : decode cX6_undo 197 = .ok (.iastore, 1) := dk_79 (dk_at dksX6_undo_8 6 rfl rfl)
theorem dX6_undo_198 : decode cX6_undo 198 = .ok (.iinc 1 1, 3) := dk_132 1 1 (dk_at dksX6_undo_8 7 rfl rfl)
theorem dX6_undo_201 : decode cX6_undo 201 = .ok (.goto (-141), 3) := dk_167 255 115 (dk_at dksX6_undo_8 10 rfl rfl)
theorem dX6_undo_204 : decode cX6_undo 204 = .ok (.iconst 0, 1) := dk_3 (dk_at dksX6_undo_8 13 rfl rfl)
theorem dX6_undo_205 : decode cX6_undo 205 = .ok (.istore_n 1, 1) := dk_60 (dk_at dksX6_undo_8 14 rfl rfl)
theorem dX6_undo_206 : decode cX6_undo 206 = .ok (.iload_n 1, 1) := dk_27 (dk_at dksX6_undo_8 15 rfl rfl)
theorem dX6_undo_207 : decode cX6_undo 207 = .ok (.bipush 24, 2) := dk_16 24 (dk_at dksX6_undo_8 16 rfl rfl)
theorem dX6_undo_209 : decode cX6_undo 209 = .ok (.if_icmp .ge 21, 3) := dk_162 0 21 (dk_at dksX6_undo_8 18 rfl rfl)
theorem dX6_undo_212 : decode cX6_undo 212 = .ok (.aload_n 0, 1) := dk_42 (dk_at dksX6_undo_8 21 rfl rfl)
theorem dX6_undo_213 : decode cX6_undo 213 = .ok (.getfield 47, 3) := dk_180 0 47 (dk_at dksX6_undo_9 0 rfl rfl)
theorem dX6_undo_216 : decode cX6_undo 216 = .ok (.iload_n 1, 1) := dk_27 (dk_at dksX6_undo_9 3 rfl rfl)
theorem dX6_undo_217 : decode cX6_undo 217 = .ok (.aload_n 0, 1) := dk_42 (dk_at dksX6_undo_9 4 rfl rfl)
theorem dX6_undo_218 : decode cX6_undo 218 = .ok (.getfield 211, 3) := dk_180 0 211 (dk_at dksX6_undo_9 5 rfl rfl)
theorem dX6_undo_221 : decode cX6_undo 221 = .ok (.iload_n 1, 1) := dk_27 (dk_at dksX6_undo_9 8 rfl rfl)
theorem dX6_undo_222 : decode cX6_undo 222 = .ok (.iaload, 1) := dk_46 (dk_at dksX6_undo_9 9 rfl rfl)
theorem dX6_undo_223 : decode cX6_undo 223 = .ok (.iastore, 1) := dk_79 (dk_at dksX6_undo_9 10 rfl rfl)
theorem dX6_undo_224 : decode cX6_undo 224 = .ok (.iinc 1 1, 3) := dk_132 1 1 (dk_at dksX6_undo_9 11 rfl rfl)
theorem dX6_undo_227 : decode cX6_undo 227 = .ok (.goto (-21), 3) := dk_167 255 235 (dk_at dksX6_undo_9 14 rfl rfl)
theorem dX6_undo_230 : decode cX6_undo 230 = .ok (.iconst 0, 1) := dk_3 (dk_at dksX6_undo_9 17 rfl rfl)
theorem dX6_undo_231 : decode cX6_undo 231 = .ok (.istore_n 1, 1) := dk_60 (dk_at dksX6_undo_9 18 rfl rfl)
theorem dX6_undo_232 : decode cX6_undo 232 = .ok (.iload_n 1, 1) := dk_27 (dk_at dksX6_undo_9 19 rfl rfl)
theorem dX6_undo_233 : decode cX6_undo 233 = .ok (.iconst 5, 1) := dk_8 (dk_at dksX6_undo_9 20 rfl rfl)
theorem dX6_undo_234 : decode cX6_undo 234 = .ok (.if_icmp .ge 21, 3) := dk_162 0 21 (dk_at dksX6_undo_9 21 rfl rfl)
theorem dX6_undo_237 : decode cX6_undo 237 = .ok (.aload_n 0, 1) := dk_42 (dk_at dksX6_undo_10 0 rfl rfl)
theorem dX6_undo_238 : decode cX6_undo 238 = .ok (.getfield 50, 3) := dk_180 0 50 (dk_at dksX6_undo_10 1 rfl rfl)
theorem dX6_undo_241 : decode cX6_undo 241 = .ok (.iload_n 1, 1) := dk_27 (dk_at dksX6_undo_10 4 rfl rfl)
theorem dX6_undo_242 : decode cX6_undo 242 = .ok (.aload_n 0, 1) := dk_42 (dk_at dksX6_undo_10 5 rfl rfl)
theorem dX6_undo_243 : decode cX6_undo 243 = .ok (.getfield 214, 3) := dk_180 0 214 (dk_at dksX6_undo_10 6 rfl rfl)
theorem dX6_undo_246 : decode cX6_undo 246 = .ok (.iload_n 1, 1) := dk_27 (dk_at dksX6_undo_10 9 rfl rfl)
theorem dX6_undo_247 : decode cX6_undo 247 = .ok (.iaload, 1) := dk_46 (dk_at dksX6_undo_10 10 rfl rfl)
theorem dX6_undo_248 : decode cX6_undo 248 = .ok (.iastore, 1) := dk_79 (dk_at dksX6_undo_10 11 rfl rfl)
theorem dX6_undo_249 : decode cX6_undo 249 = .ok (.iinc 1 1, 3) := dk_132 1 1 (dk_at dksX6_undo_10 12 rfl rfl)
theorem dX6_undo_252 : decode cX6_undo 252 = .ok (.goto (-20), 3) := dk_167 255 236 (dk_at dksX6_undo_10 15 rfl rfl)
theorem dX6_undo_255 : decode cX6_undo 255 = .ok (.iconst 0, 1) := dk_3 (dk_at dksX6_undo_10 18 rfl rfl)
theorem dX6_undo_256 : decode cX6_undo 256 = .ok (.istore_n 1, 1) := dk_60 (dk_at dksX6_undo_10 19 rfl rfl)
theorem dX6_undo_257 : decode cX6_undo 257 = .ok (.iload_n 1, 1) := dk_27 (dk_at dksX6_undo_10 20 rfl rfl)
theorem dX6_undo_258 : decode cX6_undo 258 = .ok (.bipush 8, 2) := dk_16 8 (dk_at dksX6_undo_10 21 rfl rfl)
theorem dX6_undo_260 : decode cX6_undo 260 = .ok (.if_icmp .ge 33, 3) := dk_162 0 33 (dk_at dksX6_undo_11 0 rfl rfl)
theorem dX6_undo_263 : decode cX6_undo 263 = .ok (.aload_n 0, 1) := dk_42 (dk_at dksX6_undo_11 3 rfl rfl)
theorem dX6_undo_264 : decode cX6_undo 264 = .ok (.getfield 156, 3) := dk_180 0 156 (dk_at dksX6_undo_11 4 rfl rfl)
theorem dX6_undo_267 : decode cX6_undo 267 = .ok (.iload_n 1, 1) := dk_27 (dk_at dksX6_undo_11 7 rfl rfl)
theorem dX6_undo_268 : decode cX6_undo 268 = .ok (.aload_n 0, 1) := dk_42 (dk_at dksX6_undo_11 8 rfl rfl)
theorem dX6_undo_269 : decode cX6_undo 269 = .ok (.getfield 223, 3) := dk_180 0 223 (dk_at dksX6_undo_11 9 rfl rfl)
theorem dX6_undo_272 : decode cX6_undo 272 = .ok (.iload_n 1, 1) := dk_27 (dk_at dksX6_undo_11 12 rfl rfl)
theorem dX6_undo_273 : decode cX6_undo 273 = .ok (.iaload, 1) := dk_46 (dk_at dksX6_undo_11 13 rfl rfl)
theorem dX6_undo_274 : decode cX6_undo 274 = .ok (.iastore, 1) := dk_79 (dk_at dksX6_undo_11 14 rfl rfl)
theorem dX6_undo_275 : decode cX6_undo 275 = .ok (.aload_n 0, 1) := dk_42 (dk_at dksX6_undo_11 15 rfl rfl)
theorem dX6_undo_276 : decode cX6_undo 276 = .ok (.getfield 159, 3) := dk_180 0 159 (dk_at dksX6_undo_11 16 rfl rfl)
theorem dX6_undo_279 : decode cX6_undo 279 = .ok (.iload_n 1, 1) := dk_27 (dk_at dksX6_undo_11 19 rfl rfl)
theorem dX6_undo_280 : decode cX6_undo 280 = .ok (.aload_n 0, 1) := dk_42 (dk_at dksX6_undo_11 20 rfl rfl)
theorem dX6_undo_281 : decode cX6_undo 281 = .ok (.getfield 226, 3) := dk_180 0 226 (dk_at dksX6_undo_11 21 rfl rfl)
theorem dX6_undo_284 : decode cX6_undo 284 = .ok (.iload_n 1, 1) := dk_27 (dk_at dksX6_undo_12 0 rfl rfl)
theorem dX6_undo_285 : decode cX6_undo 285 = .ok (.iaload, 1) := dk_46 (dk_at dksX6_undo_12 1 rfl rfl)
theorem dX6_undo_286 : decode cX6_undo 286 = .ok (.iastore, 1) := dk_79 (dk_at dksX6_undo_12 2 rfl rfl)
theorem dX6_undo_287 : decode cX6_undo 287 = .ok (.iinc 1 1, 3) := dk_132 1 1 (dk_at dksX6_undo_12 3 rfl rfl)
theorem dX6_undo_290 : decode cX6_undo 290 = .ok (.goto (-33), 3) := dk_167 255 223 (dk_at dksX6_undo_12 6 rfl rfl)
theorem dX6_undo_293 : decode cX6_undo 293 = .ok (.aload_n 0, 1) := dk_42 (dk_at dksX6_undo_12 9 rfl rfl)
theorem dX6_undo_294 : decode cX6_undo 294 = .ok (.getfield 13, 3) := dk_180 0 13 (dk_at dksX6_undo_12 10 rfl rfl)
theorem dX6_undo_297 : decode cX6_undo 297 = .ok (.ireturn, 1) := dk_172 (dk_at dksX6_undo_12 13 rfl rfl)
abbrev cX6_act : ByteArray := prog_23_method_96_code
def yX6_act : MethodName := ⟨RX6, "act", "(III)I"⟩
def dkwX6_act_2 : List UInt8 := [182, 1, 172, 167, 0, 9, 42, 27, 29, 182, 1, 178, 172]
abbrev dktX6_act_2 : List UInt8 := dkwX6_act_2 ++ []
def dkwX6_act_1 : List UInt8 := [172, 28, 154, 0, 12, 42, 27, 29, 182, 1, 163, 167, 0, 23, 28, 4, 160, 0, 12, 42, 27, 29]
abbrev dktX6_act_1 : List UInt8 := dkwX6_act_1 ++ dktX6_act_2
def dkwX6_act_0 : List UInt8 := [42, 3, 181, 0, 229, 42, 27, 182, 1, 0, 153, 0, 13, 42, 28, 3, 5, 182, 0, 248, 154, 0, 5, 3]
abbrev dktX6_act_0 : List UInt8 := dkwX6_act_0 ++ dktX6_act_1
theorem dksX6_act_0 : cX6_act.data.toList.drop 0 = dktX6_act_0 := by decide +kernel
theorem dksX6_act_1 : cX6_act.data.toList.drop 24 = dktX6_act_1 := dk_seg dksX6_act_0 24 rfl rfl
theorem dksX6_act_2 : cX6_act.data.toList.drop 46 = dktX6_act_2 := dk_seg dksX6_act_1 22 rfl rfl
theorem dX6_act_0 : decode cX6_act 0 = .ok (.aload_n 0, 1) := dk_42 (dk_at dksX6_act_0 0 rfl rfl)
theorem dX6_act_1 : decode cX6_act 1 = .ok (.iconst 0, 1) := dk_3 (dk_at dksX6_act_0 1 rfl rfl)
theorem dX6_act_2 : decode cX6_act 2 = .ok (.putfield 229, 3) := dk_181 0 229 (dk_at dksX6_act_0 2 rfl rfl)
theorem dX6_act_5 : decode cX6_act 5 = .ok (.aload_n 0, 1) := dk_42 (dk_at dksX6_act_0 5 rfl rfl)
theorem dX6_act_6 : decode cX6_act 6 = .ok (.iload_n 1, 1) := dk_27 (dk_at dksX6_act_0 6 rfl rfl)
theorem dX6_act_7 : decode cX6_act 7 = .ok (.invokevirtual 256, 3) := dk_182 1 0 (dk_at dksX6_act_0 7 rfl rfl)
theorem dX6_act_10 : decode cX6_act 10 = .ok (.ifCond .eq 13, 3) := dk_153 0 13 (dk_at dksX6_act_0 10 rfl rfl)
theorem dX6_act_13 : decode cX6_act 13 = .ok (.aload_n 0, 1) := dk_42 (dk_at dksX6_act_0 13 rfl rfl)
theorem dX6_act_14 : decode cX6_act 14 = .ok (.iload_n 2, 1) := dk_28 (dk_at dksX6_act_0 14 rfl rfl)
theorem dX6_act_15 : decode cX6_act 15 = .ok (.iconst 0, 1) := dk_3 (dk_at dksX6_act_0 15 rfl rfl)
theorem dX6_act_16 : decode cX6_act 16 = .ok (.iconst 2, 1) := dk_5 (dk_at dksX6_act_0 16 rfl rfl)
theorem dX6_act_17 : decode cX6_act 17 = .ok (.invokevirtual 248, 3) := dk_182 0 248 (dk_at dksX6_act_0 17 rfl rfl)
theorem dX6_act_20 : decode cX6_act 20 = .ok (.ifCond .ne 5, 3) := dk_154 0 5 (dk_at dksX6_act_0 20 rfl rfl)
theorem dX6_act_23 : decode cX6_act 23 = .ok (.iconst 0, 1) := dk_3 (dk_at dksX6_act_0 23 rfl rfl)
theorem dX6_act_24 : decode cX6_act 24 = .ok (.ireturn, 1) := dk_172 (dk_at dksX6_act_1 0 rfl rfl)
theorem dX6_act_25 : decode cX6_act 25 = .ok (.iload_n 2, 1) := dk_28 (dk_at dksX6_act_1 1 rfl rfl)
theorem dX6_act_26 : decode cX6_act 26 = .ok (.ifCond .ne 12, 3) := dk_154 0 12 (dk_at dksX6_act_1 2 rfl rfl)
theorem dX6_act_29 : decode cX6_act 29 = .ok (.aload_n 0, 1) := dk_42 (dk_at dksX6_act_1 5 rfl rfl)
theorem dX6_act_30 : decode cX6_act 30 = .ok (.iload_n 1, 1) := dk_27 (dk_at dksX6_act_1 6 rfl rfl)
theorem dX6_act_31 : decode cX6_act 31 = .ok (.iload_n 3, 1) := dk_29 (dk_at dksX6_act_1 7 rfl rfl)
theorem dX6_act_32 : decode cX6_act 32 = .ok (.invokevirtual 419, 3) := dk_182 1 163 (dk_at dksX6_act_1 8 rfl rfl)
theorem dX6_act_35 : decode cX6_act 35 = .ok (.goto 23, 3) := dk_167 0 23 (dk_at dksX6_act_1 11 rfl rfl)
theorem dX6_act_38 : decode cX6_act 38 = .ok (.iload_n 2, 1) := dk_28 (dk_at dksX6_act_1 14 rfl rfl)
theorem dX6_act_39 : decode cX6_act 39 = .ok (.iconst 1, 1) := dk_4 (dk_at dksX6_act_1 15 rfl rfl)
theorem dX6_act_40 : decode cX6_act 40 = .ok (.if_icmp .ne 12, 3) := dk_160 0 12 (dk_at dksX6_act_1 16 rfl rfl)
theorem dX6_act_43 : decode cX6_act 43 = .ok (.aload_n 0, 1) := dk_42 (dk_at dksX6_act_1 19 rfl rfl)
theorem dX6_act_44 : decode cX6_act 44 = .ok (.iload_n 1, 1) := dk_27 (dk_at dksX6_act_1 20 rfl rfl)
theorem dX6_act_45 : decode cX6_act 45 = .ok (.iload_n 3, 1) := dk_29 (dk_at dksX6_act_1 21 rfl rfl)
theorem dX6_act_46 : decode cX6_act 46 = .ok (.invokevirtual 428, 3) := dk_182 1 172 (dk_at dksX6_act_2 0 rfl rfl)
theorem dX6_act_49 : decode cX6_act 49 = .ok (.goto 9, 3) := dk_167 0 9 (dk_at dksX6_act_2 3 rfl rfl)
theorem dX6_act_52 : decode cX6_act 52 = .ok (.aload_n 0, 1) := dk_42 (dk_at dksX6_act_2 6 rfl rfl)
theorem dX6_act_53 : decode cX6_act 53 = .ok (.iload_n 1, 1) := dk_27 (dk_at dksX6_act_2 7 rfl rfl)
theorem dX6_act_54 : decode cX6_act 54 = .ok (.iload_n 3, 1) := dk_29 (dk_at dksX6_act_2 8 rfl rfl)
theorem dX6_act_55 : decode cX6_act 55 = .ok (.invokevirtual 434, 3) := dk_182 1 178 (dk_at dksX6_act_2 9 rfl rfl)
theorem dX6_act_58 : decode cX6_act 58 = .ok (.ireturn, 1) := dk_172 (dk_at dksX6_act_2 12 rfl rfl)
abbrev cX6_sitsAct : ByteArray := prog_23_method_90_code
def yX6_sitsAct : MethodName := ⟨RX6, "sitsAct", "(II)I"⟩
def dkwX6_sitsAct_4 : List UInt8 := [172, 42, 27, 28, 182, 1, 160, 172]
abbrev dktX6_sitsAct_4 : List UInt8 := dkwX6_sitsAct_4 ++ []
def dkwX6_sitsAct_3 : List UInt8 := [182, 1, 160, 116, 172, 42, 16, 71, 182, 1, 157, 42, 27, 28, 182, 1, 160, 42, 180, 0, 32, 27, 46, 130]
abbrev dktX6_sitsAct_3 : List UInt8 := dkwX6_sitsAct_3 ++ dktX6_sitsAct_4
def dkwX6_sitsAct_2 : List UInt8 := [42, 16, 30, 182, 1, 157, 42, 27, 28, 6, 104, 182, 1, 160, 172, 42, 16, 50, 182, 1, 157, 42, 27, 28]
abbrev dktX6_sitsAct_2 : List UInt8 := dkwX6_sitsAct_2 ++ dktX6_sitsAct_3
def dkwX6_sitsAct_1 : List UInt8 := [170, 0, 0, 0, 0, 83, 0, 0, 0, 2, 0, 0, 0, 6, 0, 0, 0, 34, 0, 0, 0, 83, 0, 0, 0, 49, 0, 0, 0, 34, 0, 0, 0, 63]
abbrev dktX6_sitsAct_1 : List UInt8 := dkwX6_sitsAct_1 ++ dktX6_sitsAct_2
def dkwX6_sitsAct_0 : List UInt8 := [42, 180, 0, 29, 27, 46]
abbrev dktX6_sitsAct_0 : List UInt8 := dkwX6_sitsAct_0 ++ dktX6_sitsAct_1
theorem dksX6_sitsAct_0 : cX6_sitsAct.data.toList.drop 0 = dktX6_sitsAct_0 := by decide +kernel
theorem dksX6_sitsAct_1 : cX6_sitsAct.data.toList.drop 6 = dktX6_sitsAct_1 := dk_seg dksX6_sitsAct_0 6 rfl rfl
theorem dksX6_sitsAct_2 : cX6_sitsAct.data.toList.drop 40 = dktX6_sitsAct_2 := dk_seg dksX6_sitsAct_1 34 rfl rfl
theorem dksX6_sitsAct_3 : cX6_sitsAct.data.toList.drop 64 = dktX6_sitsAct_3 := dk_seg dksX6_sitsAct_2 24 rfl rfl
theorem dksX6_sitsAct_4 : cX6_sitsAct.data.toList.drop 88 = dktX6_sitsAct_4 := dk_seg dksX6_sitsAct_3 24 rfl rfl
theorem dX6_sitsAct_0 : decode cX6_sitsAct 0 = .ok (.aload_n 0, 1) := dk_42 (dk_at dksX6_sitsAct_0 0 rfl rfl)
theorem dX6_sitsAct_1 : decode cX6_sitsAct 1 = .ok (.getfield 29, 3) := dk_180 0 29 (dk_at dksX6_sitsAct_0 1 rfl rfl)
theorem dX6_sitsAct_4 : decode cX6_sitsAct 4 = .ok (.iload_n 1, 1) := dk_27 (dk_at dksX6_sitsAct_0 4 rfl rfl)
theorem dX6_sitsAct_5 : decode cX6_sitsAct 5 = .ok (.iaload, 1) := dk_46 (dk_at dksX6_sitsAct_0 5 rfl rfl)
theorem dX6_sitsAct_6 : decode cX6_sitsAct 6 = .ok (.tableswitch 83 2 6 #[34, 83, 49, 34, 63], 34) := by decide +kernel
theorem dX6_sitsAct_40 : decode cX6_sitsAct 40 = .ok (.aload_n 0, 1) := dk_42 (dk_at dksX6_sitsAct_2 0 rfl rfl)
theorem dX6_sitsAct_41 : decode cX6_sitsAct 41 = .ok (.bipush 30, 2) := dk_16 30 (dk_at dksX6_sitsAct_2 1 rfl rfl)
theorem dX6_sitsAct_43 : decode cX6_sitsAct 43 = .ok (.invokevirtual 413, 3) := dk_182 1 157 (dk_at dksX6_sitsAct_2 3 rfl rfl)
theorem dX6_sitsAct_46 : decode cX6_sitsAct 46 = .ok (.aload_n 0, 1) := dk_42 (dk_at dksX6_sitsAct_2 6 rfl rfl)
theorem dX6_sitsAct_47 : decode cX6_sitsAct 47 = .ok (.iload_n 1, 1) := dk_27 (dk_at dksX6_sitsAct_2 7 rfl rfl)
theorem dX6_sitsAct_48 : decode cX6_sitsAct 48 = .ok (.iload_n 2, 1) := dk_28 (dk_at dksX6_sitsAct_2 8 rfl rfl)
theorem dX6_sitsAct_49 : decode cX6_sitsAct 49 = .ok (.iconst 3, 1) := dk_6 (dk_at dksX6_sitsAct_2 9 rfl rfl)
theorem dX6_sitsAct_50 : decode cX6_sitsAct 50 = .ok (.imul, 1) := dk_104 (dk_at dksX6_sitsAct_2 10 rfl rfl)
theorem dX6_sitsAct_51 : decode cX6_sitsAct 51 = .ok (.invokevirtual 416, 3) := dk_182 1 160 (dk_at dksX6_sitsAct_2 11 rfl rfl)
theorem dX6_sitsAct_54 : decode cX6_sitsAct 54 = .ok (.ireturn, 1) := dk_172 (dk_at dksX6_sitsAct_2 14 rfl rfl)
theorem dX6_sitsAct_55 : decode cX6_sitsAct 55 = .ok (.aload_n 0, 1) := dk_42 (dk_at dksX6_sitsAct_2 15 rfl rfl)
theorem dX6_sitsAct_56 : decode cX6_sitsAct 56 = .ok (.bipush 50, 2) := dk_16 50 (dk_at dksX6_sitsAct_2 16 rfl rfl)
theorem dX6_sitsAct_58 : decode cX6_sitsAct 58 = .ok (.invokevirtual 413, 3) := dk_182 1 157 (dk_at dksX6_sitsAct_2 18 rfl rfl)
theorem dX6_sitsAct_61 : decode cX6_sitsAct 61 = .ok (.aload_n 0, 1) := dk_42 (dk_at dksX6_sitsAct_2 21 rfl rfl)
theorem dX6_sitsAct_62 : decode cX6_sitsAct 62 = .ok (.iload_n 1, 1) := dk_27 (dk_at dksX6_sitsAct_2 22 rfl rfl)
theorem dX6_sitsAct_63 : decode cX6_sitsAct 63 = .ok (.iload_n 2, 1) := dk_28 (dk_at dksX6_sitsAct_2 23 rfl rfl)
theorem dX6_sitsAct_64 : decode cX6_sitsAct 64 = .ok (.invokevirtual 416, 3) := dk_182 1 160 (dk_at dksX6_sitsAct_3 0 rfl rfl)
theorem dX6_sitsAct_67 : decode cX6_sitsAct 67 = .ok (.ineg, 1) := dk_116 (dk_at dksX6_sitsAct_3 3 rfl rfl)
theorem dX6_sitsAct_68 : decode cX6_sitsAct 68 = .ok (.ireturn, 1) := dk_172 (dk_at dksX6_sitsAct_3 4 rfl rfl)
theorem dX6_sitsAct_69 : decode cX6_sitsAct 69 = .ok (.aload_n 0, 1) := dk_42 (dk_at dksX6_sitsAct_3 5 rfl rfl)
theorem dX6_sitsAct_70 : decode cX6_sitsAct 70 = .ok (.bipush 71, 2) := dk_16 71 (dk_at dksX6_sitsAct_3 6 rfl rfl)
theorem dX6_sitsAct_72 : decode cX6_sitsAct 72 = .ok (.invokevirtual 413, 3) := dk_182 1 157 (dk_at dksX6_sitsAct_3 8 rfl rfl)
theorem dX6_sitsAct_75 : decode cX6_sitsAct 75 = .ok (.aload_n 0, 1) := dk_42 (dk_at dksX6_sitsAct_3 11 rfl rfl)
theorem dX6_sitsAct_76 : decode cX6_sitsAct 76 = .ok (.iload_n 1, 1) := dk_27 (dk_at dksX6_sitsAct_3 12 rfl rfl)
theorem dX6_sitsAct_77 : decode cX6_sitsAct 77 = .ok (.iload_n 2, 1) := dk_28 (dk_at dksX6_sitsAct_3 13 rfl rfl)
theorem dX6_sitsAct_78 : decode cX6_sitsAct 78 = .ok (.invokevirtual 416, 3) := dk_182 1 160 (dk_at dksX6_sitsAct_3 14 rfl rfl)
theorem dX6_sitsAct_81 : decode cX6_sitsAct 81 = .ok (.aload_n 0, 1) := dk_42 (dk_at dksX6_sitsAct_3 17 rfl rfl)
theorem dX6_sitsAct_82 : decode cX6_sitsAct 82 = .ok (.getfield 32, 3) := dk_180 0 32 (dk_at dksX6_sitsAct_3 18 rfl rfl)
theorem dX6_sitsAct_85 : decode cX6_sitsAct 85 = .ok (.iload_n 1, 1) := dk_27 (dk_at dksX6_sitsAct_3 21 rfl rfl)
theorem dX6_sitsAct_86 : decode cX6_sitsAct 86 = .ok (.iaload, 1) := dk_46 (dk_at dksX6_sitsAct_3 22 rfl rfl)
theorem dX6_sitsAct_87 : decode cX6_sitsAct 87 = .ok (.ixor, 1) := dk_130 (dk_at dksX6_sitsAct_3 23 rfl rfl)
theorem dX6_sitsAct_88 : decode cX6_sitsAct 88 = .ok (.ireturn, 1) := dk_172 (dk_at dksX6_sitsAct_4 0 rfl rfl)
theorem dX6_sitsAct_89 : decode cX6_sitsAct 89 = .ok (.aload_n 0, 1) := dk_42 (dk_at dksX6_sitsAct_4 1 rfl rfl)
theorem dX6_sitsAct_90 : decode cX6_sitsAct 90 = .ok (.iload_n 1, 1) := dk_27 (dk_at dksX6_sitsAct_4 2 rfl rfl)
theorem dX6_sitsAct_91 : decode cX6_sitsAct 91 = .ok (.iload_n 2, 1) := dk_28 (dk_at dksX6_sitsAct_4 3 rfl rfl)
theorem dX6_sitsAct_92 : decode cX6_sitsAct 92 = .ok (.invokevirtual 416, 3) := dk_182 1 160 (dk_at dksX6_sitsAct_4 4 rfl rfl)
theorem dX6_sitsAct_95 : decode cX6_sitsAct 95 = .ok (.ireturn, 1) := dk_172 (dk_at dksX6_sitsAct_4 7 rfl rfl)
abbrev cX6_body : ByteArray := prog_23_method_88_code
def yX6_body : MethodName := ⟨RX6, "body", "(I)V"⟩
def dkwX6_body_1 : List UInt8 := [4, 96, 181, 0, 229, 177]
abbrev dktX6_body_1 : List UInt8 := dkwX6_body_1 ++ []
def dkwX6_body_0 : List UInt8 := [42, 180, 0, 229, 16, 20, 162, 0, 13, 42, 180, 0, 232, 42, 180, 0, 229, 27, 79, 42, 89, 180, 0, 229]
abbrev dktX6_body_0 : List UInt8 := dkwX6_body_0 ++ dktX6_body_1
theorem dksX6_body_0 : cX6_body.data.toList.drop 0 = dktX6_body_0 := by decide +kernel
theorem dksX6_body_1 : cX6_body.data.toList.drop 24 = dktX6_body_1 := dk_seg dksX6_body_0 24 rfl rfl
theorem dX6_body_0 : decode cX6_body 0 = .ok (.aload_n 0, 1) := dk_42 (dk_at dksX6_body_0 0 rfl rfl)
theorem dX6_body_1 : decode cX6_body 1 = .ok (.getfield 229, 3) := dk_180 0 229 (dk_at dksX6_body_0 1 rfl rfl)
theorem dX6_body_4 : decode cX6_body 4 = .ok (.bipush 20, 2) := dk_16 20 (dk_at dksX6_body_0 4 rfl rfl)
theorem dX6_body_6 : decode cX6_body 6 = .ok (.if_icmp .ge 13, 3) := dk_162 0 13 (dk_at dksX6_body_0 6 rfl rfl)
theorem dX6_body_9 : decode cX6_body 9 = .ok (.aload_n 0, 1) := dk_42 (dk_at dksX6_body_0 9 rfl rfl)
theorem dX6_body_10 : decode cX6_body 10 = .ok (.getfield 232, 3) := dk_180 0 232 (dk_at dksX6_body_0 10 rfl rfl)
theorem dX6_body_13 : decode cX6_body 13 = .ok (.aload_n 0, 1) := dk_42 (dk_at dksX6_body_0 13 rfl rfl)
theorem dX6_body_14 : decode cX6_body 14 = .ok (.getfield 229, 3) := dk_180 0 229 (dk_at dksX6_body_0 14 rfl rfl)
theorem dX6_body_17 : decode cX6_body 17 = .ok (.iload_n 1, 1) := dk_27 (dk_at dksX6_body_0 17 rfl rfl)
theorem dX6_body_18 : decode cX6_body 18 = .ok (.iastore, 1) := dk_79 (dk_at dksX6_body_0 18 rfl rfl)
theorem dX6_body_19 : decode cX6_body 19 = .ok (.aload_n 0, 1) := dk_42 (dk_at dksX6_body_0 19 rfl rfl)
theorem dX6_body_20 : decode cX6_body 20 = .ok (.dup, 1) := dk_89 (dk_at dksX6_body_0 20 rfl rfl)
theorem dX6_body_21 : decode cX6_body 21 = .ok (.getfield 229, 3) := dk_180 0 229 (dk_at dksX6_body_0 21 rfl rfl)
theorem dX6_body_24 : decode cX6_body 24 = .ok (.iconst 1, 1) := dk_4 (dk_at dksX6_body_1 0 rfl rfl)
theorem dX6_body_25 : decode cX6_body 25 = .ok (.iadd, 1) := dk_96 (dk_at dksX6_body_1 1 rfl rfl)
theorem dX6_body_26 : decode cX6_body 26 = .ok (.putfield 229, 3) := dk_181 0 229 (dk_at dksX6_body_1 2 rfl rfl)
theorem dX6_body_29 : decode cX6_body 29 = .ok (.return_, 1) := dk_177 (dk_at dksX6_body_1 5 rfl rfl)
abbrev cX6_hatSits : ByteArray := prog_23_method_89_code
def yX6_hatSits : MethodName := ⟨RX6, "hatSits", "(II)I"⟩
def dkwX6_hatSits_0 : List UInt8 := [42, 16, 10, 182, 1, 157, 28, 27, 96, 172]
abbrev dktX6_hatSits_0 : List UInt8 := dkwX6_hatSits_0 ++ []
theorem dksX6_hatSits_0 : cX6_hatSits.data.toList.drop 0 = dktX6_hatSits_0 := by decide +kernel
theorem dX6_hatSits_0 : decode cX6_hatSits 0 = .ok (.aload_n 0, 1) := dk_42 (dk_at dksX6_hatSits_0 0 rfl rfl)
theorem dX6_hatSits_1 : decode cX6_hatSits 1 = .ok (.bipush 10, 2) := dk_16 10 (dk_at dksX6_hatSits_0 1 rfl rfl)
theorem dX6_hatSits_3 : decode cX6_hatSits 3 = .ok (.invokevirtual 413, 3) := dk_182 1 157 (dk_at dksX6_hatSits_0 3 rfl rfl)
theorem dX6_hatSits_6 : decode cX6_hatSits 6 = .ok (.iload_n 2, 1) := dk_28 (dk_at dksX6_hatSits_0 6 rfl rfl)
theorem dX6_hatSits_7 : decode cX6_hatSits 7 = .ok (.iload_n 1, 1) := dk_27 (dk_at dksX6_hatSits_0 7 rfl rfl)
theorem dX6_hatSits_8 : decode cX6_hatSits 8 = .ok (.iadd, 1) := dk_96 (dk_at dksX6_hatSits_0 8 rfl rfl)
theorem dX6_hatSits_9 : decode cX6_hatSits 9 = .ok (.ireturn, 1) := dk_172 (dk_at dksX6_hatSits_0 9 rfl rfl)
abbrev cX6_doesAct : ByteArray := prog_23_method_93_code
def yX6_doesAct : MethodName := ⟨RX6, "doesAct", "(II)I"⟩
def dkwX6_doesAct_4 : List UInt8 := [182, 1, 166, 172]
abbrev dktX6_doesAct_4 : List UInt8 := dkwX6_doesAct_4 ++ []
def dkwX6_doesAct_3 : List UInt8 := [16, 70, 182, 1, 157, 42, 27, 28, 182, 1, 166, 62, 29, 42, 27, 5, 182, 1, 160, 96, 172, 42, 27, 28]
abbrev dktX6_doesAct_3 : List UInt8 := dkwX6_doesAct_3 ++ dktX6_doesAct_4
def dkwX6_doesAct_2 : List UInt8 := [42, 27, 28, 182, 1, 169, 172, 42, 16, 51, 182, 1, 157, 42, 27, 28, 4, 96, 182, 1, 169, 172, 42]
abbrev dktX6_doesAct_2 : List UInt8 := dkwX6_doesAct_2 ++ dktX6_doesAct_3
def dkwX6_doesAct_1 : List UInt8 := [171, 0, 0, 0, 0, 78, 0, 0, 0, 3, 0, 0, 0, 1, 0, 0, 0, 34, 0, 0, 0, 4, 0, 0, 0, 41, 0, 0, 0, 6, 0, 0, 0, 56]
abbrev dktX6_doesAct_1 : List UInt8 := dkwX6_doesAct_1 ++ dktX6_doesAct_2
def dkwX6_doesAct_0 : List UInt8 := [42, 180, 0, 29, 27, 46]
abbrev dktX6_doesAct_0 : List UInt8 := dkwX6_doesAct_0 ++ dktX6_doesAct_1
theorem dksX6_doesAct_0 : cX6_doesAct.data.toList.drop 0 = dktX6_doesAct_0 := by decide +kernel
theorem dksX6_doesAct_1 : cX6_doesAct.data.toList.drop 6 = dktX6_doesAct_1 := dk_seg dksX6_doesAct_0 6 rfl rfl
theorem dksX6_doesAct_2 : cX6_doesAct.data.toList.drop 40 = dktX6_doesAct_2 := dk_seg dksX6_doesAct_1 34 rfl rfl
theorem dksX6_doesAct_3 : cX6_doesAct.data.toList.drop 63 = dktX6_doesAct_3 := dk_seg dksX6_doesAct_2 23 rfl rfl
theorem dksX6_doesAct_4 : cX6_doesAct.data.toList.drop 87 = dktX6_doesAct_4 := dk_seg dksX6_doesAct_3 24 rfl rfl
theorem dX6_doesAct_0 : decode cX6_doesAct 0 = .ok (.aload_n 0, 1) := dk_42 (dk_at dksX6_doesAct_0 0 rfl rfl)
theorem dX6_doesAct_1 : decode cX6_doesAct 1 = .ok (.getfield 29, 3) := dk_180 0 29 (dk_at dksX6_doesAct_0 1 rfl rfl)
theorem dX6_doesAct_4 : decode cX6_doesAct 4 = .ok (.iload_n 1, 1) := dk_27 (dk_at dksX6_doesAct_0 4 rfl rfl)
theorem dX6_doesAct_5 : decode cX6_doesAct 5 = .ok (.iaload, 1) := dk_46 (dk_at dksX6_doesAct_0 5 rfl rfl)
theorem dX6_doesAct_6 : decode cX6_doesAct 6 = .ok (.lookupswitch 78 #[(1, 34), (4, 41), (6, 56)], 34) := by decide +kernel
theorem dX6_doesAct_40 : decode cX6_doesAct 40 = .ok (.aload_n 0, 1) := dk_42 (dk_at dksX6_doesAct_2 0 rfl rfl)
theorem dX6_doesAct_41 : decode cX6_doesAct 41 = .ok (.iload_n 1, 1) := dk_27 (dk_at dksX6_doesAct_2 1 rfl rfl)
theorem dX6_doesAct_42 : decode cX6_doesAct 42 = .ok (.iload_n 2, 1) := dk_28 (dk_at dksX6_doesAct_2 2 rfl rfl)
theorem dX6_doesAct_43 : decode cX6_doesAct 43 = .ok (.invokevirtual 425, 3) := dk_182 1 169 (dk_at dksX6_doesAct_2 3 rfl rfl)
theorem dX6_doesAct_46 : decode cX6_doesAct 46 = .ok (.ireturn, 1) := dk_172 (dk_at dksX6_doesAct_2 6 rfl rfl)
theorem dX6_doesAct_47 : decode cX6_doesAct 47 = .ok (.aload_n 0, 1) := dk_42 (dk_at dksX6_doesAct_2 7 rfl rfl)
theorem dX6_doesAct_48 : decode cX6_doesAct 48 = .ok (.bipush 51, 2) := dk_16 51 (dk_at dksX6_doesAct_2 8 rfl rfl)
theorem dX6_doesAct_50 : decode cX6_doesAct 50 = .ok (.invokevirtual 413, 3) := dk_182 1 157 (dk_at dksX6_doesAct_2 10 rfl rfl)
theorem dX6_doesAct_53 : decode cX6_doesAct 53 = .ok (.aload_n 0, 1) := dk_42 (dk_at dksX6_doesAct_2 13 rfl rfl)
theorem dX6_doesAct_54 : decode cX6_doesAct 54 = .ok (.iload_n 1, 1) := dk_27 (dk_at dksX6_doesAct_2 14 rfl rfl)
theorem dX6_doesAct_55 : decode cX6_doesAct 55 = .ok (.iload_n 2, 1) := dk_28 (dk_at dksX6_doesAct_2 15 rfl rfl)
theorem dX6_doesAct_56 : decode cX6_doesAct 56 = .ok (.iconst 1, 1) := dk_4 (dk_at dksX6_doesAct_2 16 rfl rfl)
theorem dX6_doesAct_57 : decode cX6_doesAct 57 = .ok (.iadd, 1) := dk_96 (dk_at dksX6_doesAct_2 17 rfl rfl)
theorem dX6_doesAct_58 : decode cX6_doesAct 58 = .ok (.invokevirtual 425, 3) := dk_182 1 169 (dk_at dksX6_doesAct_2 18 rfl rfl)
theorem dX6_doesAct_61 : decode cX6_doesAct 61 = .ok (.ireturn, 1) := dk_172 (dk_at dksX6_doesAct_2 21 rfl rfl)
theorem dX6_doesAct_62 : decode cX6_doesAct 62 = .ok (.aload_n 0, 1) := dk_42 (dk_at dksX6_doesAct_2 22 rfl rfl)
theorem dX6_doesAct_63 : decode cX6_doesAct 63 = .ok (.bipush 70, 2) := dk_16 70 (dk_at dksX6_doesAct_3 0 rfl rfl)
theorem dX6_doesAct_65 : decode cX6_doesAct 65 = .ok (.invokevirtual 413, 3) := dk_182 1 157 (dk_at dksX6_doesAct_3 2 rfl rfl)
theorem dX6_doesAct_68 : decode cX6_doesAct 68 = .ok (.aload_n 0, 1) := dk_42 (dk_at dksX6_doesAct_3 5 rfl rfl)
theorem dX6_doesAct_69 : decode cX6_doesAct 69 = .ok (.iload_n 1, 1) := dk_27 (dk_at dksX6_doesAct_3 6 rfl rfl)
theorem dX6_doesAct_70 : decode cX6_doesAct 70 = .ok (.iload_n 2, 1) := dk_28 (dk_at dksX6_doesAct_3 7 rfl rfl)
theorem dX6_doesAct_71 : decode cX6_doesAct 71 = .ok (.invokevirtual 422, 3) := dk_182 1 166 (dk_at dksX6_doesAct_3 8 rfl rfl)
theorem dX6_doesAct_74 : decode cX6_doesAct 74 = .ok (.istore_n 3, 1) := dk_62 (dk_at dksX6_doesAct_3 11 rfl rfl)
theorem dX6_doesAct_75 : decode cX6_doesAct 75 = .ok (.iload_n 3, 1) := dk_29 (dk_at dksX6_doesAct_3 12 rfl rfl)
theorem dX6_doesAct_76 : decode cX6_doesAct 76 = .ok (.aload_n 0, 1) := dk_42 (dk_at dksX6_doesAct_3 13 rfl rfl)
theorem dX6_doesAct_77 : decode cX6_doesAct 77 = .ok (.iload_n 1, 1) := dk_27 (dk_at dksX6_doesAct_3 14 rfl rfl)
theorem dX6_doesAct_78 : decode cX6_doesAct 78 = .ok (.iconst 2, 1) := dk_5 (dk_at dksX6_doesAct_3 15 rfl rfl)
theorem dX6_doesAct_79 : decode cX6_doesAct 79 = .ok (.invokevirtual 416, 3) := dk_182 1 160 (dk_at dksX6_doesAct_3 16 rfl rfl)
theorem dX6_doesAct_82 : decode cX6_doesAct 82 = .ok (.iadd, 1) := dk_96 (dk_at dksX6_doesAct_3 19 rfl rfl)
theorem dX6_doesAct_83 : decode cX6_doesAct 83 = .ok (.ireturn, 1) := dk_172 (dk_at dksX6_doesAct_3 20 rfl rfl)
theorem dX6_doesAct_84 : decode cX6_doesAct 84 = .ok (.aload_n 0, 1) := dk_42 (dk_at dksX6_doesAct_3 21 rfl rfl)
theorem dX6_doesAct_85 : decode cX6_doesAct 85 = .ok (.iload_n 1, 1) := dk_27 (dk_at dksX6_doesAct_3 22 rfl rfl)
theorem dX6_doesAct_86 : decode cX6_doesAct 86 = .ok (.iload_n 2, 1) := dk_28 (dk_at dksX6_doesAct_3 23 rfl rfl)
theorem dX6_doesAct_87 : decode cX6_doesAct 87 = .ok (.invokevirtual 422, 3) := dk_182 1 166 (dk_at dksX6_doesAct_4 0 rfl rfl)
theorem dX6_doesAct_90 : decode cX6_doesAct 90 = .ok (.ireturn, 1) := dk_172 (dk_at dksX6_doesAct_4 3 rfl rfl)
abbrev cX6_tightDoes : ByteArray := prog_23_method_92_code
def yX6_tightDoes : MethodName := ⟨RX6, "tightDoes", "(II)I"⟩
def dkwX6_tightDoes_0 : List UInt8 := [42, 16, 20, 182, 1, 157, 42, 27, 28, 182, 1, 166, 16, 6, 130, 172]
abbrev dktX6_tightDoes_0 : List UInt8 := dkwX6_tightDoes_0 ++ []
theorem dksX6_tightDoes_0 : cX6_tightDoes.data.toList.drop 0 = dktX6_tightDoes_0 := by decide +kernel
theorem dX6_tightDoes_0 : decode cX6_tightDoes 0 = .ok (.aload_n 0, 1) := dk_42 (dk_at dksX6_tightDoes_0 0 rfl rfl)
theorem dX6_tightDoes_1 : decode cX6_tightDoes 1 = .ok (.bipush 20, 2) := dk_16 20 (dk_at dksX6_tightDoes_0 1 rfl rfl)
theorem dX6_tightDoes_3 : decode cX6_tightDoes 3 = .ok (.invokevirtual 413, 3) := dk_182 1 157 (dk_at dksX6_tightDoes_0 3 rfl rfl)
theorem dX6_tightDoes_6 : decode cX6_tightDoes 6 = .ok (.aload_n 0, 1) := dk_42 (dk_at dksX6_tightDoes_0 6 rfl rfl)
theorem dX6_tightDoes_7 : decode cX6_tightDoes 7 = .ok (.iload_n 1, 1) := dk_27 (dk_at dksX6_tightDoes_0 7 rfl rfl)
theorem dX6_tightDoes_8 : decode cX6_tightDoes 8 = .ok (.iload_n 2, 1) := dk_28 (dk_at dksX6_tightDoes_0 8 rfl rfl)
theorem dX6_tightDoes_9 : decode cX6_tightDoes 9 = .ok (.invokevirtual 422, 3) := dk_182 1 166 (dk_at dksX6_tightDoes_0 9 rfl rfl)
theorem dX6_tightDoes_12 : decode cX6_tightDoes 12 = .ok (.bipush 6, 2) := dk_16 6 (dk_at dksX6_tightDoes_0 12 rfl rfl)
theorem dX6_tightDoes_14 : decode cX6_tightDoes 14 = .ok (.ixor, 1) := dk_130 (dk_at dksX6_tightDoes_0 14 rfl rfl)
theorem dX6_tightDoes_15 : decode cX6_tightDoes 15 = .ok (.ireturn, 1) := dk_172 (dk_at dksX6_tightDoes_0 15 rfl rfl)
abbrev cX6_hatDoes : ByteArray := prog_23_method_91_code
def yX6_hatDoes : MethodName := ⟨RX6, "hatDoes", "(II)I"⟩
def dkwX6_hatDoes_0 : List UInt8 := [42, 16, 11, 182, 1, 157, 42, 27, 28, 182, 1, 163, 42, 180, 0, 32, 27, 46, 100, 172]
abbrev dktX6_hatDoes_0 : List UInt8 := dkwX6_hatDoes_0 ++ []
theorem dksX6_hatDoes_0 : cX6_hatDoes.data.toList.drop 0 = dktX6_hatDoes_0 := by decide +kernel
theorem dX6_hatDoes_0 : decode cX6_hatDoes 0 = .ok (.aload_n 0, 1) := dk_42 (dk_at dksX6_hatDoes_0 0 rfl rfl)
theorem dX6_hatDoes_1 : decode cX6_hatDoes 1 = .ok (.bipush 11, 2) := dk_16 11 (dk_at dksX6_hatDoes_0 1 rfl rfl)
theorem dX6_hatDoes_3 : decode cX6_hatDoes 3 = .ok (.invokevirtual 413, 3) := dk_182 1 157 (dk_at dksX6_hatDoes_0 3 rfl rfl)
theorem dX6_hatDoes_6 : decode cX6_hatDoes 6 = .ok (.aload_n 0, 1) := dk_42 (dk_at dksX6_hatDoes_0 6 rfl rfl)
theorem dX6_hatDoes_7 : decode cX6_hatDoes 7 = .ok (.iload_n 1, 1) := dk_27 (dk_at dksX6_hatDoes_0 7 rfl rfl)
theorem dX6_hatDoes_8 : decode cX6_hatDoes 8 = .ok (.iload_n 2, 1) := dk_28 (dk_at dksX6_hatDoes_0 8 rfl rfl)
theorem dX6_hatDoes_9 : decode cX6_hatDoes 9 = .ok (.invokevirtual 419, 3) := dk_182 1 163 (dk_at dksX6_hatDoes_0 9 rfl rfl)
theorem dX6_hatDoes_12 : decode cX6_hatDoes 12 = .ok (.aload_n 0, 1) := dk_42 (dk_at dksX6_hatDoes_0 12 rfl rfl)
theorem dX6_hatDoes_13 : decode cX6_hatDoes 13 = .ok (.getfield 32, 3) := dk_180 0 32 (dk_at dksX6_hatDoes_0 13 rfl rfl)
theorem dX6_hatDoes_16 : decode cX6_hatDoes 16 = .ok (.iload_n 1, 1) := dk_27 (dk_at dksX6_hatDoes_0 16 rfl rfl)
theorem dX6_hatDoes_17 : decode cX6_hatDoes 17 = .ok (.iaload, 1) := dk_46 (dk_at dksX6_hatDoes_0 17 rfl rfl)
theorem dX6_hatDoes_18 : decode cX6_hatDoes 18 = .ok (.isub, 1) := dk_100 (dk_at dksX6_hatDoes_0 18 rfl rfl)
theorem dX6_hatDoes_19 : decode cX6_hatDoes 19 = .ok (.ireturn, 1) := dk_172 (dk_at dksX6_hatDoes_0 19 rfl rfl)
abbrev cX6_tellsAct : ByteArray := prog_23_method_95_code
def yX6_tellsAct : MethodName := ⟨RX6, "tellsAct", "(II)I"⟩
def dkwX6_tellsAct_3 : List UInt8 := [16, 60, 182, 1, 157, 42, 27, 28, 27, 100, 182, 1, 175, 172, 42, 27, 28, 182, 1, 175, 172]
abbrev dktX6_tellsAct_3 : List UInt8 := dkwX6_tellsAct_3 ++ []
def dkwX6_tellsAct_2 : List UInt8 := [42, 16, 40, 182, 1, 157, 42, 27, 28, 182, 1, 175, 62, 29, 42, 27, 4, 182, 1, 172, 96, 172, 42]
abbrev dktX6_tellsAct_2 : List UInt8 := dkwX6_tellsAct_2 ++ dktX6_tellsAct_3
def dkwX6_tellsAct_1 : List UInt8 := [170, 0, 0, 0, 0, 67, 0, 0, 0, 3, 0, 0, 0, 6, 0, 0, 0, 30, 0, 0, 0, 67, 0, 0, 0, 52, 0, 0, 0, 30]
abbrev dktX6_tellsAct_1 : List UInt8 := dkwX6_tellsAct_1 ++ dktX6_tellsAct_2
def dkwX6_tellsAct_0 : List UInt8 := [42, 180, 0, 29, 27, 46]
abbrev dktX6_tellsAct_0 : List UInt8 := dkwX6_tellsAct_0 ++ dktX6_tellsAct_1
theorem dksX6_tellsAct_0 : cX6_tellsAct.data.toList.drop 0 = dktX6_tellsAct_0 := by decide +kernel
theorem dksX6_tellsAct_1 : cX6_tellsAct.data.toList.drop 6 = dktX6_tellsAct_1 := dk_seg dksX6_tellsAct_0 6 rfl rfl
theorem dksX6_tellsAct_2 : cX6_tellsAct.data.toList.drop 36 = dktX6_tellsAct_2 := dk_seg dksX6_tellsAct_1 30 rfl rfl
theorem dksX6_tellsAct_3 : cX6_tellsAct.data.toList.drop 59 = dktX6_tellsAct_3 := dk_seg dksX6_tellsAct_2 23 rfl rfl
theorem dX6_tellsAct_0 : decode cX6_tellsAct 0 = .ok (.aload_n 0, 1) := dk_42 (dk_at dksX6_tellsAct_0 0 rfl rfl)
theorem dX6_tellsAct_1 : decode cX6_tellsAct 1 = .ok (.getfield 29, 3) := dk_180 0 29 (dk_at dksX6_tellsAct_0 1 rfl rfl)
theorem dX6_tellsAct_4 : decode cX6_tellsAct 4 = .ok (.iload_n 1, 1) := dk_27 (dk_at dksX6_tellsAct_0 4 rfl rfl)
theorem dX6_tellsAct_5 : decode cX6_tellsAct 5 = .ok (.iaload, 1) := dk_46 (dk_at dksX6_tellsAct_0 5 rfl rfl)
theorem dX6_tellsAct_6 : decode cX6_tellsAct 6 = .ok (.tableswitch 67 3 6 #[30, 67, 52, 30], 30) := by decide +kernel
theorem dX6_tellsAct_36 : decode cX6_tellsAct 36 = .ok (.aload_n 0, 1) := dk_42 (dk_at dksX6_tellsAct_2 0 rfl rfl)
theorem dX6_tellsAct_37 : decode cX6_tellsAct 37 = .ok (.bipush 40, 2) := dk_16 40 (dk_at dksX6_tellsAct_2 1 rfl rfl)
theorem dX6_tellsAct_39 : decode cX6_tellsAct 39 = .ok (.invokevirtual 413, 3) := dk_182 1 157 (dk_at dksX6_tellsAct_2 3 rfl rfl)
theorem dX6_tellsAct_42 : decode cX6_tellsAct 42 = .ok (.aload_n 0, 1) := dk_42 (dk_at dksX6_tellsAct_2 6 rfl rfl)
theorem dX6_tellsAct_43 : decode cX6_tellsAct 43 = .ok (.iload_n 1, 1) := dk_27 (dk_at dksX6_tellsAct_2 7 rfl rfl)
theorem dX6_tellsAct_44 : decode cX6_tellsAct 44 = .ok (.iload_n 2, 1) := dk_28 (dk_at dksX6_tellsAct_2 8 rfl rfl)
theorem dX6_tellsAct_45 : decode cX6_tellsAct 45 = .ok (.invokevirtual 431, 3) := dk_182 1 175 (dk_at dksX6_tellsAct_2 9 rfl rfl)
theorem dX6_tellsAct_48 : decode cX6_tellsAct 48 = .ok (.istore_n 3, 1) := dk_62 (dk_at dksX6_tellsAct_2 12 rfl rfl)
theorem dX6_tellsAct_49 : decode cX6_tellsAct 49 = .ok (.iload_n 3, 1) := dk_29 (dk_at dksX6_tellsAct_2 13 rfl rfl)
theorem dX6_tellsAct_50 : decode cX6_tellsAct 50 = .ok (.aload_n 0, 1) := dk_42 (dk_at dksX6_tellsAct_2 14 rfl rfl)
theorem dX6_tellsAct_51 : decode cX6_tellsAct 51 = .ok (.iload_n 1, 1) := dk_27 (dk_at dksX6_tellsAct_2 15 rfl rfl)
theorem dX6_tellsAct_52 : decode cX6_tellsAct 52 = .ok (.iconst 1, 1) := dk_4 (dk_at dksX6_tellsAct_2 16 rfl rfl)
theorem dX6_tellsAct_53 : decode cX6_tellsAct 53 = .ok (.invokevirtual 428, 3) := dk_182 1 172 (dk_at dksX6_tellsAct_2 17 rfl rfl)
theorem dX6_tellsAct_56 : decode cX6_tellsAct 56 = .ok (.iadd, 1) := dk_96 (dk_at dksX6_tellsAct_2 20 rfl rfl)
theorem dX6_tellsAct_57 : decode cX6_tellsAct 57 = .ok (.ireturn, 1) := dk_172 (dk_at dksX6_tellsAct_2 21 rfl rfl)
theorem dX6_tellsAct_58 : decode cX6_tellsAct 58 = .ok (.aload_n 0, 1) := dk_42 (dk_at dksX6_tellsAct_2 22 rfl rfl)
theorem dX6_tellsAct_59 : decode cX6_tellsAct 59 = .ok (.bipush 60, 2) := dk_16 60 (dk_at dksX6_tellsAct_3 0 rfl rfl)
theorem dX6_tellsAct_61 : decode cX6_tellsAct 61 = .ok (.invokevirtual 413, 3) := dk_182 1 157 (dk_at dksX6_tellsAct_3 2 rfl rfl)
theorem dX6_tellsAct_64 : decode cX6_tellsAct 64 = .ok (.aload_n 0, 1) := dk_42 (dk_at dksX6_tellsAct_3 5 rfl rfl)
theorem dX6_tellsAct_65 : decode cX6_tellsAct 65 = .ok (.iload_n 1, 1) := dk_27 (dk_at dksX6_tellsAct_3 6 rfl rfl)
theorem dX6_tellsAct_66 : decode cX6_tellsAct 66 = .ok (.iload_n 2, 1) := dk_28 (dk_at dksX6_tellsAct_3 7 rfl rfl)
theorem dX6_tellsAct_67 : decode cX6_tellsAct 67 = .ok (.iload_n 1, 1) := dk_27 (dk_at dksX6_tellsAct_3 8 rfl rfl)
theorem dX6_tellsAct_68 : decode cX6_tellsAct 68 = .ok (.isub, 1) := dk_100 (dk_at dksX6_tellsAct_3 9 rfl rfl)
theorem dX6_tellsAct_69 : decode cX6_tellsAct 69 = .ok (.invokevirtual 431, 3) := dk_182 1 175 (dk_at dksX6_tellsAct_3 10 rfl rfl)
theorem dX6_tellsAct_72 : decode cX6_tellsAct 72 = .ok (.ireturn, 1) := dk_172 (dk_at dksX6_tellsAct_3 13 rfl rfl)
theorem dX6_tellsAct_73 : decode cX6_tellsAct 73 = .ok (.aload_n 0, 1) := dk_42 (dk_at dksX6_tellsAct_3 14 rfl rfl)
theorem dX6_tellsAct_74 : decode cX6_tellsAct 74 = .ok (.iload_n 1, 1) := dk_27 (dk_at dksX6_tellsAct_3 15 rfl rfl)
theorem dX6_tellsAct_75 : decode cX6_tellsAct 75 = .ok (.iload_n 2, 1) := dk_28 (dk_at dksX6_tellsAct_3 16 rfl rfl)
theorem dX6_tellsAct_76 : decode cX6_tellsAct 76 = .ok (.invokevirtual 431, 3) := dk_182 1 175 (dk_at dksX6_tellsAct_3 17 rfl rfl)
theorem dX6_tellsAct_79 : decode cX6_tellsAct 79 = .ok (.ireturn, 1) := dk_172 (dk_at dksX6_tellsAct_3 20 rfl rfl)
abbrev cX6_hatTells : ByteArray := prog_23_method_94_code
def yX6_hatTells : MethodName := ⟨RX6, "hatTells", "(II)I"⟩
def dkwX6_hatTells_0 : List UInt8 := [42, 16, 12, 182, 1, 157, 42, 27, 28, 182, 1, 172, 5, 104, 172]
abbrev dktX6_hatTells_0 : List UInt8 := dkwX6_hatTells_0 ++ []
theorem dksX6_hatTells_0 : cX6_hatTells.data.toList.drop 0 = dktX6_hatTells_0 := by decide +kernel
theorem dX6_hatTells_0 : decode cX6_hatTells 0 = .ok (.aload_n 0, 1) := dk_42 (dk_at dksX6_hatTells_0 0 rfl rfl)
theorem dX6_hatTells_1 : decode cX6_hatTells 1 = .ok (.bipush 12, 2) := dk_16 12 (dk_at dksX6_hatTells_0 1 rfl rfl)
theorem dX6_hatTells_3 : decode cX6_hatTells 3 = .ok (.invokevirtual 413, 3) := dk_182 1 157 (dk_at dksX6_hatTells_0 3 rfl rfl)
theorem dX6_hatTells_6 : decode cX6_hatTells 6 = .ok (.aload_n 0, 1) := dk_42 (dk_at dksX6_hatTells_0 6 rfl rfl)
theorem dX6_hatTells_7 : decode cX6_hatTells 7 = .ok (.iload_n 1, 1) := dk_27 (dk_at dksX6_hatTells_0 7 rfl rfl)
theorem dX6_hatTells_8 : decode cX6_hatTells 8 = .ok (.iload_n 2, 1) := dk_28 (dk_at dksX6_hatTells_0 8 rfl rfl)
theorem dX6_hatTells_9 : decode cX6_hatTells 9 = .ok (.invokevirtual 428, 3) := dk_182 1 172 (dk_at dksX6_hatTells_0 9 rfl rfl)
theorem dX6_hatTells_12 : decode cX6_hatTells 12 = .ok (.iconst 2, 1) := dk_5 (dk_at dksX6_hatTells_0 12 rfl rfl)
theorem dX6_hatTells_13 : decode cX6_hatTells 13 = .ok (.imul, 1) := dk_104 (dk_at dksX6_hatTells_0 13 rfl rfl)
theorem dX6_hatTells_14 : decode cX6_hatTells 14 = .ok (.ireturn, 1) := dk_172 (dk_at dksX6_hatTells_0 14 rfl rfl)
abbrev cX6_trace : ByteArray := prog_23_method_97_code
def yX6_trace : MethodName := ⟨RX6, "trace", "(I)I"⟩
def dkwX6_trace_1 : List UInt8 := [46, 167, 0, 4, 2, 172]
abbrev dktX6_trace_1 : List UInt8 := dkwX6_trace_1 ++ []
def dkwX6_trace_0 : List UInt8 := [42, 27, 3, 16, 19, 182, 0, 248, 153, 0, 20, 27, 42, 180, 0, 229, 162, 0, 12, 42, 180, 0, 232, 27]
abbrev dktX6_trace_0 : List UInt8 := dkwX6_trace_0 ++ dktX6_trace_1
theorem dksX6_trace_0 : cX6_trace.data.toList.drop 0 = dktX6_trace_0 := by decide +kernel
theorem dksX6_trace_1 : cX6_trace.data.toList.drop 24 = dktX6_trace_1 := dk_seg dksX6_trace_0 24 rfl rfl
theorem dX6_trace_0 : decode cX6_trace 0 = .ok (.aload_n 0, 1) := dk_42 (dk_at dksX6_trace_0 0 rfl rfl)
theorem dX6_trace_1 : decode cX6_trace 1 = .ok (.iload_n 1, 1) := dk_27 (dk_at dksX6_trace_0 1 rfl rfl)
theorem dX6_trace_2 : decode cX6_trace 2 = .ok (.iconst 0, 1) := dk_3 (dk_at dksX6_trace_0 2 rfl rfl)
theorem dX6_trace_3 : decode cX6_trace 3 = .ok (.bipush 19, 2) := dk_16 19 (dk_at dksX6_trace_0 3 rfl rfl)
theorem dX6_trace_5 : decode cX6_trace 5 = .ok (.invokevirtual 248, 3) := dk_182 0 248 (dk_at dksX6_trace_0 5 rfl rfl)
theorem dX6_trace_8 : decode cX6_trace 8 = .ok (.ifCond .eq 20, 3) := dk_153 0 20 (dk_at dksX6_trace_0 8 rfl rfl)
theorem dX6_trace_11 : decode cX6_trace 11 = .ok (.iload_n 1, 1) := dk_27 (dk_at dksX6_trace_0 11 rfl rfl)
theorem dX6_trace_12 : decode cX6_trace 12 = .ok (.aload_n 0, 1) := dk_42 (dk_at dksX6_trace_0 12 rfl rfl)
theorem dX6_trace_13 : decode cX6_trace 13 = .ok (.getfield 229, 3) := dk_180 0 229 (dk_at dksX6_trace_0 13 rfl rfl)
theorem dX6_trace_16 : decode cX6_trace 16 = .ok (.if_icmp .ge 12, 3) := dk_162 0 12 (dk_at dksX6_trace_0 16 rfl rfl)
theorem dX6_trace_19 : decode cX6_trace 19 = .ok (.aload_n 0, 1) := dk_42 (dk_at dksX6_trace_0 19 rfl rfl)
theorem dX6_trace_20 : decode cX6_trace 20 = .ok (.getfield 232, 3) := dk_180 0 232 (dk_at dksX6_trace_0 20 rfl rfl)
theorem dX6_trace_23 : decode cX6_trace 23 = .ok (.iload_n 1, 1) := dk_27 (dk_at dksX6_trace_0 23 rfl rfl)
theorem dX6_trace_24 : decode cX6_trace 24 = .ok (.iaload, 1) := dk_46 (dk_at dksX6_trace_1 0 rfl rfl)
theorem dX6_trace_25 : decode cX6_trace 25 = .ok (.goto 4, 3) := dk_167 0 4 (dk_at dksX6_trace_1 1 rfl rfl)
theorem dX6_trace_28 : decode cX6_trace 28 = .ok (.iconst (-1), 1) := dk_2 (dk_at dksX6_trace_1 4 rfl rfl)
theorem dX6_trace_29 : decode cX6_trace 29 = .ok (.ireturn, 1) := dk_172 (dk_at dksX6_trace_1 5 rfl rfl)
abbrev cX6_taken : ByteArray := prog_23_method_98_code
def yX6_taken : MethodName := ⟨RX6, "taken", "(II)I"⟩
def dkwX6_taken_3 : List UInt8 := [29, 167, 0, 5, 16, 244, 172]
abbrev dktX6_taken_3 : List UInt8 := dkwX6_taken_3 ++ []
def dkwX6_taken_2 : List UInt8 := [159, 0, 24, 28, 5, 160, 0, 8, 29, 8, 159, 0, 14, 28, 6, 160, 0, 13, 29, 16, 6, 160, 0, 7]
abbrev dktX6_taken_2 : List UInt8 := dkwX6_taken_2 ++ dktX6_taken_3
def dkwX6_taken_1 : List UInt8 := [172, 42, 180, 0, 29, 27, 46, 62, 28, 153, 0, 39, 29, 28, 159, 0, 34, 28, 4, 160, 0, 8, 29, 7]
abbrev dktX6_taken_1 : List UInt8 := dkwX6_taken_1 ++ dktX6_taken_2
def dkwX6_taken_0 : List UInt8 := [42, 28, 3, 16, 6, 182, 0, 248, 154, 0, 6, 16, 254, 172, 42, 27, 182, 1, 0, 154, 0, 6, 16, 245]
abbrev dktX6_taken_0 : List UInt8 := dkwX6_taken_0 ++ dktX6_taken_1
theorem dksX6_taken_0 : cX6_taken.data.toList.drop 0 = dktX6_taken_0 := by decide +kernel
theorem dksX6_taken_1 : cX6_taken.data.toList.drop 24 = dktX6_taken_1 := dk_seg dksX6_taken_0 24 rfl rfl
theorem dksX6_taken_2 : cX6_taken.data.toList.drop 48 = dktX6_taken_2 := dk_seg dksX6_taken_1 24 rfl rfl
theorem dksX6_taken_3 : cX6_taken.data.toList.drop 72 = dktX6_taken_3 := dk_seg dksX6_taken_2 24 rfl rfl
theorem dX6_taken_0 : decode cX6_taken 0 = .ok (.aload_n 0, 1) := dk_42 (dk_at dksX6_taken_0 0 rfl rfl)
theorem dX6_taken_1 : decode cX6_taken 1 = .ok (.iload_n 2, 1) := dk_28 (dk_at dksX6_taken_0 1 rfl rfl)
theorem dX6_taken_2 : decode cX6_taken 2 = .ok (.iconst 0, 1) := dk_3 (dk_at dksX6_taken_0 2 rfl rfl)
theorem dX6_taken_3 : decode cX6_taken 3 = .ok (.bipush 6, 2) := dk_16 6 (dk_at dksX6_taken_0 3 rfl rfl)
theorem dX6_taken_5 : decode cX6_taken 5 = .ok (.invokevirtual 248, 3) := dk_182 0 248 (dk_at dksX6_taken_0 5 rfl rfl)
theorem dX6_taken_8 : decode cX6_taken 8 = .ok (.ifCond .ne 6, 3) := dk_154 0 6 (dk_at dksX6_taken_0 8 rfl rfl)
theorem dX6_taken_11 : decode cX6_taken 11 = .ok (.bipush (-2), 2) := dk_16 254 (dk_at dksX6_taken_0 11 rfl rfl)
theorem dX6_taken_13 : decode cX6_taken 13 = .ok (.ireturn, 1) := dk_172 (dk_at dksX6_taken_0 13 rfl rfl)
theorem dX6_taken_14 : decode cX6_taken 14 = .ok (.aload_n 0, 1) := dk_42 (dk_at dksX6_taken_0 14 rfl rfl)
theorem dX6_taken_15 : decode cX6_taken 15 = .ok (.iload_n 1, 1) := dk_27 (dk_at dksX6_taken_0 15 rfl rfl)
theorem dX6_taken_16 : decode cX6_taken 16 = .ok (.invokevirtual 256, 3) := dk_182 1 0 (dk_at dksX6_taken_0 16 rfl rfl)
theorem dX6_taken_19 : decode cX6_taken 19 = .ok (.ifCond .ne 6, 3) := dk_154 0 6 (dk_at dksX6_taken_0 19 rfl rfl)
theorem dX6_taken_22 : decode cX6_taken 22 = .ok (.bipush (-11), 2) := dk_16 245 (dk_at dksX6_taken_0 22 rfl rfl)
theorem dX6_taken_24 : decode cX6_taken 24 = .ok (.ireturn, 1) := dk_172 (dk_at dksX6_taken_1 0 rfl rfl)
theorem dX6_taken_25 : decode cX6_taken 25 = .ok (.aload_n 0, 1) := dk_42 (dk_at dksX6_taken_1 1 rfl rfl)
theorem dX6_taken_26 : decode cX6_taken 26 = .ok (.getfield 29, 3) := dk_180 0 29 (dk_at dksX6_taken_1 2 rfl rfl)
theorem dX6_taken_29 : decode cX6_taken 29 = .ok (.iload_n 1, 1) := dk_27 (dk_at dksX6_taken_1 5 rfl rfl)
theorem dX6_taken_30 : decode cX6_taken 30 = .ok (.iaload, 1) := dk_46 (dk_at dksX6_taken_1 6 rfl rfl)
theorem dX6_taken_31 : decode cX6_taken 31 = .ok (.istore_n 3, 1) := dk_62 (dk_at dksX6_taken_1 7 rfl rfl)
theorem dX6_taken_32 : decode cX6_taken 32 = .ok (.iload_n 2, 1) := dk_28 (dk_at dksX6_taken_1 8 rfl rfl)
theorem dX6_taken_33 : decode cX6_taken 33 = .ok (.ifCond .eq 39, 3) := dk_153 0 39 (dk_at dksX6_taken_1 9 rfl rfl)
theorem dX6_taken_36 : decode cX6_taken 36 = .ok (.iload_n 3, 1) := dk_29 (dk_at dksX6_taken_1 12 rfl rfl)
theorem dX6_taken_37 : decode cX6_taken 37 = .ok (.iload_n 2, 1) := dk_28 (dk_at dksX6_taken_1 13 rfl rfl)
theorem dX6_taken_38 : decode cX6_taken 38 = .ok (.if_icmp .eq 34, 3) := dk_159 0 34 (dk_at dksX6_taken_1 14 rfl rfl)
theorem dX6_taken_41 : decode cX6_taken 41 = .ok (.iload_n 2, 1) := dk_28 (dk_at dksX6_taken_1 17 rfl rfl)
theorem dX6_taken_42 : decode cX6_taken 42 = .ok (.iconst 1, 1) := dk_4 (dk_at dksX6_taken_1 18 rfl rfl)
theorem dX6_taken_43 : decode cX6_taken 43 = .ok (.if_icmp .ne 8, 3) := dk_160 0 8 (dk_at dksX6_taken_1 19 rfl rfl)
theorem dX6_taken_46 : decode cX6_taken 46 = .ok (.iload_n 3, 1) := dk_29 (dk_at dksX6_taken_1 22 rfl rfl)
theorem dX6_taken_47 : decode cX6_taken 47 = .ok (.iconst 4, 1) := dk_7 (dk_at dksX6_taken_1 23 rfl rfl)
theorem dX6_taken_48 : decode cX6_taken 48 = .ok (.if_icmp .eq 24, 3) := dk_159 0 24 (dk_at dksX6_taken_2 0 rfl rfl)
theorem dX6_taken_51 : decode cX6_taken 51 = .ok (.iload_n 2, 1) := dk_28 (dk_at dksX6_taken_2 3 rfl rfl)
theorem dX6_taken_52 : decode cX6_taken 52 = .ok (.iconst 2, 1) := dk_5 (dk_at dksX6_taken_2 4 rfl rfl)
theorem dX6_taken_53 : decode cX6_taken 53 = .ok (.if_icmp .ne 8, 3) := dk_160 0 8 (dk_at dksX6_taken_2 5 rfl rfl)
theorem dX6_taken_56 : decode cX6_taken 56 = .ok (.iload_n 3, 1) := dk_29 (dk_at dksX6_taken_2 8 rfl rfl)
theorem dX6_taken_57 : decode cX6_taken 57 = .ok (.iconst 5, 1) := dk_8 (dk_at dksX6_taken_2 9 rfl rfl)
theorem dX6_taken_58 : decode cX6_taken 58 = .ok (.if_icmp .eq 14, 3) := dk_159 0 14 (dk_at dksX6_taken_2 10 rfl rfl)
theorem dX6_taken_61 : decode cX6_taken 61 = .ok (.iload_n 2, 1) := dk_28 (dk_at dksX6_taken_2 13 rfl rfl)
theorem dX6_taken_62 : decode cX6_taken 62 = .ok (.iconst 3, 1) := dk_6 (dk_at dksX6_taken_2 14 rfl rfl)
theorem dX6_taken_63 : decode cX6_taken 63 = .ok (.if_icmp .ne 13, 3) := dk_160 0 13 (dk_at dksX6_taken_2 15 rfl rfl)
theorem dX6_taken_66 : decode cX6_taken 66 = .ok (.iload_n 3, 1) := dk_29 (dk_at dksX6_taken_2 18 rfl rfl)
theorem dX6_taken_67 : decode cX6_taken 67 = .ok (.bipush 6, 2) := dk_16 6 (dk_at dksX6_taken_2 19 rfl rfl)
theorem dX6_taken_69 : decode cX6_taken 69 = .ok (.if_icmp .ne 7, 3) := dk_160 0 7 (dk_at dksX6_taken_2 21 rfl rfl)
theorem dX6_taken_72 : decode cX6_taken 72 = .ok (.iload_n 3, 1) := dk_29 (dk_at dksX6_taken_3 0 rfl rfl)
theorem dX6_taken_73 : decode cX6_taken 73 = .ok (.goto 5, 3) := dk_167 0 5 (dk_at dksX6_taken_3 1 rfl rfl)
theorem dX6_taken_76 : decode cX6_taken 76 = .ok (.bipush (-12), 2) := dk_16 244 (dk_at dksX6_taken_3 4 rfl rfl)
theorem dX6_taken_78 : decode cX6_taken 78 = .ok (.ireturn, 1) := dk_172 (dk_at dksX6_taken_3 6 rfl rfl)
abbrev cX6_count : ByteArray := prog_23_method_99_code
def yX6_count : MethodName := ⟨RX6, "count", "(I)I"⟩
def dkwX6_count_3 : List UInt8 := [172, 42, 180, 0, 59, 172, 42, 180, 0, 229, 172, 16, 254, 172]
abbrev dktX6_count_3 : List UInt8 := dkwX6_count_3 ++ []
def dkwX6_count_2 : List UInt8 := [42, 180, 0, 13, 172, 42, 180, 0, 7, 172, 42, 180, 0, 53, 172, 42, 180, 0, 141, 172, 42, 180, 0, 153]
abbrev dktX6_count_2 : List UInt8 := dkwX6_count_2 ++ dktX6_count_3
def dkwX6_count_1 : List UInt8 := [170, 0, 0, 0, 0, 0, 78, 0, 0, 0, 0, 0, 0, 0, 6, 0, 0, 0, 43, 0, 0, 0, 48, 0, 0, 0, 53, 0, 0, 0, 58, 0, 0, 0, 63, 0, 0, 0, 68, 0, 0, 0, 73]
abbrev dktX6_count_1 : List UInt8 := dkwX6_count_1 ++ dktX6_count_2
def dkwX6_count_0 : List UInt8 := [27]
abbrev dktX6_count_0 : List UInt8 := dkwX6_count_0 ++ dktX6_count_1
theorem dksX6_count_0 : cX6_count.data.toList.drop 0 = dktX6_count_0 := by decide +kernel
theorem dksX6_count_1 : cX6_count.data.toList.drop 1 = dktX6_count_1 := dk_seg dksX6_count_0 1 rfl rfl
theorem dksX6_count_2 : cX6_count.data.toList.drop 44 = dktX6_count_2 := dk_seg dksX6_count_1 43 rfl rfl
theorem dksX6_count_3 : cX6_count.data.toList.drop 68 = dktX6_count_3 := dk_seg dksX6_count_2 24 rfl rfl
theorem dX6_count_0 : decode cX6_count 0 = .ok (.iload_n 1, 1) := dk_27 (dk_at dksX6_count_0 0 rfl rfl)
theorem dX6_count_1 : decode cX6_count 1 = .ok (.tableswitch 78 0 6 #[43, 48, 53, 58, 63, 68, 73], 43) := by decide +kernel
theorem dX6_count_44 : decode cX6_count 44 = .ok (.aload_n 0, 1) := dk_42 (dk_at dksX6_count_2 0 rfl rfl)
theorem dX6_count_45 : decode cX6_count 45 = .ok (.getfield 13, 3) := dk_180 0 13 (dk_at dksX6_count_2 1 rfl rfl)
theorem dX6_count_48 : decode cX6_count 48 = .ok (.ireturn, 1) := dk_172 (dk_at dksX6_count_2 4 rfl rfl)
theorem dX6_count_49 : decode cX6_count 49 = .ok (.aload_n 0, 1) := dk_42 (dk_at dksX6_count_2 5 rfl rfl)
theorem dX6_count_50 : decode cX6_count 50 = .ok (.getfield 7, 3) := dk_180 0 7 (dk_at dksX6_count_2 6 rfl rfl)
theorem dX6_count_53 : decode cX6_count 53 = .ok (.ireturn, 1) := dk_172 (dk_at dksX6_count_2 9 rfl rfl)
theorem dX6_count_54 : decode cX6_count 54 = .ok (.aload_n 0, 1) := dk_42 (dk_at dksX6_count_2 10 rfl rfl)
theorem dX6_count_55 : decode cX6_count 55 = .ok (.getfield 53, 3) := dk_180 0 53 (dk_at dksX6_count_2 11 rfl rfl)
theorem dX6_count_58 : decode cX6_count 58 = .ok (.ireturn, 1) := dk_172 (dk_at dksX6_count_2 14 rfl rfl)
theorem dX6_count_59 : decode cX6_count 59 = .ok (.aload_n 0, 1) := dk_42 (dk_at dksX6_count_2 15 rfl rfl)
theorem dX6_count_60 : decode cX6_count 60 = .ok (.getfield 141, 3) := dk_180 0 141 (dk_at dksX6_count_2 16 rfl rfl)
theorem dX6_count_63 : decode cX6_count 63 = .ok (.ireturn, 1) := dk_172 (dk_at dksX6_count_2 19 rfl rfl)
theorem dX6_count_64 : decode cX6_count 64 = .ok (.aload_n 0, 1) := dk_42 (dk_at dksX6_count_2 20 rfl rfl)
theorem dX6_count_65 : decode cX6_count 65 = .ok (.getfield 153, 3) := dk_180 0 153 (dk_at dksX6_count_2 21 rfl rfl)
theorem dX6_count_68 : decode cX6_count 68 = .ok (.ireturn, 1) := dk_172 (dk_at dksX6_count_3 0 rfl rfl)
theorem dX6_count_69 : decode cX6_count 69 = .ok (.aload_n 0, 1) := dk_42 (dk_at dksX6_count_3 1 rfl rfl)
theorem dX6_count_70 : decode cX6_count 70 = .ok (.getfield 59, 3) := dk_180 0 59 (dk_at dksX6_count_3 2 rfl rfl)
theorem dX6_count_73 : decode cX6_count 73 = .ok (.ireturn, 1) := dk_172 (dk_at dksX6_count_3 5 rfl rfl)
theorem dX6_count_74 : decode cX6_count 74 = .ok (.aload_n 0, 1) := dk_42 (dk_at dksX6_count_3 6 rfl rfl)
theorem dX6_count_75 : decode cX6_count 75 = .ok (.getfield 229, 3) := dk_180 0 229 (dk_at dksX6_count_3 7 rfl rfl)
theorem dX6_count_78 : decode cX6_count 78 = .ok (.ireturn, 1) := dk_172 (dk_at dksX6_count_3 10 rfl rfl)
theorem dX6_count_79 : decode cX6_count 79 = .ok (.bipush (-2), 2) := dk_16 254 (dk_at dksX6_count_3 11 rfl rfl)
theorem dX6_count_81 : decode cX6_count 81 = .ok (.ireturn, 1) := dk_172 (dk_at dksX6_count_3 13 rfl rfl)
abbrev cX6_tape : ByteArray := prog_23_method_101_code
def yX6_tape : MethodName := ⟨RX6, "tape", "(III)I"⟩
def dkwX6_tape_4 : List UInt8 := [4, 172]
abbrev dktX6_tape_4 : List UInt8 := dkwX6_tape_4 ++ []
def dkwX6_tape_3 : List UInt8 := [16, 60, 162, 0, 22, 42, 180, 0, 241, 16, 60, 27, 104, 21, 4, 96, 9, 80, 132, 4, 1, 167, 255, 233]
abbrev dktX6_tape_3 : List UInt8 := dkwX6_tape_3 ++ dktX6_tape_4
def dkwX6_tape_2 : List UInt8 := [27, 28, 79, 42, 180, 0, 238, 27, 28, 156, 0, 7, 3, 167, 0, 4, 29, 79, 3, 54, 4, 21, 4]
abbrev dktX6_tape_2 : List UInt8 := dkwX6_tape_2 ++ dktX6_tape_3
def dkwX6_tape_1 : List UInt8 := [29, 16, 60, 164, 0, 6, 16, 254, 172, 28, 155, 0, 10, 29, 156, 0, 6, 16, 242, 172, 42, 180, 0, 235]
abbrev dktX6_tape_1 : List UInt8 := dkwX6_tape_1 ++ dktX6_tape_2
def dkwX6_tape_0 : List UInt8 := [42, 27, 182, 1, 154, 154, 0, 5, 2, 172, 42, 28, 2, 7, 182, 0, 248, 153, 0, 13, 28, 155, 0, 12]
abbrev dktX6_tape_0 : List UInt8 := dkwX6_tape_0 ++ dktX6_tape_1
theorem dksX6_tape_0 : cX6_tape.data.toList.drop 0 = dktX6_tape_0 := by decide +kernel
theorem dksX6_tape_1 : cX6_tape.data.toList.drop 24 = dktX6_tape_1 := dk_seg dksX6_tape_0 24 rfl rfl
theorem dksX6_tape_2 : cX6_tape.data.toList.drop 48 = dktX6_tape_2 := dk_seg dksX6_tape_1 24 rfl rfl
theorem dksX6_tape_3 : cX6_tape.data.toList.drop 71 = dktX6_tape_3 := dk_seg dksX6_tape_2 23 rfl rfl
theorem dksX6_tape_4 : cX6_tape.data.toList.drop 95 = dktX6_tape_4 := dk_seg dksX6_tape_3 24 rfl rfl
theorem dX6_tape_0 : decode cX6_tape 0 = .ok (.aload_n 0, 1) := dk_42 (dk_at dksX6_tape_0 0 rfl rfl)
theorem dX6_tape_1 : decode cX6_tape 1 = .ok (.iload_n 1, 1) := dk_27 (dk_at dksX6_tape_0 1 rfl rfl)
theorem dX6_tape_2 : decode cX6_tape 2 = .ok (.invokevirtual 410, 3) := dk_182 1 154 (dk_at dksX6_tape_0 2 rfl rfl)
theorem dX6_tape_5 : decode cX6_tape 5 = .ok (.ifCond .ne 5, 3) := dk_154 0 5 (dk_at dksX6_tape_0 5 rfl rfl)
theorem dX6_tape_8 : decode cX6_tape 8 = .ok (.iconst (-1), 1) := dk_2 (dk_at dksX6_tape_0 8 rfl rfl)
theorem dX6_tape_9 : decode cX6_tape 9 = .ok (.ireturn, 1) := dk_172 (dk_at dksX6_tape_0 9 rfl rfl)
theorem dX6_tape_10 : decode cX6_tape 10 = .ok (.aload_n 0, 1) := dk_42 (dk_at dksX6_tape_0 10 rfl rfl)
theorem dX6_tape_11 : decode cX6_tape 11 = .ok (.iload_n 2, 1) := dk_28 (dk_at dksX6_tape_0 11 rfl rfl)
theorem dX6_tape_12 : decode cX6_tape 12 = .ok (.iconst (-1), 1) := dk_2 (dk_at dksX6_tape_0 12 rfl rfl)
theorem dX6_tape_13 : decode cX6_tape 13 = .ok (.iconst 4, 1) := dk_7 (dk_at dksX6_tape_0 13 rfl rfl)
theorem dX6_tape_14 : decode cX6_tape 14 = .ok (.invokevirtual 248, 3) := dk_182 0 248 (dk_at dksX6_tape_0 14 rfl rfl)
theorem dX6_tape_17 : decode cX6_tape 17 = .ok (.ifCond .eq 13, 3) := dk_153 0 13 (dk_at dksX6_tape_0 17 rfl rfl)
theorem dX6_tape_20 : decode cX6_tape 20 = .ok (.iload_n 2, 1) := dk_28 (dk_at dksX6_tape_0 20 rfl rfl)
theorem dX6_tape_21 : decode cX6_tape 21 = .ok (.ifCond .lt 12, 3) := dk_155 0 12 (dk_at dksX6_tape_0 21 rfl rfl)
theorem dX6_tape_24 : decode cX6_tape 24 = .ok (.iload_n 3, 1) := dk_29 (dk_at dksX6_tape_1 0 rfl rfl)
theorem dX6_tape_25 : decode cX6_tape 25 = .ok (.bipush 60, 2) := dk_16 60 (dk_at dksX6_tape_1 1 rfl rfl)
theorem dX6_tape_27 : decode cX6_tape 27 = .ok (.if_icmp .le 6, 3) := dk_164 0 6 (dk_at dksX6_tape_1 3 rfl rfl)
theorem dX6_tape_30 : decode cX6_tape 30 = .ok (.bipush (-2), 2) := dk_16 254 (dk_at dksX6_tape_1 6 rfl rfl)
theorem dX6_tape_32 : decode cX6_tape 32 = .ok (.ireturn, 1) := dk_172 (dk_at dksX6_tape_1 8 rfl rfl)
theorem dX6_tape_33 : decode cX6_tape 33 = .ok (.iload_n 2, 1) := dk_28 (dk_at dksX6_tape_1 9 rfl rfl)
theorem dX6_tape_34 : decode cX6_tape 34 = .ok (.ifCond .lt 10, 3) := dk_155 0 10 (dk_at dksX6_tape_1 10 rfl rfl)
theorem dX6_tape_37 : decode cX6_tape 37 = .ok (.iload_n 3, 1) := dk_29 (dk_at dksX6_tape_1 13 rfl rfl)
theorem dX6_tape_38 : decode cX6_tape 38 = .ok (.ifCond .ge 6, 3) := dk_156 0 6 (dk_at dksX6_tape_1 14 rfl rfl)
theorem dX6_tape_41 : decode cX6_tape 41 = .ok (.bipush (-14), 2) := dk_16 242 (dk_at dksX6_tape_1 17 rfl rfl)
theorem dX6_tape_43 : decode cX6_tape 43 = .ok (.ireturn, 1) := dk_172 (dk_at dksX6_tape_1 19 rfl rfl)
theorem dX6_tape_44 : decode cX6_tape 44 = .ok (.aload_n 0, 1) := dk_42 (dk_at dksX6_tape_1 20 rfl rfl)
theorem dX6_tape_45 : decode cX6_tape 45 = .ok (.getfield 235, 3) := dk_180 0 235 (dk_at dksX6_tape_1 21 rfl rfl)
theorem dX6_tape_48 : decode cX6_tape 48 = .ok (.iload_n 1, 1) := dk_27 (dk_at dksX6_tape_2 0 rfl rfl)
theorem dX6_tape_49 : decode cX6_tape 49 = .ok (.iload_n 2, 1) := dk_28 (dk_at dksX6_tape_2 1 rfl rfl)
theorem dX6_tape_50 : decode cX6_tape 50 = .ok (.iastore, 1) := dk_79 (dk_at dksX6_tape_2 2 rfl rfl)
theorem dX6_tape_51 : decode cX6_tape 51 = .ok (.aload_n 0, 1) := dk_42 (dk_at dksX6_tape_2 3 rfl rfl)
theorem dX6_tape_52 : decode cX6_tape 52 = .ok (.getfield 238, 3) := dk_180 0 238 (dk_at dksX6_tape_2 4 rfl rfl)
theorem dX6_tape_55 : decode cX6_tape 55 = .ok (.iload_n 1, 1) := dk_27 (dk_at dksX6_tape_2 7 rfl rfl)
theorem dX6_tape_56 : decode cX6_tape 56 = .ok (.iload_n 2, 1) := dk_28 (dk_at dksX6_tape_2 8 rfl rfl)
theorem dX6_tape_57 : decode cX6_tape 57 = .ok (.ifCond .ge 7, 3) := dk_156 0 7 (dk_at dksX6_tape_2 9 rfl rfl)
theorem dX6_tape_60 : decode cX6_tape 60 = .ok (.iconst 0, 1) := dk_3 (dk_at dksX6_tape_2 12 rfl rfl)
theorem dX6_tape_61 : decode cX6_tape 61 = .ok (.goto 4, 3) := dk_167 0 4 (dk_at dksX6_tape_2 13 rfl rfl)
theorem dX6_tape_64 : decode cX6_tape 64 = .ok (.iload_n 3, 1) := dk_29 (dk_at dksX6_tape_2 16 rfl rfl)
theorem dX6_tape_65 : decode cX6_tape 65 = .ok (.iastore, 1) := dk_79 (dk_at dksX6_tape_2 17 rfl rfl)
theorem dX6_tape_66 : decode cX6_tape 66 = .ok (.iconst 0, 1) := dk_3 (dk_at dksX6_tape_2 18 rfl rfl)
theorem dX6_tape_67 : decode cX6_tape 67 = .ok (.istore 4, 2) := dk_54 4 (dk_at dksX6_tape_2 19 rfl rfl)
theorem dX6_tape_69 : decode cX6_tape 69 = .ok (.iload 4, 2) := dk_21 4 (dk_at dksX6_tape_2 21 rfl rfl)
theorem dX6_tape_71 : decode cX6_tape 71 = .ok (.bipush 60, 2) := dk_16 60 (dk_at dksX6_tape_3 0 rfl rfl)
theorem dX6_tape_73 : decode cX6_tape 73 = .ok (.if_icmp .ge 22, 3) := dk_162 0 22 (dk_at dksX6_tape_3 2 rfl rfl)
theorem dX6_tape_76 : decode cX6_tape 76 = .ok (.aload_n 0, 1) := dk_42 (dk_at dksX6_tape_3 5 rfl rfl)
theorem dX6_tape_77 : decode cX6_tape 77 = .ok (.getfield 241, 3) := dk_180 0 241 (dk_at dksX6_tape_3 6 rfl rfl)
theorem dX6_tape_80 : decode cX6_tape 80 = .ok (.bipush 60, 2) := dk_16 60 (dk_at dksX6_tape_3 9 rfl rfl)
theorem dX6_tape_82 : decode cX6_tape 82 = .ok (.iload_n 1, 1) := dk_27 (dk_at dksX6_tape_3 11 rfl rfl)
theorem dX6_tape_83 : decode cX6_tape 83 = .ok (.imul, 1) := dk_104 (dk_at dksX6_tape_3 12 rfl rfl)
theorem dX6_tape_84 : decode cX6_tape 84 = .ok (.iload 4, 2) := dk_21 4 (dk_at dksX6_tape_3 13 rfl rfl)
theorem dX6_tape_86 : decode cX6_tape 86 = .ok (.iadd, 1) := dk_96 (dk_at dksX6_tape_3 15 rfl rfl)
theorem dX6_tape_87 : decode cX6_tape 87 = .ok (.lconst 0, 1) := dk_9 (dk_at dksX6_tape_3 16 rfl rfl)
theorem dX6_tape_88 : decode cX6_tape 88 = .ok (.lastore, 1) := dk_80 (dk_at dksX6_tape_3 17 rfl rfl)
theorem dX6_tape_89 : decode cX6_tape 89 = .ok (.iinc 4 1, 3) := dk_132 4 1 (dk_at dksX6_tape_3 18 rfl rfl)
theorem dX6_tape_92 : decode cX6_tape 92 = .ok (.goto (-23), 3) := dk_167 255 233 (dk_at dksX6_tape_3 21 rfl rfl)
theorem dX6_tape_95 : decode cX6_tape 95 = .ok (.iconst 1, 1) := dk_4 (dk_at dksX6_tape_4 0 rfl rfl)
theorem dX6_tape_96 : decode cX6_tape 96 = .ok (.ireturn, 1) := dk_172 (dk_at dksX6_tape_4 1 rfl rfl)
abbrev cX6_item : ByteArray := prog_23_method_103_code
def yX6_item : MethodName := ⟨RX6, "item", "(IIJ)I"⟩
def dkwX6_item_2 : List UInt8 := [27, 104, 28, 96, 42, 42, 180, 0, 235, 27, 46, 33, 182, 1, 181, 80, 4, 172]
abbrev dktX6_item_2 : List UInt8 := dkwX6_item_2 ++ []
def dkwX6_item_1 : List UInt8 := [3, 42, 180, 0, 238, 27, 46, 4, 100, 182, 0, 248, 154, 0, 6, 16, 243, 172, 42, 180, 0, 241, 16, 60]
abbrev dktX6_item_1 : List UInt8 := dkwX6_item_1 ++ dktX6_item_2
def dkwX6_item_0 : List UInt8 := [42, 27, 182, 1, 154, 154, 0, 5, 2, 172, 42, 180, 0, 235, 27, 46, 156, 0, 6, 16, 245, 172, 42, 28]
abbrev dktX6_item_0 : List UInt8 := dkwX6_item_0 ++ dktX6_item_1
theorem dksX6_item_0 : cX6_item.data.toList.drop 0 = dktX6_item_0 := by decide +kernel
theorem dksX6_item_1 : cX6_item.data.toList.drop 24 = dktX6_item_1 := dk_seg dksX6_item_0 24 rfl rfl
theorem dksX6_item_2 : cX6_item.data.toList.drop 48 = dktX6_item_2 := dk_seg dksX6_item_1 24 rfl rfl
theorem dX6_item_0 : decode cX6_item 0 = .ok (.aload_n 0, 1) := dk_42 (dk_at dksX6_item_0 0 rfl rfl)
theorem dX6_item_1 : decode cX6_item 1 = .ok (.iload_n 1, 1) := dk_27 (dk_at dksX6_item_0 1 rfl rfl)
theorem dX6_item_2 : decode cX6_item 2 = .ok (.invokevirtual 410, 3) := dk_182 1 154 (dk_at dksX6_item_0 2 rfl rfl)
theorem dX6_item_5 : decode cX6_item 5 = .ok (.ifCond .ne 5, 3) := dk_154 0 5 (dk_at dksX6_item_0 5 rfl rfl)
theorem dX6_item_8 : decode cX6_item 8 = .ok (.iconst (-1), 1) := dk_2 (dk_at dksX6_item_0 8 rfl rfl)
theorem dX6_item_9 : decode cX6_item 9 = .ok (.ireturn, 1) := dk_172 (dk_at dksX6_item_0 9 rfl rfl)
theorem dX6_item_10 : decode cX6_item 10 = .ok (.aload_n 0, 1) := dk_42 (dk_at dksX6_item_0 10 rfl rfl)
theorem dX6_item_11 : decode cX6_item 11 = .ok (.getfield 235, 3) := dk_180 0 235 (dk_at dksX6_item_0 11 rfl rfl)
theorem dX6_item_14 : decode cX6_item 14 = .ok (.iload_n 1, 1) := dk_27 (dk_at dksX6_item_0 14 rfl rfl)
theorem dX6_item_15 : decode cX6_item 15 = .ok (.iaload, 1) := dk_46 (dk_at dksX6_item_0 15 rfl rfl)
theorem dX6_item_16 : decode cX6_item 16 = .ok (.ifCond .ge 6, 3) := dk_156 0 6 (dk_at dksX6_item_0 16 rfl rfl)
theorem dX6_item_19 : decode cX6_item 19 = .ok (.bipush (-11), 2) := dk_16 245 (dk_at dksX6_item_0 19 rfl rfl)
theorem dX6_item_21 : decode cX6_item 21 = .ok (.ireturn, 1) := dk_172 (dk_at dksX6_item_0 21 rfl rfl)
theorem dX6_item_22 : decode cX6_item 22 = .ok (.aload_n 0, 1) := dk_42 (dk_at dksX6_item_0 22 rfl rfl)
theorem dX6_item_23 : decode cX6_item 23 = .ok (.iload_n 2, 1) := dk_28 (dk_at dksX6_item_0 23 rfl rfl)
theorem dX6_item_24 : decode cX6_item 24 = .ok (.iconst 0, 1) := dk_3 (dk_at dksX6_item_1 0 rfl rfl)
theorem dX6_item_25 : decode cX6_item 25 = .ok (.aload_n 0, 1) := dk_42 (dk_at dksX6_item_1 1 rfl rfl)
theorem dX6_item_26 : decode cX6_item 26 = .ok (.getfield 238, 3) := dk_180 0 238 (dk_at dksX6_item_1 2 rfl rfl)
theorem dX6_item_29 : decode cX6_item 29 = .ok (.iload_n 1, 1) := dk_27 (dk_at dksX6_item_1 5 rfl rfl)
theorem dX6_item_30 : decode cX6_item 30 = .ok (.iaload, 1) := dk_46 (dk_at dksX6_item_1 6 rfl rfl)
theorem dX6_item_31 : decode cX6_item 31 = .ok (.iconst 1, 1) := dk_4 (dk_at dksX6_item_1 7 rfl rfl)
theorem dX6_item_32 : decode cX6_item 32 = .ok (.isub, 1) := dk_100 (dk_at dksX6_item_1 8 rfl rfl)
theorem dX6_item_33 : decode cX6_item 33 = .ok (.invokevirtual 248, 3) := dk_182 0 248 (dk_at dksX6_item_1 9 rfl rfl)
theorem dX6_item_36 : decode cX6_item 36 = .ok (.ifCond .ne 6, 3) := dk_154 0 6 (dk_at dksX6_item_1 12 rfl rfl)
theorem dX6_item_39 : decode cX6_item 39 = .ok (.bipush (-13), 2) := dk_16 243 (dk_at dksX6_item_1 15 rfl rfl)
theorem dX6_item_41 : decode cX6_item 41 = .ok (.ireturn, 1) := dk_172 (dk_at dksX6_item_1 17 rfl rfl)
theorem dX6_item_42 : decode cX6_item 42 = .ok (.aload_n 0, 1) := dk_42 (dk_at dksX6_item_1 18 rfl rfl)
theorem dX6_item_43 : decode cX6_item 43 = .ok (.getfield 241, 3) := dk_180 0 241 (dk_at dksX6_item_1 19 rfl rfl)
theorem dX6_item_46 : decode cX6_item 46 = .ok (.bipush 60, 2) := dk_16 60 (dk_at dksX6_item_1 22 rfl rfl)
theorem dX6_item_48 : decode cX6_item 48 = .ok (.iload_n 1, 1) := dk_27 (dk_at dksX6_item_2 0 rfl rfl)
theorem dX6_item_49 : decode cX6_item 49 = .ok (.imul, 1) := dk_104 (dk_at dksX6_item_2 1 rfl rfl)
theorem dX6_item_50 : decode cX6_item 50 = .ok (.iload_n 2, 1) := dk_28 (dk_at dksX6_item_2 2 rfl rfl)
theorem dX6_item_51 : decode cX6_item 51 = .ok (.iadd, 1) := dk_96 (dk_at dksX6_item_2 3 rfl rfl)
theorem dX6_item_52 : decode cX6_item 52 = .ok (.aload_n 0, 1) := dk_42 (dk_at dksX6_item_2 4 rfl rfl)
theorem dX6_item_53 : decode cX6_item 53 = .ok (.aload_n 0, 1) := dk_42 (dk_at dksX6_item_2 5 rfl rfl)
theorem dX6_item_54 : decode cX6_item 54 = .ok (.getfield 235, 3) := dk_180 0 235 (dk_at dksX6_item_2 6 rfl rfl)
theorem dX6_item_57 : decode cX6_item 57 = .ok (.iload_n 1, 1) := dk_27 (dk_at dksX6_item_2 9 rfl rfl)
theorem dX6_item_58 : decode cX6_item 58 = .ok (.iaload, 1) := dk_46 (dk_at dksX6_item_2 10 rfl rfl)
theorem dX6_item_59 : decode cX6_item 59 = .ok (.lload_n 3, 1) := dk_33 (dk_at dksX6_item_2 11 rfl rfl)
theorem dX6_item_60 : decode cX6_item 60 = .ok (.invokevirtual 437, 3) := dk_182 1 181 (dk_at dksX6_item_2 12 rfl rfl)
theorem dX6_item_63 : decode cX6_item 63 = .ok (.lastore, 1) := dk_80 (dk_at dksX6_item_2 15 rfl rfl)
theorem dX6_item_64 : decode cX6_item 64 = .ok (.iconst 1, 1) := dk_4 (dk_at dksX6_item_2 16 rfl rfl)
theorem dX6_item_65 : decode cX6_item 65 = .ok (.ireturn, 1) := dk_172 (dk_at dksX6_item_2 17 rfl rfl)
abbrev cX6_narrow : ByteArray := prog_23_method_102_code
def yX6_narrow : MethodName := ⟨RX6, "narrow", "(IJ)J"⟩
def dkwX6_narrow_2 : List UInt8 := [167, 0, 8, 9, 167, 0, 4, 32, 173]
abbrev dktX6_narrow_2 : List UInt8 := dkwX6_narrow_2 ++ []
def dkwX6_narrow_1 : List UInt8 := [5, 160, 0, 9, 32, 136, 133, 167, 0, 23, 27, 7, 160, 0, 17, 32, 9, 148, 153, 0, 7, 10]
abbrev dktX6_narrow_1 : List UInt8 := dkwX6_narrow_1 ++ dktX6_narrow_2
def dkwX6_narrow_0 : List UInt8 := [27, 154, 0, 10, 32, 136, 145, 133, 167, 0, 46, 27, 4, 160, 0, 10, 32, 136, 147, 133, 167, 0, 34, 27]
abbrev dktX6_narrow_0 : List UInt8 := dkwX6_narrow_0 ++ dktX6_narrow_1
theorem dksX6_narrow_0 : cX6_narrow.data.toList.drop 0 = dktX6_narrow_0 := by decide +kernel
theorem dksX6_narrow_1 : cX6_narrow.data.toList.drop 24 = dktX6_narrow_1 := dk_seg dksX6_narrow_0 24 rfl rfl
theorem dksX6_narrow_2 : cX6_narrow.data.toList.drop 46 = dktX6_narrow_2 := dk_seg dksX6_narrow_1 22 rfl rfl
theorem dX6_narrow_0 : decode cX6_narrow 0 = .ok (.iload_n 1, 1) := dk_27 (dk_at dksX6_narrow_0 0 rfl rfl)
theorem dX6_narrow_1 : decode cX6_narrow 1 = .ok (.ifCond .ne 10, 3) := dk_154 0 10 (dk_at dksX6_narrow_0 1 rfl rfl)
theorem dX6_narrow_4 : decode cX6_narrow 4 = .ok (.lload_n 2, 1) := dk_32 (dk_at dksX6_narrow_0 4 rfl rfl)
theorem dX6_narrow_5 : decode cX6_narrow 5 = .ok (.l2i, 1) := dk_136 (dk_at dksX6_narrow_0 5 rfl rfl)
theorem dX6_narrow_6 : decode cX6_narrow 6 = .ok (.i2b, 1) := dk_145 (dk_at dksX6_narrow_0 6 rfl rfl)
theorem dX6_narrow_7 : decode cX6_narrow 7 = .ok (.i2l, 1) := dk_133 (dk_at dksX6_narrow_0 7 rfl rfl)
theorem dX6_narrow_8 : decode cX6_narrow 8 = .ok (.goto 46, 3) := dk_167 0 46 (dk_at dksX6_narrow_0 8 rfl rfl)
theorem dX6_narrow_11 : decode cX6_narrow 11 = .ok (.iload_n 1, 1) := dk_27 (dk_at dksX6_narrow_0 11 rfl rfl)
theorem dX6_narrow_12 : decode cX6_narrow 12 = .ok (.iconst 1, 1) := dk_4 (dk_at dksX6_narrow_0 12 rfl rfl)
theorem dX6_narrow_13 : decode cX6_narrow 13 = .ok (.if_icmp .ne 10, 3) := dk_160 0 10 (dk_at dksX6_narrow_0 13 rfl rfl)
theorem dX6_narrow_16 : decode cX6_narrow 16 = .ok (.lload_n 2, 1) := dk_32 (dk_at dksX6_narrow_0 16 rfl rfl)
theorem dX6_narrow_17 : decode cX6_narrow 17 = .ok (.l2i, 1) := dk_136 (dk_at dksX6_narrow_0 17 rfl rfl)
theorem dX6_narrow_18 : decode cX6_narrow 18 = .ok (.i2s, 1) := dk_147 (dk_at dksX6_narrow_0 18 rfl rfl)
theorem dX6_narrow_19 : decode cX6_narrow 19 = .ok (.i2l, 1) := dk_133 (dk_at dksX6_narrow_0 19 rfl rfl)
theorem dX6_narrow_20 : decode cX6_narrow 20 = .ok (.goto 34, 3) := dk_167 0 34 (dk_at dksX6_narrow_0 20 rfl rfl)
theorem dX6_narrow_23 : decode cX6_narrow 23 = .ok (.iload_n 1, 1) := dk_27 (dk_at dksX6_narrow_0 23 rfl rfl)
theorem dX6_narrow_24 : decode cX6_narrow 24 = .ok (.iconst 2, 1) := dk_5 (dk_at dksX6_narrow_1 0 rfl rfl)
theorem dX6_narrow_25 : decode cX6_narrow 25 = .ok (.if_icmp .ne 9, 3) := dk_160 0 9 (dk_at dksX6_narrow_1 1 rfl rfl)
theorem dX6_narrow_28 : decode cX6_narrow 28 = .ok (.lload_n 2, 1) := dk_32 (dk_at dksX6_narrow_1 4 rfl rfl)
theorem dX6_narrow_29 : decode cX6_narrow 29 = .ok (.l2i, 1) := dk_136 (dk_at dksX6_narrow_1 5 rfl rfl)
theorem dX6_narrow_30 : decode cX6_narrow 30 = .ok (.i2l, 1) := dk_133 (dk_at dksX6_narrow_1 6 rfl rfl)
theorem dX6_narrow_31 : decode cX6_narrow 31 = .ok (.goto 23, 3) := dk_167 0 23 (dk_at dksX6_narrow_1 7 rfl rfl)
theorem dX6_narrow_34 : decode cX6_narrow 34 = .ok (.iload_n 1, 1) := dk_27 (dk_at dksX6_narrow_1 10 rfl rfl)
theorem dX6_narrow_35 : decode cX6_narrow 35 = .ok (.iconst 4, 1) := dk_7 (dk_at dksX6_narrow_1 11 rfl rfl)
theorem dX6_narrow_36 : decode cX6_narrow 36 = .ok (.if_icmp .ne 17, 3) := dk_160 0 17 (dk_at dksX6_narrow_1 12 rfl rfl)
theorem dX6_narrow_39 : decode cX6_narrow 39 = .ok (.lload_n 2, 1) := dk_32 (dk_at dksX6_narrow_1 15 rfl rfl)
theorem dX6_narrow_40 : decode cX6_narrow 40 = .ok (.lconst 0, 1) := dk_9 (dk_at dksX6_narrow_1 16 rfl rfl)
theorem dX6_narrow_41 : decode cX6_narrow 41 = .ok (.lcmp, 1) := dk_148 (dk_at dksX6_narrow_1 17 rfl rfl)
theorem dX6_narrow_42 : decode cX6_narrow 42 = .ok (.ifCond .eq 7, 3) := dk_153 0 7 (dk_at dksX6_narrow_1 18 rfl rfl)
theorem dX6_narrow_45 : decode cX6_narrow 45 = .ok (.lconst 1, 1) := dk_10 (dk_at dksX6_narrow_1 21 rfl rfl)
theorem dX6_narrow_46 : decode cX6_narrow 46 = .ok (.goto 8, 3) := dk_167 0 8 (dk_at dksX6_narrow_2 0 rfl rfl)
theorem dX6_narrow_49 : decode cX6_narrow 49 = .ok (.lconst 0, 1) := dk_9 (dk_at dksX6_narrow_2 3 rfl rfl)
theorem dX6_narrow_50 : decode cX6_narrow 50 = .ok (.goto 4, 3) := dk_167 0 4 (dk_at dksX6_narrow_2 4 rfl rfl)
theorem dX6_narrow_53 : decode cX6_narrow 53 = .ok (.lload_n 2, 1) := dk_32 (dk_at dksX6_narrow_2 7 rfl rfl)
theorem dX6_narrow_54 : decode cX6_narrow 54 = .ok (.lreturn, 1) := dk_173 (dk_at dksX6_narrow_2 8 rfl rfl)
abbrev cX6_read : ByteArray := prog_23_method_104_code
def yX6_read : MethodName := ⟨RX6, "read", "(II)J"⟩
def dkwX6_read_2 : List UInt8 := [28, 96, 47, 173]
abbrev dktX6_read_2 : List UInt8 := dkwX6_read_2 ++ []
def dkwX6_read_1 : List UInt8 := [27, 46, 4, 100, 182, 0, 248, 154, 0, 9, 20, 1, 148, 167, 0, 14, 42, 180, 0, 241, 16, 60, 27, 104]
abbrev dktX6_read_1 : List UInt8 := dkwX6_read_1 ++ dktX6_read_2
def dkwX6_read_0 : List UInt8 := [42, 27, 182, 1, 154, 153, 0, 29, 42, 180, 0, 235, 27, 46, 155, 0, 20, 42, 28, 3, 42, 180, 0, 238]
abbrev dktX6_read_0 : List UInt8 := dkwX6_read_0 ++ dktX6_read_1
theorem dksX6_read_0 : cX6_read.data.toList.drop 0 = dktX6_read_0 := by decide +kernel
theorem dksX6_read_1 : cX6_read.data.toList.drop 24 = dktX6_read_1 := dk_seg dksX6_read_0 24 rfl rfl
theorem dksX6_read_2 : cX6_read.data.toList.drop 48 = dktX6_read_2 := dk_seg dksX6_read_1 24 rfl rfl
theorem dX6_read_0 : decode cX6_read 0 = .ok (.aload_n 0, 1) := dk_42 (dk_at dksX6_read_0 0 rfl rfl)
theorem dX6_read_1 : decode cX6_read 1 = .ok (.iload_n 1, 1) := dk_27 (dk_at dksX6_read_0 1 rfl rfl)
theorem dX6_read_2 : decode cX6_read 2 = .ok (.invokevirtual 410, 3) := dk_182 1 154 (dk_at dksX6_read_0 2 rfl rfl)
theorem dX6_read_5 : decode cX6_read 5 = .ok (.ifCond .eq 29, 3) := dk_153 0 29 (dk_at dksX6_read_0 5 rfl rfl)
theorem dX6_read_8 : decode cX6_read 8 = .ok (.aload_n 0, 1) := dk_42 (dk_at dksX6_read_0 8 rfl rfl)
theorem dX6_read_9 : decode cX6_read 9 = .ok (.getfield 235, 3) := dk_180 0 235 (dk_at dksX6_read_0 9 rfl rfl)
theorem dX6_read_12 : decode cX6_read 12 = .ok (.iload_n 1, 1) := dk_27 (dk_at dksX6_read_0 12 rfl rfl)
theorem dX6_read_13 : decode cX6_read 13 = .ok (.iaload, 1) := dk_46 (dk_at dksX6_read_0 13 rfl rfl)
theorem dX6_read_14 : decode cX6_read 14 = .ok (.ifCond .lt 20, 3) := dk_155 0 20 (dk_at dksX6_read_0 14 rfl rfl)
theorem dX6_read_17 : decode cX6_read 17 = .ok (.aload_n 0, 1) := dk_42 (dk_at dksX6_read_0 17 rfl rfl)
theorem dX6_read_18 : decode cX6_read 18 = .ok (.iload_n 2, 1) := dk_28 (dk_at dksX6_read_0 18 rfl rfl)
theorem dX6_read_19 : decode cX6_read 19 = .ok (.iconst 0, 1) := dk_3 (dk_at dksX6_read_0 19 rfl rfl)
theorem dX6_read_20 : decode cX6_read 20 = .ok (.aload_n 0, 1) := dk_42 (dk_at dksX6_read_0 20 rfl rfl)
theorem dX6_read_21 : decode cX6_read 21 = .ok (.getfield 238, 3) := dk_180 0 238 (dk_at dksX6_read_0 21 rfl rfl)
theorem dX6_read_24 : decode cX6_read 24 = .ok (.iload_n 1, 1) := dk_27 (dk_at dksX6_read_1 0 rfl rfl)
theorem dX6_read_25 : decode cX6_read 25 = .ok (.iaload, 1) := dk_46 (dk_at dksX6_read_1 1 rfl rfl)
theorem dX6_read_26 : decode cX6_read 26 = .ok (.iconst 1, 1) := dk_4 (dk_at dksX6_read_1 2 rfl rfl)
theorem dX6_read_27 : decode cX6_read 27 = .ok (.isub, 1) := dk_100 (dk_at dksX6_read_1 3 rfl rfl)
theorem dX6_read_28 : decode cX6_read 28 = .ok (.invokevirtual 248, 3) := dk_182 0 248 (dk_at dksX6_read_1 4 rfl rfl)
theorem dX6_read_31 : decode cX6_read 31 = .ok (.ifCond .ne 9, 3) := dk_154 0 9 (dk_at dksX6_read_1 7 rfl rfl)
theorem dX6_read_34 : decode cX6_read 34 = .ok (.ldc2_w 404, 3) := dk_20 1 148 (dk_at dksX6_read_1 10 rfl rfl)
theorem dX6_read_37 : decode cX6_read 37 = .ok (.goto 14, 3) := dk_167 0 14 (dk_at dksX6_read_1 13 rfl rfl)
theorem dX6_read_40 : decode cX6_read 40 = .ok (.aload_n 0, 1) := dk_42 (dk_at dksX6_read_1 16 rfl rfl)
theorem dX6_read_41 : decode cX6_read 41 = .ok (.getfield 241, 3) := dk_180 0 241 (dk_at dksX6_read_1 17 rfl rfl)
theorem dX6_read_44 : decode cX6_read 44 = .ok (.bipush 60, 2) := dk_16 60 (dk_at dksX6_read_1 20 rfl rfl)
theorem dX6_read_46 : decode cX6_read 46 = .ok (.iload_n 1, 1) := dk_27 (dk_at dksX6_read_1 22 rfl rfl)
theorem dX6_read_47 : decode cX6_read 47 = .ok (.imul, 1) := dk_104 (dk_at dksX6_read_1 23 rfl rfl)
theorem dX6_read_48 : decode cX6_read 48 = .ok (.iload_n 2, 1) := dk_28 (dk_at dksX6_read_2 0 rfl rfl)
theorem dX6_read_49 : decode cX6_read 49 = .ok (.iadd, 1) := dk_96 (dk_at dksX6_read_2 1 rfl rfl)
theorem dX6_read_50 : decode cX6_read 50 = .ok (.laload, 1) := dk_47 (dk_at dksX6_read_2 2 rfl rfl)
theorem dX6_read_51 : decode cX6_read 51 = .ok (.lreturn, 1) := dk_173 (dk_at dksX6_read_2 3 rfl rfl)
abbrev cX6_shift : ByteArray := prog_23_method_105_code
def yX6_shift : MethodName := ⟨RX6, "shift", "(IIIII)I"⟩
def dkwX6_shift_7 : List UInt8 := [180, 0, 245, 21, 6, 47, 80, 132, 6, 1, 167, 255, 224, 21, 5, 172]
abbrev dktX6_shift_7 : List UInt8 := dkwX6_shift_7 ++ []
def dkwX6_shift_6 : List UInt8 := [54, 6, 21, 6, 21, 5, 162, 0, 31, 42, 180, 0, 241, 16, 60, 29, 104, 21, 4, 96, 21, 6, 96, 42]
abbrev dktX6_shift_6 : List UInt8 := dkwX6_shift_6 ++ dktX6_shift_7
def dkwX6_shift_5 : List UInt8 := [21, 6, 42, 180, 0, 241, 16, 60, 27, 104, 28, 96, 21, 6, 96, 47, 80, 132, 6, 1, 167, 255, 225, 3]
abbrev dktX6_shift_5 : List UInt8 := dkwX6_shift_5 ++ dktX6_shift_6
def dkwX6_shift_4 : List UInt8 := [21, 5, 100, 164, 0, 6, 16, 243, 172, 3, 54, 6, 21, 6, 21, 5, 162, 0, 30, 42, 180, 0, 245]
abbrev dktX6_shift_4 : List UInt8 := dkwX6_shift_4 ++ dktX6_shift_5
def dkwX6_shift_3 : List UInt8 := [155, 0, 30, 28, 42, 180, 0, 238, 27, 46, 21, 5, 100, 163, 0, 17, 21, 4, 42, 180, 0, 238, 29, 46]
abbrev dktX6_shift_3 : List UInt8 := dkwX6_shift_3 ++ dktX6_shift_4
def dkwX6_shift_2 : List UInt8 := [180, 0, 235, 29, 46, 159, 0, 6, 16, 244, 172, 21, 5, 155, 0, 39, 28, 155, 0, 35, 21, 4]
abbrev dktX6_shift_2 : List UInt8 := dkwX6_shift_2 ++ dktX6_shift_3
def dkwX6_shift_1 : List UInt8 := [155, 0, 12, 42, 180, 0, 235, 29, 46, 156, 0, 6, 16, 245, 172, 42, 180, 0, 235, 27, 46, 42]
abbrev dktX6_shift_1 : List UInt8 := dkwX6_shift_1 ++ dktX6_shift_2
def dkwX6_shift_0 : List UInt8 := [42, 27, 182, 1, 154, 153, 0, 11, 42, 29, 182, 1, 154, 154, 0, 5, 2, 172, 42, 180, 0, 235, 27, 46]
abbrev dktX6_shift_0 : List UInt8 := dkwX6_shift_0 ++ dktX6_shift_1
theorem dksX6_shift_0 : cX6_shift.data.toList.drop 0 = dktX6_shift_0 := by decide +kernel
theorem dksX6_shift_1 : cX6_shift.data.toList.drop 24 = dktX6_shift_1 := dk_seg dksX6_shift_0 24 rfl rfl
theorem dksX6_shift_2 : cX6_shift.data.toList.drop 46 = dktX6_shift_2 := dk_seg dksX6_shift_1 22 rfl rfl
theorem dksX6_shift_3 : cX6_shift.data.toList.drop 68 = dktX6_shift_3 := dk_seg dksX6_shift_2 22 rfl rfl
theorem dksX6_shift_4 : cX6_shift.data.toList.drop 92 = dktX6_shift_4 := dk_seg dksX6_shift_3 24 rfl rfl
theorem dksX6_shift_5 : cX6_shift.data.toList.drop 115 = dktX6_shift_5 := dk_seg dksX6_shift_4 23 rfl rfl
theorem dksX6_shift_6 : cX6_shift.data.toList.drop 139 = dktX6_shift_6 := dk_seg dksX6_shift_5 24 rfl rfl
theorem dksX6_shift_7 : cX6_shift.data.toList.drop 163 = dktX6_shift_7 := dk_seg dksX6_shift_6 24 rfl rfl
theorem dX6_shift_0 : decode cX6_shift 0 = .ok (.aload_n 0, 1) := dk_42 (dk_at dksX6_shift_0 0 rfl rfl)
theorem dX6_shift_1 : decode cX6_shift 1 = .ok (.iload_n 1, 1) := dk_27 (dk_at dksX6_shift_0 1 rfl rfl)
theorem dX6_shift_2 : decode cX6_shift 2 = .ok (.invokevirtual 410, 3) := dk_182 1 154 (dk_at dksX6_shift_0 2 rfl rfl)
theorem dX6_shift_5 : decode cX6_shift 5 = .ok (.ifCond .eq 11, 3) := dk_153 0 11 (dk_at dksX6_shift_0 5 rfl rfl)
theorem dX6_shift_8 : decode cX6_shift 8 = .ok (.aload_n 0, 1) := dk_42 (dk_at dksX6_shift_0 8 rfl rfl)
theorem dX6_shift_9 : decode cX6_shift 9 = .ok (.iload_n 3, 1) := dk_29 (dk_at dksX6_shift_0 9 rfl rfl)
theorem dX6_shift_10 : decode cX6_shift 10 = .ok (.invokevirtual 410, 3) := dk_182 1 154 (dk_at dksX6_shift_0 10 rfl rfl)
theorem dX6_shift_13 : decode cX6_shift 13 = .ok (.ifCond .ne 5, 3) := dk_154 0 5 (dk_at dksX6_shift_0 13 rfl rfl)
theorem dX6_shift_16 : decode cX6_shift 16 = .ok (.iconst (-1), 1) := dk_2 (dk_at dksX6_shift_0 16 rfl rfl)
theorem dX6_shift_17 : decode cX6_shift 17 = .ok (.ireturn, 1) := dk_172 (dk_at dksX6_shift_0 17 rfl rfl)
theorem dX6_shift_18 : decode cX6_shift 18 = .ok (.aload_n 0, 1) := dk_42 (dk_at dksX6_shift_0 18 rfl rfl)
theorem dX6_shift_19 : decode cX6_shift 19 = .ok (.getfield 235, 3) := dk_180 0 235 (dk_at dksX6_shift_0 19 rfl rfl)
theorem dX6_shift_22 : decode cX6_shift 22 = .ok (.iload_n 1, 1) := dk_27 (dk_at dksX6_shift_0 22 rfl rfl)
theorem dX6_shift_23 : decode cX6_shift 23 = .ok (.iaload, 1) := dk_46 (dk_at dksX6_shift_0 23 rfl rfl)
theorem dX6_shift_24 : decode cX6_shift 24 = .ok (.ifCond .lt 12, 3) := dk_155 0 12 (dk_at dksX6_shift_1 0 rfl rfl)
theorem dX6_shift_27 : decode cX6_shift 27 = .ok (.aload_n 0, 1) := dk_42 (dk_at dksX6_shift_1 3 rfl rfl)
theorem dX6_shift_28 : decode cX6_shift 28 = .ok (.getfield 235, 3) := dk_180 0 235 (dk_at dksX6_shift_1 4 rfl rfl)
theorem dX6_shift_31 : decode cX6_shift 31 = .ok (.iload_n 3, 1) := dk_29 (dk_at dksX6_shift_1 7 rfl rfl)
theorem dX6_shift_32 : decode cX6_shift 32 = .ok (.iaload, 1) := dk_46 (dk_at dksX6_shift_1 8 rfl rfl)
theorem dX6_shift_33 : decode cX6_shift 33 = .ok (.ifCond .ge 6, 3) := dk_156 0 6 (dk_at dksX6_shift_1 9 rfl rfl)
theorem dX6_shift_36 : decode cX6_shift 36 = .ok (.bipush (-11), 2) := dk_16 245 (dk_at dksX6_shift_1 12 rfl rfl)
theorem dX6_shift_38 : decode cX6_shift 38 = .ok (.ireturn, 1) := dk_172 (dk_at dksX6_shift_1 14 rfl rfl)
theorem dX6_shift_39 : decode cX6_shift 39 = .ok (.aload_n 0, 1) := dk_42 (dk_at dksX6_shift_1 15 rfl rfl)
theorem dX6_shift_40 : decode cX6_shift 40 = .ok (.getfield 235, 3) := dk_180 0 235 (dk_at dksX6_shift_1 16 rfl rfl)
theorem dX6_shift_43 : decode cX6_shift 43 = .ok (.iload_n 1, 1) := dk_27 (dk_at dksX6_shift_1 19 rfl rfl)
theorem dX6_shift_44 : decode cX6_shift 44 = .ok (.iaload, 1) := dk_46 (dk_at dksX6_shift_1 20 rfl rfl)
theorem dX6_shift_45 : decode cX6_shift 45 = .ok (.aload_n 0, 1) := dk_42 (dk_at dksX6_shift_1 21 rfl rfl)
theorem dX6_shift_46 : decode cX6_shift 46 = .ok (.getfield 235, 3) := dk_180 0 235 (dk_at dksX6_shift_2 0 rfl rfl)
theorem dX6_shift_49 : decode cX6_shift 49 = .ok (.iload_n 3, 1) := dk_29 (dk_at dksX6_shift_2 3 rfl rfl)
theorem dX6_shift_50 : decode cX6_shift 50 = .ok (.iaload, 1) := dk_46 (dk_at dksX6_shift_2 4 rfl rfl)
theorem dX6_shift_51 : decode cX6_shift 51 = .ok (.if_icmp .eq 6, 3) := dk_159 0 6 (dk_at dksX6_shift_2 5 rfl rfl)
theorem dX6_shift_54 : decode cX6_shift 54 = .ok (.bipush (-12), 2) := dk_16 244 (dk_at dksX6_shift_2 8 rfl rfl)
theorem dX6_shift_56 : decode cX6_shift 56 = .ok (.ireturn, 1) := dk_172 (dk_at dksX6_shift_2 10 rfl rfl)
theorem dX6_shift_57 : decode cX6_shift 57 = .ok (.iload 5, 2) := dk_21 5 (dk_at dksX6_shift_2 11 rfl rfl)
theorem dX6_shift_59 : decode cX6_shift 59 = .ok (.ifCond .lt 39, 3) := dk_155 0 39 (dk_at dksX6_shift_2 13 rfl rfl)
theorem dX6_shift_62 : decode cX6_shift 62 = .ok (.iload_n 2, 1) := dk_28 (dk_at dksX6_shift_2 16 rfl rfl)
theorem dX6_shift_63 : decode cX6_shift 63 = .ok (.ifCond .lt 35, 3) := dk_155 0 35 (dk_at dksX6_shift_2 17 rfl rfl)
theorem dX6_shift_66 : decode cX6_shift 66 = .ok (.iload 4, 2) := dk_21 4 (dk_at dksX6_shift_2 20 rfl rfl)
theorem dX6_shift_68 : decode cX6_shift 68 = .ok (.ifCond .lt 30, 3) := dk_155 0 30 (dk_at dksX6_shift_3 0 rfl rfl)
theorem dX6_shift_71 : decode cX6_shift 71 = .ok (.iload_n 2, 1) := dk_28 (dk_at dksX6_shift_3 3 rfl rfl)
theorem dX6_shift_72 : decode cX6_shift 72 = .ok (.aload_n 0, 1) := dk_42 (dk_at dksX6_shift_3 4 rfl rfl)
theorem dX6_shift_73 : decode cX6_shift 73 = .ok (.getfield 238, 3) := dk_180 0 238 (dk_at dksX6_shift_3 5 rfl rfl)
theorem dX6_shift_76 : decode cX6_shift 76 = .ok (.iload_n 1, 1) := dk_27 (dk_at dksX6_shift_3 8 rfl rfl)
theorem dX6_shift_77 : decode cX6_shift 77 = .ok (.iaload, 1) := dk_46 (dk_at dksX6_shift_3 9 rfl rfl)
theorem dX6_shift_78 : decode cX6_shift 78 = .ok (.iload 5, 2) := dk_21 5 (dk_at dksX6_shift_3 10 rfl rfl)
theorem dX6_shift_80 : decode cX6_shift 80 = .ok (.isub, 1) := dk_100 (dk_at dksX6_shift_3 12 rfl rfl)
theorem dX6_shift_81 : decode cX6_shift 81 = .ok (.if_icmp .gt 17, 3) := dk_163 0 17 (dk_at dksX6_shift_3 13 rfl rfl)
theorem dX6_shift_84 : decode cX6_shift 84 = .ok (.iload 4, 2) := dk_21 4 (dk_at dksX6_shift_3 16 rfl rfl)
theorem dX6_shift_86 : decode cX6_shift 86 = .ok (.aload_n 0, 1) := dk_42 (dk_at dksX6_shift_3 18 rfl rfl)
theorem dX6_shift_87 : decode cX6_shift 87 = .ok (.getfield 238, 3) := dk_180 0 238 (dk_at dksX6_shift_3 19 rfl rfl)
theorem dX6_shift_90 : decode cX6_shift 90 = .ok (.iload_n 3, 1) := dk_29 (dk_at dksX6_shift_3 22 rfl rfl)
theorem dX6_shift_91 : decode cX6_shift 91 = .ok (.iaload, 1) := dk_46 (dk_at dksX6_shift_3 23 rfl rfl)
theorem dX6_shift_92 : decode cX6_shift 92 = .ok (.iload 5, 2) := dk_21 5 (dk_at dksX6_shift_4 0 rfl rfl)
theorem dX6_shift_94 : decode cX6_shift 94 = .ok (.isub, 1) := dk_100 (dk_at dksX6_shift_4 2 rfl rfl)
theorem dX6_shift_95 : decode cX6_shift 95 = .ok (.if_icmp .le 6, 3) := dk_164 0 6 (dk_at dksX6_shift_4 3 rfl rfl)
theorem dX6_shift_98 : decode cX6_shift 98 = .ok (.bipush (-13), 2) := dk_16 243 (dk_at dksX6_shift_4 6 rfl rfl)
theorem dX6_shift_100 : decode cX6_shift 100 = .ok (.ireturn, 1) := dk_172 (dk_at dksX6_shift_4 8 rfl rfl)
theorem dX6_shift_101 : decode cX6_shift 101 = .ok (.iconst 0, 1) := dk_3 (dk_at dksX6_shift_4 9 rfl rfl)
theorem dX6_shift_102 : decode cX6_shift 102 = .ok (.istore 6, 2) := dk_54 6 (dk_at dksX6_shift_4 10 rfl rfl)
theorem dX6_shift_104 : decode cX6_shift 104 = .ok (.iload 6, 2) := dk_21 6 (dk_at dksX6_shift_4 12 rfl rfl)
theorem dX6_shift_106 : decode cX6_shift 106 = .ok (.iload 5, 2) := dk_21 5 (dk_at dksX6_shift_4 14 rfl rfl)
theorem dX6_shift_108 : decode cX6_shift 108 = .ok (.if_icmp .ge 30, 3) := dk_162 0 30 (dk_at dksX6_shift_4 16 rfl rfl)
theorem dX6_shift_111 : decode cX6_shift 111 = .ok (.aload_n 0, 1) := dk_42 (dk_at dksX6_shift_4 19 rfl rfl)
theorem dX6_shift_112 : decode cX6_shift 112 = .ok (.getfield 245, 3) := dk_180 0 245 (dk_at dksX6_shift_4 20 rfl rfl)
theorem dX6_shift_115 : decode cX6_shift 115 = .ok (.iload 6, 2) := dk_21 6 (dk_at dksX6_shift_5 0 rfl rfl)
theorem dX6_shift_117 : decode cX6_shift 117 = .ok (.aload_n 0, 1) := dk_42 (dk_at dksX6_shift_5 2 rfl rfl)
theorem dX6_shift_118 : decode cX6_shift 118 = .ok (.getfield 241, 3) := dk_180 0 241 (dk_at dksX6_shift_5 3 rfl rfl)
theorem dX6_shift_121 : decode cX6_shift 121 = .ok (.bipush 60, 2) := dk_16 60 (dk_at dksX6_shift_5 6 rfl rfl)
theorem dX6_shift_123 : decode cX6_shift 123 = .ok (.iload_n 1, 1) := dk_27 (dk_at dksX6_shift_5 8 rfl rfl)
theorem dX6_shift_124 : decode cX6_shift 124 = .ok (.imul, 1) := dk_104 (dk_at dksX6_shift_5 9 rfl rfl)
theorem dX6_shift_125 : decode cX6_shift 125 = .ok (.iload_n 2, 1) := dk_28 (dk_at dksX6_shift_5 10 rfl rfl)
theorem dX6_shift_126 : decode cX6_shift 126 = .ok (.iadd, 1) := dk_96 (dk_at dksX6_shift_5 11 rfl rfl)
theorem dX6_shift_127 : decode cX6_shift 127 = .ok (.iload 6, 2) := dk_21 6 (dk_at dksX6_shift_5 12 rfl rfl)
theorem dX6_shift_129 : decode cX6_shift 129 = .ok (.iadd, 1) := dk_96 (dk_at dksX6_shift_5 14 rfl rfl)
theorem dX6_shift_130 : decode cX6_shift 130 = .ok (.laload, 1) := dk_47 (dk_at dksX6_shift_5 15 rfl rfl)
theorem dX6_shift_131 : decode cX6_shift 131 = .ok (.lastore, 1) := dk_80 (dk_at dksX6_shift_5 16 rfl rfl)
theorem dX6_shift_132 : decode cX6_shift 132 = .ok (.iinc 6 1, 3) := dk_132 6 1 (dk_at dksX6_shift_5 17 rfl rfl)
theorem dX6_shift_135 : decode cX6_shift 135 = .ok (.goto (-31), 3) := dk_167 255 225 (dk_at dksX6_shift_5 20 rfl rfl)
theorem dX6_shift_138 : decode cX6_shift 138 = .ok (.iconst 0, 1) := dk_3 (dk_at dksX6_shift_5 23 rfl rfl)
theorem dX6_shift_139 : decode cX6_shift 139 = .ok (.istore 6, 2) := dk_54 6 (dk_at dksX6_shift_6 0 rfl rfl)
theorem dX6_shift_141 : decode cX6_shift 141 = .ok (.iload 6, 2) := dk_21 6 (dk_at dksX6_shift_6 2 rfl rfl)
theorem dX6_shift_143 : decode cX6_shift 143 = .ok (.iload 5, 2) := dk_21 5 (dk_at dksX6_shift_6 4 rfl rfl)
theorem dX6_shift_145 : decode cX6_shift 145 = .ok (.if_icmp .ge 31, 3) := dk_162 0 31 (dk_at dksX6_shift_6 6 rfl rfl)
theorem dX6_shift_148 : decode cX6_shift 148 = .ok (.aload_n 0, 1) := dk_42 (dk_at dksX6_shift_6 9 rfl rfl)
theorem dX6_shift_149 : decode cX6_shift 149 = .ok (.getfield 241, 3) := dk_180 0 241 (dk_at dksX6_shift_6 10 rfl rfl)
theorem dX6_shift_152 : decode cX6_shift 152 = .ok (.bipush 60, 2) := dk_16 60 (dk_at dksX6_shift_6 13 rfl rfl)
theorem dX6_shift_154 : decode cX6_shift 154 = .ok (.iload_n 3, 1) := dk_29 (dk_at dksX6_shift_6 15 rfl rfl)
theorem dX6_shift_155 : decode cX6_shift 155 = .ok (.imul, 1) := dk_104 (dk_at dksX6_shift_6 16 rfl rfl)
theorem dX6_shift_156 : decode cX6_shift 156 = .ok (.iload 4, 2) := dk_21 4 (dk_at dksX6_shift_6 17 rfl rfl)
theorem dX6_shift_158 : decode cX6_shift 158 = .ok (.iadd, 1) := dk_96 (dk_at dksX6_shift_6 19 rfl rfl)
theorem dX6_shift_159 : decode cX6_shift 159 = .ok (.iload 6, 2) := dk_21 6 (dk_at dksX6_shift_6 20 rfl rfl)
theorem dX6_shift_161 : decode cX6_shift 161 = .ok (.iadd, 1) := dk_96 (dk_at dksX6_shift_6 22 rfl rfl)
theorem dX6_shift_162 : decode cX6_shift 162 = .ok (.aload_n 0, 1) := dk_42 (dk_at dksX6_shift_6 23 rfl rfl)
theorem dX6_shift_163 : decode cX6_shift 163 = .ok (.getfield 245, 3) := dk_180 0 245 (dk_at dksX6_shift_7 0 rfl rfl)
theorem dX6_shift_166 : decode cX6_shift 166 = .ok (.iload 6, 2) := dk_21 6 (dk_at dksX6_shift_7 3 rfl rfl)
theorem dX6_shift_168 : decode cX6_shift 168 = .ok (.laload, 1) := dk_47 (dk_at dksX6_shift_7 5 rfl rfl)
theorem dX6_shift_169 : decode cX6_shift 169 = .ok (.lastore, 1) := dk_80 (dk_at dksX6_shift_7 6 rfl rfl)
theorem dX6_shift_170 : decode cX6_shift 170 = .ok (.iinc 6 1, 3) := dk_132 6 1 (dk_at dksX6_shift_7 7 rfl rfl)
theorem dX6_shift_173 : decode cX6_shift 173 = .ok (.goto (-32), 3) := dk_167 255 224 (dk_at dksX6_shift_7 10 rfl rfl)
theorem dX6_shift_176 : decode cX6_shift 176 = .ok (.iload 5, 2) := dk_21 5 (dk_at dksX6_shift_7 13 rfl rfl)
theorem dX6_shift_178 : decode cX6_shift 178 = .ok (.ireturn, 1) := dk_172 (dk_at dksX6_shift_7 15 rfl rfl)
theorem q105 : (Jvm.Cond.initialized "HatsDecideModel") ∈ lw_all := lw_g (lw_at lw_m1 10 rfl) rfl
theorem q1019 : (Jvm.Cond.selects "HatsDecideModel" ({ cls := "java/lang/Object", name := "getClass", desc := "()Ljava/lang/Class;" } : Jvm.MethodName) ({ cls := "java/lang/Object", name := "getClass", desc := "()Ljava/lang/Class;" } : Jvm.MethodName)) ∈ lw_all := lw_g (lw_at lw_m4 204 rfl) rfl
theorem q1496 : (Jvm.Cond.instantiable "HatsDecideModel" (78 : Nat)) ∈ lw_all := lw_g (lw_at lw_m6 201 rfl) rfl
theorem q1498 : (Jvm.Cond.instanceMethod ({ cls := "HatsDecideModel", name := "<init>", desc := "()V" } : Jvm.MethodName)) ∈ lw_all := lw_g (lw_at lw_m6 203 rfl) rfl
theorem q1499 : (Jvm.Cond.code ({ cls := "HatsDecideModel", name := "<init>", desc := "()V" } : Jvm.MethodName) prog_23_method_1_code (1 : Nat) (Option.none : Option Jvm.ClassFile.FieldType)) ∈ lw_all := lw_g (lw_at lw_m6 204 rfl) rfl
theorem q1500 : (Jvm.Cond.methodLink "HatsDecideModel" (1 : Nat) ({ cls := "java/lang/Object", name := "<init>", desc := "()V" } : Jvm.MethodName)) ∈ lw_all := lw_g (lw_at lw_m6 205 rfl) rfl
theorem q1501 : (Jvm.Cond.fieldLink "HatsDecideModel" (7 : Nat) "HatsDecideModel" "heads" "I") ∈ lw_all := lw_g (lw_at lw_m6 206 rfl) rfl
theorem q1502 : (Jvm.Cond.fieldLink "HatsDecideModel" (13 : Nat) "HatsDecideModel" "hats" "I") ∈ lw_all := lw_g (lw_at lw_m6 207 rfl) rfl
theorem q1503 : (Jvm.Cond.fieldLink "HatsDecideModel" (16 : Nat) "HatsDecideModel" "days" "I") ∈ lw_all := lw_g (lw_at lw_m6 208 rfl) rfl
theorem q1504 : (Jvm.Cond.fieldLink "HatsDecideModel" (19 : Nat) "HatsDecideModel" "headSize" "[I") ∈ lw_all := lw_g (lw_at lw_m6 209 rfl) rfl
theorem q1505 : (Jvm.Cond.fieldLink "HatsDecideModel" (23 : Nat) "HatsDecideModel" "owned" "[I") ∈ lw_all := lw_g (lw_at lw_m6 210 rfl) rfl
theorem q1506 : (Jvm.Cond.fieldLink "HatsDecideModel" (26 : Nat) "HatsDecideModel" "worn" "[I") ∈ lw_all := lw_g (lw_at lw_m6 211 rfl) rfl
theorem q1507 : (Jvm.Cond.fieldLink "HatsDecideModel" (29 : Nat) "HatsDecideModel" "kind" "[I") ∈ lw_all := lw_g (lw_at lw_m6 212 rfl) rfl
theorem q1508 : (Jvm.Cond.fieldLink "HatsDecideModel" (32 : Nat) "HatsDecideModel" "v" "[I") ∈ lw_all := lw_g (lw_at lw_m6 213 rfl) rfl
theorem q1509 : (Jvm.Cond.fieldLink "HatsDecideModel" (35 : Nat) "HatsDecideModel" "hatSize" "[I") ∈ lw_all := lw_g (lw_at lw_m6 214 rfl) rfl
theorem q1510 : (Jvm.Cond.fieldLink "HatsDecideModel" (38 : Nat) "HatsDecideModel" "skill" "[I") ∈ lw_all := lw_g (lw_at lw_m6 215 rfl) rfl
theorem q1511 : (Jvm.Cond.fieldLink "HatsDecideModel" (41 : Nat) "HatsDecideModel" "trade" "[I") ∈ lw_all := lw_g (lw_at lw_m6 216 rfl) rfl
theorem q1512 : (Jvm.Cond.fieldLink "HatsDecideModel" (44 : Nat) "HatsDecideModel" "used" "[I") ∈ lw_all := lw_g (lw_at lw_m6 217 rfl) rfl
theorem q1513 : (Jvm.Cond.fieldLink "HatsDecideModel" (47 : Nat) "HatsDecideModel" "rows" "[I") ∈ lw_all := lw_g (lw_at lw_m6 218 rfl) rfl
theorem q1514 : (Jvm.Cond.fieldLink "HatsDecideModel" (50 : Nat) "HatsDecideModel" "done" "[I") ∈ lw_all := lw_g (lw_at lw_m6 219 rfl) rfl
theorem q1515 : (Jvm.Cond.fieldLink "HatsDecideModel" (53 : Nat) "HatsDecideModel" "towns" "I") ∈ lw_all := lw_g (lw_at lw_m6 220 rfl) rfl
theorem q1516 : (Jvm.Cond.fieldLink "HatsDecideModel" (56 : Nat) "HatsDecideModel" "the" "I") ∈ lw_all := lw_g (lw_at lw_m6 221 rfl) rfl
theorem q1517 : (Jvm.Cond.fieldLink "HatsDecideModel" (59 : Nat) "HatsDecideModel" "fed" "I") ∈ lw_all := lw_g (lw_at lw_m6 222 rfl) rfl
theorem q1518 : (Jvm.Cond.fieldLink "HatsDecideModel" (62 : Nat) "HatsDecideModel" "at" "I") ∈ lw_all := lw_g (lw_at lw_m6 223 rfl) rfl
theorem q1519 : (Jvm.Cond.fieldLink "HatsDecideModel" (65 : Nat) "HatsDecideModel" "digits" "I") ∈ lw_all := lw_g (lw_at lw_m6 224 rfl) rfl
theorem q1520 : (Jvm.Cond.fieldLink "HatsDecideModel" (68 : Nat) "HatsDecideModel" "text" "[I") ∈ lw_all := lw_g (lw_at lw_m6 225 rfl) rfl
theorem q1521 : (Jvm.Cond.fieldLink "HatsDecideModel" (71 : Nat) "HatsDecideModel" "clauses" "[I") ∈ lw_all := lw_g (lw_at lw_m6 226 rfl) rfl
theorem q1522 : (Jvm.Cond.fieldLink "HatsDecideModel" (74 : Nat) "HatsDecideModel" "word" "[I") ∈ lw_all := lw_g (lw_at lw_m6 227 rfl) rfl
theorem q1523 : (Jvm.Cond.fieldLink "HatsDecideModel" (77 : Nat) "HatsDecideModel" "number" "[I") ∈ lw_all := lw_g (lw_at lw_m6 228 rfl) rfl
theorem q1524 : (Jvm.Cond.fieldLink "HatsDecideModel" (80 : Nat) "HatsDecideModel" "asked" "[I") ∈ lw_all := lw_g (lw_at lw_m6 229 rfl) rfl
theorem q1525 : (Jvm.Cond.fieldLink "HatsDecideModel" (83 : Nat) "HatsDecideModel" "from" "[I") ∈ lw_all := lw_g (lw_at lw_m6 230 rfl) rfl
theorem q1526 : (Jvm.Cond.fieldLink "HatsDecideModel" (86 : Nat) "HatsDecideModel" "to" "[I") ∈ lw_all := lw_g (lw_at lw_m6 231 rfl) rfl
theorem q1527 : (Jvm.Cond.fieldLink "HatsDecideModel" (89 : Nat) "HatsDecideModel" "sign" "[I") ∈ lw_all := lw_g (lw_at lw_m6 232 rfl) rfl
theorem q1528 : (Jvm.Cond.fieldLink "HatsDecideModel" (92 : Nat) "HatsDecideModel" "waits" "[I") ∈ lw_all := lw_g (lw_at lw_m6 233 rfl) rfl
theorem q1529 : (Jvm.Cond.fieldLink "HatsDecideModel" (95 : Nat) "HatsDecideModel" "signs" "I") ∈ lw_all := lw_g (lw_at lw_m6 234 rfl) rfl
theorem q1530 : (Jvm.Cond.fieldLink "HatsDecideModel" (98 : Nat) "HatsDecideModel" "waiting" "I") ∈ lw_all := lw_g (lw_at lw_m6 235 rfl) rfl
theorem q1531 : (Jvm.Cond.fieldLink "HatsDecideModel" (101 : Nat) "HatsDecideModel" "open" "I") ∈ lw_all := lw_g (lw_at lw_m6 236 rfl) rfl
theorem q1532 : (Jvm.Cond.fieldLink "HatsDecideModel" (104 : Nat) "HatsDecideModel" "letters" "[I") ∈ lw_all := lw_g (lw_at lw_m6 237 rfl) rfl
theorem q1533 : (Jvm.Cond.fieldLink "HatsDecideModel" (107 : Nat) "HatsDecideModel" "pile" "[Z") ∈ lw_all := lw_g (lw_at lw_m6 238 rfl) rfl
theorem q1534 : (Jvm.Cond.fieldLink "HatsDecideModel" (111 : Nat) "HatsDecideModel" "mostUsed" "I") ∈ lw_all := lw_g (lw_at lw_m6 239 rfl) rfl
theorem q1535 : (Jvm.Cond.fieldLink "HatsDecideModel" (114 : Nat) "HatsDecideModel" "blown" "[I") ∈ lw_all := lw_g (lw_at lw_m7 0 rfl) rfl
theorem q1536 : (Jvm.Cond.fieldLink "HatsDecideModel" (117 : Nat) "HatsDecideModel" "keptDays" "I") ∈ lw_all := lw_g (lw_at lw_m7 1 rfl) rfl
theorem q1537 : (Jvm.Cond.fieldLink "HatsDecideModel" (120 : Nat) "HatsDecideModel" "keptUsed" "[I") ∈ lw_all := lw_g (lw_at lw_m7 2 rfl) rfl
theorem q1538 : (Jvm.Cond.fieldLink "HatsDecideModel" (123 : Nat) "HatsDecideModel" "keptWorn" "[I") ∈ lw_all := lw_g (lw_at lw_m7 3 rfl) rfl
theorem q1539 : (Jvm.Cond.fieldLink "HatsDecideModel" (126 : Nat) "HatsDecideModel" "bestWay" "[I") ∈ lw_all := lw_g (lw_at lw_m7 4 rfl) rfl
theorem q1540 : (Jvm.Cond.fieldLink "HatsDecideModel" (129 : Nat) "HatsDecideModel" "deeds" "[I") ∈ lw_all := lw_g (lw_at lw_m7 5 rfl) rfl
theorem q1541 : (Jvm.Cond.fieldLink "HatsDecideModel" (132 : Nat) "HatsDecideModel" "bestSum" "I") ∈ lw_all := lw_g (lw_at lw_m7 6 rfl) rfl
theorem q1542 : (Jvm.Cond.fieldLink "HatsDecideModel" (135 : Nat) "HatsDecideModel" "onward" "[I") ∈ lw_all := lw_g (lw_at lw_m7 7 rfl) rfl
theorem q1543 : (Jvm.Cond.fieldLink "HatsDecideModel" (138 : Nat) "HatsDecideModel" "top" "[I") ∈ lw_all := lw_g (lw_at lw_m7 8 rfl) rfl
theorem q1544 : (Jvm.Cond.fieldLink "HatsDecideModel" (141 : Nat) "HatsDecideModel" "seen" "I") ∈ lw_all := lw_g (lw_at lw_m7 9 rfl) rfl
theorem q1545 : (Jvm.Cond.fieldLink "HatsDecideModel" (144 : Nat) "HatsDecideModel" "seenWho" "[I") ∈ lw_all := lw_g (lw_at lw_m7 10 rfl) rfl
theorem q1546 : (Jvm.Cond.fieldLink "HatsDecideModel" (147 : Nat) "HatsDecideModel" "seenDeed" "[I") ∈ lw_all := lw_g (lw_at lw_m7 11 rfl) rfl
theorem q1547 : (Jvm.Cond.fieldLink "HatsDecideModel" (150 : Nat) "HatsDecideModel" "ways" "[I") ∈ lw_all := lw_g (lw_at lw_m7 12 rfl) rfl
theorem q1548 : (Jvm.Cond.fieldLink "HatsDecideModel" (153 : Nat) "HatsDecideModel" "books" "I") ∈ lw_all := lw_g (lw_at lw_m7 13 rfl) rfl
theorem q1549 : (Jvm.Cond.fieldLink "HatsDecideModel" (156 : Nat) "HatsDecideModel" "bookWhat" "[I") ∈ lw_all := lw_g (lw_at lw_m7 14 rfl) rfl
theorem q1550 : (Jvm.Cond.fieldLink "HatsDecideModel" (159 : Nat) "HatsDecideModel" "bookWho" "[I") ∈ lw_all := lw_g (lw_at lw_m7 15 rfl) rfl
theorem q1551 : (Jvm.Cond.fieldLink "HatsDecideModel" (162 : Nat) "HatsDecideModel" "hasImage" "Z") ∈ lw_all := lw_g (lw_at lw_m7 16 rfl) rfl
theorem q1552 : (Jvm.Cond.fieldLink "HatsDecideModel" (166 : Nat) "HatsDecideModel" "imageThe" "I") ∈ lw_all := lw_g (lw_at lw_m7 17 rfl) rfl
theorem q1553 : (Jvm.Cond.fieldLink "HatsDecideModel" (169 : Nat) "HatsDecideModel" "imageHeads" "I") ∈ lw_all := lw_g (lw_at lw_m7 18 rfl) rfl
theorem q1554 : (Jvm.Cond.fieldLink "HatsDecideModel" (172 : Nat) "HatsDecideModel" "imageHats" "I") ∈ lw_all := lw_g (lw_at lw_m7 19 rfl) rfl
theorem q1555 : (Jvm.Cond.fieldLink "HatsDecideModel" (175 : Nat) "HatsDecideModel" "imageDays" "I") ∈ lw_all := lw_g (lw_at lw_m7 20 rfl) rfl
theorem q1556 : (Jvm.Cond.fieldLink "HatsDecideModel" (178 : Nat) "HatsDecideModel" "imageSeen" "I") ∈ lw_all := lw_g (lw_at lw_m7 21 rfl) rfl
theorem q1557 : (Jvm.Cond.fieldLink "HatsDecideModel" (181 : Nat) "HatsDecideModel" "imageBooks" "I") ∈ lw_all := lw_g (lw_at lw_m7 22 rfl) rfl
theorem q1558 : (Jvm.Cond.fieldLink "HatsDecideModel" (184 : Nat) "HatsDecideModel" "imageHeadSize" "[I") ∈ lw_all := lw_g (lw_at lw_m7 23 rfl) rfl
theorem q1559 : (Jvm.Cond.fieldLink "HatsDecideModel" (187 : Nat) "HatsDecideModel" "imageOwned" "[I") ∈ lw_all := lw_g (lw_at lw_m7 24 rfl) rfl
theorem q1560 : (Jvm.Cond.fieldLink "HatsDecideModel" (190 : Nat) "HatsDecideModel" "imageWorn" "[I") ∈ lw_all := lw_g (lw_at lw_m7 25 rfl) rfl
theorem q1561 : (Jvm.Cond.fieldLink "HatsDecideModel" (193 : Nat) "HatsDecideModel" "imageKind" "[I") ∈ lw_all := lw_g (lw_at lw_m7 26 rfl) rfl
theorem q1562 : (Jvm.Cond.fieldLink "HatsDecideModel" (196 : Nat) "HatsDecideModel" "imageV" "[I") ∈ lw_all := lw_g (lw_at lw_m7 27 rfl) rfl
theorem q1563 : (Jvm.Cond.fieldLink "HatsDecideModel" (199 : Nat) "HatsDecideModel" "imageHatSize" "[I") ∈ lw_all := lw_g (lw_at lw_m7 28 rfl) rfl
theorem q1564 : (Jvm.Cond.fieldLink "HatsDecideModel" (202 : Nat) "HatsDecideModel" "imageSkill" "[I") ∈ lw_all := lw_g (lw_at lw_m7 29 rfl) rfl
theorem q1565 : (Jvm.Cond.fieldLink "HatsDecideModel" (205 : Nat) "HatsDecideModel" "imageTrade" "[I") ∈ lw_all := lw_g (lw_at lw_m7 30 rfl) rfl
theorem q1566 : (Jvm.Cond.fieldLink "HatsDecideModel" (208 : Nat) "HatsDecideModel" "imageUsed" "[I") ∈ lw_all := lw_g (lw_at lw_m7 31 rfl) rfl
theorem q1567 : (Jvm.Cond.fieldLink "HatsDecideModel" (211 : Nat) "HatsDecideModel" "imageRows" "[I") ∈ lw_all := lw_g (lw_at lw_m7 32 rfl) rfl
theorem q1568 : (Jvm.Cond.fieldLink "HatsDecideModel" (214 : Nat) "HatsDecideModel" "imageDone" "[I") ∈ lw_all := lw_g (lw_at lw_m7 33 rfl) rfl
theorem q1569 : (Jvm.Cond.fieldLink "HatsDecideModel" (217 : Nat) "HatsDecideModel" "imageWho" "[I") ∈ lw_all := lw_g (lw_at lw_m7 34 rfl) rfl
theorem q1570 : (Jvm.Cond.fieldLink "HatsDecideModel" (220 : Nat) "HatsDecideModel" "imageDeed" "[I") ∈ lw_all := lw_g (lw_at lw_m7 35 rfl) rfl
theorem q1571 : (Jvm.Cond.fieldLink "HatsDecideModel" (223 : Nat) "HatsDecideModel" "imageWhat" "[I") ∈ lw_all := lw_g (lw_at lw_m7 36 rfl) rfl
theorem q1572 : (Jvm.Cond.fieldLink "HatsDecideModel" (226 : Nat) "HatsDecideModel" "imageBookWho" "[I") ∈ lw_all := lw_g (lw_at lw_m7 37 rfl) rfl
theorem q1573 : (Jvm.Cond.fieldLink "HatsDecideModel" (229 : Nat) "HatsDecideModel" "ran" "I") ∈ lw_all := lw_g (lw_at lw_m7 38 rfl) rfl
theorem q1574 : (Jvm.Cond.fieldLink "HatsDecideModel" (232 : Nat) "HatsDecideModel" "bodies" "[I") ∈ lw_all := lw_g (lw_at lw_m7 39 rfl) rfl
theorem q1575 : (Jvm.Cond.fieldLink "HatsDecideModel" (235 : Nat) "HatsDecideModel" "sort" "[I") ∈ lw_all := lw_g (lw_at lw_m7 40 rfl) rfl
theorem q1576 : (Jvm.Cond.fieldLink "HatsDecideModel" (238 : Nat) "HatsDecideModel" "length" "[I") ∈ lw_all := lw_g (lw_at lw_m7 41 rfl) rfl
theorem q1577 : (Jvm.Cond.fieldLink "HatsDecideModel" (241 : Nat) "HatsDecideModel" "item" "[J") ∈ lw_all := lw_g (lw_at lw_m7 42 rfl) rfl
theorem q1578 : (Jvm.Cond.fieldLink "HatsDecideModel" (245 : Nat) "HatsDecideModel" "aside" "[J") ∈ lw_all := lw_g (lw_at lw_m7 43 rfl) rfl
theorem q1579 : (Jvm.Cond.lays "HatsDecideModel" "HatsDecideModel" "heads" "I") ∈ lw_all := lw_g (lw_at lw_m7 44 rfl) rfl
theorem q1580 : (Jvm.Cond.soleField "HatsDecideModel" "heads") ∈ lw_all := lw_g (lw_at lw_m7 45 rfl) rfl
theorem q1581 : (Jvm.Cond.lays "HatsDecideModel" "HatsDecideModel" "hats" "I") ∈ lw_all := lw_g (lw_at lw_m7 46 rfl) rfl
theorem q1582 : (Jvm.Cond.soleField "HatsDecideModel" "hats") ∈ lw_all := lw_g (lw_at lw_m7 47 rfl) rfl
theorem q1583 : (Jvm.Cond.lays "HatsDecideModel" "HatsDecideModel" "days" "I") ∈ lw_all := lw_g (lw_at lw_m7 48 rfl) rfl
theorem q1584 : (Jvm.Cond.soleField "HatsDecideModel" "days") ∈ lw_all := lw_g (lw_at lw_m7 49 rfl) rfl
theorem q1585 : (Jvm.Cond.laysFinal "HatsDecideModel" "HatsDecideModel" "headSize" "[I") ∈ lw_all := lw_g (lw_at lw_m7 50 rfl) rfl
theorem q1586 : (Jvm.Cond.soleField "HatsDecideModel" "headSize") ∈ lw_all := lw_g (lw_at lw_m7 51 rfl) rfl
theorem q1587 : (Jvm.Cond.laysFinal "HatsDecideModel" "HatsDecideModel" "owned" "[I") ∈ lw_all := lw_g (lw_at lw_m7 52 rfl) rfl
theorem q1588 : (Jvm.Cond.soleField "HatsDecideModel" "owned") ∈ lw_all := lw_g (lw_at lw_m7 53 rfl) rfl
theorem q1589 : (Jvm.Cond.laysFinal "HatsDecideModel" "HatsDecideModel" "worn" "[I") ∈ lw_all := lw_g (lw_at lw_m7 54 rfl) rfl
theorem q1590 : (Jvm.Cond.soleField "HatsDecideModel" "worn") ∈ lw_all := lw_g (lw_at lw_m7 55 rfl) rfl
theorem q1591 : (Jvm.Cond.laysFinal "HatsDecideModel" "HatsDecideModel" "kind" "[I") ∈ lw_all := lw_g (lw_at lw_m7 56 rfl) rfl
theorem q1592 : (Jvm.Cond.soleField "HatsDecideModel" "kind") ∈ lw_all := lw_g (lw_at lw_m7 57 rfl) rfl
theorem q1593 : (Jvm.Cond.laysFinal "HatsDecideModel" "HatsDecideModel" "v" "[I") ∈ lw_all := lw_g (lw_at lw_m7 58 rfl) rfl
theorem q1594 : (Jvm.Cond.soleField "HatsDecideModel" "v") ∈ lw_all := lw_g (lw_at lw_m7 59 rfl) rfl
theorem q1595 : (Jvm.Cond.laysFinal "HatsDecideModel" "HatsDecideModel" "hatSize" "[I") ∈ lw_all := lw_g (lw_at lw_m7 60 rfl) rfl
theorem q1596 : (Jvm.Cond.soleField "HatsDecideModel" "hatSize") ∈ lw_all := lw_g (lw_at lw_m7 61 rfl) rfl
theorem q1597 : (Jvm.Cond.laysFinal "HatsDecideModel" "HatsDecideModel" "skill" "[I") ∈ lw_all := lw_g (lw_at lw_m7 62 rfl) rfl
theorem q1598 : (Jvm.Cond.soleField "HatsDecideModel" "skill") ∈ lw_all := lw_g (lw_at lw_m7 63 rfl) rfl
theorem q1599 : (Jvm.Cond.laysFinal "HatsDecideModel" "HatsDecideModel" "trade" "[I") ∈ lw_all := lw_g (lw_at lw_m7 64 rfl) rfl
theorem q1600 : (Jvm.Cond.soleField "HatsDecideModel" "trade") ∈ lw_all := lw_g (lw_at lw_m7 65 rfl) rfl
theorem q1601 : (Jvm.Cond.laysFinal "HatsDecideModel" "HatsDecideModel" "used" "[I") ∈ lw_all := lw_g (lw_at lw_m7 66 rfl) rfl
theorem q1602 : (Jvm.Cond.soleField "HatsDecideModel" "used") ∈ lw_all := lw_g (lw_at lw_m7 67 rfl) rfl
theorem q1603 : (Jvm.Cond.laysFinal "HatsDecideModel" "HatsDecideModel" "rows" "[I") ∈ lw_all := lw_g (lw_at lw_m7 68 rfl) rfl
theorem q1604 : (Jvm.Cond.soleField "HatsDecideModel" "rows") ∈ lw_all := lw_g (lw_at lw_m7 69 rfl) rfl
theorem q1605 : (Jvm.Cond.laysFinal "HatsDecideModel" "HatsDecideModel" "done" "[I") ∈ lw_all := lw_g (lw_at lw_m7 70 rfl) rfl
theorem q1606 : (Jvm.Cond.soleField "HatsDecideModel" "done") ∈ lw_all := lw_g (lw_at lw_m7 71 rfl) rfl
theorem q1607 : (Jvm.Cond.lays "HatsDecideModel" "HatsDecideModel" "towns" "I") ∈ lw_all := lw_g (lw_at lw_m7 72 rfl) rfl
theorem q1608 : (Jvm.Cond.soleField "HatsDecideModel" "towns") ∈ lw_all := lw_g (lw_at lw_m7 73 rfl) rfl
theorem q1609 : (Jvm.Cond.lays "HatsDecideModel" "HatsDecideModel" "the" "I") ∈ lw_all := lw_g (lw_at lw_m7 74 rfl) rfl
theorem q1610 : (Jvm.Cond.soleField "HatsDecideModel" "the") ∈ lw_all := lw_g (lw_at lw_m7 75 rfl) rfl
theorem q1611 : (Jvm.Cond.lays "HatsDecideModel" "HatsDecideModel" "fed" "I") ∈ lw_all := lw_g (lw_at lw_m7 76 rfl) rfl
theorem q1612 : (Jvm.Cond.soleField "HatsDecideModel" "fed") ∈ lw_all := lw_g (lw_at lw_m7 77 rfl) rfl
theorem q1613 : (Jvm.Cond.lays "HatsDecideModel" "HatsDecideModel" "at" "I") ∈ lw_all := lw_g (lw_at lw_m7 78 rfl) rfl
theorem q1614 : (Jvm.Cond.soleField "HatsDecideModel" "at") ∈ lw_all := lw_g (lw_at lw_m7 79 rfl) rfl
theorem q1615 : (Jvm.Cond.lays "HatsDecideModel" "HatsDecideModel" "digits" "I") ∈ lw_all := lw_g (lw_at lw_m7 80 rfl) rfl
theorem q1616 : (Jvm.Cond.soleField "HatsDecideModel" "digits") ∈ lw_all := lw_g (lw_at lw_m7 81 rfl) rfl
theorem q1617 : (Jvm.Cond.laysFinal "HatsDecideModel" "HatsDecideModel" "text" "[I") ∈ lw_all := lw_g (lw_at lw_m7 82 rfl) rfl
theorem q1618 : (Jvm.Cond.soleField "HatsDecideModel" "text") ∈ lw_all := lw_g (lw_at lw_m7 83 rfl) rfl
theorem q1619 : (Jvm.Cond.laysFinal "HatsDecideModel" "HatsDecideModel" "clauses" "[I") ∈ lw_all := lw_g (lw_at lw_m7 84 rfl) rfl
theorem q1620 : (Jvm.Cond.soleField "HatsDecideModel" "clauses") ∈ lw_all := lw_g (lw_at lw_m7 85 rfl) rfl
theorem q1621 : (Jvm.Cond.laysFinal "HatsDecideModel" "HatsDecideModel" "word" "[I") ∈ lw_all := lw_g (lw_at lw_m7 86 rfl) rfl
theorem q1622 : (Jvm.Cond.soleField "HatsDecideModel" "word") ∈ lw_all := lw_g (lw_at lw_m7 87 rfl) rfl
theorem q1623 : (Jvm.Cond.laysFinal "HatsDecideModel" "HatsDecideModel" "number" "[I") ∈ lw_all := lw_g (lw_at lw_m7 88 rfl) rfl
theorem q1624 : (Jvm.Cond.soleField "HatsDecideModel" "number") ∈ lw_all := lw_g (lw_at lw_m7 89 rfl) rfl
theorem q1625 : (Jvm.Cond.laysFinal "HatsDecideModel" "HatsDecideModel" "asked" "[I") ∈ lw_all := lw_g (lw_at lw_m7 90 rfl) rfl
theorem q1626 : (Jvm.Cond.soleField "HatsDecideModel" "asked") ∈ lw_all := lw_g (lw_at lw_m7 91 rfl) rfl
theorem q1627 : (Jvm.Cond.laysFinal "HatsDecideModel" "HatsDecideModel" "from" "[I") ∈ lw_all := lw_g (lw_at lw_m7 92 rfl) rfl
theorem q1628 : (Jvm.Cond.soleField "HatsDecideModel" "from") ∈ lw_all := lw_g (lw_at lw_m7 93 rfl) rfl
theorem q1629 : (Jvm.Cond.laysFinal "HatsDecideModel" "HatsDecideModel" "to" "[I") ∈ lw_all := lw_g (lw_at lw_m7 94 rfl) rfl
theorem q1630 : (Jvm.Cond.soleField "HatsDecideModel" "to") ∈ lw_all := lw_g (lw_at lw_m7 95 rfl) rfl
theorem q1631 : (Jvm.Cond.laysFinal "HatsDecideModel" "HatsDecideModel" "sign" "[I") ∈ lw_all := lw_g (lw_at lw_m7 96 rfl) rfl
theorem q1632 : (Jvm.Cond.soleField "HatsDecideModel" "sign") ∈ lw_all := lw_g (lw_at lw_m7 97 rfl) rfl
theorem q1633 : (Jvm.Cond.laysFinal "HatsDecideModel" "HatsDecideModel" "waits" "[I") ∈ lw_all := lw_g (lw_at lw_m7 98 rfl) rfl
theorem q1634 : (Jvm.Cond.soleField "HatsDecideModel" "waits") ∈ lw_all := lw_g (lw_at lw_m7 99 rfl) rfl
theorem q1635 : (Jvm.Cond.lays "HatsDecideModel" "HatsDecideModel" "signs" "I") ∈ lw_all := lw_g (lw_at lw_m7 100 rfl) rfl
theorem q1636 : (Jvm.Cond.soleField "HatsDecideModel" "signs") ∈ lw_all := lw_g (lw_at lw_m7 101 rfl) rfl
theorem q1637 : (Jvm.Cond.lays "HatsDecideModel" "HatsDecideModel" "waiting" "I") ∈ lw_all := lw_g (lw_at lw_m7 102 rfl) rfl
theorem q1638 : (Jvm.Cond.soleField "HatsDecideModel" "waiting") ∈ lw_all := lw_g (lw_at lw_m7 103 rfl) rfl
theorem q1639 : (Jvm.Cond.lays "HatsDecideModel" "HatsDecideModel" "open" "I") ∈ lw_all := lw_g (lw_at lw_m7 104 rfl) rfl
theorem q1640 : (Jvm.Cond.soleField "HatsDecideModel" "open") ∈ lw_all := lw_g (lw_at lw_m7 105 rfl) rfl
theorem q1641 : (Jvm.Cond.laysFinal "HatsDecideModel" "HatsDecideModel" "letters" "[I") ∈ lw_all := lw_g (lw_at lw_m7 106 rfl) rfl
theorem q1642 : (Jvm.Cond.soleField "HatsDecideModel" "letters") ∈ lw_all := lw_g (lw_at lw_m7 107 rfl) rfl
theorem q1643 : (Jvm.Cond.laysFinal "HatsDecideModel" "HatsDecideModel" "pile" "[Z") ∈ lw_all := lw_g (lw_at lw_m7 108 rfl) rfl
theorem q1644 : (Jvm.Cond.soleField "HatsDecideModel" "pile") ∈ lw_all := lw_g (lw_at lw_m7 109 rfl) rfl
theorem q1645 : (Jvm.Cond.lays "HatsDecideModel" "HatsDecideModel" "mostUsed" "I") ∈ lw_all := lw_g (lw_at lw_m7 110 rfl) rfl
theorem q1646 : (Jvm.Cond.soleField "HatsDecideModel" "mostUsed") ∈ lw_all := lw_g (lw_at lw_m7 111 rfl) rfl
theorem q1647 : (Jvm.Cond.laysFinal "HatsDecideModel" "HatsDecideModel" "blown" "[I") ∈ lw_all := lw_g (lw_at lw_m7 112 rfl) rfl
theorem q1648 : (Jvm.Cond.soleField "HatsDecideModel" "blown") ∈ lw_all := lw_g (lw_at lw_m7 113 rfl) rfl
theorem q1649 : (Jvm.Cond.lays "HatsDecideModel" "HatsDecideModel" "keptDays" "I") ∈ lw_all := lw_g (lw_at lw_m7 114 rfl) rfl
theorem q1650 : (Jvm.Cond.soleField "HatsDecideModel" "keptDays") ∈ lw_all := lw_g (lw_at lw_m7 115 rfl) rfl
theorem q1651 : (Jvm.Cond.laysFinal "HatsDecideModel" "HatsDecideModel" "keptUsed" "[I") ∈ lw_all := lw_g (lw_at lw_m7 116 rfl) rfl
theorem q1652 : (Jvm.Cond.soleField "HatsDecideModel" "keptUsed") ∈ lw_all := lw_g (lw_at lw_m7 117 rfl) rfl
theorem q1653 : (Jvm.Cond.laysFinal "HatsDecideModel" "HatsDecideModel" "keptWorn" "[I") ∈ lw_all := lw_g (lw_at lw_m7 118 rfl) rfl
theorem q1654 : (Jvm.Cond.soleField "HatsDecideModel" "keptWorn") ∈ lw_all := lw_g (lw_at lw_m7 119 rfl) rfl
theorem q1655 : (Jvm.Cond.laysFinal "HatsDecideModel" "HatsDecideModel" "bestWay" "[I") ∈ lw_all := lw_g (lw_at lw_m7 120 rfl) rfl
theorem q1656 : (Jvm.Cond.soleField "HatsDecideModel" "bestWay") ∈ lw_all := lw_g (lw_at lw_m7 121 rfl) rfl
theorem q1657 : (Jvm.Cond.laysFinal "HatsDecideModel" "HatsDecideModel" "deeds" "[I") ∈ lw_all := lw_g (lw_at lw_m7 122 rfl) rfl
theorem q1658 : (Jvm.Cond.soleField "HatsDecideModel" "deeds") ∈ lw_all := lw_g (lw_at lw_m7 123 rfl) rfl
theorem q1659 : (Jvm.Cond.lays "HatsDecideModel" "HatsDecideModel" "bestSum" "I") ∈ lw_all := lw_g (lw_at lw_m7 124 rfl) rfl
theorem q1660 : (Jvm.Cond.soleField "HatsDecideModel" "bestSum") ∈ lw_all := lw_g (lw_at lw_m7 125 rfl) rfl
theorem q1661 : (Jvm.Cond.laysFinal "HatsDecideModel" "HatsDecideModel" "onward" "[I") ∈ lw_all := lw_g (lw_at lw_m7 126 rfl) rfl
theorem q1662 : (Jvm.Cond.soleField "HatsDecideModel" "onward") ∈ lw_all := lw_g (lw_at lw_m7 127 rfl) rfl
theorem q1663 : (Jvm.Cond.laysFinal "HatsDecideModel" "HatsDecideModel" "top" "[I") ∈ lw_all := lw_g (lw_at lw_m7 128 rfl) rfl
theorem q1664 : (Jvm.Cond.soleField "HatsDecideModel" "top") ∈ lw_all := lw_g (lw_at lw_m7 129 rfl) rfl
theorem q1665 : (Jvm.Cond.lays "HatsDecideModel" "HatsDecideModel" "seen" "I") ∈ lw_all := lw_g (lw_at lw_m7 130 rfl) rfl
theorem q1666 : (Jvm.Cond.soleField "HatsDecideModel" "seen") ∈ lw_all := lw_g (lw_at lw_m7 131 rfl) rfl
theorem q1667 : (Jvm.Cond.laysFinal "HatsDecideModel" "HatsDecideModel" "seenWho" "[I") ∈ lw_all := lw_g (lw_at lw_m7 132 rfl) rfl
theorem q1668 : (Jvm.Cond.soleField "HatsDecideModel" "seenWho") ∈ lw_all := lw_g (lw_at lw_m7 133 rfl) rfl
theorem q1669 : (Jvm.Cond.laysFinal "HatsDecideModel" "HatsDecideModel" "seenDeed" "[I") ∈ lw_all := lw_g (lw_at lw_m7 134 rfl) rfl
theorem q1670 : (Jvm.Cond.soleField "HatsDecideModel" "seenDeed") ∈ lw_all := lw_g (lw_at lw_m7 135 rfl) rfl
theorem q1671 : (Jvm.Cond.laysFinal "HatsDecideModel" "HatsDecideModel" "ways" "[I") ∈ lw_all := lw_g (lw_at lw_m7 136 rfl) rfl
theorem q1672 : (Jvm.Cond.soleField "HatsDecideModel" "ways") ∈ lw_all := lw_g (lw_at lw_m7 137 rfl) rfl
theorem q1673 : (Jvm.Cond.lays "HatsDecideModel" "HatsDecideModel" "books" "I") ∈ lw_all := lw_g (lw_at lw_m7 138 rfl) rfl
theorem q1674 : (Jvm.Cond.soleField "HatsDecideModel" "books") ∈ lw_all := lw_g (lw_at lw_m7 139 rfl) rfl
theorem q1675 : (Jvm.Cond.laysFinal "HatsDecideModel" "HatsDecideModel" "bookWhat" "[I") ∈ lw_all := lw_g (lw_at lw_m7 140 rfl) rfl
theorem q1676 : (Jvm.Cond.soleField "HatsDecideModel" "bookWhat") ∈ lw_all := lw_g (lw_at lw_m7 141 rfl) rfl
theorem q1677 : (Jvm.Cond.laysFinal "HatsDecideModel" "HatsDecideModel" "bookWho" "[I") ∈ lw_all := lw_g (lw_at lw_m7 142 rfl) rfl
theorem q1678 : (Jvm.Cond.soleField "HatsDecideModel" "bookWho") ∈ lw_all := lw_g (lw_at lw_m7 143 rfl) rfl
theorem q1679 : (Jvm.Cond.lays "HatsDecideModel" "HatsDecideModel" "hasImage" "Z") ∈ lw_all := lw_g (lw_at lw_m7 144 rfl) rfl
theorem q1680 : (Jvm.Cond.soleField "HatsDecideModel" "hasImage") ∈ lw_all := lw_g (lw_at lw_m7 145 rfl) rfl
theorem q1681 : (Jvm.Cond.lays "HatsDecideModel" "HatsDecideModel" "imageThe" "I") ∈ lw_all := lw_g (lw_at lw_m7 146 rfl) rfl
theorem q1682 : (Jvm.Cond.soleField "HatsDecideModel" "imageThe") ∈ lw_all := lw_g (lw_at lw_m7 147 rfl) rfl
theorem q1683 : (Jvm.Cond.lays "HatsDecideModel" "HatsDecideModel" "imageHeads" "I") ∈ lw_all := lw_g (lw_at lw_m7 148 rfl) rfl
theorem q1684 : (Jvm.Cond.soleField "HatsDecideModel" "imageHeads") ∈ lw_all := lw_g (lw_at lw_m7 149 rfl) rfl
theorem q1685 : (Jvm.Cond.lays "HatsDecideModel" "HatsDecideModel" "imageHats" "I") ∈ lw_all := lw_g (lw_at lw_m7 150 rfl) rfl
theorem q1686 : (Jvm.Cond.soleField "HatsDecideModel" "imageHats") ∈ lw_all := lw_g (lw_at lw_m7 151 rfl) rfl
theorem q1687 : (Jvm.Cond.lays "HatsDecideModel" "HatsDecideModel" "imageDays" "I") ∈ lw_all := lw_g (lw_at lw_m7 152 rfl) rfl
theorem q1688 : (Jvm.Cond.soleField "HatsDecideModel" "imageDays") ∈ lw_all := lw_g (lw_at lw_m7 153 rfl) rfl
theorem q1689 : (Jvm.Cond.lays "HatsDecideModel" "HatsDecideModel" "imageSeen" "I") ∈ lw_all := lw_g (lw_at lw_m7 154 rfl) rfl
theorem q1690 : (Jvm.Cond.soleField "HatsDecideModel" "imageSeen") ∈ lw_all := lw_g (lw_at lw_m7 155 rfl) rfl
theorem q1691 : (Jvm.Cond.lays "HatsDecideModel" "HatsDecideModel" "imageBooks" "I") ∈ lw_all := lw_g (lw_at lw_m7 156 rfl) rfl
theorem q1692 : (Jvm.Cond.soleField "HatsDecideModel" "imageBooks") ∈ lw_all := lw_g (lw_at lw_m7 157 rfl) rfl
theorem q1693 : (Jvm.Cond.laysFinal "HatsDecideModel" "HatsDecideModel" "imageHeadSize" "[I") ∈ lw_all := lw_g (lw_at lw_m7 158 rfl) rfl
theorem q1694 : (Jvm.Cond.soleField "HatsDecideModel" "imageHeadSize") ∈ lw_all := lw_g (lw_at lw_m7 159 rfl) rfl
theorem q1695 : (Jvm.Cond.laysFinal "HatsDecideModel" "HatsDecideModel" "imageOwned" "[I") ∈ lw_all := lw_g (lw_at lw_m7 160 rfl) rfl
theorem q1696 : (Jvm.Cond.soleField "HatsDecideModel" "imageOwned") ∈ lw_all := lw_g (lw_at lw_m7 161 rfl) rfl
theorem q1697 : (Jvm.Cond.laysFinal "HatsDecideModel" "HatsDecideModel" "imageWorn" "[I") ∈ lw_all := lw_g (lw_at lw_m7 162 rfl) rfl
theorem q1698 : (Jvm.Cond.soleField "HatsDecideModel" "imageWorn") ∈ lw_all := lw_g (lw_at lw_m7 163 rfl) rfl
theorem q1699 : (Jvm.Cond.laysFinal "HatsDecideModel" "HatsDecideModel" "imageKind" "[I") ∈ lw_all := lw_g (lw_at lw_m7 164 rfl) rfl
theorem q1700 : (Jvm.Cond.soleField "HatsDecideModel" "imageKind") ∈ lw_all := lw_g (lw_at lw_m7 165 rfl) rfl
theorem q1701 : (Jvm.Cond.laysFinal "HatsDecideModel" "HatsDecideModel" "imageV" "[I") ∈ lw_all := lw_g (lw_at lw_m7 166 rfl) rfl
theorem q1702 : (Jvm.Cond.soleField "HatsDecideModel" "imageV") ∈ lw_all := lw_g (lw_at lw_m7 167 rfl) rfl
theorem q1703 : (Jvm.Cond.laysFinal "HatsDecideModel" "HatsDecideModel" "imageHatSize" "[I") ∈ lw_all := lw_g (lw_at lw_m7 168 rfl) rfl
theorem q1704 : (Jvm.Cond.soleField "HatsDecideModel" "imageHatSize") ∈ lw_all := lw_g (lw_at lw_m7 169 rfl) rfl
theorem q1705 : (Jvm.Cond.laysFinal "HatsDecideModel" "HatsDecideModel" "imageSkill" "[I") ∈ lw_all := lw_g (lw_at lw_m7 170 rfl) rfl
theorem q1706 : (Jvm.Cond.soleField "HatsDecideModel" "imageSkill") ∈ lw_all := lw_g (lw_at lw_m7 171 rfl) rfl
theorem q1707 : (Jvm.Cond.laysFinal "HatsDecideModel" "HatsDecideModel" "imageTrade" "[I") ∈ lw_all := lw_g (lw_at lw_m7 172 rfl) rfl
theorem q1708 : (Jvm.Cond.soleField "HatsDecideModel" "imageTrade") ∈ lw_all := lw_g (lw_at lw_m7 173 rfl) rfl
theorem q1709 : (Jvm.Cond.laysFinal "HatsDecideModel" "HatsDecideModel" "imageUsed" "[I") ∈ lw_all := lw_g (lw_at lw_m7 174 rfl) rfl
theorem q1710 : (Jvm.Cond.soleField "HatsDecideModel" "imageUsed") ∈ lw_all := lw_g (lw_at lw_m7 175 rfl) rfl
theorem q1711 : (Jvm.Cond.laysFinal "HatsDecideModel" "HatsDecideModel" "imageRows" "[I") ∈ lw_all := lw_g (lw_at lw_m7 176 rfl) rfl
theorem q1712 : (Jvm.Cond.soleField "HatsDecideModel" "imageRows") ∈ lw_all := lw_g (lw_at lw_m7 177 rfl) rfl
theorem q1713 : (Jvm.Cond.laysFinal "HatsDecideModel" "HatsDecideModel" "imageDone" "[I") ∈ lw_all := lw_g (lw_at lw_m7 178 rfl) rfl
theorem q1714 : (Jvm.Cond.soleField "HatsDecideModel" "imageDone") ∈ lw_all := lw_g (lw_at lw_m7 179 rfl) rfl
theorem q1715 : (Jvm.Cond.laysFinal "HatsDecideModel" "HatsDecideModel" "imageWho" "[I") ∈ lw_all := lw_g (lw_at lw_m7 180 rfl) rfl
theorem q1716 : (Jvm.Cond.soleField "HatsDecideModel" "imageWho") ∈ lw_all := lw_g (lw_at lw_m7 181 rfl) rfl
theorem q1717 : (Jvm.Cond.laysFinal "HatsDecideModel" "HatsDecideModel" "imageDeed" "[I") ∈ lw_all := lw_g (lw_at lw_m7 182 rfl) rfl
theorem q1718 : (Jvm.Cond.soleField "HatsDecideModel" "imageDeed") ∈ lw_all := lw_g (lw_at lw_m7 183 rfl) rfl
theorem q1719 : (Jvm.Cond.laysFinal "HatsDecideModel" "HatsDecideModel" "imageWhat" "[I") ∈ lw_all := lw_g (lw_at lw_m7 184 rfl) rfl
theorem q1720 : (Jvm.Cond.soleField "HatsDecideModel" "imageWhat") ∈ lw_all := lw_g (lw_at lw_m7 185 rfl) rfl
theorem q1721 : (Jvm.Cond.laysFinal "HatsDecideModel" "HatsDecideModel" "imageBookWho" "[I") ∈ lw_all := lw_g (lw_at lw_m7 186 rfl) rfl
theorem q1722 : (Jvm.Cond.soleField "HatsDecideModel" "imageBookWho") ∈ lw_all := lw_g (lw_at lw_m7 187 rfl) rfl
theorem q1723 : (Jvm.Cond.lays "HatsDecideModel" "HatsDecideModel" "ran" "I") ∈ lw_all := lw_g (lw_at lw_m7 188 rfl) rfl
theorem q1724 : (Jvm.Cond.soleField "HatsDecideModel" "ran") ∈ lw_all := lw_g (lw_at lw_m7 189 rfl) rfl
theorem q1725 : (Jvm.Cond.laysFinal "HatsDecideModel" "HatsDecideModel" "bodies" "[I") ∈ lw_all := lw_g (lw_at lw_m7 190 rfl) rfl
theorem q1726 : (Jvm.Cond.soleField "HatsDecideModel" "bodies") ∈ lw_all := lw_g (lw_at lw_m7 191 rfl) rfl
theorem q1727 : (Jvm.Cond.laysFinal "HatsDecideModel" "HatsDecideModel" "sort" "[I") ∈ lw_all := lw_g (lw_at lw_m7 192 rfl) rfl
theorem q1728 : (Jvm.Cond.soleField "HatsDecideModel" "sort") ∈ lw_all := lw_g (lw_at lw_m7 193 rfl) rfl
theorem q1729 : (Jvm.Cond.laysFinal "HatsDecideModel" "HatsDecideModel" "length" "[I") ∈ lw_all := lw_g (lw_at lw_m7 194 rfl) rfl
theorem q1730 : (Jvm.Cond.soleField "HatsDecideModel" "length") ∈ lw_all := lw_g (lw_at lw_m7 195 rfl) rfl
theorem q1731 : (Jvm.Cond.laysFinal "HatsDecideModel" "HatsDecideModel" "item" "[J") ∈ lw_all := lw_g (lw_at lw_m7 196 rfl) rfl
theorem q1732 : (Jvm.Cond.soleField "HatsDecideModel" "item") ∈ lw_all := lw_g (lw_at lw_m7 197 rfl) rfl
theorem q1733 : (Jvm.Cond.laysFinal "HatsDecideModel" "HatsDecideModel" "aside" "[J") ∈ lw_all := lw_g (lw_at lw_m7 198 rfl) rfl
theorem q1734 : (Jvm.Cond.soleField "HatsDecideModel" "aside") ∈ lw_all := lw_g (lw_at lw_m7 199 rfl) rfl
theorem q1735 : (Jvm.Cond.superclass "HatsDecideModel" "java/lang/Object") ∈ lw_all := lw_g (lw_at lw_m7 200 rfl) rfl
theorem q1737 : (Jvm.Cond.instanceMethod ({ cls := "HatsDecideModel", name := "head", desc := "(I)I" } : Jvm.MethodName)) ∈ lw_all := lw_g (lw_at lw_m7 202 rfl) rfl
theorem q1738 : (Jvm.Cond.selects "HatsDecideModel" ({ cls := "HatsDecideModel", name := "head", desc := "(I)I" } : Jvm.MethodName) ({ cls := "HatsDecideModel", name := "head", desc := "(I)I" } : Jvm.MethodName)) ∈ lw_all := lw_g (lw_at lw_m7 203 rfl) rfl
theorem q1739 : (Jvm.Cond.code ({ cls := "HatsDecideModel", name := "head", desc := "(I)I" } : Jvm.MethodName) prog_23_method_9_code (2 : Nat) (Option.some Jvm.ClassFile.FieldType.int)) ∈ lw_all := lw_g (lw_at lw_m7 204 rfl) rfl
theorem q1740 : (Jvm.Cond.methodLink "HatsDecideModel" (248 : Nat) ({ cls := "HatsDecideModel", name := "in", desc := "(III)Z" } : Jvm.MethodName)) ∈ lw_all := lw_g (lw_at lw_m7 205 rfl) rfl
theorem q1741 : (Jvm.Cond.privateMethod ({ cls := "HatsDecideModel", name := "in", desc := "(III)Z" } : Jvm.MethodName)) ∈ lw_tbl := lw_at lw_m7 206 rfl
theorem q1742 : (Jvm.Cond.instanceMethod ({ cls := "HatsDecideModel", name := "in", desc := "(III)Z" } : Jvm.MethodName)) ∈ lw_all := lw_g (lw_at lw_m7 207 rfl) rfl
theorem q1743 : (Jvm.Cond.code ({ cls := "HatsDecideModel", name := "in", desc := "(III)Z" } : Jvm.MethodName) prog_23_method_2_code (4 : Nat) (Option.some Jvm.ClassFile.FieldType.boolean)) ∈ lw_all := lw_g (lw_at lw_m7 208 rfl) rfl
theorem q1745 : (Jvm.Cond.instanceMethod ({ cls := "HatsDecideModel", name := "hat", desc := "(IIIII)I" } : Jvm.MethodName)) ∈ lw_all := lw_g (lw_at lw_m7 210 rfl) rfl
theorem q1746 : (Jvm.Cond.selects "HatsDecideModel" ({ cls := "HatsDecideModel", name := "hat", desc := "(IIIII)I" } : Jvm.MethodName) ({ cls := "HatsDecideModel", name := "hat", desc := "(IIIII)I" } : Jvm.MethodName)) ∈ lw_all := lw_g (lw_at lw_m7 211 rfl) rfl
theorem q1747 : (Jvm.Cond.code ({ cls := "HatsDecideModel", name := "hat", desc := "(IIIII)I" } : Jvm.MethodName) prog_23_method_10_code (7 : Nat) (Option.some Jvm.ClassFile.FieldType.int)) ∈ lw_all := lw_g (lw_at lw_m7 212 rfl) rfl
theorem q1748 : (Jvm.Cond.methodLink "HatsDecideModel" (252 : Nat) ({ cls := "HatsDecideModel", name := "isTrade", desc := "(I)Z" } : Jvm.MethodName)) ∈ lw_all := lw_g (lw_at lw_m7 213 rfl) rfl
theorem q1749 : (Jvm.Cond.privateMethod ({ cls := "HatsDecideModel", name := "isTrade", desc := "(I)Z" } : Jvm.MethodName)) ∈ lw_tbl := lw_at lw_m7 214 rfl
theorem q1750 : (Jvm.Cond.instanceMethod ({ cls := "HatsDecideModel", name := "isTrade", desc := "(I)Z" } : Jvm.MethodName)) ∈ lw_all := lw_g (lw_at lw_m7 215 rfl) rfl
theorem q1751 : (Jvm.Cond.code ({ cls := "HatsDecideModel", name := "isTrade", desc := "(I)Z" } : Jvm.MethodName) prog_23_method_7_code (2 : Nat) (Option.some Jvm.ClassFile.FieldType.boolean)) ∈ lw_all := lw_g (lw_at lw_m7 216 rfl) rfl
theorem q1753 : (Jvm.Cond.instanceMethod ({ cls := "HatsDecideModel", name := "row", desc := "(III)I" } : Jvm.MethodName)) ∈ lw_all := lw_g (lw_at lw_m7 218 rfl) rfl
theorem q1754 : (Jvm.Cond.selects "HatsDecideModel" ({ cls := "HatsDecideModel", name := "row", desc := "(III)I" } : Jvm.MethodName) ({ cls := "HatsDecideModel", name := "row", desc := "(III)I" } : Jvm.MethodName)) ∈ lw_all := lw_g (lw_at lw_m7 219 rfl) rfl
theorem q1755 : (Jvm.Cond.code ({ cls := "HatsDecideModel", name := "row", desc := "(III)I" } : Jvm.MethodName) prog_23_method_12_code (5 : Nat) (Option.some Jvm.ClassFile.FieldType.int)) ∈ lw_all := lw_g (lw_at lw_m7 220 rfl) rfl
theorem q1756 : (Jvm.Cond.methodLink "HatsDecideModel" (256 : Nat) ({ cls := "HatsDecideModel", name := "isHat", desc := "(I)Z" } : Jvm.MethodName)) ∈ lw_all := lw_g (lw_at lw_m7 221 rfl) rfl
theorem q1757 : (Jvm.Cond.privateMethod ({ cls := "HatsDecideModel", name := "isHat", desc := "(I)Z" } : Jvm.MethodName)) ∈ lw_tbl := lw_at lw_m7 222 rfl
theorem q1758 : (Jvm.Cond.instanceMethod ({ cls := "HatsDecideModel", name := "isHat", desc := "(I)Z" } : Jvm.MethodName)) ∈ lw_all := lw_g (lw_at lw_m7 223 rfl) rfl
theorem q1759 : (Jvm.Cond.code ({ cls := "HatsDecideModel", name := "isHat", desc := "(I)Z" } : Jvm.MethodName) prog_23_method_6_code (2 : Nat) (Option.some Jvm.ClassFile.FieldType.boolean)) ∈ lw_all := lw_g (lw_at lw_m7 224 rfl) rfl
theorem q1761 : (Jvm.Cond.instanceMethod ({ cls := "HatsDecideModel", name := "put", desc := "(II)I" } : Jvm.MethodName)) ∈ lw_all := lw_g (lw_at lw_m7 226 rfl) rfl
theorem q1762 : (Jvm.Cond.selects "HatsDecideModel" ({ cls := "HatsDecideModel", name := "put", desc := "(II)I" } : Jvm.MethodName) ({ cls := "HatsDecideModel", name := "put", desc := "(II)I" } : Jvm.MethodName)) ∈ lw_all := lw_g (lw_at lw_m7 227 rfl) rfl
theorem q1763 : (Jvm.Cond.code ({ cls := "HatsDecideModel", name := "put", desc := "(II)I" } : Jvm.MethodName) prog_23_method_13_code (4 : Nat) (Option.some Jvm.ClassFile.FieldType.int)) ∈ lw_all := lw_g (lw_at lw_m7 228 rfl) rfl
theorem q1764 : (Jvm.Cond.methodLink "HatsDecideModel" (259 : Nat) ({ cls := "HatsDecideModel", name := "isHead", desc := "(I)Z" } : Jvm.MethodName)) ∈ lw_all := lw_g (lw_at lw_m7 229 rfl) rfl
theorem q1765 : (Jvm.Cond.privateMethod ({ cls := "HatsDecideModel", name := "isHead", desc := "(I)Z" } : Jvm.MethodName)) ∈ lw_tbl := lw_at lw_m7 230 rfl
theorem q1766 : (Jvm.Cond.instanceMethod ({ cls := "HatsDecideModel", name := "isHead", desc := "(I)Z" } : Jvm.MethodName)) ∈ lw_all := lw_g (lw_at lw_m7 231 rfl) rfl
theorem q1767 : (Jvm.Cond.code ({ cls := "HatsDecideModel", name := "isHead", desc := "(I)Z" } : Jvm.MethodName) prog_23_method_5_code (2 : Nat) (Option.some Jvm.ClassFile.FieldType.boolean)) ∈ lw_all := lw_g (lw_at lw_m7 232 rfl) rfl
theorem q1768 : (Jvm.Cond.methodLink "HatsDecideModel" (262 : Nat) ({ cls := "HatsDecideModel", name := "headOf", desc := "(I)I" } : Jvm.MethodName)) ∈ lw_all := lw_g (lw_at lw_m7 233 rfl) rfl
theorem q1769 : (Jvm.Cond.privateMethod ({ cls := "HatsDecideModel", name := "headOf", desc := "(I)I" } : Jvm.MethodName)) ∈ lw_tbl := lw_at lw_m7 234 rfl
theorem q1770 : (Jvm.Cond.instanceMethod ({ cls := "HatsDecideModel", name := "headOf", desc := "(I)I" } : Jvm.MethodName)) ∈ lw_all := lw_g (lw_at lw_m7 235 rfl) rfl
theorem q1771 : (Jvm.Cond.code ({ cls := "HatsDecideModel", name := "headOf", desc := "(I)I" } : Jvm.MethodName) prog_23_method_11_code (3 : Nat) (Option.some Jvm.ClassFile.FieldType.int)) ∈ lw_all := lw_g (lw_at lw_m7 236 rfl) rfl
theorem q1773 : (Jvm.Cond.instanceMethod ({ cls := "HatsDecideModel", name := "own", desc := "(II)I" } : Jvm.MethodName)) ∈ lw_all := lw_g (lw_at lw_m7 238 rfl) rfl
theorem q1774 : (Jvm.Cond.selects "HatsDecideModel" ({ cls := "HatsDecideModel", name := "own", desc := "(II)I" } : Jvm.MethodName) ({ cls := "HatsDecideModel", name := "own", desc := "(II)I" } : Jvm.MethodName)) ∈ lw_all := lw_g (lw_at lw_m7 239 rfl) rfl
theorem q1775 : (Jvm.Cond.code ({ cls := "HatsDecideModel", name := "own", desc := "(II)I" } : Jvm.MethodName) prog_23_method_14_code (4 : Nat) (Option.some Jvm.ClassFile.FieldType.int)) ∈ lw_all := lw_g (lw_at lw_m8 0 rfl) rfl
theorem q1776 : (Jvm.Cond.methodLink "HatsDecideModel" (266 : Nat) ({ cls := "HatsDecideModel", name := "orNone", desc := "(I)I" } : Jvm.MethodName)) ∈ lw_all := lw_g (lw_at lw_m8 1 rfl) rfl
theorem q1777 : (Jvm.Cond.privateMethod ({ cls := "HatsDecideModel", name := "orNone", desc := "(I)I" } : Jvm.MethodName)) ∈ lw_tbl := lw_at lw_m8 2 rfl
theorem q1778 : (Jvm.Cond.instanceMethod ({ cls := "HatsDecideModel", name := "orNone", desc := "(I)I" } : Jvm.MethodName)) ∈ lw_all := lw_g (lw_at lw_m8 3 rfl) rfl
theorem q1779 : (Jvm.Cond.code ({ cls := "HatsDecideModel", name := "orNone", desc := "(I)I" } : Jvm.MethodName) prog_23_method_8_code (2 : Nat) (Option.some Jvm.ClassFile.FieldType.int)) ∈ lw_all := lw_g (lw_at lw_m8 4 rfl) rfl
theorem q1781 : (Jvm.Cond.instanceMethod ({ cls := "HatsDecideModel", name := "skill", desc := "(II)I" } : Jvm.MethodName)) ∈ lw_all := lw_g (lw_at lw_m8 6 rfl) rfl
theorem q1782 : (Jvm.Cond.selects "HatsDecideModel" ({ cls := "HatsDecideModel", name := "skill", desc := "(II)I" } : Jvm.MethodName) ({ cls := "HatsDecideModel", name := "skill", desc := "(II)I" } : Jvm.MethodName)) ∈ lw_all := lw_g (lw_at lw_m8 7 rfl) rfl
theorem q1783 : (Jvm.Cond.code ({ cls := "HatsDecideModel", name := "skill", desc := "(II)I" } : Jvm.MethodName) prog_23_method_15_code (4 : Nat) (Option.some Jvm.ClassFile.FieldType.int)) ∈ lw_all := lw_g (lw_at lw_m8 8 rfl) rfl
theorem q1785 : (Jvm.Cond.instanceMethod ({ cls := "HatsDecideModel", name := "feed", desc := "(I)I" } : Jvm.MethodName)) ∈ lw_all := lw_g (lw_at lw_m8 10 rfl) rfl
theorem q1786 : (Jvm.Cond.selects "HatsDecideModel" ({ cls := "HatsDecideModel", name := "feed", desc := "(I)I" } : Jvm.MethodName) ({ cls := "HatsDecideModel", name := "feed", desc := "(I)I" } : Jvm.MethodName)) ∈ lw_all := lw_g (lw_at lw_m8 11 rfl) rfl
theorem q1787 : (Jvm.Cond.code ({ cls := "HatsDecideModel", name := "feed", desc := "(I)I" } : Jvm.MethodName) prog_23_method_16_code (2 : Nat) (Option.some Jvm.ClassFile.FieldType.int)) ∈ lw_all := lw_g (lw_at lw_m8 12 rfl) rfl
theorem q1789 : (Jvm.Cond.instanceMethod ({ cls := "HatsDecideModel", name := "town", desc := "()I" } : Jvm.MethodName)) ∈ lw_all := lw_g (lw_at lw_m8 14 rfl) rfl
theorem q1790 : (Jvm.Cond.selects "HatsDecideModel" ({ cls := "HatsDecideModel", name := "town", desc := "()I" } : Jvm.MethodName) ({ cls := "HatsDecideModel", name := "town", desc := "()I" } : Jvm.MethodName)) ∈ lw_all := lw_g (lw_at lw_m8 15 rfl) rfl
theorem q1791 : (Jvm.Cond.code ({ cls := "HatsDecideModel", name := "town", desc := "()I" } : Jvm.MethodName) prog_23_method_31_code (2 : Nat) (Option.some Jvm.ClassFile.FieldType.int)) ∈ lw_all := lw_g (lw_at lw_m8 16 rfl) rfl
theorem q1792 : (Jvm.Cond.methodLink "HatsDecideModel" (312 : Nat) ({ cls := "HatsDecideModel", name := "goesText", desc := "(I)Z" } : Jvm.MethodName)) ∈ lw_all := lw_g (lw_at lw_m8 17 rfl) rfl
theorem q1793 : (Jvm.Cond.privateMethod ({ cls := "HatsDecideModel", name := "goesText", desc := "(I)Z" } : Jvm.MethodName)) ∈ lw_tbl := lw_at lw_m8 18 rfl
theorem q1794 : (Jvm.Cond.instanceMethod ({ cls := "HatsDecideModel", name := "goesText", desc := "(I)Z" } : Jvm.MethodName)) ∈ lw_all := lw_g (lw_at lw_m8 19 rfl) rfl
theorem q1795 : (Jvm.Cond.code ({ cls := "HatsDecideModel", name := "goesText", desc := "(I)Z" } : Jvm.MethodName) prog_23_method_30_code (3 : Nat) (Option.some Jvm.ClassFile.FieldType.boolean)) ∈ lw_all := lw_g (lw_at lw_m8 20 rfl) rfl
theorem q1796 : (Jvm.Cond.methodLink "HatsDecideModel" (309 : Nat) ({ cls := "HatsDecideModel", name := "takesClause", desc := "(I)Z" } : Jvm.MethodName)) ∈ lw_all := lw_g (lw_at lw_m8 21 rfl) rfl
theorem q1797 : (Jvm.Cond.privateMethod ({ cls := "HatsDecideModel", name := "takesClause", desc := "(I)Z" } : Jvm.MethodName)) ∈ lw_tbl := lw_at lw_m8 22 rfl
theorem q1798 : (Jvm.Cond.instanceMethod ({ cls := "HatsDecideModel", name := "takesClause", desc := "(I)Z" } : Jvm.MethodName)) ∈ lw_all := lw_g (lw_at lw_m8 23 rfl) rfl
theorem q1799 : (Jvm.Cond.code ({ cls := "HatsDecideModel", name := "takesClause", desc := "(I)Z" } : Jvm.MethodName) prog_23_method_29_code (2 : Nat) (Option.some Jvm.ClassFile.FieldType.boolean)) ∈ lw_all := lw_g (lw_at lw_m8 24 rfl) rfl
theorem q1800 : (Jvm.Cond.methodLink "HatsDecideModel" (303 : Nat) ({ cls := "HatsDecideModel", name := "takesHead", desc := "(I)Z" } : Jvm.MethodName)) ∈ lw_all := lw_g (lw_at lw_m8 25 rfl) rfl
theorem q1801 : (Jvm.Cond.privateMethod ({ cls := "HatsDecideModel", name := "takesHead", desc := "(I)Z" } : Jvm.MethodName)) ∈ lw_tbl := lw_at lw_m8 26 rfl
theorem q1802 : (Jvm.Cond.instanceMethod ({ cls := "HatsDecideModel", name := "takesHead", desc := "(I)Z" } : Jvm.MethodName)) ∈ lw_all := lw_g (lw_at lw_m8 27 rfl) rfl
theorem q1803 : (Jvm.Cond.code ({ cls := "HatsDecideModel", name := "takesHead", desc := "(I)Z" } : Jvm.MethodName) prog_23_method_28_code (2 : Nat) (Option.some Jvm.ClassFile.FieldType.boolean)) ∈ lw_all := lw_g (lw_at lw_m8 28 rfl) rfl
theorem q1804 : (Jvm.Cond.methodLink "HatsDecideModel" (269 : Nat) ({ cls := "HatsDecideModel", name := "next", desc := "()I" } : Jvm.MethodName)) ∈ lw_all := lw_g (lw_at lw_m8 29 rfl) rfl
theorem q1805 : (Jvm.Cond.privateMethod ({ cls := "HatsDecideModel", name := "next", desc := "()I" } : Jvm.MethodName)) ∈ lw_tbl := lw_at lw_m8 30 rfl
theorem q1806 : (Jvm.Cond.instanceMethod ({ cls := "HatsDecideModel", name := "next", desc := "()I" } : Jvm.MethodName)) ∈ lw_all := lw_g (lw_at lw_m8 31 rfl) rfl
theorem q1807 : (Jvm.Cond.code ({ cls := "HatsDecideModel", name := "next", desc := "()I" } : Jvm.MethodName) prog_23_method_17_code (1 : Nat) (Option.some Jvm.ClassFile.FieldType.int)) ∈ lw_all := lw_g (lw_at lw_m8 32 rfl) rfl
theorem q1808 : (Jvm.Cond.methodLink "HatsDecideModel" (299 : Nat) ({ cls := "HatsDecideModel", name := "takesWord", desc := "(II)Z" } : Jvm.MethodName)) ∈ lw_all := lw_g (lw_at lw_m8 33 rfl) rfl
theorem q1809 : (Jvm.Cond.privateMethod ({ cls := "HatsDecideModel", name := "takesWord", desc := "(II)Z" } : Jvm.MethodName)) ∈ lw_tbl := lw_at lw_m8 34 rfl
theorem q1810 : (Jvm.Cond.instanceMethod ({ cls := "HatsDecideModel", name := "takesWord", desc := "(II)Z" } : Jvm.MethodName)) ∈ lw_all := lw_g (lw_at lw_m8 35 rfl) rfl
theorem q1811 : (Jvm.Cond.code ({ cls := "HatsDecideModel", name := "takesWord", desc := "(II)Z" } : Jvm.MethodName) prog_23_method_19_code (4 : Nat) (Option.some Jvm.ClassFile.FieldType.boolean)) ∈ lw_all := lw_g (lw_at lw_m8 36 rfl) rfl
theorem q1812 : (Jvm.Cond.methodLink "HatsDecideModel" (273 : Nat) ({ cls := "HatsDecideModel", name := "takes", desc := "(I)Z" } : Jvm.MethodName)) ∈ lw_all := lw_g (lw_at lw_m8 37 rfl) rfl
theorem q1813 : (Jvm.Cond.privateMethod ({ cls := "HatsDecideModel", name := "takes", desc := "(I)Z" } : Jvm.MethodName)) ∈ lw_tbl := lw_at lw_m8 38 rfl
theorem q1814 : (Jvm.Cond.instanceMethod ({ cls := "HatsDecideModel", name := "takes", desc := "(I)Z" } : Jvm.MethodName)) ∈ lw_all := lw_g (lw_at lw_m8 39 rfl) rfl
theorem q1815 : (Jvm.Cond.code ({ cls := "HatsDecideModel", name := "takes", desc := "(I)Z" } : Jvm.MethodName) prog_23_method_18_code (2 : Nat) (Option.some Jvm.ClassFile.FieldType.boolean)) ∈ lw_all := lw_g (lw_at lw_m8 40 rfl) rfl
theorem q1816 : (Jvm.Cond.methodLink "HatsDecideModel" (287 : Nat) ({ cls := "HatsDecideModel", name := "takesNumber", desc := "()Z" } : Jvm.MethodName)) ∈ lw_all := lw_g (lw_at lw_m8 41 rfl) rfl
theorem q1817 : (Jvm.Cond.privateMethod ({ cls := "HatsDecideModel", name := "takesNumber", desc := "()Z" } : Jvm.MethodName)) ∈ lw_tbl := lw_at lw_m8 42 rfl
theorem q1818 : (Jvm.Cond.instanceMethod ({ cls := "HatsDecideModel", name := "takesNumber", desc := "()Z" } : Jvm.MethodName)) ∈ lw_all := lw_g (lw_at lw_m8 43 rfl) rfl
theorem q1819 : (Jvm.Cond.code ({ cls := "HatsDecideModel", name := "takesNumber", desc := "()Z" } : Jvm.MethodName) prog_23_method_21_code (2 : Nat) (Option.some Jvm.ClassFile.FieldType.boolean)) ∈ lw_all := lw_g (lw_at lw_m8 44 rfl) rfl
theorem q1820 : (Jvm.Cond.methodLink "HatsDecideModel" (276 : Nat) ({ cls := "HatsDecideModel", name := "isDigit", desc := "()Z" } : Jvm.MethodName)) ∈ lw_all := lw_g (lw_at lw_m8 45 rfl) rfl
theorem q1821 : (Jvm.Cond.privateMethod ({ cls := "HatsDecideModel", name := "isDigit", desc := "()Z" } : Jvm.MethodName)) ∈ lw_tbl := lw_at lw_m8 46 rfl
theorem q1822 : (Jvm.Cond.instanceMethod ({ cls := "HatsDecideModel", name := "isDigit", desc := "()Z" } : Jvm.MethodName)) ∈ lw_all := lw_g (lw_at lw_m8 47 rfl) rfl
theorem q1823 : (Jvm.Cond.code ({ cls := "HatsDecideModel", name := "isDigit", desc := "()Z" } : Jvm.MethodName) prog_23_method_20_code (1 : Nat) (Option.some Jvm.ClassFile.FieldType.boolean)) ∈ lw_all := lw_g (lw_at lw_m8 48 rfl) rfl
theorem q1824 : (Jvm.Cond.methodLink "HatsDecideModel" (306 : Nat) ({ cls := "HatsDecideModel", name := "takesE", desc := "(I)Z" } : Jvm.MethodName)) ∈ lw_all := lw_g (lw_at lw_m8 49 rfl) rfl
theorem q1825 : (Jvm.Cond.privateMethod ({ cls := "HatsDecideModel", name := "takesE", desc := "(I)Z" } : Jvm.MethodName)) ∈ lw_tbl := lw_at lw_m8 50 rfl
theorem q1826 : (Jvm.Cond.instanceMethod ({ cls := "HatsDecideModel", name := "takesE", desc := "(I)Z" } : Jvm.MethodName)) ∈ lw_all := lw_g (lw_at lw_m8 51 rfl) rfl
theorem q1827 : (Jvm.Cond.code ({ cls := "HatsDecideModel", name := "takesE", desc := "(I)Z" } : Jvm.MethodName) prog_23_method_27_code (4 : Nat) (Option.some Jvm.ClassFile.FieldType.boolean)) ∈ lw_all := lw_g (lw_at lw_m8 52 rfl) rfl
theorem q1828 : (Jvm.Cond.methodLink "HatsDecideModel" (293 : Nat) ({ cls := "HatsDecideModel", name := "takesTest", desc := "()Z" } : Jvm.MethodName)) ∈ lw_all := lw_g (lw_at lw_m8 53 rfl) rfl
theorem q1829 : (Jvm.Cond.privateMethod ({ cls := "HatsDecideModel", name := "takesTest", desc := "()Z" } : Jvm.MethodName)) ∈ lw_tbl := lw_at lw_m8 54 rfl
theorem q1830 : (Jvm.Cond.instanceMethod ({ cls := "HatsDecideModel", name := "takesTest", desc := "()Z" } : Jvm.MethodName)) ∈ lw_all := lw_g (lw_at lw_m8 55 rfl) rfl
theorem q1831 : (Jvm.Cond.code ({ cls := "HatsDecideModel", name := "takesTest", desc := "()Z" } : Jvm.MethodName) prog_23_method_26_code (3 : Nat) (Option.some Jvm.ClassFile.FieldType.boolean)) ∈ lw_all := lw_g (lw_at lw_m8 56 rfl) rfl
theorem q1832 : (Jvm.Cond.methodLink "HatsDecideModel" (284 : Nat) ({ cls := "HatsDecideModel", name := "place", desc := "(I)I" } : Jvm.MethodName)) ∈ lw_all := lw_g (lw_at lw_m8 57 rfl) rfl
theorem q1833 : (Jvm.Cond.privateMethod ({ cls := "HatsDecideModel", name := "place", desc := "(I)I" } : Jvm.MethodName)) ∈ lw_tbl := lw_at lw_m8 58 rfl
theorem q1834 : (Jvm.Cond.instanceMethod ({ cls := "HatsDecideModel", name := "place", desc := "(I)I" } : Jvm.MethodName)) ∈ lw_all := lw_g (lw_at lw_m8 59 rfl) rfl
theorem q1835 : (Jvm.Cond.code ({ cls := "HatsDecideModel", name := "place", desc := "(I)I" } : Jvm.MethodName) prog_23_method_25_code (2 : Nat) (Option.some Jvm.ClassFile.FieldType.int)) ∈ lw_all := lw_g (lw_at lw_m8 60 rfl) rfl
theorem q1836 : (Jvm.Cond.methodLink "HatsDecideModel" (280 : Nat) ({ cls := "HatsDecideModel", name := "emits", desc := "(I)V" } : Jvm.MethodName)) ∈ lw_all := lw_g (lw_at lw_m8 61 rfl) rfl
theorem q1837 : (Jvm.Cond.privateMethod ({ cls := "HatsDecideModel", name := "emits", desc := "(I)V" } : Jvm.MethodName)) ∈ lw_tbl := lw_at lw_m8 62 rfl
theorem q1838 : (Jvm.Cond.instanceMethod ({ cls := "HatsDecideModel", name := "emits", desc := "(I)V" } : Jvm.MethodName)) ∈ lw_all := lw_g (lw_at lw_m8 63 rfl) rfl
theorem q1839 : (Jvm.Cond.code ({ cls := "HatsDecideModel", name := "emits", desc := "(I)V" } : Jvm.MethodName) prog_23_method_22_code (2 : Nat) (Option.none : Option Jvm.ClassFile.FieldType)) ∈ lw_all := lw_g (lw_at lw_m8 64 rfl) rfl
theorem q1840 : (Jvm.Cond.methodLink "HatsDecideModel" (290 : Nat) ({ cls := "HatsDecideModel", name := "whole", desc := "()V" } : Jvm.MethodName)) ∈ lw_all := lw_g (lw_at lw_m8 65 rfl) rfl
theorem q1841 : (Jvm.Cond.privateMethod ({ cls := "HatsDecideModel", name := "whole", desc := "()V" } : Jvm.MethodName)) ∈ lw_tbl := lw_at lw_m8 66 rfl
theorem q1842 : (Jvm.Cond.instanceMethod ({ cls := "HatsDecideModel", name := "whole", desc := "()V" } : Jvm.MethodName)) ∈ lw_all := lw_g (lw_at lw_m8 67 rfl) rfl
theorem q1843 : (Jvm.Cond.code ({ cls := "HatsDecideModel", name := "whole", desc := "()V" } : Jvm.MethodName) prog_23_method_23_code (1 : Nat) (Option.none : Option Jvm.ClassFile.FieldType)) ∈ lw_all := lw_g (lw_at lw_m8 68 rfl) rfl
theorem q1844 : (Jvm.Cond.methodLink "HatsDecideModel" (296 : Nat) ({ cls := "HatsDecideModel", name := "settle", desc := "(I)V" } : Jvm.MethodName)) ∈ lw_all := lw_g (lw_at lw_m8 69 rfl) rfl
theorem q1845 : (Jvm.Cond.privateMethod ({ cls := "HatsDecideModel", name := "settle", desc := "(I)V" } : Jvm.MethodName)) ∈ lw_tbl := lw_at lw_m8 70 rfl
theorem q1846 : (Jvm.Cond.instanceMethod ({ cls := "HatsDecideModel", name := "settle", desc := "(I)V" } : Jvm.MethodName)) ∈ lw_all := lw_g (lw_at lw_m8 71 rfl) rfl
theorem q1847 : (Jvm.Cond.code ({ cls := "HatsDecideModel", name := "settle", desc := "(I)V" } : Jvm.MethodName) prog_23_method_24_code (2 : Nat) (Option.none : Option Jvm.ClassFile.FieldType)) ∈ lw_all := lw_g (lw_at lw_m8 72 rfl) rfl
theorem q1849 : (Jvm.Cond.instanceMethod ({ cls := "HatsDecideModel", name := "of", desc := "(II)I" } : Jvm.MethodName)) ∈ lw_all := lw_g (lw_at lw_m8 74 rfl) rfl
theorem q1850 : (Jvm.Cond.selects "HatsDecideModel" ({ cls := "HatsDecideModel", name := "of", desc := "(II)I" } : Jvm.MethodName) ({ cls := "HatsDecideModel", name := "of", desc := "(II)I" } : Jvm.MethodName)) ∈ lw_all := lw_g (lw_at lw_m8 75 rfl) rfl
theorem q1851 : (Jvm.Cond.code ({ cls := "HatsDecideModel", name := "of", desc := "(II)I" } : Jvm.MethodName) prog_23_method_41_code (3 : Nat) (Option.some Jvm.ClassFile.FieldType.int)) ∈ lw_all := lw_g (lw_at lw_m8 76 rfl) rfl
theorem q1852 : (Jvm.Cond.methodLink "HatsDecideModel" (341 : Nat) ({ cls := "HatsDecideModel", name := "deed", desc := "(II)I" } : Jvm.MethodName)) ∈ lw_all := lw_g (lw_at lw_m8 77 rfl) rfl
theorem q1853 : (Jvm.Cond.privateMethod ({ cls := "HatsDecideModel", name := "deed", desc := "(II)I" } : Jvm.MethodName)) ∈ lw_tbl := lw_at lw_m8 78 rfl
theorem q1854 : (Jvm.Cond.instanceMethod ({ cls := "HatsDecideModel", name := "deed", desc := "(II)I" } : Jvm.MethodName)) ∈ lw_all := lw_g (lw_at lw_m8 79 rfl) rfl
theorem q1855 : (Jvm.Cond.code ({ cls := "HatsDecideModel", name := "deed", desc := "(II)I" } : Jvm.MethodName) prog_23_method_40_code (4 : Nat) (Option.some Jvm.ClassFile.FieldType.int)) ∈ lw_all := lw_g (lw_at lw_m8 80 rfl) rfl
theorem q1856 : (Jvm.Cond.methodLink "HatsDecideModel" (328 : Nat) ({ cls := "HatsDecideModel", name := "fits", desc := "(II)I" } : Jvm.MethodName)) ∈ lw_all := lw_g (lw_at lw_m8 81 rfl) rfl
theorem q1857 : (Jvm.Cond.privateMethod ({ cls := "HatsDecideModel", name := "fits", desc := "(II)I" } : Jvm.MethodName)) ∈ lw_tbl := lw_at lw_m8 82 rfl
theorem q1858 : (Jvm.Cond.instanceMethod ({ cls := "HatsDecideModel", name := "fits", desc := "(II)I" } : Jvm.MethodName)) ∈ lw_all := lw_g (lw_at lw_m8 83 rfl) rfl
theorem q1859 : (Jvm.Cond.code ({ cls := "HatsDecideModel", name := "fits", desc := "(II)I" } : Jvm.MethodName) prog_23_method_38_code (5 : Nat) (Option.some Jvm.ClassFile.FieldType.int)) ∈ lw_all := lw_g (lw_at lw_m8 84 rfl) rfl
theorem q1860 : (Jvm.Cond.methodLink "HatsDecideModel" (315 : Nat) ({ cls := "HatsDecideModel", name := "begin", desc := "()I" } : Jvm.MethodName)) ∈ lw_all := lw_g (lw_at lw_m8 85 rfl) rfl
theorem q1861 : (Jvm.Cond.privateMethod ({ cls := "HatsDecideModel", name := "begin", desc := "()I" } : Jvm.MethodName)) ∈ lw_tbl := lw_at lw_m8 86 rfl
theorem q1862 : (Jvm.Cond.instanceMethod ({ cls := "HatsDecideModel", name := "begin", desc := "()I" } : Jvm.MethodName)) ∈ lw_all := lw_g (lw_at lw_m8 87 rfl) rfl
theorem q1863 : (Jvm.Cond.code ({ cls := "HatsDecideModel", name := "begin", desc := "()I" } : Jvm.MethodName) prog_23_method_32_code (1 : Nat) (Option.some Jvm.ClassFile.FieldType.int)) ∈ lw_all := lw_g (lw_at lw_m8 88 rfl) rfl
theorem q1864 : (Jvm.Cond.methodLink "HatsDecideModel" (318 : Nat) ({ cls := "HatsDecideModel", name := "behind", desc := "()I" } : Jvm.MethodName)) ∈ lw_all := lw_g (lw_at lw_m8 89 rfl) rfl
theorem q1865 : (Jvm.Cond.privateMethod ({ cls := "HatsDecideModel", name := "behind", desc := "()I" } : Jvm.MethodName)) ∈ lw_tbl := lw_at lw_m8 90 rfl
theorem q1866 : (Jvm.Cond.instanceMethod ({ cls := "HatsDecideModel", name := "behind", desc := "()I" } : Jvm.MethodName)) ∈ lw_all := lw_g (lw_at lw_m8 91 rfl) rfl
theorem q1867 : (Jvm.Cond.code ({ cls := "HatsDecideModel", name := "behind", desc := "()I" } : Jvm.MethodName) prog_23_method_33_code (1 : Nat) (Option.some Jvm.ClassFile.FieldType.int)) ∈ lw_all := lw_g (lw_at lw_m8 92 rfl) rfl
theorem q1868 : (Jvm.Cond.methodLink "HatsDecideModel" (325 : Nat) ({ cls := "HatsDecideModel", name := "holds", desc := "(III)Z" } : Jvm.MethodName)) ∈ lw_all := lw_g (lw_at lw_m8 93 rfl) rfl
theorem q1869 : (Jvm.Cond.privateMethod ({ cls := "HatsDecideModel", name := "holds", desc := "(III)Z" } : Jvm.MethodName)) ∈ lw_tbl := lw_at lw_m8 94 rfl
theorem q1870 : (Jvm.Cond.instanceMethod ({ cls := "HatsDecideModel", name := "holds", desc := "(III)Z" } : Jvm.MethodName)) ∈ lw_all := lw_g (lw_at lw_m8 95 rfl) rfl
theorem q1871 : (Jvm.Cond.code ({ cls := "HatsDecideModel", name := "holds", desc := "(III)Z" } : Jvm.MethodName) prog_23_method_37_code (9 : Nat) (Option.some Jvm.ClassFile.FieldType.boolean)) ∈ lw_all := lw_g (lw_at lw_m8 96 rfl) rfl
theorem q1872 : (Jvm.Cond.methodLink "HatsDecideModel" (321 : Nat) ({ cls := "HatsDecideModel", name := "factOf", desc := "(III)I" } : Jvm.MethodName)) ∈ lw_all := lw_g (lw_at lw_m8 97 rfl) rfl
theorem q1873 : (Jvm.Cond.privateMethod ({ cls := "HatsDecideModel", name := "factOf", desc := "(III)I" } : Jvm.MethodName)) ∈ lw_tbl := lw_at lw_m8 98 rfl
theorem q1874 : (Jvm.Cond.instanceMethod ({ cls := "HatsDecideModel", name := "factOf", desc := "(III)I" } : Jvm.MethodName)) ∈ lw_all := lw_g (lw_at lw_m8 99 rfl) rfl
theorem q1875 : (Jvm.Cond.code ({ cls := "HatsDecideModel", name := "factOf", desc := "(III)I" } : Jvm.MethodName) prog_23_method_36_code (4 : Nat) (Option.some Jvm.ClassFile.FieldType.int)) ∈ lw_all := lw_g (lw_at lw_m8 100 rfl) rfl
theorem q1876 : (Jvm.Cond.methodLink "HatsDecideModel" (332 : Nat) ({ cls := "HatsDecideModel", name := "most", desc := "(II)I" } : Jvm.MethodName)) ∈ lw_all := lw_g (lw_at lw_m8 101 rfl) rfl
theorem q1877 : (Jvm.Cond.privateMethod ({ cls := "HatsDecideModel", name := "most", desc := "(II)I" } : Jvm.MethodName)) ∈ lw_tbl := lw_at lw_m8 102 rfl
theorem q1878 : (Jvm.Cond.instanceMethod ({ cls := "HatsDecideModel", name := "most", desc := "(II)I" } : Jvm.MethodName)) ∈ lw_all := lw_g (lw_at lw_m8 103 rfl) rfl
theorem q1879 : (Jvm.Cond.code ({ cls := "HatsDecideModel", name := "most", desc := "(II)I" } : Jvm.MethodName) prog_23_method_4_code (3 : Nat) (Option.some Jvm.ClassFile.FieldType.int)) ∈ lw_all := lw_g (lw_at lw_m8 104 rfl) rfl
theorem q1880 : (Jvm.Cond.methodLink "HatsDecideModel" (335 : Nat) ({ cls := "HatsDecideModel", name := "apart", desc := "(II)I" } : Jvm.MethodName)) ∈ lw_all := lw_g (lw_at lw_m8 105 rfl) rfl
theorem q1881 : (Jvm.Cond.privateMethod ({ cls := "HatsDecideModel", name := "apart", desc := "(II)I" } : Jvm.MethodName)) ∈ lw_tbl := lw_at lw_m8 106 rfl
theorem q1882 : (Jvm.Cond.instanceMethod ({ cls := "HatsDecideModel", name := "apart", desc := "(II)I" } : Jvm.MethodName)) ∈ lw_all := lw_g (lw_at lw_m8 107 rfl) rfl
theorem q1883 : (Jvm.Cond.code ({ cls := "HatsDecideModel", name := "apart", desc := "(II)I" } : Jvm.MethodName) prog_23_method_39_code (3 : Nat) (Option.some Jvm.ClassFile.FieldType.int)) ∈ lw_all := lw_g (lw_at lw_m8 108 rfl) rfl
theorem q1884 : (Jvm.Cond.methodLink "HatsDecideModel" (338 : Nat) ({ cls := "HatsDecideModel", name := "moth", desc := "()I" } : Jvm.MethodName)) ∈ lw_all := lw_g (lw_at lw_m8 109 rfl) rfl
theorem q1885 : (Jvm.Cond.privateMethod ({ cls := "HatsDecideModel", name := "moth", desc := "()I" } : Jvm.MethodName)) ∈ lw_tbl := lw_at lw_m8 110 rfl
theorem q1886 : (Jvm.Cond.instanceMethod ({ cls := "HatsDecideModel", name := "moth", desc := "()I" } : Jvm.MethodName)) ∈ lw_all := lw_g (lw_at lw_m8 111 rfl) rfl
theorem q1887 : (Jvm.Cond.code ({ cls := "HatsDecideModel", name := "moth", desc := "()I" } : Jvm.MethodName) prog_23_method_34_code (3 : Nat) (Option.some Jvm.ClassFile.FieldType.int)) ∈ lw_all := lw_g (lw_at lw_m8 112 rfl) rfl
theorem q1889 : (Jvm.Cond.instanceMethod ({ cls := "HatsDecideModel", name := "at", desc := "(II)I" } : Jvm.MethodName)) ∈ lw_all := lw_g (lw_at lw_m8 114 rfl) rfl
theorem q1890 : (Jvm.Cond.selects "HatsDecideModel" ({ cls := "HatsDecideModel", name := "at", desc := "(II)I" } : Jvm.MethodName) ({ cls := "HatsDecideModel", name := "at", desc := "(II)I" } : Jvm.MethodName)) ∈ lw_all := lw_g (lw_at lw_m8 115 rfl) rfl
theorem q1891 : (Jvm.Cond.code ({ cls := "HatsDecideModel", name := "at", desc := "(II)I" } : Jvm.MethodName) prog_23_method_42_code (3 : Nat) (Option.some Jvm.ClassFile.FieldType.int)) ∈ lw_all := lw_g (lw_at lw_m8 116 rfl) rfl
theorem q1893 : (Jvm.Cond.instanceMethod ({ cls := "HatsDecideModel", name := "told", desc := "(I)I" } : Jvm.MethodName)) ∈ lw_all := lw_g (lw_at lw_m8 118 rfl) rfl
theorem q1894 : (Jvm.Cond.selects "HatsDecideModel" ({ cls := "HatsDecideModel", name := "told", desc := "(I)I" } : Jvm.MethodName) ({ cls := "HatsDecideModel", name := "told", desc := "(I)I" } : Jvm.MethodName)) ∈ lw_all := lw_g (lw_at lw_m8 119 rfl) rfl
theorem q1895 : (Jvm.Cond.code ({ cls := "HatsDecideModel", name := "told", desc := "(I)I" } : Jvm.MethodName) prog_23_method_43_code (2 : Nat) (Option.some Jvm.ClassFile.FieldType.int)) ∈ lw_all := lw_g (lw_at lw_m8 120 rfl) rfl
theorem q1896 : (Jvm.Cond.methodLink "HatsDecideModel" (344 : Nat) ({ cls := "HatsDecideModel", name := "work", desc := "(I)I" } : Jvm.MethodName)) ∈ lw_all := lw_g (lw_at lw_m8 121 rfl) rfl
theorem q1897 : (Jvm.Cond.privateMethod ({ cls := "HatsDecideModel", name := "work", desc := "(I)I" } : Jvm.MethodName)) ∈ lw_tbl := lw_at lw_m8 122 rfl
theorem q1898 : (Jvm.Cond.instanceMethod ({ cls := "HatsDecideModel", name := "work", desc := "(I)I" } : Jvm.MethodName)) ∈ lw_all := lw_g (lw_at lw_m8 123 rfl) rfl
theorem q1899 : (Jvm.Cond.code ({ cls := "HatsDecideModel", name := "work", desc := "(I)I" } : Jvm.MethodName) prog_23_method_35_code (4 : Nat) (Option.some Jvm.ClassFile.FieldType.int)) ∈ lw_all := lw_g (lw_at lw_m8 124 rfl) rfl
theorem q1901 : (Jvm.Cond.instanceMethod ({ cls := "HatsDecideModel", name := "day", desc := "()I" } : Jvm.MethodName)) ∈ lw_all := lw_g (lw_at lw_m8 126 rfl) rfl
theorem q1902 : (Jvm.Cond.selects "HatsDecideModel" ({ cls := "HatsDecideModel", name := "day", desc := "()I" } : Jvm.MethodName) ({ cls := "HatsDecideModel", name := "day", desc := "()I" } : Jvm.MethodName)) ∈ lw_all := lw_g (lw_at lw_m8 127 rfl) rfl
theorem q1903 : (Jvm.Cond.code ({ cls := "HatsDecideModel", name := "day", desc := "()I" } : Jvm.MethodName) prog_23_method_46_code (4 : Nat) (Option.some Jvm.ClassFile.FieldType.int)) ∈ lw_all := lw_g (lw_at lw_m8 128 rfl) rfl
theorem q1904 : (Jvm.Cond.methodLink "HatsDecideModel" (347 : Nat) ({ cls := "HatsDecideModel", name := "todayOf", desc := "(I)I" } : Jvm.MethodName)) ∈ lw_all := lw_g (lw_at lw_m8 129 rfl) rfl
theorem q1905 : (Jvm.Cond.privateMethod ({ cls := "HatsDecideModel", name := "todayOf", desc := "(I)I" } : Jvm.MethodName)) ∈ lw_tbl := lw_at lw_m8 130 rfl
theorem q1906 : (Jvm.Cond.instanceMethod ({ cls := "HatsDecideModel", name := "todayOf", desc := "(I)I" } : Jvm.MethodName)) ∈ lw_all := lw_g (lw_at lw_m8 131 rfl) rfl
theorem q1907 : (Jvm.Cond.code ({ cls := "HatsDecideModel", name := "todayOf", desc := "(I)I" } : Jvm.MethodName) prog_23_method_44_code (4 : Nat) (Option.some Jvm.ClassFile.FieldType.int)) ∈ lw_all := lw_g (lw_at lw_m8 132 rfl) rfl
theorem q1908 : (Jvm.Cond.constant "HatsDecideModel" (350 : Nat) (999999 : Int32)) ∈ lw_all := lw_g (lw_at lw_m8 133 rfl) rfl
theorem q1909 : (Jvm.Cond.methodLink "HatsDecideModel" (351 : Nat) ({ cls := "HatsDecideModel", name := "goDay", desc := "()V" } : Jvm.MethodName)) ∈ lw_all := lw_g (lw_at lw_m8 134 rfl) rfl
theorem q1910 : (Jvm.Cond.privateMethod ({ cls := "HatsDecideModel", name := "goDay", desc := "()V" } : Jvm.MethodName)) ∈ lw_tbl := lw_at lw_m8 135 rfl
theorem q1911 : (Jvm.Cond.instanceMethod ({ cls := "HatsDecideModel", name := "goDay", desc := "()V" } : Jvm.MethodName)) ∈ lw_all := lw_g (lw_at lw_m8 136 rfl) rfl
theorem q1912 : (Jvm.Cond.code ({ cls := "HatsDecideModel", name := "goDay", desc := "()V" } : Jvm.MethodName) prog_23_method_45_code (2 : Nat) (Option.none : Option Jvm.ClassFile.FieldType)) ∈ lw_all := lw_g (lw_at lw_m8 137 rfl) rfl
theorem q1914 : (Jvm.Cond.instanceMethod ({ cls := "HatsDecideModel", name := "gust", desc := "(I)I" } : Jvm.MethodName)) ∈ lw_all := lw_g (lw_at lw_m8 139 rfl) rfl
theorem q1915 : (Jvm.Cond.selects "HatsDecideModel" ({ cls := "HatsDecideModel", name := "gust", desc := "(I)I" } : Jvm.MethodName) ({ cls := "HatsDecideModel", name := "gust", desc := "(I)I" } : Jvm.MethodName)) ∈ lw_all := lw_g (lw_at lw_m8 140 rfl) rfl
theorem q1916 : (Jvm.Cond.code ({ cls := "HatsDecideModel", name := "gust", desc := "(I)I" } : Jvm.MethodName) prog_23_method_48_code (2 : Nat) (Option.some Jvm.ClassFile.FieldType.int)) ∈ lw_all := lw_g (lw_at lw_m8 141 rfl) rfl
theorem q1917 : (Jvm.Cond.methodLink "HatsDecideModel" (354 : Nat) ({ cls := "HatsDecideModel", name := "goGust", desc := "(I)I" } : Jvm.MethodName)) ∈ lw_all := lw_g (lw_at lw_m8 142 rfl) rfl
theorem q1918 : (Jvm.Cond.privateMethod ({ cls := "HatsDecideModel", name := "goGust", desc := "(I)I" } : Jvm.MethodName)) ∈ lw_tbl := lw_at lw_m8 143 rfl
theorem q1919 : (Jvm.Cond.instanceMethod ({ cls := "HatsDecideModel", name := "goGust", desc := "(I)I" } : Jvm.MethodName)) ∈ lw_all := lw_g (lw_at lw_m8 144 rfl) rfl
theorem q1920 : (Jvm.Cond.code ({ cls := "HatsDecideModel", name := "goGust", desc := "(I)I" } : Jvm.MethodName) prog_23_method_47_code (4 : Nat) (Option.some Jvm.ClassFile.FieldType.int)) ∈ lw_all := lw_g (lw_at lw_m8 145 rfl) rfl
theorem q1922 : (Jvm.Cond.instanceMethod ({ cls := "HatsDecideModel", name := "change", desc := "(II)I" } : Jvm.MethodName)) ∈ lw_all := lw_g (lw_at lw_m8 147 rfl) rfl
theorem q1923 : (Jvm.Cond.selects "HatsDecideModel" ({ cls := "HatsDecideModel", name := "change", desc := "(II)I" } : Jvm.MethodName) ({ cls := "HatsDecideModel", name := "change", desc := "(II)I" } : Jvm.MethodName)) ∈ lw_all := lw_g (lw_at lw_m8 148 rfl) rfl
theorem q1924 : (Jvm.Cond.code ({ cls := "HatsDecideModel", name := "change", desc := "(II)I" } : Jvm.MethodName) prog_23_method_50_code (3 : Nat) (Option.some Jvm.ClassFile.FieldType.int)) ∈ lw_all := lw_g (lw_at lw_m8 149 rfl) rfl
theorem q1925 : (Jvm.Cond.methodLink "HatsDecideModel" (357 : Nat) ({ cls := "HatsDecideModel", name := "swaps", desc := "(II)V" } : Jvm.MethodName)) ∈ lw_all := lw_g (lw_at lw_m8 150 rfl) rfl
theorem q1926 : (Jvm.Cond.privateMethod ({ cls := "HatsDecideModel", name := "swaps", desc := "(II)V" } : Jvm.MethodName)) ∈ lw_tbl := lw_at lw_m8 151 rfl
theorem q1927 : (Jvm.Cond.instanceMethod ({ cls := "HatsDecideModel", name := "swaps", desc := "(II)V" } : Jvm.MethodName)) ∈ lw_all := lw_g (lw_at lw_m8 152 rfl) rfl
theorem q1928 : (Jvm.Cond.code ({ cls := "HatsDecideModel", name := "swaps", desc := "(II)V" } : Jvm.MethodName) prog_23_method_49_code (4 : Nat) (Option.none : Option Jvm.ClassFile.FieldType)) ∈ lw_all := lw_g (lw_at lw_m8 153 rfl) rfl
theorem q1930 : (Jvm.Cond.instanceMethod ({ cls := "HatsDecideModel", name := "today", desc := "(I)I" } : Jvm.MethodName)) ∈ lw_all := lw_g (lw_at lw_m8 155 rfl) rfl
theorem q1931 : (Jvm.Cond.selects "HatsDecideModel" ({ cls := "HatsDecideModel", name := "today", desc := "(I)I" } : Jvm.MethodName) ({ cls := "HatsDecideModel", name := "today", desc := "(I)I" } : Jvm.MethodName)) ∈ lw_all := lw_g (lw_at lw_m8 156 rfl) rfl
theorem q1932 : (Jvm.Cond.code ({ cls := "HatsDecideModel", name := "today", desc := "(I)I" } : Jvm.MethodName) prog_23_method_51_code (2 : Nat) (Option.some Jvm.ClassFile.FieldType.int)) ∈ lw_all := lw_g (lw_at lw_m8 157 rfl) rfl
theorem q1934 : (Jvm.Cond.instanceMethod ({ cls := "HatsDecideModel", name := "enough", desc := "()I" } : Jvm.MethodName)) ∈ lw_all := lw_g (lw_at lw_m8 159 rfl) rfl
theorem q1935 : (Jvm.Cond.selects "HatsDecideModel" ({ cls := "HatsDecideModel", name := "enough", desc := "()I" } : Jvm.MethodName) ({ cls := "HatsDecideModel", name := "enough", desc := "()I" } : Jvm.MethodName)) ∈ lw_all := lw_g (lw_at lw_m8 160 rfl) rfl
theorem q1936 : (Jvm.Cond.code ({ cls := "HatsDecideModel", name := "enough", desc := "()I" } : Jvm.MethodName) prog_23_method_52_code (3 : Nat) (Option.some Jvm.ClassFile.FieldType.int)) ∈ lw_all := lw_g (lw_at lw_m8 161 rfl) rfl
theorem q1938 : (Jvm.Cond.instanceMethod ({ cls := "HatsDecideModel", name := "best", desc := "(I)I" } : Jvm.MethodName)) ∈ lw_all := lw_g (lw_at lw_m8 163 rfl) rfl
theorem q1939 : (Jvm.Cond.selects "HatsDecideModel" ({ cls := "HatsDecideModel", name := "best", desc := "(I)I" } : Jvm.MethodName) ({ cls := "HatsDecideModel", name := "best", desc := "(I)I" } : Jvm.MethodName)) ∈ lw_all := lw_g (lw_at lw_m8 164 rfl) rfl
theorem q1940 : (Jvm.Cond.code ({ cls := "HatsDecideModel", name := "best", desc := "(I)I" } : Jvm.MethodName) prog_23_method_53_code (6 : Nat) (Option.some Jvm.ClassFile.FieldType.int)) ∈ lw_all := lw_g (lw_at lw_m8 165 rfl) rfl
theorem q1942 : (Jvm.Cond.instanceMethod ({ cls := "HatsDecideModel", name := "on", desc := "(II)I" } : Jvm.MethodName)) ∈ lw_all := lw_g (lw_at lw_m8 167 rfl) rfl
theorem q1943 : (Jvm.Cond.selects "HatsDecideModel" ({ cls := "HatsDecideModel", name := "on", desc := "(II)I" } : Jvm.MethodName) ({ cls := "HatsDecideModel", name := "on", desc := "(II)I" } : Jvm.MethodName)) ∈ lw_all := lw_g (lw_at lw_m8 168 rfl) rfl
theorem q1944 : (Jvm.Cond.code ({ cls := "HatsDecideModel", name := "on", desc := "(II)I" } : Jvm.MethodName) prog_23_method_56_code (5 : Nat) (Option.some Jvm.ClassFile.FieldType.int)) ∈ lw_all := lw_g (lw_at lw_m8 169 rfl) rfl
theorem q1945 : (Jvm.Cond.methodLink "HatsDecideModel" (362 : Nat) ({ cls := "HatsDecideModel", name := "save", desc := "()V" } : Jvm.MethodName)) ∈ lw_all := lw_g (lw_at lw_m8 170 rfl) rfl
theorem q1946 : (Jvm.Cond.privateMethod ({ cls := "HatsDecideModel", name := "save", desc := "()V" } : Jvm.MethodName)) ∈ lw_tbl := lw_at lw_m8 171 rfl
theorem q1947 : (Jvm.Cond.instanceMethod ({ cls := "HatsDecideModel", name := "save", desc := "()V" } : Jvm.MethodName)) ∈ lw_all := lw_g (lw_at lw_m8 172 rfl) rfl
theorem q1948 : (Jvm.Cond.code ({ cls := "HatsDecideModel", name := "save", desc := "()V" } : Jvm.MethodName) prog_23_method_54_code (2 : Nat) (Option.none : Option Jvm.ClassFile.FieldType)) ∈ lw_all := lw_g (lw_at lw_m8 173 rfl) rfl
theorem q1949 : (Jvm.Cond.constant "HatsDecideModel" (361 : Nat) (2000000000 : Int32)) ∈ lw_all := lw_g (lw_at lw_m8 174 rfl) rfl
theorem q1950 : (Jvm.Cond.methodLink "HatsDecideModel" (365 : Nat) ({ cls := "HatsDecideModel", name := "putBack", desc := "()V" } : Jvm.MethodName)) ∈ lw_all := lw_g (lw_at lw_m8 175 rfl) rfl
theorem q1951 : (Jvm.Cond.privateMethod ({ cls := "HatsDecideModel", name := "putBack", desc := "()V" } : Jvm.MethodName)) ∈ lw_tbl := lw_at lw_m8 176 rfl
theorem q1952 : (Jvm.Cond.instanceMethod ({ cls := "HatsDecideModel", name := "putBack", desc := "()V" } : Jvm.MethodName)) ∈ lw_all := lw_g (lw_at lw_m8 177 rfl) rfl
theorem q1953 : (Jvm.Cond.code ({ cls := "HatsDecideModel", name := "putBack", desc := "()V" } : Jvm.MethodName) prog_23_method_55_code (2 : Nat) (Option.none : Option Jvm.ClassFile.FieldType)) ∈ lw_all := lw_g (lw_at lw_m8 178 rfl) rfl
theorem q1955 : (Jvm.Cond.instanceMethod ({ cls := "HatsDecideModel", name := "lasts", desc := "(I)I" } : Jvm.MethodName)) ∈ lw_all := lw_g (lw_at lw_m8 180 rfl) rfl
theorem q1956 : (Jvm.Cond.selects "HatsDecideModel" ({ cls := "HatsDecideModel", name := "lasts", desc := "(I)I" } : Jvm.MethodName) ({ cls := "HatsDecideModel", name := "lasts", desc := "(I)I" } : Jvm.MethodName)) ∈ lw_all := lw_g (lw_at lw_m8 181 rfl) rfl
theorem q1957 : (Jvm.Cond.code ({ cls := "HatsDecideModel", name := "lasts", desc := "(I)I" } : Jvm.MethodName) prog_23_method_57_code (3 : Nat) (Option.some Jvm.ClassFile.FieldType.int)) ∈ lw_all := lw_g (lw_at lw_m8 182 rfl) rfl
theorem q1959 : (Jvm.Cond.instanceMethod ({ cls := "HatsDecideModel", name := "by", desc := "(I)I" } : Jvm.MethodName)) ∈ lw_all := lw_g (lw_at lw_m8 184 rfl) rfl
theorem q1960 : (Jvm.Cond.selects "HatsDecideModel" ({ cls := "HatsDecideModel", name := "by", desc := "(I)I" } : Jvm.MethodName) ({ cls := "HatsDecideModel", name := "by", desc := "(I)I" } : Jvm.MethodName)) ∈ lw_all := lw_g (lw_at lw_m8 185 rfl) rfl
theorem q1961 : (Jvm.Cond.code ({ cls := "HatsDecideModel", name := "by", desc := "(I)I" } : Jvm.MethodName) prog_23_method_62_code (2 : Nat) (Option.some Jvm.ClassFile.FieldType.int)) ∈ lw_all := lw_g (lw_at lw_m8 186 rfl) rfl
theorem q1962 : (Jvm.Cond.methodLink "HatsDecideModel" (380 : Nat) ({ cls := "HatsDecideModel", name := "layBest", desc := "()V" } : Jvm.MethodName)) ∈ lw_all := lw_g (lw_at lw_m8 187 rfl) rfl
theorem q1963 : (Jvm.Cond.privateMethod ({ cls := "HatsDecideModel", name := "layBest", desc := "()V" } : Jvm.MethodName)) ∈ lw_tbl := lw_at lw_m8 188 rfl
theorem q1964 : (Jvm.Cond.instanceMethod ({ cls := "HatsDecideModel", name := "layBest", desc := "()V" } : Jvm.MethodName)) ∈ lw_all := lw_g (lw_at lw_m8 189 rfl) rfl
theorem q1965 : (Jvm.Cond.code ({ cls := "HatsDecideModel", name := "layBest", desc := "()V" } : Jvm.MethodName) prog_23_method_61_code (6 : Nat) (Option.none : Option Jvm.ClassFile.FieldType)) ∈ lw_all := lw_g (lw_at lw_m8 190 rfl) rfl
theorem q1966 : (Jvm.Cond.methodLink "HatsDecideModel" (371 : Nat) ({ cls := "HatsDecideModel", name := "layDeeds", desc := "()V" } : Jvm.MethodName)) ∈ lw_all := lw_g (lw_at lw_m8 191 rfl) rfl
theorem q1967 : (Jvm.Cond.privateMethod ({ cls := "HatsDecideModel", name := "layDeeds", desc := "()V" } : Jvm.MethodName)) ∈ lw_tbl := lw_at lw_m8 192 rfl
theorem q1968 : (Jvm.Cond.instanceMethod ({ cls := "HatsDecideModel", name := "layDeeds", desc := "()V" } : Jvm.MethodName)) ∈ lw_all := lw_g (lw_at lw_m8 193 rfl) rfl
theorem q1969 : (Jvm.Cond.code ({ cls := "HatsDecideModel", name := "layDeeds", desc := "()V" } : Jvm.MethodName) prog_23_method_58_code (3 : Nat) (Option.none : Option Jvm.ClassFile.FieldType)) ∈ lw_all := lw_g (lw_at lw_m8 194 rfl) rfl
theorem q1970 : (Jvm.Cond.methodLink "HatsDecideModel" (374 : Nat) ({ cls := "HatsDecideModel", name := "ones", desc := "(I)I" } : Jvm.MethodName)) ∈ lw_all := lw_g (lw_at lw_m8 195 rfl) rfl
theorem q1971 : (Jvm.Cond.privateMethod ({ cls := "HatsDecideModel", name := "ones", desc := "(I)I" } : Jvm.MethodName)) ∈ lw_tbl := lw_at lw_m8 196 rfl
theorem q1972 : (Jvm.Cond.instanceMethod ({ cls := "HatsDecideModel", name := "ones", desc := "(I)I" } : Jvm.MethodName)) ∈ lw_all := lw_g (lw_at lw_m8 197 rfl) rfl
theorem q1973 : (Jvm.Cond.code ({ cls := "HatsDecideModel", name := "ones", desc := "(I)I" } : Jvm.MethodName) prog_23_method_59_code (4 : Nat) (Option.some Jvm.ClassFile.FieldType.int)) ∈ lw_all := lw_g (lw_at lw_m8 198 rfl) rfl
theorem q1974 : (Jvm.Cond.methodLink "HatsDecideModel" (377 : Nat) ({ cls := "HatsDecideModel", name := "onwardBy", desc := "(III)I" } : Jvm.MethodName)) ∈ lw_all := lw_g (lw_at lw_m8 199 rfl) rfl
theorem q1975 : (Jvm.Cond.privateMethod ({ cls := "HatsDecideModel", name := "onwardBy", desc := "(III)I" } : Jvm.MethodName)) ∈ lw_tbl := lw_at lw_m8 200 rfl
theorem q1976 : (Jvm.Cond.instanceMethod ({ cls := "HatsDecideModel", name := "onwardBy", desc := "(III)I" } : Jvm.MethodName)) ∈ lw_all := lw_g (lw_at lw_m8 201 rfl) rfl
theorem q1977 : (Jvm.Cond.code ({ cls := "HatsDecideModel", name := "onwardBy", desc := "(III)I" } : Jvm.MethodName) prog_23_method_60_code (5 : Nat) (Option.some Jvm.ClassFile.FieldType.int)) ∈ lw_all := lw_g (lw_at lw_m8 202 rfl) rfl
theorem q1978 : (Jvm.Cond.methodLink "HatsDecideModel" (368 : Nat) ({ cls := "HatsDecideModel", name := "has", desc := "(II)Z" } : Jvm.MethodName)) ∈ lw_all := lw_g (lw_at lw_m8 203 rfl) rfl
theorem q1979 : (Jvm.Cond.privateMethod ({ cls := "HatsDecideModel", name := "has", desc := "(II)Z" } : Jvm.MethodName)) ∈ lw_tbl := lw_at lw_m8 204 rfl
theorem q1980 : (Jvm.Cond.instanceMethod ({ cls := "HatsDecideModel", name := "has", desc := "(II)Z" } : Jvm.MethodName)) ∈ lw_all := lw_g (lw_at lw_m8 205 rfl) rfl
theorem q1981 : (Jvm.Cond.code ({ cls := "HatsDecideModel", name := "has", desc := "(II)Z" } : Jvm.MethodName) prog_23_method_3_code (3 : Nat) (Option.some Jvm.ClassFile.FieldType.boolean)) ∈ lw_all := lw_g (lw_at lw_m8 206 rfl) rfl
theorem q1983 : (Jvm.Cond.instanceMethod ({ cls := "HatsDecideModel", name := "can", desc := "()I" } : Jvm.MethodName)) ∈ lw_all := lw_g (lw_at lw_m8 208 rfl) rfl
theorem q1984 : (Jvm.Cond.selects "HatsDecideModel" ({ cls := "HatsDecideModel", name := "can", desc := "()I" } : Jvm.MethodName) ({ cls := "HatsDecideModel", name := "can", desc := "()I" } : Jvm.MethodName)) ∈ lw_all := lw_g (lw_at lw_m8 209 rfl) rfl
theorem q1985 : (Jvm.Cond.code ({ cls := "HatsDecideModel", name := "can", desc := "()I" } : Jvm.MethodName) prog_23_method_64_code (3 : Nat) (Option.some Jvm.ClassFile.FieldType.int)) ∈ lw_all := lw_g (lw_at lw_m8 210 rfl) rfl
theorem q1986 : (Jvm.Cond.methodLink "HatsDecideModel" (383 : Nat) ({ cls := "HatsDecideModel", name := "mostOf", desc := "(I)I" } : Jvm.MethodName)) ∈ lw_all := lw_g (lw_at lw_m8 211 rfl) rfl
theorem q1987 : (Jvm.Cond.privateMethod ({ cls := "HatsDecideModel", name := "mostOf", desc := "(I)I" } : Jvm.MethodName)) ∈ lw_tbl := lw_at lw_m8 212 rfl
theorem q1988 : (Jvm.Cond.instanceMethod ({ cls := "HatsDecideModel", name := "mostOf", desc := "(I)I" } : Jvm.MethodName)) ∈ lw_all := lw_g (lw_at lw_m8 213 rfl) rfl
theorem q1989 : (Jvm.Cond.code ({ cls := "HatsDecideModel", name := "mostOf", desc := "(I)I" } : Jvm.MethodName) prog_23_method_63_code (6 : Nat) (Option.some Jvm.ClassFile.FieldType.int)) ∈ lw_all := lw_g (lw_at lw_m8 214 rfl) rfl
theorem q1991 : (Jvm.Cond.instanceMethod ({ cls := "HatsDecideModel", name := "back", desc := "()I" } : Jvm.MethodName)) ∈ lw_all := lw_g (lw_at lw_m8 216 rfl) rfl
theorem q1992 : (Jvm.Cond.selects "HatsDecideModel" ({ cls := "HatsDecideModel", name := "back", desc := "()I" } : Jvm.MethodName) ({ cls := "HatsDecideModel", name := "back", desc := "()I" } : Jvm.MethodName)) ∈ lw_all := lw_g (lw_at lw_m8 217 rfl) rfl
theorem q1993 : (Jvm.Cond.code ({ cls := "HatsDecideModel", name := "back", desc := "()I" } : Jvm.MethodName) prog_23_method_68_code (3 : Nat) (Option.some Jvm.ClassFile.FieldType.int)) ∈ lw_all := lw_g (lw_at lw_m8 218 rfl) rfl
theorem q1994 : (Jvm.Cond.methodLink "HatsDecideModel" (389 : Nat) ({ cls := "HatsDecideModel", name := "isClash", desc := "()Z" } : Jvm.MethodName)) ∈ lw_all := lw_g (lw_at lw_m8 219 rfl) rfl
theorem q1995 : (Jvm.Cond.privateMethod ({ cls := "HatsDecideModel", name := "isClash", desc := "()Z" } : Jvm.MethodName)) ∈ lw_tbl := lw_at lw_m8 220 rfl
theorem q1996 : (Jvm.Cond.instanceMethod ({ cls := "HatsDecideModel", name := "isClash", desc := "()Z" } : Jvm.MethodName)) ∈ lw_all := lw_g (lw_at lw_m8 221 rfl) rfl
theorem q1997 : (Jvm.Cond.code ({ cls := "HatsDecideModel", name := "isClash", desc := "()Z" } : Jvm.MethodName) prog_23_method_65_code (3 : Nat) (Option.some Jvm.ClassFile.FieldType.boolean)) ∈ lw_all := lw_g (lw_at lw_m8 222 rfl) rfl
theorem q1998 : (Jvm.Cond.methodLink "HatsDecideModel" (386 : Nat) ({ cls := "HatsDecideModel", name := "dueFor", desc := "(I)I" } : Jvm.MethodName)) ∈ lw_all := lw_g (lw_at lw_m8 223 rfl) rfl
theorem q1999 : (Jvm.Cond.privateMethod ({ cls := "HatsDecideModel", name := "dueFor", desc := "(I)I" } : Jvm.MethodName)) ∈ lw_tbl := lw_at lw_m8 224 rfl
theorem q2000 : (Jvm.Cond.instanceMethod ({ cls := "HatsDecideModel", name := "dueFor", desc := "(I)I" } : Jvm.MethodName)) ∈ lw_all := lw_g (lw_at lw_m8 225 rfl) rfl
theorem q2001 : (Jvm.Cond.code ({ cls := "HatsDecideModel", name := "dueFor", desc := "(I)I" } : Jvm.MethodName) prog_23_method_66_code (3 : Nat) (Option.some Jvm.ClassFile.FieldType.int)) ∈ lw_all := lw_g (lw_at lw_m8 226 rfl) rfl
theorem q2002 : (Jvm.Cond.methodLink "HatsDecideModel" (392 : Nat) ({ cls := "HatsDecideModel", name := "isRing", desc := "(I)Z" } : Jvm.MethodName)) ∈ lw_all := lw_g (lw_at lw_m8 227 rfl) rfl
theorem q2003 : (Jvm.Cond.privateMethod ({ cls := "HatsDecideModel", name := "isRing", desc := "(I)Z" } : Jvm.MethodName)) ∈ lw_tbl := lw_at lw_m8 228 rfl
theorem q2004 : (Jvm.Cond.instanceMethod ({ cls := "HatsDecideModel", name := "isRing", desc := "(I)Z" } : Jvm.MethodName)) ∈ lw_all := lw_g (lw_at lw_m8 229 rfl) rfl
theorem q2005 : (Jvm.Cond.code ({ cls := "HatsDecideModel", name := "isRing", desc := "(I)Z" } : Jvm.MethodName) prog_23_method_67_code (3 : Nat) (Option.some Jvm.ClassFile.FieldType.boolean)) ∈ lw_all := lw_g (lw_at lw_m8 230 rfl) rfl
theorem q2007 : (Jvm.Cond.instanceMethod ({ cls := "HatsDecideModel", name := "gusted", desc := "(I)I" } : Jvm.MethodName)) ∈ lw_all := lw_g (lw_at lw_m8 232 rfl) rfl
theorem q2008 : (Jvm.Cond.selects "HatsDecideModel" ({ cls := "HatsDecideModel", name := "gusted", desc := "(I)I" } : Jvm.MethodName) ({ cls := "HatsDecideModel", name := "gusted", desc := "(I)I" } : Jvm.MethodName)) ∈ lw_all := lw_g (lw_at lw_m8 233 rfl) rfl
theorem q2009 : (Jvm.Cond.code ({ cls := "HatsDecideModel", name := "gusted", desc := "(I)I" } : Jvm.MethodName) prog_23_method_70_code (2 : Nat) (Option.some Jvm.ClassFile.FieldType.int)) ∈ lw_all := lw_g (lw_at lw_m8 234 rfl) rfl
theorem q2010 : (Jvm.Cond.methodLink "HatsDecideModel" (395 : Nat) ({ cls := "HatsDecideModel", name := "gustedBy", desc := "(I)I" } : Jvm.MethodName)) ∈ lw_all := lw_g (lw_at lw_m8 235 rfl) rfl
theorem q2011 : (Jvm.Cond.privateMethod ({ cls := "HatsDecideModel", name := "gustedBy", desc := "(I)I" } : Jvm.MethodName)) ∈ lw_tbl := lw_at lw_m8 236 rfl
theorem q2012 : (Jvm.Cond.instanceMethod ({ cls := "HatsDecideModel", name := "gustedBy", desc := "(I)I" } : Jvm.MethodName)) ∈ lw_all := lw_g (lw_at lw_m8 237 rfl) rfl
theorem q2013 : (Jvm.Cond.code ({ cls := "HatsDecideModel", name := "gustedBy", desc := "(I)I" } : Jvm.MethodName) prog_23_method_69_code (4 : Nat) (Option.some Jvm.ClassFile.FieldType.int)) ∈ lw_all := lw_g (lw_at lw_m8 238 rfl) rfl
theorem q2015 : (Jvm.Cond.instanceMethod ({ cls := "HatsDecideModel", name := "lucky", desc := "()I" } : Jvm.MethodName)) ∈ lw_all := lw_g (lw_at lw_m9 0 rfl) rfl
theorem q2016 : (Jvm.Cond.selects "HatsDecideModel" ({ cls := "HatsDecideModel", name := "lucky", desc := "()I" } : Jvm.MethodName) ({ cls := "HatsDecideModel", name := "lucky", desc := "()I" } : Jvm.MethodName)) ∈ lw_all := lw_g (lw_at lw_m9 1 rfl) rfl
theorem q2017 : (Jvm.Cond.code ({ cls := "HatsDecideModel", name := "lucky", desc := "()I" } : Jvm.MethodName) prog_23_method_71_code (5 : Nat) (Option.some Jvm.ClassFile.FieldType.int)) ∈ lw_all := lw_g (lw_at lw_m9 2 rfl) rfl
theorem q2019 : (Jvm.Cond.instanceMethod ({ cls := "HatsDecideModel", name := "swap", desc := "()I" } : Jvm.MethodName)) ∈ lw_all := lw_g (lw_at lw_m9 4 rfl) rfl
theorem q2020 : (Jvm.Cond.selects "HatsDecideModel" ({ cls := "HatsDecideModel", name := "swap", desc := "()I" } : Jvm.MethodName) ({ cls := "HatsDecideModel", name := "swap", desc := "()I" } : Jvm.MethodName)) ∈ lw_all := lw_g (lw_at lw_m9 5 rfl) rfl
theorem q2021 : (Jvm.Cond.code ({ cls := "HatsDecideModel", name := "swap", desc := "()I" } : Jvm.MethodName) prog_23_method_72_code (6 : Nat) (Option.some Jvm.ClassFile.FieldType.int)) ∈ lw_all := lw_g (lw_at lw_m9 6 rfl) rfl
theorem q2023 : (Jvm.Cond.instanceMethod ({ cls := "HatsDecideModel", name := "quarrel", desc := "(III)I" } : Jvm.MethodName)) ∈ lw_all := lw_g (lw_at lw_m9 8 rfl) rfl
theorem q2024 : (Jvm.Cond.selects "HatsDecideModel" ({ cls := "HatsDecideModel", name := "quarrel", desc := "(III)I" } : Jvm.MethodName) ({ cls := "HatsDecideModel", name := "quarrel", desc := "(III)I" } : Jvm.MethodName)) ∈ lw_all := lw_g (lw_at lw_m9 9 rfl) rfl
theorem q2025 : (Jvm.Cond.code ({ cls := "HatsDecideModel", name := "quarrel", desc := "(III)I" } : Jvm.MethodName) prog_23_method_73_code (4 : Nat) (Option.some Jvm.ClassFile.FieldType.int)) ∈ lw_all := lw_g (lw_at lw_m9 10 rfl) rfl
theorem q2027 : (Jvm.Cond.instanceMethod ({ cls := "HatsDecideModel", name := "how", desc := "(I)I" } : Jvm.MethodName)) ∈ lw_all := lw_g (lw_at lw_m9 12 rfl) rfl
theorem q2028 : (Jvm.Cond.selects "HatsDecideModel" ({ cls := "HatsDecideModel", name := "how", desc := "(I)I" } : Jvm.MethodName) ({ cls := "HatsDecideModel", name := "how", desc := "(I)I" } : Jvm.MethodName)) ∈ lw_all := lw_g (lw_at lw_m9 13 rfl) rfl
theorem q2029 : (Jvm.Cond.code ({ cls := "HatsDecideModel", name := "how", desc := "(I)I" } : Jvm.MethodName) prog_23_method_74_code (5 : Nat) (Option.some Jvm.ClassFile.FieldType.int)) ∈ lw_all := lw_g (lw_at lw_m9 14 rfl) rfl
theorem q2031 : (Jvm.Cond.instanceMethod ({ cls := "HatsDecideModel", name := "see", desc := "(II)I" } : Jvm.MethodName)) ∈ lw_all := lw_g (lw_at lw_m9 16 rfl) rfl
theorem q2032 : (Jvm.Cond.selects "HatsDecideModel" ({ cls := "HatsDecideModel", name := "see", desc := "(II)I" } : Jvm.MethodName) ({ cls := "HatsDecideModel", name := "see", desc := "(II)I" } : Jvm.MethodName)) ∈ lw_all := lw_g (lw_at lw_m9 17 rfl) rfl
theorem q2033 : (Jvm.Cond.code ({ cls := "HatsDecideModel", name := "see", desc := "(II)I" } : Jvm.MethodName) prog_23_method_75_code (3 : Nat) (Option.some Jvm.ClassFile.FieldType.int)) ∈ lw_all := lw_g (lw_at lw_m9 18 rfl) rfl
theorem q2035 : (Jvm.Cond.instanceMethod ({ cls := "HatsDecideModel", name := "wore", desc := "(I)I" } : Jvm.MethodName)) ∈ lw_all := lw_g (lw_at lw_m9 20 rfl) rfl
theorem q2036 : (Jvm.Cond.selects "HatsDecideModel" ({ cls := "HatsDecideModel", name := "wore", desc := "(I)I" } : Jvm.MethodName) ({ cls := "HatsDecideModel", name := "wore", desc := "(I)I" } : Jvm.MethodName)) ∈ lw_all := lw_g (lw_at lw_m9 21 rfl) rfl
theorem q2037 : (Jvm.Cond.code ({ cls := "HatsDecideModel", name := "wore", desc := "(I)I" } : Jvm.MethodName) prog_23_method_77_code (2 : Nat) (Option.some Jvm.ClassFile.FieldType.int)) ∈ lw_all := lw_g (lw_at lw_m9 22 rfl) rfl
theorem q2038 : (Jvm.Cond.methodLink "HatsDecideModel" (398 : Nat) ({ cls := "HatsDecideModel", name := "woreOn", desc := "(I)I" } : Jvm.MethodName)) ∈ lw_all := lw_g (lw_at lw_m9 23 rfl) rfl
theorem q2039 : (Jvm.Cond.privateMethod ({ cls := "HatsDecideModel", name := "woreOn", desc := "(I)I" } : Jvm.MethodName)) ∈ lw_tbl := lw_at lw_m9 24 rfl
theorem q2040 : (Jvm.Cond.instanceMethod ({ cls := "HatsDecideModel", name := "woreOn", desc := "(I)I" } : Jvm.MethodName)) ∈ lw_all := lw_g (lw_at lw_m9 25 rfl) rfl
theorem q2041 : (Jvm.Cond.code ({ cls := "HatsDecideModel", name := "woreOn", desc := "(I)I" } : Jvm.MethodName) prog_23_method_76_code (7 : Nat) (Option.some Jvm.ClassFile.FieldType.int)) ∈ lw_all := lw_g (lw_at lw_m9 26 rfl) rfl
theorem q2043 : (Jvm.Cond.instanceMethod ({ cls := "HatsDecideModel", name := "who", desc := "()I" } : Jvm.MethodName)) ∈ lw_all := lw_g (lw_at lw_m9 28 rfl) rfl
theorem q2044 : (Jvm.Cond.selects "HatsDecideModel" ({ cls := "HatsDecideModel", name := "who", desc := "()I" } : Jvm.MethodName) ({ cls := "HatsDecideModel", name := "who", desc := "()I" } : Jvm.MethodName)) ∈ lw_all := lw_g (lw_at lw_m9 29 rfl) rfl
theorem q2045 : (Jvm.Cond.code ({ cls := "HatsDecideModel", name := "who", desc := "()I" } : Jvm.MethodName) prog_23_method_78_code (7 : Nat) (Option.some Jvm.ClassFile.FieldType.int)) ∈ lw_all := lw_g (lw_at lw_m9 30 rfl) rfl
theorem q2047 : (Jvm.Cond.instanceMethod ({ cls := "HatsDecideModel", name := "odds", desc := "(II)J" } : Jvm.MethodName)) ∈ lw_all := lw_g (lw_at lw_m9 32 rfl) rfl
theorem q2048 : (Jvm.Cond.selects "HatsDecideModel" ({ cls := "HatsDecideModel", name := "odds", desc := "(II)J" } : Jvm.MethodName) ({ cls := "HatsDecideModel", name := "odds", desc := "(II)J" } : Jvm.MethodName)) ∈ lw_all := lw_g (lw_at lw_m9 33 rfl) rfl
theorem q2049 : (Jvm.Cond.code ({ cls := "HatsDecideModel", name := "odds", desc := "(II)J" } : Jvm.MethodName) prog_23_method_81_code (6 : Nat) (Option.some Jvm.ClassFile.FieldType.long)) ∈ lw_all := lw_g (lw_at lw_m9 34 rfl) rfl
theorem q2050 : (Jvm.Cond.constantLong "HatsDecideModel" (404 : Nat) (-9223372036854775808 : Int64)) ∈ lw_all := lw_g (lw_at lw_m9 35 rfl) rfl
theorem q2051 : (Jvm.Cond.methodLink "HatsDecideModel" (406 : Nat) ({ cls := "HatsDecideModel", name := "lowest", desc := "(III)J" } : Jvm.MethodName)) ∈ lw_all := lw_g (lw_at lw_m9 36 rfl) rfl
theorem q2052 : (Jvm.Cond.privateMethod ({ cls := "HatsDecideModel", name := "lowest", desc := "(III)J" } : Jvm.MethodName)) ∈ lw_tbl := lw_at lw_m9 37 rfl
theorem q2053 : (Jvm.Cond.instanceMethod ({ cls := "HatsDecideModel", name := "lowest", desc := "(III)J" } : Jvm.MethodName)) ∈ lw_all := lw_g (lw_at lw_m9 38 rfl) rfl
theorem q2054 : (Jvm.Cond.code ({ cls := "HatsDecideModel", name := "lowest", desc := "(III)J" } : Jvm.MethodName) prog_23_method_80_code (5 : Nat) (Option.some Jvm.ClassFile.FieldType.long)) ∈ lw_all := lw_g (lw_at lw_m9 39 rfl) rfl
theorem q2055 : (Jvm.Cond.methodLink "HatsDecideModel" (401 : Nat) ({ cls := "HatsDecideModel", name := "divisor", desc := "(II)I" } : Jvm.MethodName)) ∈ lw_all := lw_g (lw_at lw_m9 40 rfl) rfl
theorem q2056 : (Jvm.Cond.privateMethod ({ cls := "HatsDecideModel", name := "divisor", desc := "(II)I" } : Jvm.MethodName)) ∈ lw_tbl := lw_at lw_m9 41 rfl
theorem q2057 : (Jvm.Cond.instanceMethod ({ cls := "HatsDecideModel", name := "divisor", desc := "(II)I" } : Jvm.MethodName)) ∈ lw_all := lw_g (lw_at lw_m9 42 rfl) rfl
theorem q2058 : (Jvm.Cond.code ({ cls := "HatsDecideModel", name := "divisor", desc := "(II)I" } : Jvm.MethodName) prog_23_method_79_code (6 : Nat) (Option.some Jvm.ClassFile.FieldType.int)) ∈ lw_all := lw_g (lw_at lw_m9 43 rfl) rfl
theorem q2060 : (Jvm.Cond.instanceMethod ({ cls := "HatsDecideModel", name := "mean", desc := "(II)J" } : Jvm.MethodName)) ∈ lw_all := lw_g (lw_at lw_m9 45 rfl) rfl
theorem q2061 : (Jvm.Cond.selects "HatsDecideModel" ({ cls := "HatsDecideModel", name := "mean", desc := "(II)J" } : Jvm.MethodName) ({ cls := "HatsDecideModel", name := "mean", desc := "(II)J" } : Jvm.MethodName)) ∈ lw_all := lw_g (lw_at lw_m9 46 rfl) rfl
theorem q2062 : (Jvm.Cond.code ({ cls := "HatsDecideModel", name := "mean", desc := "(II)J" } : Jvm.MethodName) prog_23_method_82_code (5 : Nat) (Option.some Jvm.ClassFile.FieldType.long)) ∈ lw_all := lw_g (lw_at lw_m9 47 rfl) rfl
theorem q2064 : (Jvm.Cond.instanceMethod ({ cls := "HatsDecideModel", name := "book", desc := "(II)I" } : Jvm.MethodName)) ∈ lw_all := lw_g (lw_at lw_m9 49 rfl) rfl
theorem q2065 : (Jvm.Cond.selects "HatsDecideModel" ({ cls := "HatsDecideModel", name := "book", desc := "(II)I" } : Jvm.MethodName) ({ cls := "HatsDecideModel", name := "book", desc := "(II)I" } : Jvm.MethodName)) ∈ lw_all := lw_g (lw_at lw_m9 50 rfl) rfl
theorem q2066 : (Jvm.Cond.code ({ cls := "HatsDecideModel", name := "book", desc := "(II)I" } : Jvm.MethodName) prog_23_method_83_code (3 : Nat) (Option.some Jvm.ClassFile.FieldType.int)) ∈ lw_all := lw_g (lw_at lw_m9 51 rfl) rfl
theorem q2068 : (Jvm.Cond.instanceMethod ({ cls := "HatsDecideModel", name := "looked", desc := "()I" } : Jvm.MethodName)) ∈ lw_all := lw_g (lw_at lw_m9 53 rfl) rfl
theorem q2069 : (Jvm.Cond.selects "HatsDecideModel" ({ cls := "HatsDecideModel", name := "looked", desc := "()I" } : Jvm.MethodName) ({ cls := "HatsDecideModel", name := "looked", desc := "()I" } : Jvm.MethodName)) ∈ lw_all := lw_g (lw_at lw_m9 54 rfl) rfl
theorem q2070 : (Jvm.Cond.code ({ cls := "HatsDecideModel", name := "looked", desc := "()I" } : Jvm.MethodName) prog_23_method_84_code (2 : Nat) (Option.some Jvm.ClassFile.FieldType.int)) ∈ lw_all := lw_g (lw_at lw_m9 55 rfl) rfl
theorem q2072 : (Jvm.Cond.instanceMethod ({ cls := "HatsDecideModel", name := "judge", desc := "(II)I" } : Jvm.MethodName)) ∈ lw_all := lw_g (lw_at lw_m9 57 rfl) rfl
theorem q2073 : (Jvm.Cond.selects "HatsDecideModel" ({ cls := "HatsDecideModel", name := "judge", desc := "(II)I" } : Jvm.MethodName) ({ cls := "HatsDecideModel", name := "judge", desc := "(II)I" } : Jvm.MethodName)) ∈ lw_all := lw_g (lw_at lw_m9 58 rfl) rfl
theorem q2074 : (Jvm.Cond.code ({ cls := "HatsDecideModel", name := "judge", desc := "(II)I" } : Jvm.MethodName) prog_23_method_85_code (4 : Nat) (Option.some Jvm.ClassFile.FieldType.int)) ∈ lw_all := lw_g (lw_at lw_m9 59 rfl) rfl
theorem q2075 : (Jvm.Cond.methodLink "HatsDecideModel" (410 : Nat) ({ cls := "HatsDecideModel", name := "isTape", desc := "(I)Z" } : Jvm.MethodName)) ∈ lw_all := lw_g (lw_at lw_m9 60 rfl) rfl
theorem q2076 : (Jvm.Cond.privateMethod ({ cls := "HatsDecideModel", name := "isTape", desc := "(I)Z" } : Jvm.MethodName)) ∈ lw_tbl := lw_at lw_m9 61 rfl
theorem q2077 : (Jvm.Cond.instanceMethod ({ cls := "HatsDecideModel", name := "isTape", desc := "(I)Z" } : Jvm.MethodName)) ∈ lw_all := lw_g (lw_at lw_m9 62 rfl) rfl
theorem q2078 : (Jvm.Cond.code ({ cls := "HatsDecideModel", name := "isTape", desc := "(I)Z" } : Jvm.MethodName) prog_23_method_100_code (2 : Nat) (Option.some Jvm.ClassFile.FieldType.boolean)) ∈ lw_all := lw_g (lw_at lw_m9 63 rfl) rfl
theorem q2080 : (Jvm.Cond.instanceMethod ({ cls := "HatsDecideModel", name := "image", desc := "()I" } : Jvm.MethodName)) ∈ lw_all := lw_g (lw_at lw_m9 65 rfl) rfl
theorem q2081 : (Jvm.Cond.selects "HatsDecideModel" ({ cls := "HatsDecideModel", name := "image", desc := "()I" } : Jvm.MethodName) ({ cls := "HatsDecideModel", name := "image", desc := "()I" } : Jvm.MethodName)) ∈ lw_all := lw_g (lw_at lw_m9 66 rfl) rfl
theorem q2082 : (Jvm.Cond.code ({ cls := "HatsDecideModel", name := "image", desc := "()I" } : Jvm.MethodName) prog_23_method_86_code (2 : Nat) (Option.some Jvm.ClassFile.FieldType.int)) ∈ lw_all := lw_g (lw_at lw_m9 67 rfl) rfl
theorem q2084 : (Jvm.Cond.instanceMethod ({ cls := "HatsDecideModel", name := "undo", desc := "()I" } : Jvm.MethodName)) ∈ lw_all := lw_g (lw_at lw_m9 69 rfl) rfl
theorem q2085 : (Jvm.Cond.selects "HatsDecideModel" ({ cls := "HatsDecideModel", name := "undo", desc := "()I" } : Jvm.MethodName) ({ cls := "HatsDecideModel", name := "undo", desc := "()I" } : Jvm.MethodName)) ∈ lw_all := lw_g (lw_at lw_m9 70 rfl) rfl
theorem q2086 : (Jvm.Cond.code ({ cls := "HatsDecideModel", name := "undo", desc := "()I" } : Jvm.MethodName) prog_23_method_87_code (2 : Nat) (Option.some Jvm.ClassFile.FieldType.int)) ∈ lw_all := lw_g (lw_at lw_m9 71 rfl) rfl
theorem q2088 : (Jvm.Cond.instanceMethod ({ cls := "HatsDecideModel", name := "act", desc := "(III)I" } : Jvm.MethodName)) ∈ lw_all := lw_g (lw_at lw_m9 73 rfl) rfl
theorem q2089 : (Jvm.Cond.selects "HatsDecideModel" ({ cls := "HatsDecideModel", name := "act", desc := "(III)I" } : Jvm.MethodName) ({ cls := "HatsDecideModel", name := "act", desc := "(III)I" } : Jvm.MethodName)) ∈ lw_all := lw_g (lw_at lw_m9 74 rfl) rfl
theorem q2090 : (Jvm.Cond.code ({ cls := "HatsDecideModel", name := "act", desc := "(III)I" } : Jvm.MethodName) prog_23_method_96_code (4 : Nat) (Option.some Jvm.ClassFile.FieldType.int)) ∈ lw_all := lw_g (lw_at lw_m9 75 rfl) rfl
theorem q2091 : (Jvm.Cond.methodLink "HatsDecideModel" (419 : Nat) ({ cls := "HatsDecideModel", name := "sitsAct", desc := "(II)I" } : Jvm.MethodName)) ∈ lw_all := lw_g (lw_at lw_m9 76 rfl) rfl
theorem q2092 : (Jvm.Cond.privateMethod ({ cls := "HatsDecideModel", name := "sitsAct", desc := "(II)I" } : Jvm.MethodName)) ∈ lw_tbl := lw_at lw_m9 77 rfl
theorem q2093 : (Jvm.Cond.instanceMethod ({ cls := "HatsDecideModel", name := "sitsAct", desc := "(II)I" } : Jvm.MethodName)) ∈ lw_all := lw_g (lw_at lw_m9 78 rfl) rfl
theorem q2094 : (Jvm.Cond.code ({ cls := "HatsDecideModel", name := "sitsAct", desc := "(II)I" } : Jvm.MethodName) prog_23_method_90_code (3 : Nat) (Option.some Jvm.ClassFile.FieldType.int)) ∈ lw_all := lw_g (lw_at lw_m9 79 rfl) rfl
theorem q2095 : (Jvm.Cond.methodLink "HatsDecideModel" (413 : Nat) ({ cls := "HatsDecideModel", name := "body", desc := "(I)V" } : Jvm.MethodName)) ∈ lw_all := lw_g (lw_at lw_m9 80 rfl) rfl
theorem q2096 : (Jvm.Cond.privateMethod ({ cls := "HatsDecideModel", name := "body", desc := "(I)V" } : Jvm.MethodName)) ∈ lw_tbl := lw_at lw_m9 81 rfl
theorem q2097 : (Jvm.Cond.instanceMethod ({ cls := "HatsDecideModel", name := "body", desc := "(I)V" } : Jvm.MethodName)) ∈ lw_all := lw_g (lw_at lw_m9 82 rfl) rfl
theorem q2098 : (Jvm.Cond.code ({ cls := "HatsDecideModel", name := "body", desc := "(I)V" } : Jvm.MethodName) prog_23_method_88_code (2 : Nat) (Option.none : Option Jvm.ClassFile.FieldType)) ∈ lw_all := lw_g (lw_at lw_m9 83 rfl) rfl
theorem q2099 : (Jvm.Cond.methodLink "HatsDecideModel" (416 : Nat) ({ cls := "HatsDecideModel", name := "hatSits", desc := "(II)I" } : Jvm.MethodName)) ∈ lw_all := lw_g (lw_at lw_m9 84 rfl) rfl
theorem q2100 : (Jvm.Cond.privateMethod ({ cls := "HatsDecideModel", name := "hatSits", desc := "(II)I" } : Jvm.MethodName)) ∈ lw_tbl := lw_at lw_m9 85 rfl
theorem q2101 : (Jvm.Cond.instanceMethod ({ cls := "HatsDecideModel", name := "hatSits", desc := "(II)I" } : Jvm.MethodName)) ∈ lw_all := lw_g (lw_at lw_m9 86 rfl) rfl
theorem q2102 : (Jvm.Cond.code ({ cls := "HatsDecideModel", name := "hatSits", desc := "(II)I" } : Jvm.MethodName) prog_23_method_89_code (3 : Nat) (Option.some Jvm.ClassFile.FieldType.int)) ∈ lw_all := lw_g (lw_at lw_m9 87 rfl) rfl
theorem q2103 : (Jvm.Cond.methodLink "HatsDecideModel" (428 : Nat) ({ cls := "HatsDecideModel", name := "doesAct", desc := "(II)I" } : Jvm.MethodName)) ∈ lw_all := lw_g (lw_at lw_m9 88 rfl) rfl
theorem q2104 : (Jvm.Cond.privateMethod ({ cls := "HatsDecideModel", name := "doesAct", desc := "(II)I" } : Jvm.MethodName)) ∈ lw_tbl := lw_at lw_m9 89 rfl
theorem q2105 : (Jvm.Cond.instanceMethod ({ cls := "HatsDecideModel", name := "doesAct", desc := "(II)I" } : Jvm.MethodName)) ∈ lw_all := lw_g (lw_at lw_m9 90 rfl) rfl
theorem q2106 : (Jvm.Cond.code ({ cls := "HatsDecideModel", name := "doesAct", desc := "(II)I" } : Jvm.MethodName) prog_23_method_93_code (4 : Nat) (Option.some Jvm.ClassFile.FieldType.int)) ∈ lw_all := lw_g (lw_at lw_m9 91 rfl) rfl
theorem q2107 : (Jvm.Cond.methodLink "HatsDecideModel" (425 : Nat) ({ cls := "HatsDecideModel", name := "tightDoes", desc := "(II)I" } : Jvm.MethodName)) ∈ lw_all := lw_g (lw_at lw_m9 92 rfl) rfl
theorem q2108 : (Jvm.Cond.privateMethod ({ cls := "HatsDecideModel", name := "tightDoes", desc := "(II)I" } : Jvm.MethodName)) ∈ lw_tbl := lw_at lw_m9 93 rfl
theorem q2109 : (Jvm.Cond.instanceMethod ({ cls := "HatsDecideModel", name := "tightDoes", desc := "(II)I" } : Jvm.MethodName)) ∈ lw_all := lw_g (lw_at lw_m9 94 rfl) rfl
theorem q2110 : (Jvm.Cond.code ({ cls := "HatsDecideModel", name := "tightDoes", desc := "(II)I" } : Jvm.MethodName) prog_23_method_92_code (3 : Nat) (Option.some Jvm.ClassFile.FieldType.int)) ∈ lw_all := lw_g (lw_at lw_m9 95 rfl) rfl
theorem q2111 : (Jvm.Cond.methodLink "HatsDecideModel" (422 : Nat) ({ cls := "HatsDecideModel", name := "hatDoes", desc := "(II)I" } : Jvm.MethodName)) ∈ lw_all := lw_g (lw_at lw_m9 96 rfl) rfl
theorem q2112 : (Jvm.Cond.privateMethod ({ cls := "HatsDecideModel", name := "hatDoes", desc := "(II)I" } : Jvm.MethodName)) ∈ lw_tbl := lw_at lw_m9 97 rfl
theorem q2113 : (Jvm.Cond.instanceMethod ({ cls := "HatsDecideModel", name := "hatDoes", desc := "(II)I" } : Jvm.MethodName)) ∈ lw_all := lw_g (lw_at lw_m9 98 rfl) rfl
theorem q2114 : (Jvm.Cond.code ({ cls := "HatsDecideModel", name := "hatDoes", desc := "(II)I" } : Jvm.MethodName) prog_23_method_91_code (3 : Nat) (Option.some Jvm.ClassFile.FieldType.int)) ∈ lw_all := lw_g (lw_at lw_m9 99 rfl) rfl
theorem q2115 : (Jvm.Cond.methodLink "HatsDecideModel" (434 : Nat) ({ cls := "HatsDecideModel", name := "tellsAct", desc := "(II)I" } : Jvm.MethodName)) ∈ lw_all := lw_g (lw_at lw_m9 100 rfl) rfl
theorem q2116 : (Jvm.Cond.privateMethod ({ cls := "HatsDecideModel", name := "tellsAct", desc := "(II)I" } : Jvm.MethodName)) ∈ lw_tbl := lw_at lw_m9 101 rfl
theorem q2117 : (Jvm.Cond.instanceMethod ({ cls := "HatsDecideModel", name := "tellsAct", desc := "(II)I" } : Jvm.MethodName)) ∈ lw_all := lw_g (lw_at lw_m9 102 rfl) rfl
theorem q2118 : (Jvm.Cond.code ({ cls := "HatsDecideModel", name := "tellsAct", desc := "(II)I" } : Jvm.MethodName) prog_23_method_95_code (4 : Nat) (Option.some Jvm.ClassFile.FieldType.int)) ∈ lw_all := lw_g (lw_at lw_m9 103 rfl) rfl
theorem q2119 : (Jvm.Cond.methodLink "HatsDecideModel" (431 : Nat) ({ cls := "HatsDecideModel", name := "hatTells", desc := "(II)I" } : Jvm.MethodName)) ∈ lw_all := lw_g (lw_at lw_m9 104 rfl) rfl
theorem q2120 : (Jvm.Cond.privateMethod ({ cls := "HatsDecideModel", name := "hatTells", desc := "(II)I" } : Jvm.MethodName)) ∈ lw_tbl := lw_at lw_m9 105 rfl
theorem q2121 : (Jvm.Cond.instanceMethod ({ cls := "HatsDecideModel", name := "hatTells", desc := "(II)I" } : Jvm.MethodName)) ∈ lw_all := lw_g (lw_at lw_m9 106 rfl) rfl
theorem q2122 : (Jvm.Cond.code ({ cls := "HatsDecideModel", name := "hatTells", desc := "(II)I" } : Jvm.MethodName) prog_23_method_94_code (3 : Nat) (Option.some Jvm.ClassFile.FieldType.int)) ∈ lw_all := lw_g (lw_at lw_m9 107 rfl) rfl
theorem q2124 : (Jvm.Cond.instanceMethod ({ cls := "HatsDecideModel", name := "trace", desc := "(I)I" } : Jvm.MethodName)) ∈ lw_all := lw_g (lw_at lw_m9 109 rfl) rfl
theorem q2125 : (Jvm.Cond.selects "HatsDecideModel" ({ cls := "HatsDecideModel", name := "trace", desc := "(I)I" } : Jvm.MethodName) ({ cls := "HatsDecideModel", name := "trace", desc := "(I)I" } : Jvm.MethodName)) ∈ lw_all := lw_g (lw_at lw_m9 110 rfl) rfl
theorem q2126 : (Jvm.Cond.code ({ cls := "HatsDecideModel", name := "trace", desc := "(I)I" } : Jvm.MethodName) prog_23_method_97_code (2 : Nat) (Option.some Jvm.ClassFile.FieldType.int)) ∈ lw_all := lw_g (lw_at lw_m9 111 rfl) rfl
theorem q2128 : (Jvm.Cond.instanceMethod ({ cls := "HatsDecideModel", name := "taken", desc := "(II)I" } : Jvm.MethodName)) ∈ lw_all := lw_g (lw_at lw_m9 113 rfl) rfl
theorem q2129 : (Jvm.Cond.selects "HatsDecideModel" ({ cls := "HatsDecideModel", name := "taken", desc := "(II)I" } : Jvm.MethodName) ({ cls := "HatsDecideModel", name := "taken", desc := "(II)I" } : Jvm.MethodName)) ∈ lw_all := lw_g (lw_at lw_m9 114 rfl) rfl
theorem q2130 : (Jvm.Cond.code ({ cls := "HatsDecideModel", name := "taken", desc := "(II)I" } : Jvm.MethodName) prog_23_method_98_code (4 : Nat) (Option.some Jvm.ClassFile.FieldType.int)) ∈ lw_all := lw_g (lw_at lw_m9 115 rfl) rfl
theorem q2132 : (Jvm.Cond.instanceMethod ({ cls := "HatsDecideModel", name := "count", desc := "(I)I" } : Jvm.MethodName)) ∈ lw_all := lw_g (lw_at lw_m9 117 rfl) rfl
theorem q2133 : (Jvm.Cond.selects "HatsDecideModel" ({ cls := "HatsDecideModel", name := "count", desc := "(I)I" } : Jvm.MethodName) ({ cls := "HatsDecideModel", name := "count", desc := "(I)I" } : Jvm.MethodName)) ∈ lw_all := lw_g (lw_at lw_m9 118 rfl) rfl
theorem q2134 : (Jvm.Cond.code ({ cls := "HatsDecideModel", name := "count", desc := "(I)I" } : Jvm.MethodName) prog_23_method_99_code (2 : Nat) (Option.some Jvm.ClassFile.FieldType.int)) ∈ lw_all := lw_g (lw_at lw_m9 119 rfl) rfl
theorem q2136 : (Jvm.Cond.instanceMethod ({ cls := "HatsDecideModel", name := "tape", desc := "(III)I" } : Jvm.MethodName)) ∈ lw_all := lw_g (lw_at lw_m9 121 rfl) rfl
theorem q2137 : (Jvm.Cond.selects "HatsDecideModel" ({ cls := "HatsDecideModel", name := "tape", desc := "(III)I" } : Jvm.MethodName) ({ cls := "HatsDecideModel", name := "tape", desc := "(III)I" } : Jvm.MethodName)) ∈ lw_all := lw_g (lw_at lw_m9 122 rfl) rfl
theorem q2138 : (Jvm.Cond.code ({ cls := "HatsDecideModel", name := "tape", desc := "(III)I" } : Jvm.MethodName) prog_23_method_101_code (5 : Nat) (Option.some Jvm.ClassFile.FieldType.int)) ∈ lw_all := lw_g (lw_at lw_m9 123 rfl) rfl
theorem q2140 : (Jvm.Cond.instanceMethod ({ cls := "HatsDecideModel", name := "item", desc := "(IIJ)I" } : Jvm.MethodName)) ∈ lw_all := lw_g (lw_at lw_m9 125 rfl) rfl
theorem q2141 : (Jvm.Cond.selects "HatsDecideModel" ({ cls := "HatsDecideModel", name := "item", desc := "(IIJ)I" } : Jvm.MethodName) ({ cls := "HatsDecideModel", name := "item", desc := "(IIJ)I" } : Jvm.MethodName)) ∈ lw_all := lw_g (lw_at lw_m9 126 rfl) rfl
theorem q2142 : (Jvm.Cond.code ({ cls := "HatsDecideModel", name := "item", desc := "(IIJ)I" } : Jvm.MethodName) prog_23_method_103_code (5 : Nat) (Option.some Jvm.ClassFile.FieldType.int)) ∈ lw_all := lw_g (lw_at lw_m9 127 rfl) rfl
theorem q2143 : (Jvm.Cond.methodLink "HatsDecideModel" (437 : Nat) ({ cls := "HatsDecideModel", name := "narrow", desc := "(IJ)J" } : Jvm.MethodName)) ∈ lw_all := lw_g (lw_at lw_m9 128 rfl) rfl
theorem q2144 : (Jvm.Cond.privateMethod ({ cls := "HatsDecideModel", name := "narrow", desc := "(IJ)J" } : Jvm.MethodName)) ∈ lw_tbl := lw_at lw_m9 129 rfl
theorem q2145 : (Jvm.Cond.instanceMethod ({ cls := "HatsDecideModel", name := "narrow", desc := "(IJ)J" } : Jvm.MethodName)) ∈ lw_all := lw_g (lw_at lw_m9 130 rfl) rfl
theorem q2146 : (Jvm.Cond.code ({ cls := "HatsDecideModel", name := "narrow", desc := "(IJ)J" } : Jvm.MethodName) prog_23_method_102_code (4 : Nat) (Option.some Jvm.ClassFile.FieldType.long)) ∈ lw_all := lw_g (lw_at lw_m9 131 rfl) rfl
theorem q2148 : (Jvm.Cond.instanceMethod ({ cls := "HatsDecideModel", name := "read", desc := "(II)J" } : Jvm.MethodName)) ∈ lw_all := lw_g (lw_at lw_m9 133 rfl) rfl
theorem q2149 : (Jvm.Cond.selects "HatsDecideModel" ({ cls := "HatsDecideModel", name := "read", desc := "(II)J" } : Jvm.MethodName) ({ cls := "HatsDecideModel", name := "read", desc := "(II)J" } : Jvm.MethodName)) ∈ lw_all := lw_g (lw_at lw_m9 134 rfl) rfl
theorem q2150 : (Jvm.Cond.code ({ cls := "HatsDecideModel", name := "read", desc := "(II)J" } : Jvm.MethodName) prog_23_method_104_code (3 : Nat) (Option.some Jvm.ClassFile.FieldType.long)) ∈ lw_all := lw_g (lw_at lw_m9 135 rfl) rfl
theorem q2152 : (Jvm.Cond.instanceMethod ({ cls := "HatsDecideModel", name := "shift", desc := "(IIIII)I" } : Jvm.MethodName)) ∈ lw_all := lw_g (lw_at lw_m9 137 rfl) rfl
theorem q2153 : (Jvm.Cond.selects "HatsDecideModel" ({ cls := "HatsDecideModel", name := "shift", desc := "(IIIII)I" } : Jvm.MethodName) ({ cls := "HatsDecideModel", name := "shift", desc := "(IIIII)I" } : Jvm.MethodName)) ∈ lw_all := lw_g (lw_at lw_m9 138 rfl) rfl
theorem q2154 : (Jvm.Cond.code ({ cls := "HatsDecideModel", name := "shift", desc := "(IIIII)I" } : Jvm.MethodName) prog_23_method_105_code (7 : Nat) (Option.some Jvm.ClassFile.FieldType.int)) ∈ lw_all := lw_g (lw_at lw_m9 139 rfl) rfl
theorem q2182 : (Jvm.Cond.castable "HatsDecideModel" "java/lang/Object") ∈ lw_tbl := lw_at lw_m9 167 rfl
theorem in_X6 : ∀ w ∈ wsX60, w ∈ lw_all := lw_in wsX60 [1579, 1581, 1583, 1585, 1587, 1589, 1591, 1593, 1595, 1597, 1599, 1601, 1603, 1605, 1607, 1609, 1611, 1613, 1615, 1617, 1619, 1621, 1623, 1625, 1627, 1629, 1631, 1633, 1635, 1637, 1639, 1641, 1643, 1645, 1647, 1649, 1651, 1653, 1655, 1657, 1659, 1661, 1663, 1665, 1667, 1669, 1671, 1673, 1675, 1677, 1679, 1681, 1683, 1685, 1687, 1689, 1691, 1693, 1695, 1697, 1699, 1701, 1703, 1705, 1707, 1709, 1711, 1713, 1715, 1717, 1719, 1721, 1723, 1725, 1727, 1729, 1731, 1733] (by decide +kernel) (by decide +kernel)
