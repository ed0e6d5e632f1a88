/-! HatsDecide -/
set_option maxRecDepth 100000
def RX0 : String := "HatsDecide"
def TX0 : u_T := fun k => match k with
  | 0 => ("HatsDecide", "sizes", "[I", true)
  | 1 => ("HatsDecide", "owns", "[I", true)
  | 2 => ("HatsDecide", "skills", "[I", true)
  | 3 => ("HatsDecide", "hats", "[LHatsDecide$Hat;", true)
  | 4 => ("HatsDecide", "many", "I", false)
  | 5 => ("HatsDecide", "now", "LHatsDecide$Time;", true)
  | 6 => ("HatsDecide", "tried", "LHatsDecide$Time;", true)
  | 7 => ("HatsDecide", "done", "[I", true)
  | 8 => ("HatsDecide", "text", "[B", true)
  | 9 => ("HatsDecide", "texted", "I", false)
  | 10 => ("HatsDecide", "townMany", "I", false)
  | 11 => ("HatsDecide", "town", "LHatsDecide$Town;", false)
  | 12 => ("HatsDecide", "look", "LHatsDecide$Look;", true)
  | 13 => ("HatsDecide", "trace", "LHatsDecide$Trace;", true)
  | 14 => ("HatsDecide", "seenHats", "[I", true)
  | 15 => ("HatsDecide", "seenDeeds", "[I", true)
  | 16 => ("HatsDecide", "bookHats", "[I", true)
  | 17 => ("HatsDecide", "bookHeads", "[I", true)
  | 18 => ("HatsDecide", "seenMany", "I", false)
  | 19 => ("HatsDecide", "bookMany", "I", false)
  | 20 => ("HatsDecide", "tapes", "[LHatsDecide$Tape;", true)
  | 21 => ("HatsDecide", "deeds", "[I", true)
  | 22 => ("HatsDecide", "way", "[B", true)
  | 23 => ("HatsDecide", "bestWay", "[B", true)
  | 24 => ("HatsDecide", "mostDone", "I", false)
  | 25 => ("HatsDecide", "imageNow", "LHatsDecide$Time;", true)
  | 26 => ("HatsDecide", "imageHats", "[LHatsDecide$Hat;", true)
  | 27 => ("HatsDecide", "imageRows", "[B", true)
  | 28 => ("HatsDecide", "imageSizes", "[I", true)
  | 29 => ("HatsDecide", "imageOwns", "[I", true)
  | 30 => ("HatsDecide", "imageSkills", "[I", true)
  | 31 => ("HatsDecide", "imageDone", "[I", true)
  | 32 => ("HatsDecide", "imageSeenHats", "[I", true)
  | 33 => ("HatsDecide", "imageSeenDeeds", "[I", true)
  | 34 => ("HatsDecide", "imageBookHats", "[I", true)
  | 35 => ("HatsDecide", "imageBookHeads", "[I", true)
  | 36 => ("HatsDecide", "imageMany", "I", false)
  | 37 => ("HatsDecide", "imageSeen", "I", false)
  | 38 => ("HatsDecide", "imageBooked", "I", false)
  | _ => ("HatsDecide", "imageTown", "LHatsDecide$Town;", false)
def tyX0 : Nat → FieldType := fun k => match k with
  | 0 => .array .int
  | 1 => .array .int
  | 2 => .array .int
  | 3 => .array (.object "HatsDecide$Hat")
  | 4 => .int
  | 5 => .object "HatsDecide$Time"
  | 6 => .object "HatsDecide$Time"
  | 7 => .array .int
  | 8 => .array .byte
  | 9 => .int
  | 10 => .int
  | 11 => .object "HatsDecide$Town"
  | 12 => .object "HatsDecide$Look"
  | 13 => .object "HatsDecide$Trace"
  | 14 => .array .int
  | 15 => .array .int
  | 16 => .array .int
  | 17 => .array .int
  | 18 => .int
  | 19 => .int
  | 20 => .array (.object "HatsDecide$Tape")
  | 21 => .array .int
  | 22 => .array .byte
  | 23 => .array .byte
  | 24 => .int
  | 25 => .object "HatsDecide$Time"
  | 26 => .array (.object "HatsDecide$Hat")
  | 27 => .array .byte
  | 28 => .array .int
  | 29 => .array .int
  | 30 => .array .int
  | 31 => .array .int
  | 32 => .array .int
  | 33 => .array .int
  | 34 => .array .int
  | 35 => .array .int
  | 36 => .int
  | 37 => .int
  | 38 => .int
  | _ => .object "HatsDecide$Town"
abbrev wsX00 : List Cond := u_ws RX0 TX0 40
set_option maxRecDepth 100000 in
theorem nmX0 : ∀ a, a < 40 → ∀ b, b < 40 → a ≠ b → (TX0 a).2.1 ≠ (TX0 b).2.1 := by decide +kernel
set_option maxRecDepth 100000 in
theorem tyX0_ok : ∀ k, k < 40 → parseFieldDescriptor (TX0 k).2.2.1 = some (tyX0 k) := by decide +kernel
abbrev cX0_init : ByteArray := prog_1_method_3_code
def yX0_init : MethodName := ⟨RX0, "<init>", "()V"⟩
def dkwX0_init_12 : List UInt8 := [183, 0, 125, 83, 132, 1, 1, 167, 255, 234, 177]
abbrev dktX0_init_12 : List UInt8 := dkwX0_init_12 ++ []
def dkwX0_init_11 : List UInt8 := [16, 8, 188, 10, 181, 0, 122, 3, 60, 27, 16, 6, 162, 0, 22, 42, 180, 0, 79, 27, 187, 0, 77, 89]
abbrev dktX0_init_11 : List UInt8 := dkwX0_init_11 ++ dktX0_init_12
def dkwX0_init_10 : List UInt8 := [16, 6, 188, 10, 181, 0, 113, 42, 16, 6, 188, 10, 181, 0, 116, 42, 16, 8, 188, 10, 181, 0, 119, 42]
abbrev dktX0_init_10 : List UInt8 := dkwX0_init_10 ++ dktX0_init_11
def dkwX0_init_9 : List UInt8 := [16, 6, 188, 10, 181, 0, 104, 42, 16, 6, 188, 10, 181, 0, 107, 42, 8, 188, 10, 181, 0, 110, 42]
abbrev dktX0_init_9 : List UInt8 := dkwX0_init_9 ++ dktX0_init_10
def dkwX0_init_8 : List UInt8 := [189, 0, 21, 181, 0, 95, 42, 16, 24, 188, 8, 181, 0, 98, 42, 16, 6, 188, 10, 181, 0, 101, 42]
abbrev dktX0_init_8 : List UInt8 := dkwX0_init_8 ++ dktX0_init_9
def dkwX0_init_7 : List UInt8 := [42, 16, 6, 188, 8, 181, 0, 89, 42, 187, 0, 27, 89, 183, 0, 29, 181, 0, 92, 42, 16, 6]
abbrev dktX0_init_7 : List UInt8 := dkwX0_init_7 ++ dktX0_init_8
def dkwX0_init_6 : List UInt8 := [16, 6, 189, 0, 77, 181, 0, 79, 42, 16, 36, 188, 10, 181, 0, 83, 42, 16, 6, 188, 8, 181, 0, 86]
abbrev dktX0_init_6 : List UInt8 := dkwX0_init_6 ++ dktX0_init_7
def dkwX0_init_5 : List UInt8 := [16, 6, 188, 10, 181, 0, 68, 42, 16, 8, 188, 10, 181, 0, 71, 42, 16, 8, 188, 10, 181, 0, 74, 42]
abbrev dktX0_init_5 : List UInt8 := dkwX0_init_5 ++ dktX0_init_6
def dkwX0_init_4 : List UInt8 := [181, 0, 54, 42, 187, 0, 58, 89, 183, 0, 60, 181, 0, 61, 42, 16, 6, 188, 10, 181, 0, 65, 42]
abbrev dktX0_init_4 : List UInt8 := dkwX0_init_4 ++ dktX0_init_5
def dkwX0_init_3 : List UInt8 := [188, 8, 181, 0, 40, 42, 187, 0, 44, 89, 183, 0, 46, 181, 0, 47, 42, 187, 0, 51, 89, 183, 0, 53]
abbrev dktX0_init_3 : List UInt8 := dkwX0_init_3 ++ dktX0_init_4
def dkwX0_init_2 : List UInt8 := [181, 0, 30, 42, 187, 0, 27, 89, 183, 0, 29, 181, 0, 34, 42, 8, 188, 10, 181, 0, 37, 42, 16, 100]
abbrev dktX0_init_2 : List UInt8 := dkwX0_init_2 ++ dktX0_init_3
def dkwX0_init_1 : List UInt8 := [188, 10, 181, 0, 18, 42, 16, 6, 189, 0, 21, 181, 0, 23, 42, 187, 0, 27, 89, 183, 0, 29]
abbrev dktX0_init_1 : List UInt8 := dkwX0_init_1 ++ dktX0_init_2
def dkwX0_init_0 : List UInt8 := [42, 183, 0, 5, 42, 16, 6, 188, 10, 181, 0, 11, 42, 16, 6, 188, 10, 181, 0, 15, 42, 16, 6]
abbrev dktX0_init_0 : List UInt8 := dkwX0_init_0 ++ dktX0_init_1
theorem dksX0_init_0 : cX0_init.data.toList.drop 0 = dktX0_init_0 := by decide +kernel
theorem dksX0_init_1 : cX0_init.data.toList.drop 23 = dktX0_init_1 := dk_seg dksX0_init_0 23 rfl rfl
theorem dksX0_init_2 : cX0_init.data.toList.drop 45 = dktX0_init_2 := dk_seg dksX0_init_1 22 rfl rfl
theorem dksX0_init_3 : cX0_init.data.toList.drop 69 = dktX0_init_3 := dk_seg dksX0_init_2 24 rfl rfl
theorem dksX0_init_4 : cX0_init.data.toList.drop 93 = dktX0_init_4 := dk_seg dksX0_init_3 24 rfl rfl
theorem dksX0_init_5 : cX0_init.data.toList.drop 116 = dktX0_init_5 := dk_seg dksX0_init_4 23 rfl rfl
theorem dksX0_init_6 : cX0_init.data.toList.drop 140 = dktX0_init_6 := dk_seg dksX0_init_5 24 rfl rfl
theorem dksX0_init_7 : cX0_init.data.toList.drop 164 = dktX0_init_7 := dk_seg dksX0_init_6 24 rfl rfl
theorem dksX0_init_8 : cX0_init.data.toList.drop 186 = dktX0_init_8 := dk_seg dksX0_init_7 22 rfl rfl
theorem dksX0_init_9 : cX0_init.data.toList.drop 209 = dktX0_init_9 := dk_seg dksX0_init_8 23 rfl rfl
theorem dksX0_init_10 : cX0_init.data.toList.drop 232 = dktX0_init_10 := dk_seg dksX0_init_9 23 rfl rfl
theorem dksX0_init_11 : cX0_init.data.toList.drop 256 = dktX0_init_11 := dk_seg dksX0_init_10 24 rfl rfl
theorem dksX0_init_12 : cX0_init.data.toList.drop 280 = dktX0_init_12 := dk_seg dksX0_init_11 24 rfl rfl
theorem dX0_init_0 : decode cX0_init 0 = .ok (.aload_n 0, 1) := dk_42 (dk_at dksX0_init_0 0 rfl rfl)
theorem dX0_init_1 : decode cX0_init 1 = .ok (.invokespecial 5, 3) := dk_183 0 5 (dk_at dksX0_init_0 1 rfl rfl)
theorem dX0_init_4 : decode cX0_init 4 = .ok (.aload_n 0, 1) := dk_42 (dk_at dksX0_init_0 4 rfl rfl)
theorem dX0_init_5 : decode cX0_init 5 = .ok (.bipush 6, 2) := dk_16 6 (dk_at dksX0_init_0 5 rfl rfl)
theorem dX0_init_7 : decode cX0_init 7 = .ok (.newarray .int, 2) := dk_188_10 (dk_at dksX0_init_0 7 rfl rfl)
theorem dX0_init_9 : decode cX0_init 9 = .ok (.putfield 11, 3) := dk_181 0 11 (dk_at dksX0_init_0 9 rfl rfl)
theorem dX0_init_12 : decode cX0_init 12 = .ok (.aload_n 0, 1) := dk_42 (dk_at dksX0_init_0 12 rfl rfl)
theorem dX0_init_13 : decode cX0_init 13 = .ok (.bipush 6, 2) := dk_16 6 (dk_at dksX0_init_0 13 rfl rfl)
theorem dX0_init_15 : decode cX0_init 15 = .ok (.newarray .int, 2) := dk_188_10 (dk_at dksX0_init_0 15 rfl rfl)
theorem dX0_init_17 : decode cX0_init 17 = .ok (.putfield 15, 3) := dk_181 0 15 (dk_at dksX0_init_0 17 rfl rfl)
theorem dX0_init_20 : decode cX0_init 20 = .ok (.aload_n 0, 1) := dk_42 (dk_at dksX0_init_0 20 rfl rfl)
theorem dX0_init_21 : decode cX0_init 21 = .ok (.bipush 6, 2) := dk_16 6 (dk_at dksX0_init_0 21 rfl rfl)
theorem dX0_init_23 : decode cX0_init 23 = .ok (.newarray .int, 2) := dk_188_10 (dk_at dksX0_init_1 0 rfl rfl)
theorem dX0_init_25 : decode cX0_init 25 = .ok (.putfield 18, 3) := dk_181 0 18 (dk_at dksX0_init_1 2 rfl rfl)
theorem dX0_init_28 : decode cX0_init 28 = .ok (.aload_n 0, 1) := dk_42 (dk_at dksX0_init_1 5 rfl rfl)
theorem dX0_init_29 : decode cX0_init 29 = .ok (.bipush 6, 2) := dk_16 6 (dk_at dksX0_init_1 6 rfl rfl)
theorem dX0_init_31 : decode cX0_init 31 = .ok (.anewarray 21, 3) := dk_189 0 21 (dk_at dksX0_init_1 8 rfl rfl)
theorem dX0_init_34 : decode cX0_init 34 = .ok (.putfield 23, 3) := dk_181 0 23 (dk_at dksX0_init_1 11 rfl rfl)
theorem dX0_init_37 : decode cX0_init 37 = .ok (.aload_n 0, 1) := dk_42 (dk_at dksX0_init_1 14 rfl rfl)
theorem dX0_init_38 : decode cX0_init 38 = .ok (.new 27, 3) := dk_187 0 27 (dk_at dksX0_init_1 15 rfl rfl)
theorem dX0_init_41 : decode cX0_init 41 = .ok (.dup, 1) := dk_89 (dk_at dksX0_init_1 18 rfl rfl)
theorem dX0_init_42 : decode cX0_init 42 = .ok (.invokespecial 29, 3) := dk_183 0 29 (dk_at dksX0_init_1 19 rfl rfl)
theorem dX0_init_45 : decode cX0_init 45 = .ok (.putfield 30, 3) := dk_181 0 30 (dk_at dksX0_init_2 0 rfl rfl)
theorem dX0_init_48 : decode cX0_init 48 = .ok (.aload_n 0, 1) := dk_42 (dk_at dksX0_init_2 3 rfl rfl)
theorem dX0_init_49 : decode cX0_init 49 = .ok (.new 27, 3) := dk_187 0 27 (dk_at dksX0_init_2 4 rfl rfl)
theorem dX0_init_52 : decode cX0_init 52 = .ok (.dup, 1) := dk_89 (dk_at dksX0_init_2 7 rfl rfl)
theorem dX0_init_53 : decode cX0_init 53 = .ok (.invokespecial 29, 3) := dk_183 0 29 (dk_at dksX0_init_2 8 rfl rfl)
theorem dX0_init_56 : decode cX0_init 56 = .ok (.putfield 34, 3) := dk_181 0 34 (dk_at dksX0_init_2 11 rfl rfl)
theorem dX0_init_59 : decode cX0_init 59 = .ok (.aload_n 0, 1) := dk_42 (dk_at dksX0_init_2 14 rfl rfl)
theorem dX0_init_60 : decode cX0_init 60 = .ok (.iconst 5, 1) := dk_8 (dk_at dksX0_init_2 15 rfl rfl)
theorem dX0_init_61 : decode cX0_init 61 = .ok (.newarray .int, 2) := dk_188_10 (dk_at dksX0_init_2 16 rfl rfl)
theorem dX0_init_63 : decode cX0_init 63 = .ok (.putfield 37, 3) := dk_181 0 37 (dk_at dksX0_init_2 18 rfl rfl)
theorem dX0_init_66 : decode cX0_init 66 = .ok (.aload_n 0, 1) := dk_42 (dk_at dksX0_init_2 21 rfl rfl)
theorem dX0_init_67 : decode cX0_init 67 = .ok (.bipush 100, 2) := dk_16 100 (dk_at dksX0_init_2 22 rfl rfl)
theorem dX0_init_69 : decode cX0_init 69 = .ok (.newarray .byte, 2) := dk_188_8 (dk_at dksX0_init_3 0 rfl rfl)
theorem dX0_init_71 : decode cX0_init 71 = .ok (.putfield 40, 3) := dk_181 0 40 (dk_at dksX0_init_3 2 rfl rfl)
theorem dX0_init_74 : decode cX0_init 74 = .ok (.aload_n 0, 1) := dk_42 (dk_at dksX0_init_3 5 rfl rfl)
theorem dX0_init_75 : decode cX0_init 75 = .ok (.new 44, 3) := dk_187 0 44 (dk_at dksX0_init_3 6 rfl rfl)
theorem dX0_init_78 : decode cX0_init 78 = .ok (.dup, 1) := dk_89 (dk_at dksX0_init_3 9 rfl rfl)
theorem dX0_init_79 : decode cX0_init 79 = .ok (.invokespecial 46, 3) := dk_183 0 46 (dk_at dksX0_init_3 10 rfl rfl)
theorem dX0_init_82 : decode cX0_init 82 = .ok (.putfield 47, 3) := dk_181 0 47 (dk_at dksX0_init_3 13 rfl rfl)
theorem dX0_init_85 : decode cX0_init 85 = .ok (.aload_n 0, 1) := dk_42 (dk_at dksX0_init_3 16 rfl rfl)
theorem dX0_init_86 : decode cX0_init 86 = .ok (.new 51, 3) := dk_187 0 51 (dk_at dksX0_init_3 17 rfl rfl)
theorem dX0_init_89 : decode cX0_init 89 = .ok (.dup, 1) := dk_89 (dk_at dksX0_init_3 20 rfl rfl)
theorem dX0_init_90 : decode cX0_init 90 = .ok (.invokespecial 53, 3) := dk_183 0 53 (dk_at dksX0_init_3 21 rfl rfl)
theorem dX0_init_93 : decode cX0_init 93 = .ok (.putfield 54, 3) := dk_181 0 54 (dk_at dksX0_init_4 0 rfl rfl)
theorem dX0_init_96 : decode cX0_init 96 = .ok (.aload_n 0, 1) := dk_42 (dk_at dksX0_init_4 3 rfl rfl)
theorem dX0_init_97 : decode cX0_init 97 = .ok (.new 58, 3) := dk_187 0 58 (dk_at dksX0_init_4 4 rfl rfl)
theorem dX0_init_100 : decode cX0_init 100 = .ok (.dup, 1) := dk_89 (dk_at dksX0_init_4 7 rfl rfl)
theorem dX0_init_101 : decode cX0_init 101 = .ok (.invokespecial 60, 3) := dk_183 0 60 (dk_at dksX0_init_4 8 rfl rfl)
theorem dX0_init_104 : decode cX0_init 104 = .ok (.putfield 61, 3) := dk_181 0 61 (dk_at dksX0_init_4 11 rfl rfl)
theorem dX0_init_107 : decode cX0_init 107 = .ok (.aload_n 0, 1) := dk_42 (dk_at dksX0_init_4 14 rfl rfl)
theorem dX0_init_108 : decode cX0_init 108 = .ok (.bipush 6, 2) := dk_16 6 (dk_at dksX0_init_4 15 rfl rfl)
theorem dX0_init_110 : decode cX0_init 110 = .ok (.newarray .int, 2) := dk_188_10 (dk_at dksX0_init_4 17 rfl rfl)
theorem dX0_init_112 : decode cX0_init 112 = .ok (.putfield 65, 3) := dk_181 0 65 (dk_at dksX0_init_4 19 rfl rfl)
theorem dX0_init_115 : decode cX0_init 115 = .ok (.aload_n 0, 1) := dk_42 (dk_at dksX0_init_4 22 rfl rfl)
theorem dX0_init_116 : decode cX0_init 116 = .ok (.bipush 6, 2) := dk_16 6 (dk_at dksX0_init_5 0 rfl rfl)
theorem dX0_init_118 : decode cX0_init 118 = .ok (.newarray .int, 2) := dk_188_10 (dk_at dksX0_init_5 2 rfl rfl)
theorem dX0_init_120 : decode cX0_init 120 = .ok (.putfield 68, 3) := dk_181 0 68 (dk_at dksX0_init_5 4 rfl rfl)
theorem dX0_init_123 : decode cX0_init 123 = .ok (.aload_n 0, 1) := dk_42 (dk_at dksX0_init_5 7 rfl rfl)
theorem dX0_init_124 : decode cX0_init 124 = .ok (.bipush 8, 2) := dk_16 8 (dk_at dksX0_init_5 8 rfl rfl)
theorem dX0_init_126 : decode cX0_init 126 = .ok (.newarray .int, 2) := dk_188_10 (dk_at dksX0_init_5 10 rfl rfl)
theorem dX0_init_128 : decode cX0_init 128 = .ok (.putfield 71, 3) := dk_181 0 71 (dk_at dksX0_init_5 12 rfl rfl)
theorem dX0_init_131 : decode cX0_init 131 = .ok (.aload_n 0, 1) := dk_42 (dk_at dksX0_init_5 15 rfl rfl)
theorem dX0_init_132 : decode cX0_init 132 = .ok (.bipush 8, 2) := dk_16 8 (dk_at dksX0_init_5 16 rfl rfl)
theorem dX0_init_134 : decode cX0_init 134 = .ok (.newarray .int, 2) := dk_188_10 (dk_at dksX0_init_5 18 rfl rfl)
theorem dX0_init_136 : decode cX0_init 136 = .ok (.putfield 74, 3) := dk_181 0 74 (dk_at dksX0_init_5 20 rfl rfl)
theorem dX0_init_139 : decode cX0_init 139 = .ok (.aload_n 0, 1) := dk_42 (dk_at dksX0_init_5 23 rfl rfl)
theorem dX0_init_140 : decode cX0_init 140 = .ok (.bipush 6, 2) := dk_16 6 (dk_at dksX0_init_6 0 rfl rfl)
theorem dX0_init_142 : decode cX0_init 142 = .ok (.anewarray 77, 3) := dk_189 0 77 (dk_at dksX0_init_6 2 rfl rfl)
theorem dX0_init_145 : decode cX0_init 145 = .ok (.putfield 79, 3) := dk_181 0 79 (dk_at dksX0_init_6 5 rfl rfl)
theorem dX0_init_148 : decode cX0_init 148 = .ok (.aload_n 0, 1) := dk_42 (dk_at dksX0_init_6 8 rfl rfl)
theorem dX0_init_149 : decode cX0_init 149 = .ok (.bipush 36, 2) := dk_16 36 (dk_at dksX0_init_6 9 rfl rfl)
theorem dX0_init_151 : decode cX0_init 151 = .ok (.newarray .int, 2) := dk_188_10 (dk_at dksX0_init_6 11 rfl rfl)
theorem dX0_init_153 : decode cX0_init 153 = .ok (.putfield 83, 3) := dk_181 0 83 (dk_at dksX0_init_6 13 rfl rfl)
theorem dX0_init_156 : decode cX0_init 156 = .ok (.aload_n 0, 1) := dk_42 (dk_at dksX0_init_6 16 rfl rfl)
theorem dX0_init_157 : decode cX0_init 157 = .ok (.bipush 6, 2) := dk_16 6 (dk_at dksX0_init_6 17 rfl rfl)
theorem dX0_init_159 : decode cX0_init 159 = .ok (.newarray .byte, 2) := dk_188_8 (dk_at dksX0_init_6 19 rfl rfl)
theorem dX0_init_161 : decode cX0_init 161 = .ok (.putfield 86, 3) := dk_181 0 86 (dk_at dksX0_init_6 21 rfl rfl)
theorem dX0_init_164 : decode cX0_init 164 = .ok (.aload_n 0, 1) := dk_42 (dk_at dksX0_init_7 0 rfl rfl)
theorem dX0_init_165 : decode cX0_init 165 = .ok (.bipush 6, 2) := dk_16 6 (dk_at dksX0_init_7 1 rfl rfl)
theorem dX0_init_167 : decode cX0_init 167 = .ok (.newarray .byte, 2) := dk_188_8 (dk_at dksX0_init_7 3 rfl rfl)
theorem dX0_init_169 : decode cX0_init 169 = .ok (.putfield 89, 3) := dk_181 0 89 (dk_at dksX0_init_7 5 rfl rfl)
theorem dX0_init_172 : decode cX0_init 172 = .ok (.aload_n 0, 1) := dk_42 (dk_at dksX0_init_7 8 rfl rfl)
theorem dX0_init_173 : decode cX0_init 173 = .ok (.new 27, 3) := dk_187 0 27 (dk_at dksX0_init_7 9 rfl rfl)
theorem dX0_init_176 : decode cX0_init 176 = .ok (.dup, 1) := dk_89 (dk_at dksX0_init_7 12 rfl rfl)
theorem dX0_init_177 : decode cX0_init 177 = .ok (.invokespecial 29, 3) := dk_183 0 29 (dk_at dksX0_init_7 13 rfl rfl)
theorem dX0_init_180 : decode cX0_init 180 = .ok (.putfield 92, 3) := dk_181 0 92 (dk_at dksX0_init_7 16 rfl rfl)
theorem dX0_init_183 : decode cX0_init 183 = .ok (.aload_n 0, 1) := dk_42 (dk_at dksX0_init_7 19 rfl rfl)
theorem dX0_init_184 : decode cX0_init 184 = .ok (.bipush 6, 2) := dk_16 6 (dk_at dksX0_init_7 20 rfl rfl)
theorem dX0_init_186 : decode cX0_init 186 = .ok (.anewarray 21, 3) := dk_189 0 21 (dk_at dksX0_init_8 0 rfl rfl)
theorem dX0_init_189 : decode cX0_init 189 = .ok (.putfield 95, 3) := dk_181 0 95 (dk_at dksX0_init_8 3 rfl rfl)
theorem dX0_init_192 : decode cX0_init 192 = .ok (.aload_n 0, 1) := dk_42 (dk_at dksX0_init_8 6 rfl rfl)
theorem dX0_init_193 : decode cX0_init 193 = .ok (.bipush 24, 2) := dk_16 24 (dk_at dksX0_init_8 7 rfl rfl)
theorem dX0_init_195 : decode cX0_init 195 = .ok (.newarray .byte, 2) := dk_188_8 (dk_at dksX0_init_8 9 rfl rfl)
theorem dX0_init_197 : decode cX0_init 197 = .ok (.putfield 98, 3) := dk_181 0 98 (dk_at dksX0_init_8 11 rfl rfl)
theorem dX0_init_200 : decode cX0_init 200 = .ok (.aload_n 0, 1) := dk_42 (dk_at dksX0_init_8 14 rfl rfl)
theorem dX0_init_201 : decode cX0_init 201 = .ok (.bipush 6, 2) := dk_16 6 (dk_at dksX0_init_8 15 rfl rfl)
theorem dX0_init_203 : decode cX0_init 203 = .ok (.newarray .int, 2) := dk_188_10 (dk_at dksX0_init_8 17 rfl rfl)
theorem dX0_init_205 : decode cX0_init 205 = .ok (.putfield 101, 3) := dk_181 0 101 (dk_at dksX0_init_8 19 rfl rfl)
theorem dX0_init_208 : decode cX0_init 208 = .ok (.aload_n 0, 1) := dk_42 (dk_at dksX0_init_8 22 rfl rfl)
theorem dX0_init_209 : decode cX0_init 209 = .ok (.bipush 6, 2) := dk_16 6 (dk_at dksX0_init_9 0 rfl rfl)
theorem dX0_init_211 : decode cX0_init 211 = .ok (.newarray .int, 2) := dk_188_10 (dk_at dksX0_init_9 2 rfl rfl)
theorem dX0_init_213 : decode cX0_init 213 = .ok (.putfield 104, 3) := dk_181 0 104 (dk_at dksX0_init_9 4 rfl rfl)
theorem dX0_init_216 : decode cX0_init 216 = .ok (.aload_n 0, 1) := dk_42 (dk_at dksX0_init_9 7 rfl rfl)
theorem dX0_init_217 : decode cX0_init 217 = .ok (.bipush 6, 2) := dk_16 6 (dk_at dksX0_init_9 8 rfl rfl)
theorem dX0_init_219 : decode cX0_init 219 = .ok (.newarray .int, 2) := dk_188_10 (dk_at dksX0_init_9 10 rfl rfl)
theorem dX0_init_221 : decode cX0_init 221 = .ok (.putfield 107, 3) := dk_181 0 107 (dk_at dksX0_init_9 12 rfl rfl)
theorem dX0_init_224 : decode cX0_init 224 = .ok (.aload_n 0, 1) := dk_42 (dk_at dksX0_init_9 15 rfl rfl)
theorem dX0_init_225 : decode cX0_init 225 = .ok (.iconst 5, 1) := dk_8 (dk_at dksX0_init_9 16 rfl rfl)
theorem dX0_init_226 : decode cX0_init 226 = .ok (.newarray .int, 2) := dk_188_10 (dk_at dksX0_init_9 17 rfl rfl)
theorem dX0_init_228 : decode cX0_init 228 = .ok (.putfield 110, 3) := dk_181 0 110 (dk_at dksX0_init_9 19 rfl rfl)
theorem dX0_init_231 : decode cX0_init 231 = .ok (.aload_n 0, 1) := dk_42 (dk_at dksX0_init_9 22 rfl rfl)
theorem dX0_init_232 : decode cX0_init 232 = .ok (.bipush 6, 2) := dk_16 6 (dk_at dksX0_init_10 0 rfl rfl)
theorem dX0_init_234 : decode cX0_init 234 = .ok (.newarray .int, 2) := dk_188_10 (dk_at dksX0_init_10 2 rfl rfl)
theorem dX0_init_236 : decode cX0_init 236 = .ok (.putfield 113, 3) := dk_181 0 113 (dk_at dksX0_init_10 4 rfl rfl)
theorem dX0_init_239 : decode cX0_init 239 = .ok (.aload_n 0, 1) := dk_42 (dk_at dksX0_init_10 7 rfl rfl)
theorem dX0_init_240 : decode cX0_init 240 = .ok (.bipush 6, 2) := dk_16 6 (dk_at dksX0_init_10 8 rfl rfl)
theorem dX0_init_242 : decode cX0_init 242 = .ok (.newarray .int, 2) := dk_188_10 (dk_at dksX0_init_10 10 rfl rfl)
theorem dX0_init_244 : decode cX0_init 244 = .ok (.putfield 116, 3) := dk_181 0 116 (dk_at dksX0_init_10 12 rfl rfl)
theorem dX0_init_247 : decode cX0_init 247 = .ok (.aload_n 0, 1) := dk_42 (dk_at dksX0_init_10 15 rfl rfl)
theorem dX0_init_248 : decode cX0_init 248 = .ok (.bipush 8, 2) := dk_16 8 (dk_at dksX0_init_10 16 rfl rfl)
theorem dX0_init_250 : decode cX0_init 250 = .ok (.newarray .int, 2) := dk_188_10 (dk_at dksX0_init_10 18 rfl rfl)
theorem dX0_init_252 : decode cX0_init 252 = .ok (.putfield 119, 3) := dk_181 0 119 (dk_at dksX0_init_10 20 rfl rfl)
theorem dX0_init_255 : decode cX0_init 255 = .ok (.aload_n 0, 1) := dk_42 (dk_at dksX0_init_10 23 rfl rfl)
theorem dX0_init_256 : decode cX0_init 256 = .ok (.bipush 8, 2) := dk_16 8 (dk_at dksX0_init_11 0 rfl rfl)
theorem dX0_init_258 : decode cX0_init 258 = .ok (.newarray .int, 2) := dk_188_10 (dk_at dksX0_init_11 2 rfl rfl)
theorem dX0_init_260 : decode cX0_init 260 = .ok (.putfield 122, 3) := dk_181 0 122 (dk_at dksX0_init_11 4 rfl rfl)
theorem dX0_init_263 : decode cX0_init 263 = .ok (.iconst 0, 1) := dk_3 (dk_at dksX0_init_11 7 rfl rfl)
theorem dX0_init_264 : decode cX0_init 264 = .ok (.istore_n 1, 1) := dk_60 (dk_at dksX0_init_11 8 rfl rfl)
theorem dX0_init_265 : decode cX0_init 265 = .ok (.iload_n 1, 1) := dk_27 (dk_at dksX0_init_11 9 rfl rfl)
theorem dX0_init_266 : decode cX0_init 266 = .ok (.bipush 6, 2) := dk_16 6 (dk_at dksX0_init_11 10 rfl rfl)
theorem dX0_init_268 : decode cX0_init 268 = .ok (.if_icmp .ge 22, 3) := dk_162 0 22 (dk_at dksX0_init_11 12 rfl rfl)
theorem dX0_init_271 : decode cX0_init 271 = .ok (.aload_n 0, 1) := dk_42 (dk_at dksX0_init_11 15 rfl rfl)
theorem dX0_init_272 : decode cX0_init 272 = .ok (.getfield 79, 3) := dk_180 0 79 (dk_at dksX0_init_11 16 rfl rfl)
theorem dX0_init_275 : decode cX0_init 275 = .ok (.iload_n 1, 1) := dk_27 (dk_at dksX0_init_11 19 rfl rfl)
theorem dX0_init_276 : decode cX0_init 276 = .ok (.new 77, 3) := dk_187 0 77 (dk_at dksX0_init_11 20 rfl rfl)
theorem dX0_init_279 : decode cX0_init 279 = .ok (.dup, 1) := dk_89 (dk_at dksX0_init_11 23 rfl rfl)
theorem dX0_init_280 : decode cX0_init 280 = .ok (.invokespecial 125, 3) := dk_183 0 125 (dk_at dksX0_init_12 0 rfl rfl)
theorem dX0_init_283 : decode cX0_init 283 = .ok (.aastore, 1) := dk_83 (dk_at dksX0_init_12 3 rfl rfl)
theorem dX0_init_284 : decode cX0_init 284 = .ok (.iinc 1 1, 3) := dk_132 1 1 (dk_at dksX0_init_12 4 rfl rfl)
theorem dX0_init_287 : decode cX0_init 287 = .ok (.goto (-22), 3) := dk_167 255 234 (dk_at dksX0_init_12 7 rfl rfl)
theorem dX0_init_290 : decode cX0_init 290 = .ok (.return_, 1) := dk_177 (dk_at dksX0_init_12 10 rfl rfl)
abbrev cX0_head : ByteArray := prog_1_method_7_code
def yX0_head : MethodName := ⟨RX0, "head", "(I)I"⟩
def dkwX0_head_3 : List UInt8 := [42, 180, 0, 30, 89, 180, 0, 126, 90, 4, 96, 181, 0, 126, 172]
abbrev dktX0_head_3 : List UInt8 := dkwX0_head_3 ++ []
def dkwX0_head_2 : List UInt8 := [180, 0, 30, 180, 0, 126, 2, 79, 42, 180, 0, 30, 180, 0, 137, 42, 180, 0, 30, 180, 0, 126, 2, 84]
abbrev dktX0_head_2 : List UInt8 := dkwX0_head_2 ++ dktX0_head_3
def dkwX0_head_1 : List UInt8 := [160, 0, 6, 16, 252, 172, 42, 180, 0, 11, 42, 180, 0, 30, 180, 0, 126, 27, 79, 42, 180, 0, 15, 42]
abbrev dktX0_head_1 : List UInt8 := dkwX0_head_1 ++ dktX0_head_2
def dkwX0_head_0 : List UInt8 := [27, 3, 16, 9, 184, 0, 130, 154, 0, 6, 16, 254, 172, 42, 180, 0, 30, 180, 0, 126, 16, 6]
abbrev dktX0_head_0 : List UInt8 := dkwX0_head_0 ++ dktX0_head_1
theorem dksX0_head_0 : cX0_head.data.toList.drop 0 = dktX0_head_0 := by decide +kernel
theorem dksX0_head_1 : cX0_head.data.toList.drop 22 = dktX0_head_1 := dk_seg dksX0_head_0 22 rfl rfl
theorem dksX0_head_2 : cX0_head.data.toList.drop 46 = dktX0_head_2 := dk_seg dksX0_head_1 24 rfl rfl
theorem dksX0_head_3 : cX0_head.data.toList.drop 70 = dktX0_head_3 := dk_seg dksX0_head_2 24 rfl rfl
theorem dX0_head_0 : decode cX0_head 0 = .ok (.iload_n 1, 1) := dk_27 (dk_at dksX0_head_0 0 rfl rfl)
theorem dX0_head_1 : decode cX0_head 1 = .ok (.iconst 0, 1) := dk_3 (dk_at dksX0_head_0 1 rfl rfl)
theorem dX0_head_2 : decode cX0_head 2 = .ok (.bipush 9, 2) := dk_16 9 (dk_at dksX0_head_0 2 rfl rfl)
theorem dX0_head_4 : decode cX0_head 4 = .ok (.invokestatic 130, 3) := dk_184 0 130 (dk_at dksX0_head_0 4 rfl rfl)
theorem dX0_head_7 : decode cX0_head 7 = .ok (.ifCond .ne 6, 3) := dk_154 0 6 (dk_at dksX0_head_0 7 rfl rfl)
theorem dX0_head_10 : decode cX0_head 10 = .ok (.bipush (-2), 2) := dk_16 254 (dk_at dksX0_head_0 10 rfl rfl)
theorem dX0_head_12 : decode cX0_head 12 = .ok (.ireturn, 1) := dk_172 (dk_at dksX0_head_0 12 rfl rfl)
theorem dX0_head_13 : decode cX0_head 13 = .ok (.aload_n 0, 1) := dk_42 (dk_at dksX0_head_0 13 rfl rfl)
theorem dX0_head_14 : decode cX0_head 14 = .ok (.getfield 30, 3) := dk_180 0 30 (dk_at dksX0_head_0 14 rfl rfl)
theorem dX0_head_17 : decode cX0_head 17 = .ok (.getfield 126, 3) := dk_180 0 126 (dk_at dksX0_head_0 17 rfl rfl)
theorem dX0_head_20 : decode cX0_head 20 = .ok (.bipush 6, 2) := dk_16 6 (dk_at dksX0_head_0 20 rfl rfl)
theorem dX0_head_22 : decode cX0_head 22 = .ok (.if_icmp .ne 6, 3) := dk_160 0 6 (dk_at dksX0_head_1 0 rfl rfl)
theorem dX0_head_25 : decode cX0_head 25 = .ok (.bipush (-4), 2) := dk_16 252 (dk_at dksX0_head_1 3 rfl rfl)
theorem dX0_head_27 : decode cX0_head 27 = .ok (.ireturn, 1) := dk_172 (dk_at dksX0_head_1 5 rfl rfl)
theorem dX0_head_28 : decode cX0_head 28 = .ok (.aload_n 0, 1) := dk_42 (dk_at dksX0_head_1 6 rfl rfl)
theorem dX0_head_29 : decode cX0_head 29 = .ok (.getfield 11, 3) := dk_180 0 11 (dk_at dksX0_head_1 7 rfl rfl)
theorem dX0_head_32 : decode cX0_head 32 = .ok (.aload_n 0, 1) := dk_42 (dk_at dksX0_head_1 10 rfl rfl)
theorem dX0_head_33 : decode cX0_head 33 = .ok (.getfield 30, 3) := dk_180 0 30 (dk_at dksX0_head_1 11 rfl rfl)
theorem dX0_head_36 : decode cX0_head 36 = .ok (.getfield 126, 3) := dk_180 0 126 (dk_at dksX0_head_1 14 rfl rfl)
theorem dX0_head_39 : decode cX0_head 39 = .ok (.iload_n 1, 1) := dk_27 (dk_at dksX0_head_1 17 rfl rfl)
theorem dX0_head_40 : decode cX0_head 40 = .ok (.iastore, 1) := dk_79 (dk_at dksX0_head_1 18 rfl rfl)
theorem dX0_head_41 : decode cX0_head 41 = .ok (.aload_n 0, 1) := dk_42 (dk_at dksX0_head_1 19 rfl rfl)
theorem dX0_head_42 : decode cX0_head 42 = .ok (.getfield 15, 3) := dk_180 0 15 (dk_at dksX0_head_1 20 rfl rfl)
theorem dX0_head_45 : decode cX0_head 45 = .ok (.aload_n 0, 1) := dk_42 (dk_at dksX0_head_1 23 rfl rfl)
theorem dX0_head_46 : decode cX0_head 46 = .ok (.getfield 30, 3) := dk_180 0 30 (dk_at dksX0_head_2 0 rfl rfl)
theorem dX0_head_49 : decode cX0_head 49 = .ok (.getfield 126, 3) := dk_180 0 126 (dk_at dksX0_head_2 3 rfl rfl)
theorem dX0_head_52 : decode cX0_head 52 = .ok (.iconst (-1), 1) := dk_2 (dk_at dksX0_head_2 6 rfl rfl)
theorem dX0_head_53 : decode cX0_head 53 = .ok (.iastore, 1) := dk_79 (dk_at dksX0_head_2 7 rfl rfl)
theorem dX0_head_54 : decode cX0_head 54 = .ok (.aload_n 0, 1) := dk_42 (dk_at dksX0_head_2 8 rfl rfl)
theorem dX0_head_55 : decode cX0_head 55 = .ok (.getfield 30, 3) := dk_180 0 30 (dk_at dksX0_head_2 9 rfl rfl)
theorem dX0_head_58 : decode cX0_head 58 = .ok (.getfield 137, 3) := dk_180 0 137 (dk_at dksX0_head_2 12 rfl rfl)
theorem dX0_head_61 : decode cX0_head 61 = .ok (.aload_n 0, 1) := dk_42 (dk_at dksX0_head_2 15 rfl rfl)
theorem dX0_head_62 : decode cX0_head 62 = .ok (.getfield 30, 3) := dk_180 0 30 (dk_at dksX0_head_2 16 rfl rfl)
theorem dX0_head_65 : decode cX0_head 65 = .ok (.getfield 126, 3) := dk_180 0 126 (dk_at dksX0_head_2 19 rfl rfl)
theorem dX0_head_68 : decode cX0_head 68 = .ok (.iconst (-1), 1) := dk_2 (dk_at dksX0_head_2 22 rfl rfl)
theorem dX0_head_69 : decode cX0_head 69 = .ok (.bastore, 1) := dk_84 (dk_at dksX0_head_2 23 rfl rfl)
theorem dX0_head_70 : decode cX0_head 70 = .ok (.aload_n 0, 1) := dk_42 (dk_at dksX0_head_3 0 rfl rfl)
theorem dX0_head_71 : decode cX0_head 71 = .ok (.getfield 30, 3) := dk_180 0 30 (dk_at dksX0_head_3 1 rfl rfl)
theorem dX0_head_74 : decode cX0_head 74 = .ok (.dup, 1) := dk_89 (dk_at dksX0_head_3 4 rfl rfl)
theorem dX0_head_75 : decode cX0_head 75 = .ok (.getfield 126, 3) := dk_180 0 126 (dk_at dksX0_head_3 5 rfl rfl)
theorem dX0_head_78 : decode cX0_head 78 = .ok (.dup_x1, 1) := dk_90 (dk_at dksX0_head_3 8 rfl rfl)
theorem dX0_head_79 : decode cX0_head 79 = .ok (.iconst 1, 1) := dk_4 (dk_at dksX0_head_3 9 rfl rfl)
theorem dX0_head_80 : decode cX0_head 80 = .ok (.iadd, 1) := dk_96 (dk_at dksX0_head_3 10 rfl rfl)
theorem dX0_head_81 : decode cX0_head 81 = .ok (.putfield 126, 3) := dk_181 0 126 (dk_at dksX0_head_3 11 rfl rfl)
theorem dX0_head_84 : decode cX0_head 84 = .ok (.ireturn, 1) := dk_172 (dk_at dksX0_head_3 14 rfl rfl)
abbrev cX0_in : ByteArray := prog_1_method_1_code
def yX0_in : MethodName := ⟨RX0, "in", "(III)Z"⟩
def dkwX0_in_0 : List UInt8 := [26, 27, 161, 0, 12, 26, 28, 163, 0, 7, 4, 167, 0, 4, 3, 172]
abbrev dktX0_in_0 : List UInt8 := dkwX0_in_0 ++ []
theorem dksX0_in_0 : cX0_in.data.toList.drop 0 = dktX0_in_0 := by decide +kernel
theorem dX0_in_0 : decode cX0_in 0 = .ok (.iload_n 0, 1) := dk_26 (dk_at dksX0_in_0 0 rfl rfl)
theorem dX0_in_1 : decode cX0_in 1 = .ok (.iload_n 1, 1) := dk_27 (dk_at dksX0_in_0 1 rfl rfl)
theorem dX0_in_2 : decode cX0_in 2 = .ok (.if_icmp .lt 12, 3) := dk_161 0 12 (dk_at dksX0_in_0 2 rfl rfl)
theorem dX0_in_5 : decode cX0_in 5 = .ok (.iload_n 0, 1) := dk_26 (dk_at dksX0_in_0 5 rfl rfl)
theorem dX0_in_6 : decode cX0_in 6 = .ok (.iload_n 2, 1) := dk_28 (dk_at dksX0_in_0 6 rfl rfl)
theorem dX0_in_7 : decode cX0_in 7 = .ok (.if_icmp .gt 7, 3) := dk_163 0 7 (dk_at dksX0_in_0 7 rfl rfl)
theorem dX0_in_10 : decode cX0_in 10 = .ok (.iconst 1, 1) := dk_4 (dk_at dksX0_in_0 10 rfl rfl)
theorem dX0_in_11 : decode cX0_in 11 = .ok (.goto 4, 3) := dk_167 0 4 (dk_at dksX0_in_0 11 rfl rfl)
theorem dX0_in_14 : decode cX0_in 14 = .ok (.iconst 0, 1) := dk_3 (dk_at dksX0_in_0 14 rfl rfl)
theorem dX0_in_15 : decode cX0_in 15 = .ok (.ireturn, 1) := dk_172 (dk_at dksX0_in_0 15 rfl rfl)
abbrev cX0_hat : ByteArray := prog_1_method_9_code
def yX0_hat : MethodName := ⟨RX0, "hat", "(IIIII)I"⟩
def dkwX0_hat_5 : List UInt8 := [172]
abbrev dktX0_hat_5 : List UInt8 := dkwX0_hat_5 ++ []
def dkwX0_hat_4 : List UInt8 := [42, 180, 0, 30, 180, 0, 169, 42, 180, 0, 134, 3, 79, 42, 89, 180, 0, 134, 90, 4, 96, 181, 0, 134]
abbrev dktX0_hat_4 : List UInt8 := dkwX0_hat_4 ++ dktX0_hat_5
def dkwX0_hat_3 : List UInt8 := [180, 0, 134, 42, 27, 28, 29, 21, 5, 182, 0, 165, 83, 42, 180, 0, 18, 42, 180, 0, 134, 21, 4, 79]
abbrev dktX0_hat_3 : List UInt8 := dkwX0_hat_3 ++ dktX0_hat_4
def dkwX0_hat_2 : List UInt8 := [154, 0, 6, 16, 254, 172, 42, 180, 0, 134, 16, 6, 160, 0, 6, 16, 252, 172, 42, 180, 0, 23, 42]
abbrev dktX0_hat_2 : List UInt8 := dkwX0_hat_2 ++ dktX0_hat_3
def dkwX0_hat_1 : List UInt8 := [184, 0, 130, 153, 0, 24, 29, 3, 16, 9, 184, 0, 130, 153, 0, 14, 21, 4, 3, 16, 50, 184, 0, 130]
abbrev dktX0_hat_1 : List UInt8 := dkwX0_hat_1 ++ dktX0_hat_2
def dkwX0_hat_0 : List UInt8 := [27, 3, 16, 6, 184, 0, 130, 153, 0, 11, 21, 5, 184, 0, 161, 154, 0, 5, 2, 172, 28, 3, 16, 9]
abbrev dktX0_hat_0 : List UInt8 := dkwX0_hat_0 ++ dktX0_hat_1
theorem dksX0_hat_0 : cX0_hat.data.toList.drop 0 = dktX0_hat_0 := by decide +kernel
theorem dksX0_hat_1 : cX0_hat.data.toList.drop 24 = dktX0_hat_1 := dk_seg dksX0_hat_0 24 rfl rfl
theorem dksX0_hat_2 : cX0_hat.data.toList.drop 48 = dktX0_hat_2 := dk_seg dksX0_hat_1 24 rfl rfl
theorem dksX0_hat_3 : cX0_hat.data.toList.drop 71 = dktX0_hat_3 := dk_seg dksX0_hat_2 23 rfl rfl
theorem dksX0_hat_4 : cX0_hat.data.toList.drop 95 = dktX0_hat_4 := dk_seg dksX0_hat_3 24 rfl rfl
theorem dksX0_hat_5 : cX0_hat.data.toList.drop 119 = dktX0_hat_5 := dk_seg dksX0_hat_4 24 rfl rfl
theorem dX0_hat_0 : decode cX0_hat 0 = .ok (.iload_n 1, 1) := dk_27 (dk_at dksX0_hat_0 0 rfl rfl)
theorem dX0_hat_1 : decode cX0_hat 1 = .ok (.iconst 0, 1) := dk_3 (dk_at dksX0_hat_0 1 rfl rfl)
theorem dX0_hat_2 : decode cX0_hat 2 = .ok (.bipush 6, 2) := dk_16 6 (dk_at dksX0_hat_0 2 rfl rfl)
theorem dX0_hat_4 : decode cX0_hat 4 = .ok (.invokestatic 130, 3) := dk_184 0 130 (dk_at dksX0_hat_0 4 rfl rfl)
theorem dX0_hat_7 : decode cX0_hat 7 = .ok (.ifCond .eq 11, 3) := dk_153 0 11 (dk_at dksX0_hat_0 7 rfl rfl)
theorem dX0_hat_10 : decode cX0_hat 10 = .ok (.iload 5, 2) := dk_21 5 (dk_at dksX0_hat_0 10 rfl rfl)
theorem dX0_hat_12 : decode cX0_hat 12 = .ok (.invokestatic 161, 3) := dk_184 0 161 (dk_at dksX0_hat_0 12 rfl rfl)
theorem dX0_hat_15 : decode cX0_hat 15 = .ok (.ifCond .ne 5, 3) := dk_154 0 5 (dk_at dksX0_hat_0 15 rfl rfl)
theorem dX0_hat_18 : decode cX0_hat 18 = .ok (.iconst (-1), 1) := dk_2 (dk_at dksX0_hat_0 18 rfl rfl)
theorem dX0_hat_19 : decode cX0_hat 19 = .ok (.ireturn, 1) := dk_172 (dk_at dksX0_hat_0 19 rfl rfl)
theorem dX0_hat_20 : decode cX0_hat 20 = .ok (.iload_n 2, 1) := dk_28 (dk_at dksX0_hat_0 20 rfl rfl)
theorem dX0_hat_21 : decode cX0_hat 21 = .ok (.iconst 0, 1) := dk_3 (dk_at dksX0_hat_0 21 rfl rfl)
theorem dX0_hat_22 : decode cX0_hat 22 = .ok (.bipush 9, 2) := dk_16 9 (dk_at dksX0_hat_0 22 rfl rfl)
theorem dX0_hat_24 : decode cX0_hat 24 = .ok (.invokestatic 130, 3) := dk_184 0 130 (dk_at dksX0_hat_1 0 rfl rfl)
theorem dX0_hat_27 : decode cX0_hat 27 = .ok (.ifCond .eq 24, 3) := dk_153 0 24 (dk_at dksX0_hat_1 3 rfl rfl)
theorem dX0_hat_30 : decode cX0_hat 30 = .ok (.iload_n 3, 1) := dk_29 (dk_at dksX0_hat_1 6 rfl rfl)
theorem dX0_hat_31 : decode cX0_hat 31 = .ok (.iconst 0, 1) := dk_3 (dk_at dksX0_hat_1 7 rfl rfl)
theorem dX0_hat_32 : decode cX0_hat 32 = .ok (.bipush 9, 2) := dk_16 9 (dk_at dksX0_hat_1 8 rfl rfl)
theorem dX0_hat_34 : decode cX0_hat 34 = .ok (.invokestatic 130, 3) := dk_184 0 130 (dk_at dksX0_hat_1 10 rfl rfl)
theorem dX0_hat_37 : decode cX0_hat 37 = .ok (.ifCond .eq 14, 3) := dk_153 0 14 (dk_at dksX0_hat_1 13 rfl rfl)
theorem dX0_hat_40 : decode cX0_hat 40 = .ok (.iload 4, 2) := dk_21 4 (dk_at dksX0_hat_1 16 rfl rfl)
theorem dX0_hat_42 : decode cX0_hat 42 = .ok (.iconst 0, 1) := dk_3 (dk_at dksX0_hat_1 18 rfl rfl)
theorem dX0_hat_43 : decode cX0_hat 43 = .ok (.bipush 50, 2) := dk_16 50 (dk_at dksX0_hat_1 19 rfl rfl)
theorem dX0_hat_45 : decode cX0_hat 45 = .ok (.invokestatic 130, 3) := dk_184 0 130 (dk_at dksX0_hat_1 21 rfl rfl)
theorem dX0_hat_48 : decode cX0_hat 48 = .ok (.ifCond .ne 6, 3) := dk_154 0 6 (dk_at dksX0_hat_2 0 rfl rfl)
theorem dX0_hat_51 : decode cX0_hat 51 = .ok (.bipush (-2), 2) := dk_16 254 (dk_at dksX0_hat_2 3 rfl rfl)
theorem dX0_hat_53 : decode cX0_hat 53 = .ok (.ireturn, 1) := dk_172 (dk_at dksX0_hat_2 5 rfl rfl)
theorem dX0_hat_54 : decode cX0_hat 54 = .ok (.aload_n 0, 1) := dk_42 (dk_at dksX0_hat_2 6 rfl rfl)
theorem dX0_hat_55 : decode cX0_hat 55 = .ok (.getfield 134, 3) := dk_180 0 134 (dk_at dksX0_hat_2 7 rfl rfl)
theorem dX0_hat_58 : decode cX0_hat 58 = .ok (.bipush 6, 2) := dk_16 6 (dk_at dksX0_hat_2 10 rfl rfl)
theorem dX0_hat_60 : decode cX0_hat 60 = .ok (.if_icmp .ne 6, 3) := dk_160 0 6 (dk_at dksX0_hat_2 12 rfl rfl)
theorem dX0_hat_63 : decode cX0_hat 63 = .ok (.bipush (-4), 2) := dk_16 252 (dk_at dksX0_hat_2 15 rfl rfl)
theorem dX0_hat_65 : decode cX0_hat 65 = .ok (.ireturn, 1) := dk_172 (dk_at dksX0_hat_2 17 rfl rfl)
theorem dX0_hat_66 : decode cX0_hat 66 = .ok (.aload_n 0, 1) := dk_42 (dk_at dksX0_hat_2 18 rfl rfl)
theorem dX0_hat_67 : decode cX0_hat 67 = .ok (.getfield 23, 3) := dk_180 0 23 (dk_at dksX0_hat_2 19 rfl rfl)
theorem dX0_hat_70 : decode cX0_hat 70 = .ok (.aload_n 0, 1) := dk_42 (dk_at dksX0_hat_2 22 rfl rfl)
theorem dX0_hat_71 : decode cX0_hat 71 = .ok (.getfield 134, 3) := dk_180 0 134 (dk_at dksX0_hat_3 0 rfl rfl)
theorem dX0_hat_74 : decode cX0_hat 74 = .ok (.aload_n 0, 1) := dk_42 (dk_at dksX0_hat_3 3 rfl rfl)
theorem dX0_hat_75 : decode cX0_hat 75 = .ok (.iload_n 1, 1) := dk_27 (dk_at dksX0_hat_3 4 rfl rfl)
theorem dX0_hat_76 : decode cX0_hat 76 = .ok (.iload_n 2, 1) := dk_28 (dk_at dksX0_hat_3 5 rfl rfl)
theorem dX0_hat_77 : decode cX0_hat 77 = .ok (.iload_n 3, 1) := dk_29 (dk_at dksX0_hat_3 6 rfl rfl)
theorem dX0_hat_78 : decode cX0_hat 78 = .ok (.iload 5, 2) := dk_21 5 (dk_at dksX0_hat_3 7 rfl rfl)
theorem dX0_hat_80 : decode cX0_hat 80 = .ok (.invokevirtual 165, 3) := dk_182 0 165 (dk_at dksX0_hat_3 9 rfl rfl)
theorem dX0_hat_83 : decode cX0_hat 83 = .ok (.aastore, 1) := dk_83 (dk_at dksX0_hat_3 12 rfl rfl)
theorem dX0_hat_84 : decode cX0_hat 84 = .ok (.aload_n 0, 1) := dk_42 (dk_at dksX0_hat_3 13 rfl rfl)
theorem dX0_hat_85 : decode cX0_hat 85 = .ok (.getfield 18, 3) := dk_180 0 18 (dk_at dksX0_hat_3 14 rfl rfl)
theorem dX0_hat_88 : decode cX0_hat 88 = .ok (.aload_n 0, 1) := dk_42 (dk_at dksX0_hat_3 17 rfl rfl)
theorem dX0_hat_89 : decode cX0_hat 89 = .ok (.getfield 134, 3) := dk_180 0 134 (dk_at dksX0_hat_3 18 rfl rfl)
theorem dX0_hat_92 : decode cX0_hat 92 = .ok (.iload 4, 2) := dk_21 4 (dk_at dksX0_hat_3 21 rfl rfl)
theorem dX0_hat_94 : decode cX0_hat 94 = .ok (.iastore, 1) := dk_79 (dk_at dksX0_hat_3 23 rfl rfl)
theorem dX0_hat_95 : decode cX0_hat 95 = .ok (.aload_n 0, 1) := dk_42 (dk_at dksX0_hat_4 0 rfl rfl)
theorem dX0_hat_96 : decode cX0_hat 96 = .ok (.getfield 30, 3) := dk_180 0 30 (dk_at dksX0_hat_4 1 rfl rfl)
theorem dX0_hat_99 : decode cX0_hat 99 = .ok (.getfield 169, 3) := dk_180 0 169 (dk_at dksX0_hat_4 4 rfl rfl)
theorem dX0_hat_102 : decode cX0_hat 102 = .ok (.aload_n 0, 1) := dk_42 (dk_at dksX0_hat_4 7 rfl rfl)
theorem dX0_hat_103 : decode cX0_hat 103 = .ok (.getfield 134, 3) := dk_180 0 134 (dk_at dksX0_hat_4 8 rfl rfl)
theorem dX0_hat_106 : decode cX0_hat 106 = .ok (.iconst 0, 1) := dk_3 (dk_at dksX0_hat_4 11 rfl rfl)
theorem dX0_hat_107 : decode cX0_hat 107 = .ok (.iastore, 1) := dk_79 (dk_at dksX0_hat_4 12 rfl rfl)
theorem dX0_hat_108 : decode cX0_hat 108 = .ok (.aload_n 0, 1) := dk_42 (dk_at dksX0_hat_4 13 rfl rfl)
theorem dX0_hat_109 : decode cX0_hat 109 = .ok (.dup, 1) := dk_89 (dk_at dksX0_hat_4 14 rfl rfl)
theorem dX0_hat_110 : decode cX0_hat 110 = .ok (.getfield 134, 3) := dk_180 0 134 (dk_at dksX0_hat_4 15 rfl rfl)
theorem dX0_hat_113 : decode cX0_hat 113 = .ok (.dup_x1, 1) := dk_90 (dk_at dksX0_hat_4 18 rfl rfl)
theorem dX0_hat_114 : decode cX0_hat 114 = .ok (.iconst 1, 1) := dk_4 (dk_at dksX0_hat_4 19 rfl rfl)
theorem dX0_hat_115 : decode cX0_hat 115 = .ok (.iadd, 1) := dk_96 (dk_at dksX0_hat_4 20 rfl rfl)
theorem dX0_hat_116 : decode cX0_hat 116 = .ok (.putfield 134, 3) := dk_181 0 134 (dk_at dksX0_hat_4 21 rfl rfl)
theorem dX0_hat_119 : decode cX0_hat 119 = .ok (.ireturn, 1) := dk_172 (dk_at dksX0_hat_5 0 rfl rfl)
abbrev cX0_isTrade : ByteArray := prog_1_method_6_code
def yX0_isTrade : MethodName := ⟨RX0, "isTrade", "(I)Z"⟩
def dkwX0_isTrade_0 : List UInt8 := [26, 3, 7, 184, 0, 130, 172]
abbrev dktX0_isTrade_0 : List UInt8 := dkwX0_isTrade_0 ++ []
theorem dksX0_isTrade_0 : cX0_isTrade.data.toList.drop 0 = dktX0_isTrade_0 := by decide +kernel
theorem dX0_isTrade_0 : decode cX0_isTrade 0 = .ok (.iload_n 0, 1) := dk_26 (dk_at dksX0_isTrade_0 0 rfl rfl)
theorem dX0_isTrade_1 : decode cX0_isTrade 1 = .ok (.iconst 0, 1) := dk_3 (dk_at dksX0_isTrade_0 1 rfl rfl)
theorem dX0_isTrade_2 : decode cX0_isTrade 2 = .ok (.iconst 4, 1) := dk_7 (dk_at dksX0_isTrade_0 2 rfl rfl)
theorem dX0_isTrade_3 : decode cX0_isTrade 3 = .ok (.invokestatic 130, 3) := dk_184 0 130 (dk_at dksX0_isTrade_0 3 rfl rfl)
theorem dX0_isTrade_6 : decode cX0_isTrade 6 = .ok (.ireturn, 1) := dk_172 (dk_at dksX0_isTrade_0 6 rfl rfl)
abbrev cX0_hatOf : ByteArray := prog_1_method_8_code
def yX0_hatOf : MethodName := ⟨RX0, "hatOf", "(IIII)LHatsDecide$Hat;"⟩
def dkwX0_hatOf_6 : List UInt8 := [29, 21, 4, 183, 0, 159, 176, 187, 0, 21, 89, 42, 42, 180, 0, 134, 28, 29, 21, 4, 183, 0, 160, 176]
abbrev dktX0_hatOf_6 : List UInt8 := dkwX0_hatOf_6 ++ []
def dkwX0_hatOf_5 : List UInt8 := [89, 42, 42, 180, 0, 134, 28, 29, 21, 4, 183, 0, 156, 176, 187, 0, 157, 89, 42, 42, 180, 0, 134, 28]
abbrev dktX0_hatOf_5 : List UInt8 := dkwX0_hatOf_5 ++ dktX0_hatOf_6
def dkwX0_hatOf_4 : List UInt8 := [183, 0, 150, 176, 187, 0, 151, 89, 42, 42, 180, 0, 134, 28, 29, 21, 4, 183, 0, 153, 176, 187, 0, 154]
abbrev dktX0_hatOf_4 : List UInt8 := dkwX0_hatOf_4 ++ dktX0_hatOf_5
def dkwX0_hatOf_3 : List UInt8 := [180, 0, 134, 28, 29, 21, 4, 183, 0, 147, 176, 187, 0, 148, 89, 42, 42, 180, 0, 134, 28, 29, 21, 4]
abbrev dktX0_hatOf_3 : List UInt8 := dkwX0_hatOf_3 ++ dktX0_hatOf_4
def dkwX0_hatOf_2 : List UInt8 := [187, 0, 140, 89, 42, 42, 180, 0, 134, 28, 29, 21, 4, 183, 0, 142, 176, 187, 0, 145, 89, 42, 42]
abbrev dktX0_hatOf_2 : List UInt8 := dkwX0_hatOf_2 ++ dktX0_hatOf_3
def dkwX0_hatOf_1 : List UInt8 := [170, 0, 0, 0, 0, 0, 141, 0, 0, 0, 1, 0, 0, 0, 6, 0, 0, 0, 39, 0, 0, 0, 56, 0, 0, 0, 73, 0, 0, 0, 90, 0, 0, 0, 107, 0, 0, 0, 124]
abbrev dktX0_hatOf_1 : List UInt8 := dkwX0_hatOf_1 ++ dktX0_hatOf_2
def dkwX0_hatOf_0 : List UInt8 := [27]
abbrev dktX0_hatOf_0 : List UInt8 := dkwX0_hatOf_0 ++ dktX0_hatOf_1
theorem dksX0_hatOf_0 : cX0_hatOf.data.toList.drop 0 = dktX0_hatOf_0 := by decide +kernel
theorem dksX0_hatOf_1 : cX0_hatOf.data.toList.drop 1 = dktX0_hatOf_1 := dk_seg dksX0_hatOf_0 1 rfl rfl
theorem dksX0_hatOf_2 : cX0_hatOf.data.toList.drop 40 = dktX0_hatOf_2 := dk_seg dksX0_hatOf_1 39 rfl rfl
theorem dksX0_hatOf_3 : cX0_hatOf.data.toList.drop 63 = dktX0_hatOf_3 := dk_seg dksX0_hatOf_2 23 rfl rfl
theorem dksX0_hatOf_4 : cX0_hatOf.data.toList.drop 87 = dktX0_hatOf_4 := dk_seg dksX0_hatOf_3 24 rfl rfl
theorem dksX0_hatOf_5 : cX0_hatOf.data.toList.drop 111 = dktX0_hatOf_5 := dk_seg dksX0_hatOf_4 24 rfl rfl
theorem dksX0_hatOf_6 : cX0_hatOf.data.toList.drop 135 = dktX0_hatOf_6 := dk_seg dksX0_hatOf_5 24 rfl rfl
theorem dX0_hatOf_0 : decode cX0_hatOf 0 = .ok (.iload_n 1, 1) := dk_27 (dk_at dksX0_hatOf_0 0 rfl rfl)
theorem dX0_hatOf_1 : decode cX0_hatOf 1 = .ok (.tableswitch 141 1 6 #[39, 56, 73, 90, 107, 124], 39) := by decide +kernel
theorem dX0_hatOf_40 : decode cX0_hatOf 40 = .ok (.new 140, 3) := dk_187 0 140 (dk_at dksX0_hatOf_2 0 rfl rfl)
theorem dX0_hatOf_43 : decode cX0_hatOf 43 = .ok (.dup, 1) := dk_89 (dk_at dksX0_hatOf_2 3 rfl rfl)
theorem dX0_hatOf_44 : decode cX0_hatOf 44 = .ok (.aload_n 0, 1) := dk_42 (dk_at dksX0_hatOf_2 4 rfl rfl)
theorem dX0_hatOf_45 : decode cX0_hatOf 45 = .ok (.aload_n 0, 1) := dk_42 (dk_at dksX0_hatOf_2 5 rfl rfl)
theorem dX0_hatOf_46 : decode cX0_hatOf 46 = .ok (.getfield 134, 3) := dk_180 0 134 (dk_at dksX0_hatOf_2 6 rfl rfl)
theorem dX0_hatOf_49 : decode cX0_hatOf 49 = .ok (.iload_n 2, 1) := dk_28 (dk_at dksX0_hatOf_2 9 rfl rfl)
theorem dX0_hatOf_50 : decode cX0_hatOf 50 = .ok (.iload_n 3, 1) := dk_29 (dk_at dksX0_hatOf_2 10 rfl rfl)
theorem dX0_hatOf_51 : decode cX0_hatOf 51 = .ok (.iload 4, 2) := dk_21 4 (dk_at dksX0_hatOf_2 11 rfl rfl)
theorem dX0_hatOf_53 : decode cX0_hatOf 53 = .ok (.invokespecial 142, 3) := dk_183 0 142 (dk_at dksX0_hatOf_2 13 rfl rfl)
theorem dX0_hatOf_56 : decode cX0_hatOf 56 = .ok (.areturn, 1) := dk_176 (dk_at dksX0_hatOf_2 16 rfl rfl)
theorem dX0_hatOf_57 : decode cX0_hatOf 57 = .ok (.new 145, 3) := dk_187 0 145 (dk_at dksX0_hatOf_2 17 rfl rfl)
theorem dX0_hatOf_60 : decode cX0_hatOf 60 = .ok (.dup, 1) := dk_89 (dk_at dksX0_hatOf_2 20 rfl rfl)
theorem dX0_hatOf_61 : decode cX0_hatOf 61 = .ok (.aload_n 0, 1) := dk_42 (dk_at dksX0_hatOf_2 21 rfl rfl)
theorem dX0_hatOf_62 : decode cX0_hatOf 62 = .ok (.aload_n 0, 1) := dk_42 (dk_at dksX0_hatOf_2 22 rfl rfl)
theorem dX0_hatOf_63 : decode cX0_hatOf 63 = .ok (.getfield 134, 3) := dk_180 0 134 (dk_at dksX0_hatOf_3 0 rfl rfl)
theorem dX0_hatOf_66 : decode cX0_hatOf 66 = .ok (.iload_n 2, 1) := dk_28 (dk_at dksX0_hatOf_3 3 rfl rfl)
theorem dX0_hatOf_67 : decode cX0_hatOf 67 = .ok (.iload_n 3, 1) := dk_29 (dk_at dksX0_hatOf_3 4 rfl rfl)
theorem dX0_hatOf_68 : decode cX0_hatOf 68 = .ok (.iload 4, 2) := dk_21 4 (dk_at dksX0_hatOf_3 5 rfl rfl)
theorem dX0_hatOf_70 : decode cX0_hatOf 70 = .ok (.invokespecial 147, 3) := dk_183 0 147 (dk_at dksX0_hatOf_3 7 rfl rfl)
theorem dX0_hatOf_73 : decode cX0_hatOf 73 = .ok (.areturn, 1) := dk_176 (dk_at dksX0_hatOf_3 10 rfl rfl)
theorem dX0_hatOf_74 : decode cX0_hatOf 74 = .ok (.new 148, 3) := dk_187 0 148 (dk_at dksX0_hatOf_3 11 rfl rfl)
theorem dX0_hatOf_77 : decode cX0_hatOf 77 = .ok (.dup, 1) := dk_89 (dk_at dksX0_hatOf_3 14 rfl rfl)
theorem dX0_hatOf_78 : decode cX0_hatOf 78 = .ok (.aload_n 0, 1) := dk_42 (dk_at dksX0_hatOf_3 15 rfl rfl)
theorem dX0_hatOf_79 : decode cX0_hatOf 79 = .ok (.aload_n 0, 1) := dk_42 (dk_at dksX0_hatOf_3 16 rfl rfl)
theorem dX0_hatOf_80 : decode cX0_hatOf 80 = .ok (.getfield 134, 3) := dk_180 0 134 (dk_at dksX0_hatOf_3 17 rfl rfl)
theorem dX0_hatOf_83 : decode cX0_hatOf 83 = .ok (.iload_n 2, 1) := dk_28 (dk_at dksX0_hatOf_3 20 rfl rfl)
theorem dX0_hatOf_84 : decode cX0_hatOf 84 = .ok (.iload_n 3, 1) := dk_29 (dk_at dksX0_hatOf_3 21 rfl rfl)
theorem dX0_hatOf_85 : decode cX0_hatOf 85 = .ok (.iload 4, 2) := dk_21 4 (dk_at dksX0_hatOf_3 22 rfl rfl)
theorem dX0_hatOf_87 : decode cX0_hatOf 87 = .ok (.invokespecial 150, 3) := dk_183 0 150 (dk_at dksX0_hatOf_4 0 rfl rfl)
theorem dX0_hatOf_90 : decode cX0_hatOf 90 = .ok (.areturn, 1) := dk_176 (dk_at dksX0_hatOf_4 3 rfl rfl)
theorem dX0_hatOf_91 : decode cX0_hatOf 91 = .ok (.new 151, 3) := dk_187 0 151 (dk_at dksX0_hatOf_4 4 rfl rfl)
theorem dX0_hatOf_94 : decode cX0_hatOf 94 = .ok (.dup, 1) := dk_89 (dk_at dksX0_hatOf_4 7 rfl rfl)
theorem dX0_hatOf_95 : decode cX0_hatOf 95 = .ok (.aload_n 0, 1) := dk_42 (dk_at dksX0_hatOf_4 8 rfl rfl)
theorem dX0_hatOf_96 : decode cX0_hatOf 96 = .ok (.aload_n 0, 1) := dk_42 (dk_at dksX0_hatOf_4 9 rfl rfl)
theorem dX0_hatOf_97 : decode cX0_hatOf 97 = .ok (.getfield 134, 3) := dk_180 0 134 (dk_at dksX0_hatOf_4 10 rfl rfl)
theorem dX0_hatOf_100 : decode cX0_hatOf 100 = .ok (.iload_n 2, 1) := dk_28 (dk_at dksX0_hatOf_4 13 rfl rfl)
theorem dX0_hatOf_101 : decode cX0_hatOf 101 = .ok (.iload_n 3, 1) := dk_29 (dk_at dksX0_hatOf_4 14 rfl rfl)
theorem dX0_hatOf_102 : decode cX0_hatOf 102 = .ok (.iload 4, 2) := dk_21 4 (dk_at dksX0_hatOf_4 15 rfl rfl)
theorem dX0_hatOf_104 : decode cX0_hatOf 104 = .ok (.invokespecial 153, 3) := dk_183 0 153 (dk_at dksX0_hatOf_4 17 rfl rfl)
theorem dX0_hatOf_107 : decode cX0_hatOf 107 = .ok (.areturn, 1) := dk_176 (dk_at dksX0_hatOf_4 20 rfl rfl)
theorem dX0_hatOf_108 : decode cX0_hatOf 108 = .ok (.new 154, 3) := dk_187 0 154 (dk_at dksX0_hatOf_4 21 rfl rfl)
theorem dX0_hatOf_111 : decode cX0_hatOf 111 = .ok (.dup, 1) := dk_89 (dk_at dksX0_hatOf_5 0 rfl rfl)
theorem dX0_hatOf_112 : decode cX0_hatOf 112 = .ok (.aload_n 0, 1) := dk_42 (dk_at dksX0_hatOf_5 1 rfl rfl)
theorem dX0_hatOf_113 : decode cX0_hatOf 113 = .ok (.aload_n 0, 1) := dk_42 (dk_at dksX0_hatOf_5 2 rfl rfl)
theorem dX0_hatOf_114 : decode cX0_hatOf 114 = .ok (.getfield 134, 3) := dk_180 0 134 (dk_at dksX0_hatOf_5 3 rfl rfl)
theorem dX0_hatOf_117 : decode cX0_hatOf 117 = .ok (.iload_n 2, 1) := dk_28 (dk_at dksX0_hatOf_5 6 rfl rfl)
theorem dX0_hatOf_118 : decode cX0_hatOf 118 = .ok (.iload_n 3, 1) := dk_29 (dk_at dksX0_hatOf_5 7 rfl rfl)
theorem dX0_hatOf_119 : decode cX0_hatOf 119 = .ok (.iload 4, 2) := dk_21 4 (dk_at dksX0_hatOf_5 8 rfl rfl)
theorem dX0_hatOf_121 : decode cX0_hatOf 121 = .ok (.invokespecial 156, 3) := dk_183 0 156 (dk_at dksX0_hatOf_5 10 rfl rfl)
theorem dX0_hatOf_124 : decode cX0_hatOf 124 = .ok (.areturn, 1) := dk_176 (dk_at dksX0_hatOf_5 13 rfl rfl)
theorem dX0_hatOf_125 : decode cX0_hatOf 125 = .ok (.new 157, 3) := dk_187 0 157 (dk_at dksX0_hatOf_5 14 rfl rfl)
theorem dX0_hatOf_128 : decode cX0_hatOf 128 = .ok (.dup, 1) := dk_89 (dk_at dksX0_hatOf_5 17 rfl rfl)
theorem dX0_hatOf_129 : decode cX0_hatOf 129 = .ok (.aload_n 0, 1) := dk_42 (dk_at dksX0_hatOf_5 18 rfl rfl)
theorem dX0_hatOf_130 : decode cX0_hatOf 130 = .ok (.aload_n 0, 1) := dk_42 (dk_at dksX0_hatOf_5 19 rfl rfl)
theorem dX0_hatOf_131 : decode cX0_hatOf 131 = .ok (.getfield 134, 3) := dk_180 0 134 (dk_at dksX0_hatOf_5 20 rfl rfl)
theorem dX0_hatOf_134 : decode cX0_hatOf 134 = .ok (.iload_n 2, 1) := dk_28 (dk_at dksX0_hatOf_5 23 rfl rfl)
theorem dX0_hatOf_135 : decode cX0_hatOf 135 = .ok (.iload_n 3, 1) := dk_29 (dk_at dksX0_hatOf_6 0 rfl rfl)
theorem dX0_hatOf_136 : decode cX0_hatOf 136 = .ok (.iload 4, 2) := dk_21 4 (dk_at dksX0_hatOf_6 1 rfl rfl)
theorem dX0_hatOf_138 : decode cX0_hatOf 138 = .ok (.invokespecial 159, 3) := dk_183 0 159 (dk_at dksX0_hatOf_6 3 rfl rfl)
theorem dX0_hatOf_141 : decode cX0_hatOf 141 = .ok (.areturn, 1) := dk_176 (dk_at dksX0_hatOf_6 6 rfl rfl)
theorem dX0_hatOf_142 : decode cX0_hatOf 142 = .ok (.new 21, 3) := dk_187 0 21 (dk_at dksX0_hatOf_6 7 rfl rfl)
theorem dX0_hatOf_145 : decode cX0_hatOf 145 = .ok (.dup, 1) := dk_89 (dk_at dksX0_hatOf_6 10 rfl rfl)
theorem dX0_hatOf_146 : decode cX0_hatOf 146 = .ok (.aload_n 0, 1) := dk_42 (dk_at dksX0_hatOf_6 11 rfl rfl)
theorem dX0_hatOf_147 : decode cX0_hatOf 147 = .ok (.aload_n 0, 1) := dk_42 (dk_at dksX0_hatOf_6 12 rfl rfl)
theorem dX0_hatOf_148 : decode cX0_hatOf 148 = .ok (.getfield 134, 3) := dk_180 0 134 (dk_at dksX0_hatOf_6 13 rfl rfl)
theorem dX0_hatOf_151 : decode cX0_hatOf 151 = .ok (.iload_n 2, 1) := dk_28 (dk_at dksX0_hatOf_6 16 rfl rfl)
theorem dX0_hatOf_152 : decode cX0_hatOf 152 = .ok (.iload_n 3, 1) := dk_29 (dk_at dksX0_hatOf_6 17 rfl rfl)
theorem dX0_hatOf_153 : decode cX0_hatOf 153 = .ok (.iload 4, 2) := dk_21 4 (dk_at dksX0_hatOf_6 18 rfl rfl)
theorem dX0_hatOf_155 : decode cX0_hatOf 155 = .ok (.invokespecial 160, 3) := dk_183 0 160 (dk_at dksX0_hatOf_6 20 rfl rfl)
theorem dX0_hatOf_158 : decode cX0_hatOf 158 = .ok (.areturn, 1) := dk_176 (dk_at dksX0_hatOf_6 23 rfl rfl)
abbrev cX0_of : ByteArray := prog_1_method_11_code
def yX0_of : MethodName := ⟨RX0, "of", "(II)I"⟩
def dkwX0_of_6 : List UInt8 := [167, 0, 6, 17, 216, 239, 172]
abbrev dktX0_of_6 : List UInt8 := dkwX0_of_6 ++ []
def dkwX0_of_5 : List UInt8 := [16, 10, 100, 182, 0, 218, 153, 0, 19, 42, 42, 180, 0, 30, 27, 28, 16, 10, 100, 182, 0, 221]
abbrev dktX0_of_5 : List UInt8 := dkwX0_of_5 ++ dktX0_of_6
def dkwX0_of_4 : List UInt8 := [180, 0, 30, 180, 0, 169, 27, 46, 172, 42, 180, 0, 30, 27, 182, 0, 211, 184, 0, 215, 172, 42, 28]
abbrev dktX0_of_4 : List UInt8 := dkwX0_of_4 ++ dktX0_of_5
def dkwX0_of_3 : List UInt8 := [27, 50, 180, 0, 208, 172, 42, 180, 0, 18, 27, 46, 172, 42, 180, 0, 23, 27, 50, 180, 0, 184, 172, 42]
abbrev dktX0_of_3 : List UInt8 := dkwX0_of_3 ++ dktX0_of_4
def dkwX0_of_2 : List UInt8 := [42, 180, 0, 23, 27, 50, 182, 0, 178, 172, 42, 180, 0, 23, 27, 50, 180, 0, 205, 172, 42, 180, 0, 23]
abbrev dktX0_of_2 : List UInt8 := dkwX0_of_2 ++ dktX0_of_3
def dkwX0_of_1 : List UInt8 := [170, 0, 0, 0, 0, 0, 112, 0, 0, 0, 0, 0, 0, 0, 6, 0, 0, 0, 43, 0, 0, 0, 53, 0, 0, 0, 63, 0, 0, 0, 73, 0, 0, 0, 80, 0, 0, 0, 90, 0, 0, 0, 100]
abbrev dktX0_of_1 : List UInt8 := dkwX0_of_1 ++ dktX0_of_2
def dkwX0_of_0 : List UInt8 := [42, 27, 182, 0, 202, 154, 0, 7, 17, 216, 239, 172, 28]
abbrev dktX0_of_0 : List UInt8 := dkwX0_of_0 ++ dktX0_of_1
theorem dksX0_of_0 : cX0_of.data.toList.drop 0 = dktX0_of_0 := by decide +kernel
theorem dksX0_of_1 : cX0_of.data.toList.drop 13 = dktX0_of_1 := dk_seg dksX0_of_0 13 rfl rfl
theorem dksX0_of_2 : cX0_of.data.toList.drop 56 = dktX0_of_2 := dk_seg dksX0_of_1 43 rfl rfl
theorem dksX0_of_3 : cX0_of.data.toList.drop 80 = dktX0_of_3 := dk_seg dksX0_of_2 24 rfl rfl
theorem dksX0_of_4 : cX0_of.data.toList.drop 104 = dktX0_of_4 := dk_seg dksX0_of_3 24 rfl rfl
theorem dksX0_of_5 : cX0_of.data.toList.drop 127 = dktX0_of_5 := dk_seg dksX0_of_4 23 rfl rfl
theorem dksX0_of_6 : cX0_of.data.toList.drop 149 = dktX0_of_6 := dk_seg dksX0_of_5 22 rfl rfl
theorem dX0_of_0 : decode cX0_of 0 = .ok (.aload_n 0, 1) := dk_42 (dk_at dksX0_of_0 0 rfl rfl)
theorem dX0_of_1 : decode cX0_of 1 = .ok (.iload_n 1, 1) := dk_27 (dk_at dksX0_of_0 1 rfl rfl)
theorem dX0_of_2 : decode cX0_of 2 = .ok (.invokevirtual 202, 3) := dk_182 0 202 (dk_at dksX0_of_0 2 rfl rfl)
theorem dX0_of_5 : decode cX0_of 5 = .ok (.ifCond .ne 7, 3) := dk_154 0 7 (dk_at dksX0_of_0 5 rfl rfl)
theorem dX0_of_8 : decode cX0_of 8 = .ok (.sipush (-10001), 3) := dk_17 216 239 (dk_at dksX0_of_0 8 rfl rfl)
theorem dX0_of_11 : decode cX0_of 11 = .ok (.ireturn, 1) := dk_172 (dk_at dksX0_of_0 11 rfl rfl)
theorem dX0_of_12 : decode cX0_of 12 = .ok (.iload_n 2, 1) := dk_28 (dk_at dksX0_of_0 12 rfl rfl)
theorem dX0_of_13 : decode cX0_of 13 = .ok (.tableswitch 112 0 6 #[43, 53, 63, 73, 80, 90, 100], 43) := by decide +kernel
theorem dX0_of_56 : decode cX0_of 56 = .ok (.aload_n 0, 1) := dk_42 (dk_at dksX0_of_2 0 rfl rfl)
theorem dX0_of_57 : decode cX0_of 57 = .ok (.getfield 23, 3) := dk_180 0 23 (dk_at dksX0_of_2 1 rfl rfl)
theorem dX0_of_60 : decode cX0_of 60 = .ok (.iload_n 1, 1) := dk_27 (dk_at dksX0_of_2 4 rfl rfl)
theorem dX0_of_61 : decode cX0_of 61 = .ok (.aaload, 1) := dk_50 (dk_at dksX0_of_2 5 rfl rfl)
theorem dX0_of_62 : decode cX0_of 62 = .ok (.invokevirtual 178, 3) := dk_182 0 178 (dk_at dksX0_of_2 6 rfl rfl)
theorem dX0_of_65 : decode cX0_of 65 = .ok (.ireturn, 1) := dk_172 (dk_at dksX0_of_2 9 rfl rfl)
theorem dX0_of_66 : decode cX0_of 66 = .ok (.aload_n 0, 1) := dk_42 (dk_at dksX0_of_2 10 rfl rfl)
theorem dX0_of_67 : decode cX0_of 67 = .ok (.getfield 23, 3) := dk_180 0 23 (dk_at dksX0_of_2 11 rfl rfl)
theorem dX0_of_70 : decode cX0_of 70 = .ok (.iload_n 1, 1) := dk_27 (dk_at dksX0_of_2 14 rfl rfl)
theorem dX0_of_71 : decode cX0_of 71 = .ok (.aaload, 1) := dk_50 (dk_at dksX0_of_2 15 rfl rfl)
theorem dX0_of_72 : decode cX0_of 72 = .ok (.getfield 205, 3) := dk_180 0 205 (dk_at dksX0_of_2 16 rfl rfl)
theorem dX0_of_75 : decode cX0_of 75 = .ok (.ireturn, 1) := dk_172 (dk_at dksX0_of_2 19 rfl rfl)
theorem dX0_of_76 : decode cX0_of 76 = .ok (.aload_n 0, 1) := dk_42 (dk_at dksX0_of_2 20 rfl rfl)
theorem dX0_of_77 : decode cX0_of 77 = .ok (.getfield 23, 3) := dk_180 0 23 (dk_at dksX0_of_2 21 rfl rfl)
theorem dX0_of_80 : decode cX0_of 80 = .ok (.iload_n 1, 1) := dk_27 (dk_at dksX0_of_3 0 rfl rfl)
theorem dX0_of_81 : decode cX0_of 81 = .ok (.aaload, 1) := dk_50 (dk_at dksX0_of_3 1 rfl rfl)
theorem dX0_of_82 : decode cX0_of 82 = .ok (.getfield 208, 3) := dk_180 0 208 (dk_at dksX0_of_3 2 rfl rfl)
theorem dX0_of_85 : decode cX0_of 85 = .ok (.ireturn, 1) := dk_172 (dk_at dksX0_of_3 5 rfl rfl)
theorem dX0_of_86 : decode cX0_of 86 = .ok (.aload_n 0, 1) := dk_42 (dk_at dksX0_of_3 6 rfl rfl)
theorem dX0_of_87 : decode cX0_of 87 = .ok (.getfield 18, 3) := dk_180 0 18 (dk_at dksX0_of_3 7 rfl rfl)
theorem dX0_of_90 : decode cX0_of 90 = .ok (.iload_n 1, 1) := dk_27 (dk_at dksX0_of_3 10 rfl rfl)
theorem dX0_of_91 : decode cX0_of 91 = .ok (.iaload, 1) := dk_46 (dk_at dksX0_of_3 11 rfl rfl)
theorem dX0_of_92 : decode cX0_of 92 = .ok (.ireturn, 1) := dk_172 (dk_at dksX0_of_3 12 rfl rfl)
theorem dX0_of_93 : decode cX0_of 93 = .ok (.aload_n 0, 1) := dk_42 (dk_at dksX0_of_3 13 rfl rfl)
theorem dX0_of_94 : decode cX0_of 94 = .ok (.getfield 23, 3) := dk_180 0 23 (dk_at dksX0_of_3 14 rfl rfl)
theorem dX0_of_97 : decode cX0_of 97 = .ok (.iload_n 1, 1) := dk_27 (dk_at dksX0_of_3 17 rfl rfl)
theorem dX0_of_98 : decode cX0_of 98 = .ok (.aaload, 1) := dk_50 (dk_at dksX0_of_3 18 rfl rfl)
theorem dX0_of_99 : decode cX0_of 99 = .ok (.getfield 184, 3) := dk_180 0 184 (dk_at dksX0_of_3 19 rfl rfl)
theorem dX0_of_102 : decode cX0_of 102 = .ok (.ireturn, 1) := dk_172 (dk_at dksX0_of_3 22 rfl rfl)
theorem dX0_of_103 : decode cX0_of 103 = .ok (.aload_n 0, 1) := dk_42 (dk_at dksX0_of_3 23 rfl rfl)
theorem dX0_of_104 : decode cX0_of 104 = .ok (.getfield 30, 3) := dk_180 0 30 (dk_at dksX0_of_4 0 rfl rfl)
theorem dX0_of_107 : decode cX0_of 107 = .ok (.getfield 169, 3) := dk_180 0 169 (dk_at dksX0_of_4 3 rfl rfl)
theorem dX0_of_110 : decode cX0_of 110 = .ok (.iload_n 1, 1) := dk_27 (dk_at dksX0_of_4 6 rfl rfl)
theorem dX0_of_111 : decode cX0_of 111 = .ok (.iaload, 1) := dk_46 (dk_at dksX0_of_4 7 rfl rfl)
theorem dX0_of_112 : decode cX0_of 112 = .ok (.ireturn, 1) := dk_172 (dk_at dksX0_of_4 8 rfl rfl)
theorem dX0_of_113 : decode cX0_of 113 = .ok (.aload_n 0, 1) := dk_42 (dk_at dksX0_of_4 9 rfl rfl)
theorem dX0_of_114 : decode cX0_of 114 = .ok (.getfield 30, 3) := dk_180 0 30 (dk_at dksX0_of_4 10 rfl rfl)
theorem dX0_of_117 : decode cX0_of 117 = .ok (.iload_n 1, 1) := dk_27 (dk_at dksX0_of_4 13 rfl rfl)
theorem dX0_of_118 : decode cX0_of 118 = .ok (.invokevirtual 211, 3) := dk_182 0 211 (dk_at dksX0_of_4 14 rfl rfl)
theorem dX0_of_121 : decode cX0_of 121 = .ok (.invokestatic 215, 3) := dk_184 0 215 (dk_at dksX0_of_4 17 rfl rfl)
theorem dX0_of_124 : decode cX0_of 124 = .ok (.ireturn, 1) := dk_172 (dk_at dksX0_of_4 20 rfl rfl)
theorem dX0_of_125 : decode cX0_of 125 = .ok (.aload_n 0, 1) := dk_42 (dk_at dksX0_of_4 21 rfl rfl)
theorem dX0_of_126 : decode cX0_of 126 = .ok (.iload_n 2, 1) := dk_28 (dk_at dksX0_of_4 22 rfl rfl)
theorem dX0_of_127 : decode cX0_of 127 = .ok (.bipush 10, 2) := dk_16 10 (dk_at dksX0_of_5 0 rfl rfl)
theorem dX0_of_129 : decode cX0_of 129 = .ok (.isub, 1) := dk_100 (dk_at dksX0_of_5 2 rfl rfl)
theorem dX0_of_130 : decode cX0_of 130 = .ok (.invokevirtual 218, 3) := dk_182 0 218 (dk_at dksX0_of_5 3 rfl rfl)
theorem dX0_of_133 : decode cX0_of 133 = .ok (.ifCond .eq 19, 3) := dk_153 0 19 (dk_at dksX0_of_5 6 rfl rfl)
theorem dX0_of_136 : decode cX0_of 136 = .ok (.aload_n 0, 1) := dk_42 (dk_at dksX0_of_5 9 rfl rfl)
theorem dX0_of_137 : decode cX0_of 137 = .ok (.aload_n 0, 1) := dk_42 (dk_at dksX0_of_5 10 rfl rfl)
theorem dX0_of_138 : decode cX0_of 138 = .ok (.getfield 30, 3) := dk_180 0 30 (dk_at dksX0_of_5 11 rfl rfl)
theorem dX0_of_141 : decode cX0_of 141 = .ok (.iload_n 1, 1) := dk_27 (dk_at dksX0_of_5 14 rfl rfl)
theorem dX0_of_142 : decode cX0_of 142 = .ok (.iload_n 2, 1) := dk_28 (dk_at dksX0_of_5 15 rfl rfl)
theorem dX0_of_143 : decode cX0_of 143 = .ok (.bipush 10, 2) := dk_16 10 (dk_at dksX0_of_5 16 rfl rfl)
theorem dX0_of_145 : decode cX0_of 145 = .ok (.isub, 1) := dk_100 (dk_at dksX0_of_5 18 rfl rfl)
theorem dX0_of_146 : decode cX0_of 146 = .ok (.invokevirtual 221, 3) := dk_182 0 221 (dk_at dksX0_of_5 19 rfl rfl)
theorem dX0_of_149 : decode cX0_of 149 = .ok (.goto 6, 3) := dk_167 0 6 (dk_at dksX0_of_6 0 rfl rfl)
theorem dX0_of_152 : decode cX0_of 152 = .ok (.sipush (-10001), 3) := dk_17 216 239 (dk_at dksX0_of_6 3 rfl rfl)
theorem dX0_of_155 : decode cX0_of 155 = .ok (.ireturn, 1) := dk_172 (dk_at dksX0_of_6 6 rfl rfl)
abbrev cX0_isHat : ByteArray := prog_1_method_5_code
def yX0_isHat : MethodName := ⟨RX0, "isHat", "(I)Z"⟩
def dkwX0_isHat_0 : List UInt8 := [27, 3, 42, 180, 0, 134, 4, 100, 184, 0, 130, 172]
abbrev dktX0_isHat_0 : List UInt8 := dkwX0_isHat_0 ++ []
theorem dksX0_isHat_0 : cX0_isHat.data.toList.drop 0 = dktX0_isHat_0 := by decide +kernel
theorem dX0_isHat_0 : decode cX0_isHat 0 = .ok (.iload_n 1, 1) := dk_27 (dk_at dksX0_isHat_0 0 rfl rfl)
theorem dX0_isHat_1 : decode cX0_isHat 1 = .ok (.iconst 0, 1) := dk_3 (dk_at dksX0_isHat_0 1 rfl rfl)
theorem dX0_isHat_2 : decode cX0_isHat 2 = .ok (.aload_n 0, 1) := dk_42 (dk_at dksX0_isHat_0 2 rfl rfl)
theorem dX0_isHat_3 : decode cX0_isHat 3 = .ok (.getfield 134, 3) := dk_180 0 134 (dk_at dksX0_isHat_0 3 rfl rfl)
theorem dX0_isHat_6 : decode cX0_isHat 6 = .ok (.iconst 1, 1) := dk_4 (dk_at dksX0_isHat_0 6 rfl rfl)
theorem dX0_isHat_7 : decode cX0_isHat 7 = .ok (.isub, 1) := dk_100 (dk_at dksX0_isHat_0 7 rfl rfl)
theorem dX0_isHat_8 : decode cX0_isHat 8 = .ok (.invokestatic 130, 3) := dk_184 0 130 (dk_at dksX0_isHat_0 8 rfl rfl)
theorem dX0_isHat_11 : decode cX0_isHat 11 = .ok (.ireturn, 1) := dk_172 (dk_at dksX0_isHat_0 11 rfl rfl)
abbrev cX0_orNone : ByteArray := prog_1_method_2_code
def yX0_orNone : MethodName := ⟨RX0, "orNone", "(I)I"⟩
def dkwX0_orNone_0 : List UInt8 := [26, 2, 160, 0, 8, 16, 251, 167, 0, 4, 26, 172]
abbrev dktX0_orNone_0 : List UInt8 := dkwX0_orNone_0 ++ []
theorem dksX0_orNone_0 : cX0_orNone.data.toList.drop 0 = dktX0_orNone_0 := by decide +kernel
theorem dX0_orNone_0 : decode cX0_orNone 0 = .ok (.iload_n 0, 1) := dk_26 (dk_at dksX0_orNone_0 0 rfl rfl)
theorem dX0_orNone_1 : decode cX0_orNone 1 = .ok (.iconst (-1), 1) := dk_2 (dk_at dksX0_orNone_0 1 rfl rfl)
theorem dX0_orNone_2 : decode cX0_orNone 2 = .ok (.if_icmp .ne 8, 3) := dk_160 0 8 (dk_at dksX0_orNone_0 2 rfl rfl)
theorem dX0_orNone_5 : decode cX0_orNone 5 = .ok (.bipush (-5), 2) := dk_16 251 (dk_at dksX0_orNone_0 5 rfl rfl)
theorem dX0_orNone_7 : decode cX0_orNone 7 = .ok (.goto 4, 3) := dk_167 0 4 (dk_at dksX0_orNone_0 7 rfl rfl)
theorem dX0_orNone_10 : decode cX0_orNone 10 = .ok (.iload_n 0, 1) := dk_26 (dk_at dksX0_orNone_0 10 rfl rfl)
theorem dX0_orNone_11 : decode cX0_orNone 11 = .ok (.ireturn, 1) := dk_172 (dk_at dksX0_orNone_0 11 rfl rfl)
abbrev cX0_isHead : ByteArray := prog_1_method_4_code
def yX0_isHead : MethodName := ⟨RX0, "isHead", "(I)Z"⟩
def dkwX0_isHead_0 : List UInt8 := [27, 3, 42, 180, 0, 30, 180, 0, 126, 4, 100, 184, 0, 130, 172]
abbrev dktX0_isHead_0 : List UInt8 := dkwX0_isHead_0 ++ []
theorem dksX0_isHead_0 : cX0_isHead.data.toList.drop 0 = dktX0_isHead_0 := by decide +kernel
theorem dX0_isHead_0 : decode cX0_isHead 0 = .ok (.iload_n 1, 1) := dk_27 (dk_at dksX0_isHead_0 0 rfl rfl)
theorem dX0_isHead_1 : decode cX0_isHead 1 = .ok (.iconst 0, 1) := dk_3 (dk_at dksX0_isHead_0 1 rfl rfl)
theorem dX0_isHead_2 : decode cX0_isHead 2 = .ok (.aload_n 0, 1) := dk_42 (dk_at dksX0_isHead_0 2 rfl rfl)
theorem dX0_isHead_3 : decode cX0_isHead 3 = .ok (.getfield 30, 3) := dk_180 0 30 (dk_at dksX0_isHead_0 3 rfl rfl)
theorem dX0_isHead_6 : decode cX0_isHead 6 = .ok (.getfield 126, 3) := dk_180 0 126 (dk_at dksX0_isHead_0 6 rfl rfl)
theorem dX0_isHead_9 : decode cX0_isHead 9 = .ok (.iconst 1, 1) := dk_4 (dk_at dksX0_isHead_0 9 rfl rfl)
theorem dX0_isHead_10 : decode cX0_isHead 10 = .ok (.isub, 1) := dk_100 (dk_at dksX0_isHead_0 10 rfl rfl)
theorem dX0_isHead_11 : decode cX0_isHead 11 = .ok (.invokestatic 130, 3) := dk_184 0 130 (dk_at dksX0_isHead_0 11 rfl rfl)
theorem dX0_isHead_14 : decode cX0_isHead 14 = .ok (.ireturn, 1) := dk_172 (dk_at dksX0_isHead_0 14 rfl rfl)
abbrev cX0_deedOf : ByteArray := prog_1_method_10_code
def yX0_deedOf : MethodName := ⟨RX0, "deedOf", "(LHatsDecide$Time;II)I"⟩
def dkwX0_deedOf_4 : List UInt8 := [46, 43, 180, 0, 169, 28, 46, 43, 180, 0, 190, 182, 0, 198, 172]
abbrev dktX0_deedOf_4 : List UInt8 := dkwX0_deedOf_4 ++ []
def dkwX0_deedOf_3 : List UInt8 := [16, 7, 112, 181, 0, 193, 25, 4, 42, 180, 0, 47, 42, 180, 0, 54, 182, 0, 194, 42, 180, 0, 11, 29]
abbrev dktX0_deedOf_3 : List UInt8 := dkwX0_deedOf_3 ++ dktX0_deedOf_4
def dkwX0_deedOf_2 : List UInt8 := [42, 180, 0, 54, 43, 180, 0, 169, 28, 46, 16, 10, 112, 181, 0, 188, 42, 180, 0, 54, 43, 180, 0, 190]
abbrev dktX0_deedOf_2 : List UInt8 := dkwX0_deedOf_2 ++ dktX0_deedOf_3
def dkwX0_deedOf_1 : List UInt8 := [42, 180, 0, 54, 25, 4, 182, 0, 178, 181, 0, 182, 42, 180, 0, 54, 25, 4, 180, 0, 184, 181, 0, 187]
abbrev dktX0_deedOf_1 : List UInt8 := dkwX0_deedOf_1 ++ dktX0_deedOf_2
def dkwX0_deedOf_0 : List UInt8 := [42, 180, 0, 23, 28, 50, 58, 4, 42, 180, 0, 54, 28, 181, 0, 172, 42, 180, 0, 54, 29, 181, 0, 175]
abbrev dktX0_deedOf_0 : List UInt8 := dkwX0_deedOf_0 ++ dktX0_deedOf_1
theorem dksX0_deedOf_0 : cX0_deedOf.data.toList.drop 0 = dktX0_deedOf_0 := by decide +kernel
theorem dksX0_deedOf_1 : cX0_deedOf.data.toList.drop 24 = dktX0_deedOf_1 := dk_seg dksX0_deedOf_0 24 rfl rfl
theorem dksX0_deedOf_2 : cX0_deedOf.data.toList.drop 48 = dktX0_deedOf_2 := dk_seg dksX0_deedOf_1 24 rfl rfl
theorem dksX0_deedOf_3 : cX0_deedOf.data.toList.drop 72 = dktX0_deedOf_3 := dk_seg dksX0_deedOf_2 24 rfl rfl
theorem dksX0_deedOf_4 : cX0_deedOf.data.toList.drop 96 = dktX0_deedOf_4 := dk_seg dksX0_deedOf_3 24 rfl rfl
theorem dX0_deedOf_0 : decode cX0_deedOf 0 = .ok (.aload_n 0, 1) := dk_42 (dk_at dksX0_deedOf_0 0 rfl rfl)
theorem dX0_deedOf_1 : decode cX0_deedOf 1 = .ok (.getfield 23, 3) := dk_180 0 23 (dk_at dksX0_deedOf_0 1 rfl rfl)
theorem dX0_deedOf_4 : decode cX0_deedOf 4 = .ok (.iload_n 2, 1) := dk_28 (dk_at dksX0_deedOf_0 4 rfl rfl)
theorem dX0_deedOf_5 : decode cX0_deedOf 5 = .ok (.aaload, 1) := dk_50 (dk_at dksX0_deedOf_0 5 rfl rfl)
theorem dX0_deedOf_6 : decode cX0_deedOf 6 = .ok (.astore 4, 2) := dk_58 4 (dk_at dksX0_deedOf_0 6 rfl rfl)
theorem dX0_deedOf_8 : decode cX0_deedOf 8 = .ok (.aload_n 0, 1) := dk_42 (dk_at dksX0_deedOf_0 8 rfl rfl)
theorem dX0_deedOf_9 : decode cX0_deedOf 9 = .ok (.getfield 54, 3) := dk_180 0 54 (dk_at dksX0_deedOf_0 9 rfl rfl)
theorem dX0_deedOf_12 : decode cX0_deedOf 12 = .ok (.iload_n 2, 1) := dk_28 (dk_at dksX0_deedOf_0 12 rfl rfl)
theorem dX0_deedOf_13 : decode cX0_deedOf 13 = .ok (.putfield 172, 3) := dk_181 0 172 (dk_at dksX0_deedOf_0 13 rfl rfl)
theorem dX0_deedOf_16 : decode cX0_deedOf 16 = .ok (.aload_n 0, 1) := dk_42 (dk_at dksX0_deedOf_0 16 rfl rfl)
theorem dX0_deedOf_17 : decode cX0_deedOf 17 = .ok (.getfield 54, 3) := dk_180 0 54 (dk_at dksX0_deedOf_0 17 rfl rfl)
theorem dX0_deedOf_20 : decode cX0_deedOf 20 = .ok (.iload_n 3, 1) := dk_29 (dk_at dksX0_deedOf_0 20 rfl rfl)
theorem dX0_deedOf_21 : decode cX0_deedOf 21 = .ok (.putfield 175, 3) := dk_181 0 175 (dk_at dksX0_deedOf_0 21 rfl rfl)
theorem dX0_deedOf_24 : decode cX0_deedOf 24 = .ok (.aload_n 0, 1) := dk_42 (dk_at dksX0_deedOf_1 0 rfl rfl)
theorem dX0_deedOf_25 : decode cX0_deedOf 25 = .ok (.getfield 54, 3) := dk_180 0 54 (dk_at dksX0_deedOf_1 1 rfl rfl)
theorem dX0_deedOf_28 : decode cX0_deedOf 28 = .ok (.aload 4, 2) := dk_25 4 (dk_at dksX0_deedOf_1 4 rfl rfl)
theorem dX0_deedOf_30 : decode cX0_deedOf 30 = .ok (.invokevirtual 178, 3) := dk_182 0 178 (dk_at dksX0_deedOf_1 6 rfl rfl)
theorem dX0_deedOf_33 : decode cX0_deedOf 33 = .ok (.putfield 182, 3) := dk_181 0 182 (dk_at dksX0_deedOf_1 9 rfl rfl)
theorem dX0_deedOf_36 : decode cX0_deedOf 36 = .ok (.aload_n 0, 1) := dk_42 (dk_at dksX0_deedOf_1 12 rfl rfl)
theorem dX0_deedOf_37 : decode cX0_deedOf 37 = .ok (.getfield 54, 3) := dk_180 0 54 (dk_at dksX0_deedOf_1 13 rfl rfl)
theorem dX0_deedOf_40 : decode cX0_deedOf 40 = .ok (.aload 4, 2) := dk_25 4 (dk_at dksX0_deedOf_1 16 rfl rfl)
theorem dX0_deedOf_42 : decode cX0_deedOf 42 = .ok (.getfield 184, 3) := dk_180 0 184 (dk_at dksX0_deedOf_1 18 rfl rfl)
theorem dX0_deedOf_45 : decode cX0_deedOf 45 = .ok (.putfield 187, 3) := dk_181 0 187 (dk_at dksX0_deedOf_1 21 rfl rfl)
theorem dX0_deedOf_48 : decode cX0_deedOf 48 = .ok (.aload_n 0, 1) := dk_42 (dk_at dksX0_deedOf_2 0 rfl rfl)
theorem dX0_deedOf_49 : decode cX0_deedOf 49 = .ok (.getfield 54, 3) := dk_180 0 54 (dk_at dksX0_deedOf_2 1 rfl rfl)
theorem dX0_deedOf_52 : decode cX0_deedOf 52 = .ok (.aload_n 1, 1) := dk_43 (dk_at dksX0_deedOf_2 4 rfl rfl)
theorem dX0_deedOf_53 : decode cX0_deedOf 53 = .ok (.getfield 169, 3) := dk_180 0 169 (dk_at dksX0_deedOf_2 5 rfl rfl)
theorem dX0_deedOf_56 : decode cX0_deedOf 56 = .ok (.iload_n 2, 1) := dk_28 (dk_at dksX0_deedOf_2 8 rfl rfl)
theorem dX0_deedOf_57 : decode cX0_deedOf 57 = .ok (.iaload, 1) := dk_46 (dk_at dksX0_deedOf_2 9 rfl rfl)
theorem dX0_deedOf_58 : decode cX0_deedOf 58 = .ok (.bipush 10, 2) := dk_16 10 (dk_at dksX0_deedOf_2 10 rfl rfl)
theorem dX0_deedOf_60 : decode cX0_deedOf 60 = .ok (.irem, 1) := dk_112 (dk_at dksX0_deedOf_2 12 rfl rfl)
theorem dX0_deedOf_61 : decode cX0_deedOf 61 = .ok (.putfield 188, 3) := dk_181 0 188 (dk_at dksX0_deedOf_2 13 rfl rfl)
theorem dX0_deedOf_64 : decode cX0_deedOf 64 = .ok (.aload_n 0, 1) := dk_42 (dk_at dksX0_deedOf_2 16 rfl rfl)
theorem dX0_deedOf_65 : decode cX0_deedOf 65 = .ok (.getfield 54, 3) := dk_180 0 54 (dk_at dksX0_deedOf_2 17 rfl rfl)
theorem dX0_deedOf_68 : decode cX0_deedOf 68 = .ok (.aload_n 1, 1) := dk_43 (dk_at dksX0_deedOf_2 20 rfl rfl)
theorem dX0_deedOf_69 : decode cX0_deedOf 69 = .ok (.getfield 190, 3) := dk_180 0 190 (dk_at dksX0_deedOf_2 21 rfl rfl)
theorem dX0_deedOf_72 : decode cX0_deedOf 72 = .ok (.bipush 7, 2) := dk_16 7 (dk_at dksX0_deedOf_3 0 rfl rfl)
theorem dX0_deedOf_74 : decode cX0_deedOf 74 = .ok (.irem, 1) := dk_112 (dk_at dksX0_deedOf_3 2 rfl rfl)
theorem dX0_deedOf_75 : decode cX0_deedOf 75 = .ok (.putfield 193, 3) := dk_181 0 193 (dk_at dksX0_deedOf_3 3 rfl rfl)
theorem dX0_deedOf_78 : decode cX0_deedOf 78 = .ok (.aload 4, 2) := dk_25 4 (dk_at dksX0_deedOf_3 6 rfl rfl)
theorem dX0_deedOf_80 : decode cX0_deedOf 80 = .ok (.aload_n 0, 1) := dk_42 (dk_at dksX0_deedOf_3 8 rfl rfl)
theorem dX0_deedOf_81 : decode cX0_deedOf 81 = .ok (.getfield 47, 3) := dk_180 0 47 (dk_at dksX0_deedOf_3 9 rfl rfl)
theorem dX0_deedOf_84 : decode cX0_deedOf 84 = .ok (.aload_n 0, 1) := dk_42 (dk_at dksX0_deedOf_3 12 rfl rfl)
theorem dX0_deedOf_85 : decode cX0_deedOf 85 = .ok (.getfield 54, 3) := dk_180 0 54 (dk_at dksX0_deedOf_3 13 rfl rfl)
theorem dX0_deedOf_88 : decode cX0_deedOf 88 = .ok (.invokevirtual 194, 3) := dk_182 0 194 (dk_at dksX0_deedOf_3 16 rfl rfl)
theorem dX0_deedOf_91 : decode cX0_deedOf 91 = .ok (.aload_n 0, 1) := dk_42 (dk_at dksX0_deedOf_3 19 rfl rfl)
theorem dX0_deedOf_92 : decode cX0_deedOf 92 = .ok (.getfield 11, 3) := dk_180 0 11 (dk_at dksX0_deedOf_3 20 rfl rfl)
theorem dX0_deedOf_95 : decode cX0_deedOf 95 = .ok (.iload_n 3, 1) := dk_29 (dk_at dksX0_deedOf_3 23 rfl rfl)
theorem dX0_deedOf_96 : decode cX0_deedOf 96 = .ok (.iaload, 1) := dk_46 (dk_at dksX0_deedOf_4 0 rfl rfl)
theorem dX0_deedOf_97 : decode cX0_deedOf 97 = .ok (.aload_n 1, 1) := dk_43 (dk_at dksX0_deedOf_4 1 rfl rfl)
theorem dX0_deedOf_98 : decode cX0_deedOf 98 = .ok (.getfield 169, 3) := dk_180 0 169 (dk_at dksX0_deedOf_4 2 rfl rfl)
theorem dX0_deedOf_101 : decode cX0_deedOf 101 = .ok (.iload_n 2, 1) := dk_28 (dk_at dksX0_deedOf_4 5 rfl rfl)
theorem dX0_deedOf_102 : decode cX0_deedOf 102 = .ok (.iaload, 1) := dk_46 (dk_at dksX0_deedOf_4 6 rfl rfl)
theorem dX0_deedOf_103 : decode cX0_deedOf 103 = .ok (.aload_n 1, 1) := dk_43 (dk_at dksX0_deedOf_4 7 rfl rfl)
theorem dX0_deedOf_104 : decode cX0_deedOf 104 = .ok (.getfield 190, 3) := dk_180 0 190 (dk_at dksX0_deedOf_4 8 rfl rfl)
theorem dX0_deedOf_107 : decode cX0_deedOf 107 = .ok (.invokevirtual 198, 3) := dk_182 0 198 (dk_at dksX0_deedOf_4 11 rfl rfl)
theorem dX0_deedOf_110 : decode cX0_deedOf 110 = .ok (.ireturn, 1) := dk_172 (dk_at dksX0_deedOf_4 14 rfl rfl)
abbrev cX0_at : ByteArray := prog_1_method_12_code
def yX0_at : MethodName := ⟨RX0, "at", "(II)I"⟩
def dkwX0_at_2 : List UInt8 := [42, 180, 0, 15, 27, 46, 184, 0, 215, 167, 0, 4, 2, 172]
abbrev dktX0_at_2 : List UInt8 := dkwX0_at_2 ++ []
def dkwX0_at_1 : List UInt8 := [4, 160, 0, 18, 42, 180, 0, 30, 180, 0, 137, 27, 51, 184, 0, 215, 167, 0, 21, 28, 5, 160, 0, 15]
abbrev dktX0_at_1 : List UInt8 := dkwX0_at_1 ++ dktX0_at_2
def dkwX0_at_0 : List UInt8 := [42, 27, 182, 0, 218, 154, 0, 5, 2, 172, 28, 154, 0, 12, 42, 180, 0, 11, 27, 46, 167, 0, 41, 28]
abbrev dktX0_at_0 : List UInt8 := dkwX0_at_0 ++ dktX0_at_1
theorem dksX0_at_0 : cX0_at.data.toList.drop 0 = dktX0_at_0 := by decide +kernel
theorem dksX0_at_1 : cX0_at.data.toList.drop 24 = dktX0_at_1 := dk_seg dksX0_at_0 24 rfl rfl
theorem dksX0_at_2 : cX0_at.data.toList.drop 48 = dktX0_at_2 := dk_seg dksX0_at_1 24 rfl rfl
theorem dX0_at_0 : decode cX0_at 0 = .ok (.aload_n 0, 1) := dk_42 (dk_at dksX0_at_0 0 rfl rfl)
theorem dX0_at_1 : decode cX0_at 1 = .ok (.iload_n 1, 1) := dk_27 (dk_at dksX0_at_0 1 rfl rfl)
theorem dX0_at_2 : decode cX0_at 2 = .ok (.invokevirtual 218, 3) := dk_182 0 218 (dk_at dksX0_at_0 2 rfl rfl)
theorem dX0_at_5 : decode cX0_at 5 = .ok (.ifCond .ne 5, 3) := dk_154 0 5 (dk_at dksX0_at_0 5 rfl rfl)
theorem dX0_at_8 : decode cX0_at 8 = .ok (.iconst (-1), 1) := dk_2 (dk_at dksX0_at_0 8 rfl rfl)
theorem dX0_at_9 : decode cX0_at 9 = .ok (.ireturn, 1) := dk_172 (dk_at dksX0_at_0 9 rfl rfl)
theorem dX0_at_10 : decode cX0_at 10 = .ok (.iload_n 2, 1) := dk_28 (dk_at dksX0_at_0 10 rfl rfl)
theorem dX0_at_11 : decode cX0_at 11 = .ok (.ifCond .ne 12, 3) := dk_154 0 12 (dk_at dksX0_at_0 11 rfl rfl)
theorem dX0_at_14 : decode cX0_at 14 = .ok (.aload_n 0, 1) := dk_42 (dk_at dksX0_at_0 14 rfl rfl)
theorem dX0_at_15 : decode cX0_at 15 = .ok (.getfield 11, 3) := dk_180 0 11 (dk_at dksX0_at_0 15 rfl rfl)
theorem dX0_at_18 : decode cX0_at 18 = .ok (.iload_n 1, 1) := dk_27 (dk_at dksX0_at_0 18 rfl rfl)
theorem dX0_at_19 : decode cX0_at 19 = .ok (.iaload, 1) := dk_46 (dk_at dksX0_at_0 19 rfl rfl)
theorem dX0_at_20 : decode cX0_at 20 = .ok (.goto 41, 3) := dk_167 0 41 (dk_at dksX0_at_0 20 rfl rfl)
theorem dX0_at_23 : decode cX0_at 23 = .ok (.iload_n 2, 1) := dk_28 (dk_at dksX0_at_0 23 rfl rfl)
theorem dX0_at_24 : decode cX0_at 24 = .ok (.iconst 1, 1) := dk_4 (dk_at dksX0_at_1 0 rfl rfl)
theorem dX0_at_25 : decode cX0_at 25 = .ok (.if_icmp .ne 18, 3) := dk_160 0 18 (dk_at dksX0_at_1 1 rfl rfl)
theorem dX0_at_28 : decode cX0_at 28 = .ok (.aload_n 0, 1) := dk_42 (dk_at dksX0_at_1 4 rfl rfl)
theorem dX0_at_29 : decode cX0_at 29 = .ok (.getfield 30, 3) := dk_180 0 30 (dk_at dksX0_at_1 5 rfl rfl)
theorem dX0_at_32 : decode cX0_at 32 = .ok (.getfield 137, 3) := dk_180 0 137 (dk_at dksX0_at_1 8 rfl rfl)
theorem dX0_at_35 : decode cX0_at 35 = .ok (.iload_n 1, 1) := dk_27 (dk_at dksX0_at_1 11 rfl rfl)
theorem dX0_at_36 : decode cX0_at 36 = .ok (.baload, 1) := dk_51 (dk_at dksX0_at_1 12 rfl rfl)
theorem dX0_at_37 : decode cX0_at 37 = .ok (.invokestatic 215, 3) := dk_184 0 215 (dk_at dksX0_at_1 13 rfl rfl)
theorem dX0_at_40 : decode cX0_at 40 = .ok (.goto 21, 3) := dk_167 0 21 (dk_at dksX0_at_1 16 rfl rfl)
theorem dX0_at_43 : decode cX0_at 43 = .ok (.iload_n 2, 1) := dk_28 (dk_at dksX0_at_1 19 rfl rfl)
theorem dX0_at_44 : decode cX0_at 44 = .ok (.iconst 2, 1) := dk_5 (dk_at dksX0_at_1 20 rfl rfl)
theorem dX0_at_45 : decode cX0_at 45 = .ok (.if_icmp .ne 15, 3) := dk_160 0 15 (dk_at dksX0_at_1 21 rfl rfl)
theorem dX0_at_48 : decode cX0_at 48 = .ok (.aload_n 0, 1) := dk_42 (dk_at dksX0_at_2 0 rfl rfl)
theorem dX0_at_49 : decode cX0_at 49 = .ok (.getfield 15, 3) := dk_180 0 15 (dk_at dksX0_at_2 1 rfl rfl)
theorem dX0_at_52 : decode cX0_at 52 = .ok (.iload_n 1, 1) := dk_27 (dk_at dksX0_at_2 4 rfl rfl)
theorem dX0_at_53 : decode cX0_at 53 = .ok (.iaload, 1) := dk_46 (dk_at dksX0_at_2 5 rfl rfl)
theorem dX0_at_54 : decode cX0_at 54 = .ok (.invokestatic 215, 3) := dk_184 0 215 (dk_at dksX0_at_2 6 rfl rfl)
theorem dX0_at_57 : decode cX0_at 57 = .ok (.goto 4, 3) := dk_167 0 4 (dk_at dksX0_at_2 9 rfl rfl)
theorem dX0_at_60 : decode cX0_at 60 = .ok (.iconst (-1), 1) := dk_2 (dk_at dksX0_at_2 12 rfl rfl)
theorem dX0_at_61 : decode cX0_at 61 = .ok (.ireturn, 1) := dk_172 (dk_at dksX0_at_2 13 rfl rfl)
abbrev cX0_row : ByteArray := prog_1_method_13_code
def yX0_row : MethodName := ⟨RX0, "row", "(III)I"⟩
def dkwX0_row_3 : List UInt8 := [25, 4, 28, 29, 145, 84, 21, 5, 172]
abbrev dktX0_row_3 : List UInt8 := dkwX0_row_3 ++ []
def dkwX0_row_2 : List UInt8 := [16, 253, 172, 42, 180, 0, 23, 27, 50, 192, 0, 157, 180, 0, 225, 58, 4, 25, 4, 28, 51, 54, 5]
abbrev dktX0_row_2 : List UInt8 := dkwX0_row_2 ++ dktX0_row_3
def dkwX0_row_1 : List UInt8 := [184, 0, 130, 154, 0, 6, 16, 254, 172, 42, 180, 0, 23, 27, 50, 182, 0, 178, 16, 6, 159, 0, 6]
abbrev dktX0_row_1 : List UInt8 := dkwX0_row_1 ++ dktX0_row_2
def dkwX0_row_0 : List UInt8 := [42, 27, 182, 0, 202, 153, 0, 12, 28, 3, 6, 184, 0, 130, 154, 0, 5, 2, 172, 29, 3, 16, 9]
abbrev dktX0_row_0 : List UInt8 := dkwX0_row_0 ++ dktX0_row_1
theorem dksX0_row_0 : cX0_row.data.toList.drop 0 = dktX0_row_0 := by decide +kernel
theorem dksX0_row_1 : cX0_row.data.toList.drop 23 = dktX0_row_1 := dk_seg dksX0_row_0 23 rfl rfl
theorem dksX0_row_2 : cX0_row.data.toList.drop 46 = dktX0_row_2 := dk_seg dksX0_row_1 23 rfl rfl
theorem dksX0_row_3 : cX0_row.data.toList.drop 69 = dktX0_row_3 := dk_seg dksX0_row_2 23 rfl rfl
theorem dX0_row_0 : decode cX0_row 0 = .ok (.aload_n 0, 1) := dk_42 (dk_at dksX0_row_0 0 rfl rfl)
theorem dX0_row_1 : decode cX0_row 1 = .ok (.iload_n 1, 1) := dk_27 (dk_at dksX0_row_0 1 rfl rfl)
theorem dX0_row_2 : decode cX0_row 2 = .ok (.invokevirtual 202, 3) := dk_182 0 202 (dk_at dksX0_row_0 2 rfl rfl)
theorem dX0_row_5 : decode cX0_row 5 = .ok (.ifCond .eq 12, 3) := dk_153 0 12 (dk_at dksX0_row_0 5 rfl rfl)
theorem dX0_row_8 : decode cX0_row 8 = .ok (.iload_n 2, 1) := dk_28 (dk_at dksX0_row_0 8 rfl rfl)
theorem dX0_row_9 : decode cX0_row 9 = .ok (.iconst 0, 1) := dk_3 (dk_at dksX0_row_0 9 rfl rfl)
theorem dX0_row_10 : decode cX0_row 10 = .ok (.iconst 3, 1) := dk_6 (dk_at dksX0_row_0 10 rfl rfl)
theorem dX0_row_11 : decode cX0_row 11 = .ok (.invokestatic 130, 3) := dk_184 0 130 (dk_at dksX0_row_0 11 rfl rfl)
theorem dX0_row_14 : decode cX0_row 14 = .ok (.ifCond .ne 5, 3) := dk_154 0 5 (dk_at dksX0_row_0 14 rfl rfl)
theorem dX0_row_17 : decode cX0_row 17 = .ok (.iconst (-1), 1) := dk_2 (dk_at dksX0_row_0 17 rfl rfl)
theorem dX0_row_18 : decode cX0_row 18 = .ok (.ireturn, 1) := dk_172 (dk_at dksX0_row_0 18 rfl rfl)
theorem dX0_row_19 : decode cX0_row 19 = .ok (.iload_n 3, 1) := dk_29 (dk_at dksX0_row_0 19 rfl rfl)
theorem dX0_row_20 : decode cX0_row 20 = .ok (.iconst 0, 1) := dk_3 (dk_at dksX0_row_0 20 rfl rfl)
theorem dX0_row_21 : decode cX0_row 21 = .ok (.bipush 9, 2) := dk_16 9 (dk_at dksX0_row_0 21 rfl rfl)
theorem dX0_row_23 : decode cX0_row 23 = .ok (.invokestatic 130, 3) := dk_184 0 130 (dk_at dksX0_row_1 0 rfl rfl)
theorem dX0_row_26 : decode cX0_row 26 = .ok (.ifCond .ne 6, 3) := dk_154 0 6 (dk_at dksX0_row_1 3 rfl rfl)
theorem dX0_row_29 : decode cX0_row 29 = .ok (.bipush (-2), 2) := dk_16 254 (dk_at dksX0_row_1 6 rfl rfl)
theorem dX0_row_31 : decode cX0_row 31 = .ok (.ireturn, 1) := dk_172 (dk_at dksX0_row_1 8 rfl rfl)
theorem dX0_row_32 : decode cX0_row 32 = .ok (.aload_n 0, 1) := dk_42 (dk_at dksX0_row_1 9 rfl rfl)
theorem dX0_row_33 : decode cX0_row 33 = .ok (.getfield 23, 3) := dk_180 0 23 (dk_at dksX0_row_1 10 rfl rfl)
theorem dX0_row_36 : decode cX0_row 36 = .ok (.iload_n 1, 1) := dk_27 (dk_at dksX0_row_1 13 rfl rfl)
theorem dX0_row_37 : decode cX0_row 37 = .ok (.aaload, 1) := dk_50 (dk_at dksX0_row_1 14 rfl rfl)
theorem dX0_row_38 : decode cX0_row 38 = .ok (.invokevirtual 178, 3) := dk_182 0 178 (dk_at dksX0_row_1 15 rfl rfl)
theorem dX0_row_41 : decode cX0_row 41 = .ok (.bipush 6, 2) := dk_16 6 (dk_at dksX0_row_1 18 rfl rfl)
theorem dX0_row_43 : decode cX0_row 43 = .ok (.if_icmp .eq 6, 3) := dk_159 0 6 (dk_at dksX0_row_1 20 rfl rfl)
theorem dX0_row_46 : decode cX0_row 46 = .ok (.bipush (-3), 2) := dk_16 253 (dk_at dksX0_row_2 0 rfl rfl)
theorem dX0_row_48 : decode cX0_row 48 = .ok (.ireturn, 1) := dk_172 (dk_at dksX0_row_2 2 rfl rfl)
theorem dX0_row_49 : decode cX0_row 49 = .ok (.aload_n 0, 1) := dk_42 (dk_at dksX0_row_2 3 rfl rfl)
theorem dX0_row_50 : decode cX0_row 50 = .ok (.getfield 23, 3) := dk_180 0 23 (dk_at dksX0_row_2 4 rfl rfl)
theorem dX0_row_53 : decode cX0_row 53 = .ok (.iload_n 1, 1) := dk_27 (dk_at dksX0_row_2 7 rfl rfl)
theorem dX0_row_54 : decode cX0_row 54 = .ok (.aaload, 1) := dk_50 (dk_at dksX0_row_2 8 rfl rfl)
theorem dX0_row_55 : decode cX0_row 55 = .ok (.checkcast 157, 3) := dk_192 0 157 (dk_at dksX0_row_2 9 rfl rfl)
theorem dX0_row_58 : decode cX0_row 58 = .ok (.getfield 225, 3) := dk_180 0 225 (dk_at dksX0_row_2 12 rfl rfl)
theorem dX0_row_61 : decode cX0_row 61 = .ok (.astore 4, 2) := dk_58 4 (dk_at dksX0_row_2 15 rfl rfl)
theorem dX0_row_63 : decode cX0_row 63 = .ok (.aload 4, 2) := dk_25 4 (dk_at dksX0_row_2 17 rfl rfl)
theorem dX0_row_65 : decode cX0_row 65 = .ok (.iload_n 2, 1) := dk_28 (dk_at dksX0_row_2 19 rfl rfl)
theorem dX0_row_66 : decode cX0_row 66 = .ok (.baload, 1) := dk_51 (dk_at dksX0_row_2 20 rfl rfl)
theorem dX0_row_67 : decode cX0_row 67 = .ok (.istore 5, 2) := dk_54 5 (dk_at dksX0_row_2 21 rfl rfl)
theorem dX0_row_69 : decode cX0_row 69 = .ok (.aload 4, 2) := dk_25 4 (dk_at dksX0_row_3 0 rfl rfl)
theorem dX0_row_71 : decode cX0_row 71 = .ok (.iload_n 2, 1) := dk_28 (dk_at dksX0_row_3 2 rfl rfl)
theorem dX0_row_72 : decode cX0_row 72 = .ok (.iload_n 3, 1) := dk_29 (dk_at dksX0_row_3 3 rfl rfl)
theorem dX0_row_73 : decode cX0_row 73 = .ok (.i2b, 1) := dk_145 (dk_at dksX0_row_3 4 rfl rfl)
theorem dX0_row_74 : decode cX0_row 74 = .ok (.bastore, 1) := dk_84 (dk_at dksX0_row_3 5 rfl rfl)
theorem dX0_row_75 : decode cX0_row 75 = .ok (.iload 5, 2) := dk_21 5 (dk_at dksX0_row_3 6 rfl rfl)
theorem dX0_row_77 : decode cX0_row 77 = .ok (.ireturn, 1) := dk_172 (dk_at dksX0_row_3 8 rfl rfl)
abbrev cX0_put : ByteArray := prog_1_method_14_code
def yX0_put : MethodName := ⟨RX0, "put", "(II)I"⟩
def dkwX0_put_4 : List UInt8 := [84, 29, 184, 0, 215, 172]
abbrev dktX0_put_4 : List UInt8 := dkwX0_put_4 ++ []
def dkwX0_put_3 : List UInt8 := [180, 0, 30, 180, 0, 137, 29, 2, 84, 28, 2, 159, 0, 14, 42, 180, 0, 30, 180, 0, 137, 28, 27, 145]
abbrev dktX0_put_3 : List UInt8 := dkwX0_put_3 ++ dktX0_put_4
def dkwX0_put_2 : List UInt8 := [28, 51, 27, 159, 0, 6, 16, 253, 172, 42, 180, 0, 30, 27, 182, 0, 211, 62, 29, 2, 159, 0, 13, 42]
abbrev dktX0_put_2 : List UInt8 := dkwX0_put_2 ++ dktX0_put_3
def dkwX0_put_1 : List UInt8 := [2, 159, 0, 32, 42, 180, 0, 30, 180, 0, 137, 28, 51, 2, 159, 0, 19, 42, 180, 0, 30, 180, 0, 137]
abbrev dktX0_put_1 : List UInt8 := dkwX0_put_1 ++ dktX0_put_2
def dkwX0_put_0 : List UInt8 := [42, 27, 182, 0, 202, 153, 0, 16, 28, 2, 159, 0, 13, 42, 28, 182, 0, 218, 154, 0, 5, 2, 172, 28]
abbrev dktX0_put_0 : List UInt8 := dkwX0_put_0 ++ dktX0_put_1
theorem dksX0_put_0 : cX0_put.data.toList.drop 0 = dktX0_put_0 := by decide +kernel
theorem dksX0_put_1 : cX0_put.data.toList.drop 24 = dktX0_put_1 := dk_seg dksX0_put_0 24 rfl rfl
theorem dksX0_put_2 : cX0_put.data.toList.drop 48 = dktX0_put_2 := dk_seg dksX0_put_1 24 rfl rfl
theorem dksX0_put_3 : cX0_put.data.toList.drop 72 = dktX0_put_3 := dk_seg dksX0_put_2 24 rfl rfl
theorem dksX0_put_4 : cX0_put.data.toList.drop 96 = dktX0_put_4 := dk_seg dksX0_put_3 24 rfl rfl
theorem dX0_put_0 : decode cX0_put 0 = .ok (.aload_n 0, 1) := dk_42 (dk_at dksX0_put_0 0 rfl rfl)
theorem dX0_put_1 : decode cX0_put 1 = .ok (.iload_n 1, 1) := dk_27 (dk_at dksX0_put_0 1 rfl rfl)
theorem dX0_put_2 : decode cX0_put 2 = .ok (.invokevirtual 202, 3) := dk_182 0 202 (dk_at dksX0_put_0 2 rfl rfl)
theorem dX0_put_5 : decode cX0_put 5 = .ok (.ifCond .eq 16, 3) := dk_153 0 16 (dk_at dksX0_put_0 5 rfl rfl)
theorem dX0_put_8 : decode cX0_put 8 = .ok (.iload_n 2, 1) := dk_28 (dk_at dksX0_put_0 8 rfl rfl)
theorem dX0_put_9 : decode cX0_put 9 = .ok (.iconst (-1), 1) := dk_2 (dk_at dksX0_put_0 9 rfl rfl)
theorem dX0_put_10 : decode cX0_put 10 = .ok (.if_icmp .eq 13, 3) := dk_159 0 13 (dk_at dksX0_put_0 10 rfl rfl)
theorem dX0_put_13 : decode cX0_put 13 = .ok (.aload_n 0, 1) := dk_42 (dk_at dksX0_put_0 13 rfl rfl)
theorem dX0_put_14 : decode cX0_put 14 = .ok (.iload_n 2, 1) := dk_28 (dk_at dksX0_put_0 14 rfl rfl)
theorem dX0_put_15 : decode cX0_put 15 = .ok (.invokevirtual 218, 3) := dk_182 0 218 (dk_at dksX0_put_0 15 rfl rfl)
theorem dX0_put_18 : decode cX0_put 18 = .ok (.ifCond .ne 5, 3) := dk_154 0 5 (dk_at dksX0_put_0 18 rfl rfl)
theorem dX0_put_21 : decode cX0_put 21 = .ok (.iconst (-1), 1) := dk_2 (dk_at dksX0_put_0 21 rfl rfl)
theorem dX0_put_22 : decode cX0_put 22 = .ok (.ireturn, 1) := dk_172 (dk_at dksX0_put_0 22 rfl rfl)
theorem dX0_put_23 : decode cX0_put 23 = .ok (.iload_n 2, 1) := dk_28 (dk_at dksX0_put_0 23 rfl rfl)
theorem dX0_put_24 : decode cX0_put 24 = .ok (.iconst (-1), 1) := dk_2 (dk_at dksX0_put_1 0 rfl rfl)
theorem dX0_put_25 : decode cX0_put 25 = .ok (.if_icmp .eq 32, 3) := dk_159 0 32 (dk_at dksX0_put_1 1 rfl rfl)
theorem dX0_put_28 : decode cX0_put 28 = .ok (.aload_n 0, 1) := dk_42 (dk_at dksX0_put_1 4 rfl rfl)
theorem dX0_put_29 : decode cX0_put 29 = .ok (.getfield 30, 3) := dk_180 0 30 (dk_at dksX0_put_1 5 rfl rfl)
theorem dX0_put_32 : decode cX0_put 32 = .ok (.getfield 137, 3) := dk_180 0 137 (dk_at dksX0_put_1 8 rfl rfl)
theorem dX0_put_35 : decode cX0_put 35 = .ok (.iload_n 2, 1) := dk_28 (dk_at dksX0_put_1 11 rfl rfl)
theorem dX0_put_36 : decode cX0_put 36 = .ok (.baload, 1) := dk_51 (dk_at dksX0_put_1 12 rfl rfl)
theorem dX0_put_37 : decode cX0_put 37 = .ok (.iconst (-1), 1) := dk_2 (dk_at dksX0_put_1 13 rfl rfl)
theorem dX0_put_38 : decode cX0_put 38 = .ok (.if_icmp .eq 19, 3) := dk_159 0 19 (dk_at dksX0_put_1 14 rfl rfl)
theorem dX0_put_41 : decode cX0_put 41 = .ok (.aload_n 0, 1) := dk_42 (dk_at dksX0_put_1 17 rfl rfl)
theorem dX0_put_42 : decode cX0_put 42 = .ok (.getfield 30, 3) := dk_180 0 30 (dk_at dksX0_put_1 18 rfl rfl)
theorem dX0_put_45 : decode cX0_put 45 = .ok (.getfield 137, 3) := dk_180 0 137 (dk_at dksX0_put_1 21 rfl rfl)
theorem dX0_put_48 : decode cX0_put 48 = .ok (.iload_n 2, 1) := dk_28 (dk_at dksX0_put_2 0 rfl rfl)
theorem dX0_put_49 : decode cX0_put 49 = .ok (.baload, 1) := dk_51 (dk_at dksX0_put_2 1 rfl rfl)
theorem dX0_put_50 : decode cX0_put 50 = .ok (.iload_n 1, 1) := dk_27 (dk_at dksX0_put_2 2 rfl rfl)
theorem dX0_put_51 : decode cX0_put 51 = .ok (.if_icmp .eq 6, 3) := dk_159 0 6 (dk_at dksX0_put_2 3 rfl rfl)
theorem dX0_put_54 : decode cX0_put 54 = .ok (.bipush (-3), 2) := dk_16 253 (dk_at dksX0_put_2 6 rfl rfl)
theorem dX0_put_56 : decode cX0_put 56 = .ok (.ireturn, 1) := dk_172 (dk_at dksX0_put_2 8 rfl rfl)
theorem dX0_put_57 : decode cX0_put 57 = .ok (.aload_n 0, 1) := dk_42 (dk_at dksX0_put_2 9 rfl rfl)
theorem dX0_put_58 : decode cX0_put 58 = .ok (.getfield 30, 3) := dk_180 0 30 (dk_at dksX0_put_2 10 rfl rfl)
theorem dX0_put_61 : decode cX0_put 61 = .ok (.iload_n 1, 1) := dk_27 (dk_at dksX0_put_2 13 rfl rfl)
theorem dX0_put_62 : decode cX0_put 62 = .ok (.invokevirtual 211, 3) := dk_182 0 211 (dk_at dksX0_put_2 14 rfl rfl)
theorem dX0_put_65 : decode cX0_put 65 = .ok (.istore_n 3, 1) := dk_62 (dk_at dksX0_put_2 17 rfl rfl)
theorem dX0_put_66 : decode cX0_put 66 = .ok (.iload_n 3, 1) := dk_29 (dk_at dksX0_put_2 18 rfl rfl)
theorem dX0_put_67 : decode cX0_put 67 = .ok (.iconst (-1), 1) := dk_2 (dk_at dksX0_put_2 19 rfl rfl)
theorem dX0_put_68 : decode cX0_put 68 = .ok (.if_icmp .eq 13, 3) := dk_159 0 13 (dk_at dksX0_put_2 20 rfl rfl)
theorem dX0_put_71 : decode cX0_put 71 = .ok (.aload_n 0, 1) := dk_42 (dk_at dksX0_put_2 23 rfl rfl)
theorem dX0_put_72 : decode cX0_put 72 = .ok (.getfield 30, 3) := dk_180 0 30 (dk_at dksX0_put_3 0 rfl rfl)
theorem dX0_put_75 : decode cX0_put 75 = .ok (.getfield 137, 3) := dk_180 0 137 (dk_at dksX0_put_3 3 rfl rfl)
theorem dX0_put_78 : decode cX0_put 78 = .ok (.iload_n 3, 1) := dk_29 (dk_at dksX0_put_3 6 rfl rfl)
theorem dX0_put_79 : decode cX0_put 79 = .ok (.iconst (-1), 1) := dk_2 (dk_at dksX0_put_3 7 rfl rfl)
theorem dX0_put_80 : decode cX0_put 80 = .ok (.bastore, 1) := dk_84 (dk_at dksX0_put_3 8 rfl rfl)
theorem dX0_put_81 : decode cX0_put 81 = .ok (.iload_n 2, 1) := dk_28 (dk_at dksX0_put_3 9 rfl rfl)
theorem dX0_put_82 : decode cX0_put 82 = .ok (.iconst (-1), 1) := dk_2 (dk_at dksX0_put_3 10 rfl rfl)
theorem dX0_put_83 : decode cX0_put 83 = .ok (.if_icmp .eq 14, 3) := dk_159 0 14 (dk_at dksX0_put_3 11 rfl rfl)
theorem dX0_put_86 : decode cX0_put 86 = .ok (.aload_n 0, 1) := dk_42 (dk_at dksX0_put_3 14 rfl rfl)
theorem dX0_put_87 : decode cX0_put 87 = .ok (.getfield 30, 3) := dk_180 0 30 (dk_at dksX0_put_3 15 rfl rfl)
theorem dX0_put_90 : decode cX0_put 90 = .ok (.getfield 137, 3) := dk_180 0 137 (dk_at dksX0_put_3 18 rfl rfl)
theorem dX0_put_93 : decode cX0_put 93 = .ok (.iload_n 2, 1) := dk_28 (dk_at dksX0_put_3 21 rfl rfl)
theorem dX0_put_94 : decode cX0_put 94 = .ok (.iload_n 1, 1) := dk_27 (dk_at dksX0_put_3 22 rfl rfl)
theorem dX0_put_95 : decode cX0_put 95 = .ok (.i2b, 1) := dk_145 (dk_at dksX0_put_3 23 rfl rfl)
theorem dX0_put_96 : decode cX0_put 96 = .ok (.bastore, 1) := dk_84 (dk_at dksX0_put_4 0 rfl rfl)
theorem dX0_put_97 : decode cX0_put 97 = .ok (.iload_n 3, 1) := dk_29 (dk_at dksX0_put_4 1 rfl rfl)
theorem dX0_put_98 : decode cX0_put 98 = .ok (.invokestatic 215, 3) := dk_184 0 215 (dk_at dksX0_put_4 2 rfl rfl)
theorem dX0_put_101 : decode cX0_put 101 = .ok (.ireturn, 1) := dk_172 (dk_at dksX0_put_4 5 rfl rfl)
abbrev cX0_own : ByteArray := prog_1_method_15_code
def yX0_own : MethodName := ⟨RX0, "own", "(II)I"⟩
def dkwX0_own_1 : List UInt8 := [180, 0, 15, 27, 46, 62, 42, 180, 0, 15, 27, 28, 79, 29, 184, 0, 215, 172]
abbrev dktX0_own_1 : List UInt8 := dkwX0_own_1 ++ []
def dkwX0_own_0 : List UInt8 := [42, 27, 182, 0, 218, 153, 0, 16, 28, 2, 159, 0, 13, 42, 28, 182, 0, 202, 154, 0, 5, 2, 172, 42]
abbrev dktX0_own_0 : List UInt8 := dkwX0_own_0 ++ dktX0_own_1
theorem dksX0_own_0 : cX0_own.data.toList.drop 0 = dktX0_own_0 := by decide +kernel
theorem dksX0_own_1 : cX0_own.data.toList.drop 24 = dktX0_own_1 := dk_seg dksX0_own_0 24 rfl rfl
theorem dX0_own_0 : decode cX0_own 0 = .ok (.aload_n 0, 1) := dk_42 (dk_at dksX0_own_0 0 rfl rfl)
theorem dX0_own_1 : decode cX0_own 1 = .ok (.iload_n 1, 1) := dk_27 (dk_at dksX0_own_0 1 rfl rfl)
theorem dX0_own_2 : decode cX0_own 2 = .ok (.invokevirtual 218, 3) := dk_182 0 218 (dk_at dksX0_own_0 2 rfl rfl)
theorem dX0_own_5 : decode cX0_own 5 = .ok (.ifCond .eq 16, 3) := dk_153 0 16 (dk_at dksX0_own_0 5 rfl rfl)
theorem dX0_own_8 : decode cX0_own 8 = .ok (.iload_n 2, 1) := dk_28 (dk_at dksX0_own_0 8 rfl rfl)
theorem dX0_own_9 : decode cX0_own 9 = .ok (.iconst (-1), 1) := dk_2 (dk_at dksX0_own_0 9 rfl rfl)
theorem dX0_own_10 : decode cX0_own 10 = .ok (.if_icmp .eq 13, 3) := dk_159 0 13 (dk_at dksX0_own_0 10 rfl rfl)
theorem dX0_own_13 : decode cX0_own 13 = .ok (.aload_n 0, 1) := dk_42 (dk_at dksX0_own_0 13 rfl rfl)
theorem dX0_own_14 : decode cX0_own 14 = .ok (.iload_n 2, 1) := dk_28 (dk_at dksX0_own_0 14 rfl rfl)
theorem dX0_own_15 : decode cX0_own 15 = .ok (.invokevirtual 202, 3) := dk_182 0 202 (dk_at dksX0_own_0 15 rfl rfl)
theorem dX0_own_18 : decode cX0_own 18 = .ok (.ifCond .ne 5, 3) := dk_154 0 5 (dk_at dksX0_own_0 18 rfl rfl)
theorem dX0_own_21 : decode cX0_own 21 = .ok (.iconst (-1), 1) := dk_2 (dk_at dksX0_own_0 21 rfl rfl)
theorem dX0_own_22 : decode cX0_own 22 = .ok (.ireturn, 1) := dk_172 (dk_at dksX0_own_0 22 rfl rfl)
theorem dX0_own_23 : decode cX0_own 23 = .ok (.aload_n 0, 1) := dk_42 (dk_at dksX0_own_0 23 rfl rfl)
theorem dX0_own_24 : decode cX0_own 24 = .ok (.getfield 15, 3) := dk_180 0 15 (dk_at dksX0_own_1 0 rfl rfl)
theorem dX0_own_27 : decode cX0_own 27 = .ok (.iload_n 1, 1) := dk_27 (dk_at dksX0_own_1 3 rfl rfl)
theorem dX0_own_28 : decode cX0_own 28 = .ok (.iaload, 1) := dk_46 (dk_at dksX0_own_1 4 rfl rfl)
theorem dX0_own_29 : decode cX0_own 29 = .ok (.istore_n 3, 1) := dk_62 (dk_at dksX0_own_1 5 rfl rfl)
theorem dX0_own_30 : decode cX0_own 30 = .ok (.aload_n 0, 1) := dk_42 (dk_at dksX0_own_1 6 rfl rfl)
theorem dX0_own_31 : decode cX0_own 31 = .ok (.getfield 15, 3) := dk_180 0 15 (dk_at dksX0_own_1 7 rfl rfl)
theorem dX0_own_34 : decode cX0_own 34 = .ok (.iload_n 1, 1) := dk_27 (dk_at dksX0_own_1 10 rfl rfl)
theorem dX0_own_35 : decode cX0_own 35 = .ok (.iload_n 2, 1) := dk_28 (dk_at dksX0_own_1 11 rfl rfl)
theorem dX0_own_36 : decode cX0_own 36 = .ok (.iastore, 1) := dk_79 (dk_at dksX0_own_1 12 rfl rfl)
theorem dX0_own_37 : decode cX0_own 37 = .ok (.iload_n 3, 1) := dk_29 (dk_at dksX0_own_1 13 rfl rfl)
theorem dX0_own_38 : decode cX0_own 38 = .ok (.invokestatic 215, 3) := dk_184 0 215 (dk_at dksX0_own_1 14 rfl rfl)
theorem dX0_own_41 : decode cX0_own 41 = .ok (.ireturn, 1) := dk_172 (dk_at dksX0_own_1 17 rfl rfl)
abbrev cX0_skill : ByteArray := prog_1_method_16_code
def yX0_skill : MethodName := ⟨RX0, "skill", "(II)I"⟩
def dkwX0_skill_1 : List UInt8 := [180, 0, 18, 27, 46, 62, 42, 180, 0, 18, 27, 28, 79, 29, 172]
abbrev dktX0_skill_1 : List UInt8 := dkwX0_skill_1 ++ []
def dkwX0_skill_0 : List UInt8 := [42, 27, 182, 0, 202, 154, 0, 5, 2, 172, 28, 3, 16, 50, 184, 0, 130, 154, 0, 6, 16, 254, 172, 42]
abbrev dktX0_skill_0 : List UInt8 := dkwX0_skill_0 ++ dktX0_skill_1
theorem dksX0_skill_0 : cX0_skill.data.toList.drop 0 = dktX0_skill_0 := by decide +kernel
theorem dksX0_skill_1 : cX0_skill.data.toList.drop 24 = dktX0_skill_1 := dk_seg dksX0_skill_0 24 rfl rfl
theorem dX0_skill_0 : decode cX0_skill 0 = .ok (.aload_n 0, 1) := dk_42 (dk_at dksX0_skill_0 0 rfl rfl)
theorem dX0_skill_1 : decode cX0_skill 1 = .ok (.iload_n 1, 1) := dk_27 (dk_at dksX0_skill_0 1 rfl rfl)
theorem dX0_skill_2 : decode cX0_skill 2 = .ok (.invokevirtual 202, 3) := dk_182 0 202 (dk_at dksX0_skill_0 2 rfl rfl)
theorem dX0_skill_5 : decode cX0_skill 5 = .ok (.ifCond .ne 5, 3) := dk_154 0 5 (dk_at dksX0_skill_0 5 rfl rfl)
theorem dX0_skill_8 : decode cX0_skill 8 = .ok (.iconst (-1), 1) := dk_2 (dk_at dksX0_skill_0 8 rfl rfl)
theorem dX0_skill_9 : decode cX0_skill 9 = .ok (.ireturn, 1) := dk_172 (dk_at dksX0_skill_0 9 rfl rfl)
theorem dX0_skill_10 : decode cX0_skill 10 = .ok (.iload_n 2, 1) := dk_28 (dk_at dksX0_skill_0 10 rfl rfl)
theorem dX0_skill_11 : decode cX0_skill 11 = .ok (.iconst 0, 1) := dk_3 (dk_at dksX0_skill_0 11 rfl rfl)
theorem dX0_skill_12 : decode cX0_skill 12 = .ok (.bipush 50, 2) := dk_16 50 (dk_at dksX0_skill_0 12 rfl rfl)
theorem dX0_skill_14 : decode cX0_skill 14 = .ok (.invokestatic 130, 3) := dk_184 0 130 (dk_at dksX0_skill_0 14 rfl rfl)
theorem dX0_skill_17 : decode cX0_skill 17 = .ok (.ifCond .ne 6, 3) := dk_154 0 6 (dk_at dksX0_skill_0 17 rfl rfl)
theorem dX0_skill_20 : decode cX0_skill 20 = .ok (.bipush (-2), 2) := dk_16 254 (dk_at dksX0_skill_0 20 rfl rfl)
theorem dX0_skill_22 : decode cX0_skill 22 = .ok (.ireturn, 1) := dk_172 (dk_at dksX0_skill_0 22 rfl rfl)
theorem dX0_skill_23 : decode cX0_skill 23 = .ok (.aload_n 0, 1) := dk_42 (dk_at dksX0_skill_0 23 rfl rfl)
theorem dX0_skill_24 : decode cX0_skill 24 = .ok (.getfield 18, 3) := dk_180 0 18 (dk_at dksX0_skill_1 0 rfl rfl)
theorem dX0_skill_27 : decode cX0_skill 27 = .ok (.iload_n 1, 1) := dk_27 (dk_at dksX0_skill_1 3 rfl rfl)
theorem dX0_skill_28 : decode cX0_skill 28 = .ok (.iaload, 1) := dk_46 (dk_at dksX0_skill_1 4 rfl rfl)
theorem dX0_skill_29 : decode cX0_skill 29 = .ok (.istore_n 3, 1) := dk_62 (dk_at dksX0_skill_1 5 rfl rfl)
theorem dX0_skill_30 : decode cX0_skill 30 = .ok (.aload_n 0, 1) := dk_42 (dk_at dksX0_skill_1 6 rfl rfl)
theorem dX0_skill_31 : decode cX0_skill 31 = .ok (.getfield 18, 3) := dk_180 0 18 (dk_at dksX0_skill_1 7 rfl rfl)
theorem dX0_skill_34 : decode cX0_skill 34 = .ok (.iload_n 1, 1) := dk_27 (dk_at dksX0_skill_1 10 rfl rfl)
theorem dX0_skill_35 : decode cX0_skill 35 = .ok (.iload_n 2, 1) := dk_28 (dk_at dksX0_skill_1 11 rfl rfl)
theorem dX0_skill_36 : decode cX0_skill 36 = .ok (.iastore, 1) := dk_79 (dk_at dksX0_skill_1 12 rfl rfl)
theorem dX0_skill_37 : decode cX0_skill 37 = .ok (.iload_n 3, 1) := dk_29 (dk_at dksX0_skill_1 13 rfl rfl)
theorem dX0_skill_38 : decode cX0_skill 38 = .ok (.ireturn, 1) := dk_172 (dk_at dksX0_skill_1 14 rfl rfl)
abbrev cX0_feed : ByteArray := prog_1_method_17_code
def yX0_feed : MethodName := ⟨RX0, "feed", "(I)I"⟩
def dkwX0_feed_1 : List UInt8 := [172, 42, 180, 0, 40, 42, 89, 180, 0, 228, 90, 4, 96, 181, 0, 228, 27, 145, 84, 42, 180, 0, 228, 172]
abbrev dktX0_feed_1 : List UInt8 := dkwX0_feed_1 ++ []
def dkwX0_feed_0 : List UInt8 := [27, 3, 16, 127, 184, 0, 130, 154, 0, 6, 16, 254, 172, 42, 180, 0, 228, 16, 100, 160, 0, 6, 16, 252]
abbrev dktX0_feed_0 : List UInt8 := dkwX0_feed_0 ++ dktX0_feed_1
theorem dksX0_feed_0 : cX0_feed.data.toList.drop 0 = dktX0_feed_0 := by decide +kernel
theorem dksX0_feed_1 : cX0_feed.data.toList.drop 24 = dktX0_feed_1 := dk_seg dksX0_feed_0 24 rfl rfl
theorem dX0_feed_0 : decode cX0_feed 0 = .ok (.iload_n 1, 1) := dk_27 (dk_at dksX0_feed_0 0 rfl rfl)
theorem dX0_feed_1 : decode cX0_feed 1 = .ok (.iconst 0, 1) := dk_3 (dk_at dksX0_feed_0 1 rfl rfl)
theorem dX0_feed_2 : decode cX0_feed 2 = .ok (.bipush 127, 2) := dk_16 127 (dk_at dksX0_feed_0 2 rfl rfl)
theorem dX0_feed_4 : decode cX0_feed 4 = .ok (.invokestatic 130, 3) := dk_184 0 130 (dk_at dksX0_feed_0 4 rfl rfl)
theorem dX0_feed_7 : decode cX0_feed 7 = .ok (.ifCond .ne 6, 3) := dk_154 0 6 (dk_at dksX0_feed_0 7 rfl rfl)
theorem dX0_feed_10 : decode cX0_feed 10 = .ok (.bipush (-2), 2) := dk_16 254 (dk_at dksX0_feed_0 10 rfl rfl)
theorem dX0_feed_12 : decode cX0_feed 12 = .ok (.ireturn, 1) := dk_172 (dk_at dksX0_feed_0 12 rfl rfl)
theorem dX0_feed_13 : decode cX0_feed 13 = .ok (.aload_n 0, 1) := dk_42 (dk_at dksX0_feed_0 13 rfl rfl)
theorem dX0_feed_14 : decode cX0_feed 14 = .ok (.getfield 228, 3) := dk_180 0 228 (dk_at dksX0_feed_0 14 rfl rfl)
theorem dX0_feed_17 : decode cX0_feed 17 = .ok (.bipush 100, 2) := dk_16 100 (dk_at dksX0_feed_0 17 rfl rfl)
theorem dX0_feed_19 : decode cX0_feed 19 = .ok (.if_icmp .ne 6, 3) := dk_160 0 6 (dk_at dksX0_feed_0 19 rfl rfl)
theorem dX0_feed_22 : decode cX0_feed 22 = .ok (.bipush (-4), 2) := dk_16 252 (dk_at dksX0_feed_0 22 rfl rfl)
theorem dX0_feed_24 : decode cX0_feed 24 = .ok (.ireturn, 1) := dk_172 (dk_at dksX0_feed_1 0 rfl rfl)
theorem dX0_feed_25 : decode cX0_feed 25 = .ok (.aload_n 0, 1) := dk_42 (dk_at dksX0_feed_1 1 rfl rfl)
theorem dX0_feed_26 : decode cX0_feed 26 = .ok (.getfield 40, 3) := dk_180 0 40 (dk_at dksX0_feed_1 2 rfl rfl)
theorem dX0_feed_29 : decode cX0_feed 29 = .ok (.aload_n 0, 1) := dk_42 (dk_at dksX0_feed_1 5 rfl rfl)
theorem dX0_feed_30 : decode cX0_feed 30 = .ok (.dup, 1) := dk_89 (dk_at dksX0_feed_1 6 rfl rfl)
theorem dX0_feed_31 : decode cX0_feed 31 = .ok (.getfield 228, 3) := dk_180 0 228 (dk_at dksX0_feed_1 7 rfl rfl)
theorem dX0_feed_34 : decode cX0_feed 34 = .ok (.dup_x1, 1) := dk_90 (dk_at dksX0_feed_1 10 rfl rfl)
theorem dX0_feed_35 : decode cX0_feed 35 = .ok (.iconst 1, 1) := dk_4 (dk_at dksX0_feed_1 11 rfl rfl)
theorem dX0_feed_36 : decode cX0_feed 36 = .ok (.iadd, 1) := dk_96 (dk_at dksX0_feed_1 12 rfl rfl)
theorem dX0_feed_37 : decode cX0_feed 37 = .ok (.putfield 228, 3) := dk_181 0 228 (dk_at dksX0_feed_1 13 rfl rfl)
theorem dX0_feed_40 : decode cX0_feed 40 = .ok (.iload_n 1, 1) := dk_27 (dk_at dksX0_feed_1 16 rfl rfl)
theorem dX0_feed_41 : decode cX0_feed 41 = .ok (.i2b, 1) := dk_145 (dk_at dksX0_feed_1 17 rfl rfl)
theorem dX0_feed_42 : decode cX0_feed 42 = .ok (.bastore, 1) := dk_84 (dk_at dksX0_feed_1 18 rfl rfl)
theorem dX0_feed_43 : decode cX0_feed 43 = .ok (.aload_n 0, 1) := dk_42 (dk_at dksX0_feed_1 19 rfl rfl)
theorem dX0_feed_44 : decode cX0_feed 44 = .ok (.getfield 228, 3) := dk_180 0 228 (dk_at dksX0_feed_1 20 rfl rfl)
theorem dX0_feed_47 : decode cX0_feed 47 = .ok (.ireturn, 1) := dk_172 (dk_at dksX0_feed_1 23 rfl rfl)
abbrev cX0_town : ByteArray := prog_1_method_18_code
def yX0_town : MethodName := ⟨RX0, "town", "()I"⟩
def dkwX0_town_2 : List UInt8 := [4, 96, 181, 0, 231, 172, 77, 16, 246, 44, 180, 0, 244, 100, 172]
abbrev dktX0_town_2 : List UInt8 := dkwX0_town_2 ++ []
def dkwX0_town_1 : List UInt8 := [187, 0, 234, 89, 42, 180, 0, 40, 27, 183, 0, 236, 182, 0, 239, 181, 0, 47, 42, 89, 180, 0, 231, 90]
abbrev dktX0_town_1 : List UInt8 := dkwX0_town_1 ++ dktX0_town_2
def dkwX0_town_0 : List UInt8 := [42, 180, 0, 231, 16, 6, 160, 0, 6, 16, 252, 172, 42, 180, 0, 228, 60, 42, 3, 181, 0, 228, 42]
abbrev dktX0_town_0 : List UInt8 := dkwX0_town_0 ++ dktX0_town_1
theorem dksX0_town_0 : cX0_town.data.toList.drop 0 = dktX0_town_0 := by decide +kernel
theorem dksX0_town_1 : cX0_town.data.toList.drop 23 = dktX0_town_1 := dk_seg dksX0_town_0 23 rfl rfl
theorem dksX0_town_2 : cX0_town.data.toList.drop 47 = dktX0_town_2 := dk_seg dksX0_town_1 24 rfl rfl
theorem dX0_town_0 : decode cX0_town 0 = .ok (.aload_n 0, 1) := dk_42 (dk_at dksX0_town_0 0 rfl rfl)
theorem dX0_town_1 : decode cX0_town 1 = .ok (.getfield 231, 3) := dk_180 0 231 (dk_at dksX0_town_0 1 rfl rfl)
theorem dX0_town_4 : decode cX0_town 4 = .ok (.bipush 6, 2) := dk_16 6 (dk_at dksX0_town_0 4 rfl rfl)
theorem dX0_town_6 : decode cX0_town 6 = .ok (.if_icmp .ne 6, 3) := dk_160 0 6 (dk_at dksX0_town_0 6 rfl rfl)
theorem dX0_town_9 : decode cX0_town 9 = .ok (.bipush (-4), 2) := dk_16 252 (dk_at dksX0_town_0 9 rfl rfl)
theorem dX0_town_11 : decode cX0_town 11 = .ok (.ireturn, 1) := dk_172 (dk_at dksX0_town_0 11 rfl rfl)
theorem dX0_town_12 : decode cX0_town 12 = .ok (.aload_n 0, 1) := dk_42 (dk_at dksX0_town_0 12 rfl rfl)
theorem dX0_town_13 : decode cX0_town 13 = .ok (.getfield 228, 3) := dk_180 0 228 (dk_at dksX0_town_0 13 rfl rfl)
theorem dX0_town_16 : decode cX0_town 16 = .ok (.istore_n 1, 1) := dk_60 (dk_at dksX0_town_0 16 rfl rfl)
theorem dX0_town_17 : decode cX0_town 17 = .ok (.aload_n 0, 1) := dk_42 (dk_at dksX0_town_0 17 rfl rfl)
theorem dX0_town_18 : decode cX0_town 18 = .ok (.iconst 0, 1) := dk_3 (dk_at dksX0_town_0 18 rfl rfl)
theorem dX0_town_19 : decode cX0_town 19 = .ok (.putfield 228, 3) := dk_181 0 228 (dk_at dksX0_town_0 19 rfl rfl)
theorem dX0_town_22 : decode cX0_town 22 = .ok (.aload_n 0, 1) := dk_42 (dk_at dksX0_town_0 22 rfl rfl)
theorem dX0_town_23 : decode cX0_town 23 = .ok (.new 234, 3) := dk_187 0 234 (dk_at dksX0_town_1 0 rfl rfl)
theorem dX0_town_26 : decode cX0_town 26 = .ok (.dup, 1) := dk_89 (dk_at dksX0_town_1 3 rfl rfl)
theorem dX0_town_27 : decode cX0_town 27 = .ok (.aload_n 0, 1) := dk_42 (dk_at dksX0_town_1 4 rfl rfl)
theorem dX0_town_28 : decode cX0_town 28 = .ok (.getfield 40, 3) := dk_180 0 40 (dk_at dksX0_town_1 5 rfl rfl)
theorem dX0_town_31 : decode cX0_town 31 = .ok (.iload_n 1, 1) := dk_27 (dk_at dksX0_town_1 8 rfl rfl)
theorem dX0_town_32 : decode cX0_town 32 = .ok (.invokespecial 236, 3) := dk_183 0 236 (dk_at dksX0_town_1 9 rfl rfl)
theorem dX0_town_35 : decode cX0_town 35 = .ok (.invokevirtual 239, 3) := dk_182 0 239 (dk_at dksX0_town_1 12 rfl rfl)
theorem dX0_town_38 : decode cX0_town 38 = .ok (.putfield 47, 3) := dk_181 0 47 (dk_at dksX0_town_1 15 rfl rfl)
theorem dX0_town_41 : decode cX0_town 41 = .ok (.aload_n 0, 1) := dk_42 (dk_at dksX0_town_1 18 rfl rfl)
theorem dX0_town_42 : decode cX0_town 42 = .ok (.dup, 1) := dk_89 (dk_at dksX0_town_1 19 rfl rfl)
theorem dX0_town_43 : decode cX0_town 43 = .ok (.getfield 231, 3) := dk_180 0 231 (dk_at dksX0_town_1 20 rfl rfl)
theorem dX0_town_46 : decode cX0_town 46 = .ok (.dup_x1, 1) := dk_90 (dk_at dksX0_town_1 23 rfl rfl)
theorem dX0_town_47 : decode cX0_town 47 = .ok (.iconst 1, 1) := dk_4 (dk_at dksX0_town_2 0 rfl rfl)
theorem dX0_town_48 : decode cX0_town 48 = .ok (.iadd, 1) := dk_96 (dk_at dksX0_town_2 1 rfl rfl)
theorem dX0_town_49 : decode cX0_town 49 = .ok (.putfield 231, 3) := dk_181 0 231 (dk_at dksX0_town_2 2 rfl rfl)
theorem dX0_town_52 : decode cX0_town 52 = .ok (.ireturn, 1) := dk_172 (dk_at dksX0_town_2 5 rfl rfl)
theorem dX0_town_53 : decode cX0_town 53 = .ok (.astore_n 2, 1) := dk_77 (dk_at dksX0_town_2 6 rfl rfl)
theorem dX0_town_54 : decode cX0_town 54 = .ok (.bipush (-10), 2) := dk_16 246 (dk_at dksX0_town_2 7 rfl rfl)
theorem dX0_town_56 : decode cX0_town 56 = .ok (.aload_n 2, 1) := dk_44 (dk_at dksX0_town_2 9 rfl rfl)
theorem dX0_town_57 : decode cX0_town 57 = .ok (.getfield 244, 3) := dk_180 0 244 (dk_at dksX0_town_2 10 rfl rfl)
theorem dX0_town_60 : decode cX0_town 60 = .ok (.isub, 1) := dk_100 (dk_at dksX0_town_2 13 rfl rfl)
theorem dX0_town_61 : decode cX0_town 61 = .ok (.ireturn, 1) := dk_172 (dk_at dksX0_town_2 14 rfl rfl)
abbrev cX0_told : ByteArray := prog_1_method_19_code
def yX0_told : MethodName := ⟨RX0, "told", "(I)I"⟩
def dkwX0_told_3 : List UInt8 := [2, 172]
abbrev dktX0_told_3 : List UInt8 := dkwX0_told_3 ++ []
def dkwX0_told_2 : List UInt8 := [16, 20, 100, 184, 0, 161, 153, 0, 18, 42, 180, 0, 47, 180, 0, 250, 27, 16, 20, 100, 46, 167, 0, 4]
abbrev dktX0_told_2 : List UInt8 := dkwX0_told_2 ++ dktX0_told_3
def dkwX0_told_1 : List UInt8 := [172, 27, 16, 10, 100, 184, 0, 161, 153, 0, 15, 42, 180, 0, 37, 27, 16, 10, 100, 46, 167, 0, 29, 27]
abbrev dktX0_told_1 : List UInt8 := dkwX0_told_1 ++ dktX0_told_2
def dkwX0_told_0 : List UInt8 := [27, 154, 0, 11, 42, 180, 0, 30, 180, 0, 190, 172, 27, 4, 160, 0, 11, 42, 180, 0, 47, 180, 0, 247]
abbrev dktX0_told_0 : List UInt8 := dkwX0_told_0 ++ dktX0_told_1
theorem dksX0_told_0 : cX0_told.data.toList.drop 0 = dktX0_told_0 := by decide +kernel
theorem dksX0_told_1 : cX0_told.data.toList.drop 24 = dktX0_told_1 := dk_seg dksX0_told_0 24 rfl rfl
theorem dksX0_told_2 : cX0_told.data.toList.drop 48 = dktX0_told_2 := dk_seg dksX0_told_1 24 rfl rfl
theorem dksX0_told_3 : cX0_told.data.toList.drop 72 = dktX0_told_3 := dk_seg dksX0_told_2 24 rfl rfl
theorem dX0_told_0 : decode cX0_told 0 = .ok (.iload_n 1, 1) := dk_27 (dk_at dksX0_told_0 0 rfl rfl)
theorem dX0_told_1 : decode cX0_told 1 = .ok (.ifCond .ne 11, 3) := dk_154 0 11 (dk_at dksX0_told_0 1 rfl rfl)
theorem dX0_told_4 : decode cX0_told 4 = .ok (.aload_n 0, 1) := dk_42 (dk_at dksX0_told_0 4 rfl rfl)
theorem dX0_told_5 : decode cX0_told 5 = .ok (.getfield 30, 3) := dk_180 0 30 (dk_at dksX0_told_0 5 rfl rfl)
theorem dX0_told_8 : decode cX0_told 8 = .ok (.getfield 190, 3) := dk_180 0 190 (dk_at dksX0_told_0 8 rfl rfl)
theorem dX0_told_11 : decode cX0_told 11 = .ok (.ireturn, 1) := dk_172 (dk_at dksX0_told_0 11 rfl rfl)
theorem dX0_told_12 : decode cX0_told 12 = .ok (.iload_n 1, 1) := dk_27 (dk_at dksX0_told_0 12 rfl rfl)
theorem dX0_told_13 : decode cX0_told 13 = .ok (.iconst 1, 1) := dk_4 (dk_at dksX0_told_0 13 rfl rfl)
theorem dX0_told_14 : decode cX0_told 14 = .ok (.if_icmp .ne 11, 3) := dk_160 0 11 (dk_at dksX0_told_0 14 rfl rfl)
theorem dX0_told_17 : decode cX0_told 17 = .ok (.aload_n 0, 1) := dk_42 (dk_at dksX0_told_0 17 rfl rfl)
theorem dX0_told_18 : decode cX0_told 18 = .ok (.getfield 47, 3) := dk_180 0 47 (dk_at dksX0_told_0 18 rfl rfl)
theorem dX0_told_21 : decode cX0_told 21 = .ok (.getfield 247, 3) := dk_180 0 247 (dk_at dksX0_told_0 21 rfl rfl)
theorem dX0_told_24 : decode cX0_told 24 = .ok (.ireturn, 1) := dk_172 (dk_at dksX0_told_1 0 rfl rfl)
theorem dX0_told_25 : decode cX0_told 25 = .ok (.iload_n 1, 1) := dk_27 (dk_at dksX0_told_1 1 rfl rfl)
theorem dX0_told_26 : decode cX0_told 26 = .ok (.bipush 10, 2) := dk_16 10 (dk_at dksX0_told_1 2 rfl rfl)
theorem dX0_told_28 : decode cX0_told 28 = .ok (.isub, 1) := dk_100 (dk_at dksX0_told_1 4 rfl rfl)
theorem dX0_told_29 : decode cX0_told 29 = .ok (.invokestatic 161, 3) := dk_184 0 161 (dk_at dksX0_told_1 5 rfl rfl)
theorem dX0_told_32 : decode cX0_told 32 = .ok (.ifCond .eq 15, 3) := dk_153 0 15 (dk_at dksX0_told_1 8 rfl rfl)
theorem dX0_told_35 : decode cX0_told 35 = .ok (.aload_n 0, 1) := dk_42 (dk_at dksX0_told_1 11 rfl rfl)
theorem dX0_told_36 : decode cX0_told 36 = .ok (.getfield 37, 3) := dk_180 0 37 (dk_at dksX0_told_1 12 rfl rfl)
theorem dX0_told_39 : decode cX0_told 39 = .ok (.iload_n 1, 1) := dk_27 (dk_at dksX0_told_1 15 rfl rfl)
theorem dX0_told_40 : decode cX0_told 40 = .ok (.bipush 10, 2) := dk_16 10 (dk_at dksX0_told_1 16 rfl rfl)
theorem dX0_told_42 : decode cX0_told 42 = .ok (.isub, 1) := dk_100 (dk_at dksX0_told_1 18 rfl rfl)
theorem dX0_told_43 : decode cX0_told 43 = .ok (.iaload, 1) := dk_46 (dk_at dksX0_told_1 19 rfl rfl)
theorem dX0_told_44 : decode cX0_told 44 = .ok (.goto 29, 3) := dk_167 0 29 (dk_at dksX0_told_1 20 rfl rfl)
theorem dX0_told_47 : decode cX0_told 47 = .ok (.iload_n 1, 1) := dk_27 (dk_at dksX0_told_1 23 rfl rfl)
theorem dX0_told_48 : decode cX0_told 48 = .ok (.bipush 20, 2) := dk_16 20 (dk_at dksX0_told_2 0 rfl rfl)
theorem dX0_told_50 : decode cX0_told 50 = .ok (.isub, 1) := dk_100 (dk_at dksX0_told_2 2 rfl rfl)
theorem dX0_told_51 : decode cX0_told 51 = .ok (.invokestatic 161, 3) := dk_184 0 161 (dk_at dksX0_told_2 3 rfl rfl)
theorem dX0_told_54 : decode cX0_told 54 = .ok (.ifCond .eq 18, 3) := dk_153 0 18 (dk_at dksX0_told_2 6 rfl rfl)
theorem dX0_told_57 : decode cX0_told 57 = .ok (.aload_n 0, 1) := dk_42 (dk_at dksX0_told_2 9 rfl rfl)
theorem dX0_told_58 : decode cX0_told 58 = .ok (.getfield 47, 3) := dk_180 0 47 (dk_at dksX0_told_2 10 rfl rfl)
theorem dX0_told_61 : decode cX0_told 61 = .ok (.getfield 250, 3) := dk_180 0 250 (dk_at dksX0_told_2 13 rfl rfl)
theorem dX0_told_64 : decode cX0_told 64 = .ok (.iload_n 1, 1) := dk_27 (dk_at dksX0_told_2 16 rfl rfl)
theorem dX0_told_65 : decode cX0_told 65 = .ok (.bipush 20, 2) := dk_16 20 (dk_at dksX0_told_2 17 rfl rfl)
theorem dX0_told_67 : decode cX0_told 67 = .ok (.isub, 1) := dk_100 (dk_at dksX0_told_2 19 rfl rfl)
theorem dX0_told_68 : decode cX0_told 68 = .ok (.iaload, 1) := dk_46 (dk_at dksX0_told_2 20 rfl rfl)
theorem dX0_told_69 : decode cX0_told 69 = .ok (.goto 4, 3) := dk_167 0 4 (dk_at dksX0_told_2 21 rfl rfl)
theorem dX0_told_72 : decode cX0_told 72 = .ok (.iconst (-1), 1) := dk_2 (dk_at dksX0_told_3 0 rfl rfl)
theorem dX0_told_73 : decode cX0_told 73 = .ok (.ireturn, 1) := dk_172 (dk_at dksX0_told_3 1 rfl rfl)
abbrev cX0_day : ByteArray := prog_1_method_21_code
def yX0_day : MethodName := ⟨RX0, "day", "()I"⟩
def dkwX0_day_4 : List UInt8 := [17, 39, 15, 42, 180, 0, 30, 180, 0, 169, 28, 46, 184, 1, 2, 79, 132, 2, 1, 167, 255, 221, 27, 172]
abbrev dktX0_day_4 : List UInt8 := dkwX0_day_4 ++ []
def dkwX0_day_3 : List UInt8 := [180, 0, 30, 182, 1, 8, 3, 61, 28, 42, 180, 0, 134, 162, 0, 33, 42, 180, 0, 30, 180, 0, 169, 28]
abbrev dktX0_day_3 : List UInt8 := dkwX0_day_3 ++ dktX0_day_4
def dkwX0_day_2 : List UInt8 := [46, 42, 42, 180, 0, 30, 28, 182, 0, 253, 96, 184, 1, 2, 79, 132, 2, 1, 167, 255, 220, 42]
abbrev dktX0_day_2 : List UInt8 := dkwX0_day_2 ++ dktX0_day_3
def dkwX0_day_1 : List UInt8 := [182, 0, 253, 60, 3, 61, 28, 8, 162, 0, 37, 42, 180, 0, 37, 28, 19, 1, 1, 42, 180, 0, 37, 28]
abbrev dktX0_day_1 : List UInt8 := dkwX0_day_1 ++ dktX0_day_2
def dkwX0_day_0 : List UInt8 := [42, 180, 0, 30, 180, 0, 190, 17, 39, 15, 160, 0, 6, 16, 253, 172, 42, 42, 180, 0, 30, 2]
abbrev dktX0_day_0 : List UInt8 := dkwX0_day_0 ++ dktX0_day_1
theorem dksX0_day_0 : cX0_day.data.toList.drop 0 = dktX0_day_0 := by decide +kernel
theorem dksX0_day_1 : cX0_day.data.toList.drop 22 = dktX0_day_1 := dk_seg dksX0_day_0 22 rfl rfl
theorem dksX0_day_2 : cX0_day.data.toList.drop 46 = dktX0_day_2 := dk_seg dksX0_day_1 24 rfl rfl
theorem dksX0_day_3 : cX0_day.data.toList.drop 68 = dktX0_day_3 := dk_seg dksX0_day_2 22 rfl rfl
theorem dksX0_day_4 : cX0_day.data.toList.drop 92 = dktX0_day_4 := dk_seg dksX0_day_3 24 rfl rfl
theorem dX0_day_0 : decode cX0_day 0 = .ok (.aload_n 0, 1) := dk_42 (dk_at dksX0_day_0 0 rfl rfl)
theorem dX0_day_1 : decode cX0_day 1 = .ok (.getfield 30, 3) := dk_180 0 30 (dk_at dksX0_day_0 1 rfl rfl)
theorem dX0_day_4 : decode cX0_day 4 = .ok (.getfield 190, 3) := dk_180 0 190 (dk_at dksX0_day_0 4 rfl rfl)
theorem dX0_day_7 : decode cX0_day 7 = .ok (.sipush 9999, 3) := dk_17 39 15 (dk_at dksX0_day_0 7 rfl rfl)
theorem dX0_day_10 : decode cX0_day 10 = .ok (.if_icmp .ne 6, 3) := dk_160 0 6 (dk_at dksX0_day_0 10 rfl rfl)
theorem dX0_day_13 : decode cX0_day 13 = .ok (.bipush (-3), 2) := dk_16 253 (dk_at dksX0_day_0 13 rfl rfl)
theorem dX0_day_15 : decode cX0_day 15 = .ok (.ireturn, 1) := dk_172 (dk_at dksX0_day_0 15 rfl rfl)
theorem dX0_day_16 : decode cX0_day 16 = .ok (.aload_n 0, 1) := dk_42 (dk_at dksX0_day_0 16 rfl rfl)
theorem dX0_day_17 : decode cX0_day 17 = .ok (.aload_n 0, 1) := dk_42 (dk_at dksX0_day_0 17 rfl rfl)
theorem dX0_day_18 : decode cX0_day 18 = .ok (.getfield 30, 3) := dk_180 0 30 (dk_at dksX0_day_0 18 rfl rfl)
theorem dX0_day_21 : decode cX0_day 21 = .ok (.iconst (-1), 1) := dk_2 (dk_at dksX0_day_0 21 rfl rfl)
theorem dX0_day_22 : decode cX0_day 22 = .ok (.invokevirtual 253, 3) := dk_182 0 253 (dk_at dksX0_day_1 0 rfl rfl)
theorem dX0_day_25 : decode cX0_day 25 = .ok (.istore_n 1, 1) := dk_60 (dk_at dksX0_day_1 3 rfl rfl)
theorem dX0_day_26 : decode cX0_day 26 = .ok (.iconst 0, 1) := dk_3 (dk_at dksX0_day_1 4 rfl rfl)
theorem dX0_day_27 : decode cX0_day 27 = .ok (.istore_n 2, 1) := dk_61 (dk_at dksX0_day_1 5 rfl rfl)
theorem dX0_day_28 : decode cX0_day 28 = .ok (.iload_n 2, 1) := dk_28 (dk_at dksX0_day_1 6 rfl rfl)
theorem dX0_day_29 : decode cX0_day 29 = .ok (.iconst 5, 1) := dk_8 (dk_at dksX0_day_1 7 rfl rfl)
theorem dX0_day_30 : decode cX0_day 30 = .ok (.if_icmp .ge 37, 3) := dk_162 0 37 (dk_at dksX0_day_1 8 rfl rfl)
theorem dX0_day_33 : decode cX0_day 33 = .ok (.aload_n 0, 1) := dk_42 (dk_at dksX0_day_1 11 rfl rfl)
theorem dX0_day_34 : decode cX0_day 34 = .ok (.getfield 37, 3) := dk_180 0 37 (dk_at dksX0_day_1 12 rfl rfl)
theorem dX0_day_37 : decode cX0_day 37 = .ok (.iload_n 2, 1) := dk_28 (dk_at dksX0_day_1 15 rfl rfl)
theorem dX0_day_38 : decode cX0_day 38 = .ok (.ldc_w 257, 3) := dk_19 1 1 (dk_at dksX0_day_1 16 rfl rfl)
theorem dX0_day_41 : decode cX0_day 41 = .ok (.aload_n 0, 1) := dk_42 (dk_at dksX0_day_1 19 rfl rfl)
theorem dX0_day_42 : decode cX0_day 42 = .ok (.getfield 37, 3) := dk_180 0 37 (dk_at dksX0_day_1 20 rfl rfl)
theorem dX0_day_45 : decode cX0_day 45 = .ok (.iload_n 2, 1) := dk_28 (dk_at dksX0_day_1 23 rfl rfl)
theorem dX0_day_46 : decode cX0_day 46 = .ok (.iaload, 1) := dk_46 (dk_at dksX0_day_2 0 rfl rfl)
theorem dX0_day_47 : decode cX0_day 47 = .ok (.aload_n 0, 1) := dk_42 (dk_at dksX0_day_2 1 rfl rfl)
theorem dX0_day_48 : decode cX0_day 48 = .ok (.aload_n 0, 1) := dk_42 (dk_at dksX0_day_2 2 rfl rfl)
theorem dX0_day_49 : decode cX0_day 49 = .ok (.getfield 30, 3) := dk_180 0 30 (dk_at dksX0_day_2 3 rfl rfl)
theorem dX0_day_52 : decode cX0_day 52 = .ok (.iload_n 2, 1) := dk_28 (dk_at dksX0_day_2 6 rfl rfl)
theorem dX0_day_53 : decode cX0_day 53 = .ok (.invokevirtual 253, 3) := dk_182 0 253 (dk_at dksX0_day_2 7 rfl rfl)
theorem dX0_day_56 : decode cX0_day 56 = .ok (.iadd, 1) := dk_96 (dk_at dksX0_day_2 10 rfl rfl)
theorem dX0_day_57 : decode cX0_day 57 = .ok (.invokestatic 258, 3) := dk_184 1 2 (dk_at dksX0_day_2 11 rfl rfl)
theorem dX0_day_60 : decode cX0_day 60 = .ok (.iastore, 1) := dk_79 (dk_at dksX0_day_2 14 rfl rfl)
theorem dX0_day_61 : decode cX0_day 61 = .ok (.iinc 2 1, 3) := dk_132 2 1 (dk_at dksX0_day_2 15 rfl rfl)
theorem dX0_day_64 : decode cX0_day 64 = .ok (.goto (-36), 3) := dk_167 255 220 (dk_at dksX0_day_2 18 rfl rfl)
theorem dX0_day_67 : decode cX0_day 67 = .ok (.aload_n 0, 1) := dk_42 (dk_at dksX0_day_2 21 rfl rfl)
theorem dX0_day_68 : decode cX0_day 68 = .ok (.getfield 30, 3) := dk_180 0 30 (dk_at dksX0_day_3 0 rfl rfl)
theorem dX0_day_71 : decode cX0_day 71 = .ok (.invokevirtual 264, 3) := dk_182 1 8 (dk_at dksX0_day_3 3 rfl rfl)
theorem dX0_day_74 : decode cX0_day 74 = .ok (.iconst 0, 1) := dk_3 (dk_at dksX0_day_3 6 rfl rfl)
theorem dX0_day_75 : decode cX0_day 75 = .ok (.istore_n 2, 1) := dk_61 (dk_at dksX0_day_3 7 rfl rfl)
theorem dX0_day_76 : decode cX0_day 76 = .ok (.iload_n 2, 1) := dk_28 (dk_at dksX0_day_3 8 rfl rfl)
theorem dX0_day_77 : decode cX0_day 77 = .ok (.aload_n 0, 1) := dk_42 (dk_at dksX0_day_3 9 rfl rfl)
theorem dX0_day_78 : decode cX0_day 78 = .ok (.getfield 134, 3) := dk_180 0 134 (dk_at dksX0_day_3 10 rfl rfl)
theorem dX0_day_81 : decode cX0_day 81 = .ok (.if_icmp .ge 33, 3) := dk_162 0 33 (dk_at dksX0_day_3 13 rfl rfl)
theorem dX0_day_84 : decode cX0_day 84 = .ok (.aload_n 0, 1) := dk_42 (dk_at dksX0_day_3 16 rfl rfl)
theorem dX0_day_85 : decode cX0_day 85 = .ok (.getfield 30, 3) := dk_180 0 30 (dk_at dksX0_day_3 17 rfl rfl)
theorem dX0_day_88 : decode cX0_day 88 = .ok (.getfield 169, 3) := dk_180 0 169 (dk_at dksX0_day_3 20 rfl rfl)
theorem dX0_day_91 : decode cX0_day 91 = .ok (.iload_n 2, 1) := dk_28 (dk_at dksX0_day_3 23 rfl rfl)
theorem dX0_day_92 : decode cX0_day 92 = .ok (.sipush 9999, 3) := dk_17 39 15 (dk_at dksX0_day_4 0 rfl rfl)
theorem dX0_day_95 : decode cX0_day 95 = .ok (.aload_n 0, 1) := dk_42 (dk_at dksX0_day_4 3 rfl rfl)
theorem dX0_day_96 : decode cX0_day 96 = .ok (.getfield 30, 3) := dk_180 0 30 (dk_at dksX0_day_4 4 rfl rfl)
theorem dX0_day_99 : decode cX0_day 99 = .ok (.getfield 169, 3) := dk_180 0 169 (dk_at dksX0_day_4 7 rfl rfl)
theorem dX0_day_102 : decode cX0_day 102 = .ok (.iload_n 2, 1) := dk_28 (dk_at dksX0_day_4 10 rfl rfl)
theorem dX0_day_103 : decode cX0_day 103 = .ok (.iaload, 1) := dk_46 (dk_at dksX0_day_4 11 rfl rfl)
theorem dX0_day_104 : decode cX0_day 104 = .ok (.invokestatic 258, 3) := dk_184 1 2 (dk_at dksX0_day_4 12 rfl rfl)
theorem dX0_day_107 : decode cX0_day 107 = .ok (.iastore, 1) := dk_79 (dk_at dksX0_day_4 15 rfl rfl)
theorem dX0_day_108 : decode cX0_day 108 = .ok (.iinc 2 1, 3) := dk_132 2 1 (dk_at dksX0_day_4 16 rfl rfl)
theorem dX0_day_111 : decode cX0_day 111 = .ok (.goto (-35), 3) := dk_167 255 221 (dk_at dksX0_day_4 19 rfl rfl)
theorem dX0_day_114 : decode cX0_day 114 = .ok (.iload_n 1, 1) := dk_27 (dk_at dksX0_day_4 22 rfl rfl)
theorem dX0_day_115 : decode cX0_day 115 = .ok (.ireturn, 1) := dk_172 (dk_at dksX0_day_4 23 rfl rfl)
abbrev cX0_todayOf : ByteArray := prog_1_method_20_code
def yX0_todayOf : MethodName := ⟨RX0, "todayOf", "(LHatsDecide$Time;I)I"⟩
def dkwX0_todayOf_2 : List UInt8 := [160, 0, 15, 29, 42, 43, 21, 5, 21, 4, 182, 0, 221, 96, 62, 132, 4, 1, 167, 255, 198, 29, 172]
abbrev dktX0_todayOf_2 : List UInt8 := dkwX0_todayOf_2 ++ []
def dkwX0_todayOf_1 : List UInt8 := [21, 5, 2, 159, 0, 34, 28, 2, 159, 0, 17, 42, 180, 0, 23, 21, 5, 50, 180, 0, 184, 28]
abbrev dktX0_todayOf_1 : List UInt8 := dkwX0_todayOf_1 ++ dktX0_todayOf_2
def dkwX0_todayOf_0 : List UInt8 := [3, 62, 3, 54, 4, 21, 4, 43, 180, 0, 126, 162, 0, 55, 43, 180, 0, 137, 21, 4, 51, 54, 5]
abbrev dktX0_todayOf_0 : List UInt8 := dkwX0_todayOf_0 ++ dktX0_todayOf_1
theorem dksX0_todayOf_0 : cX0_todayOf.data.toList.drop 0 = dktX0_todayOf_0 := by decide +kernel
theorem dksX0_todayOf_1 : cX0_todayOf.data.toList.drop 23 = dktX0_todayOf_1 := dk_seg dksX0_todayOf_0 23 rfl rfl
theorem dksX0_todayOf_2 : cX0_todayOf.data.toList.drop 45 = dktX0_todayOf_2 := dk_seg dksX0_todayOf_1 22 rfl rfl
theorem dX0_todayOf_0 : decode cX0_todayOf 0 = .ok (.iconst 0, 1) := dk_3 (dk_at dksX0_todayOf_0 0 rfl rfl)
theorem dX0_todayOf_1 : decode cX0_todayOf 1 = .ok (.istore_n 3, 1) := dk_62 (dk_at dksX0_todayOf_0 1 rfl rfl)
theorem dX0_todayOf_2 : decode cX0_todayOf 2 = .ok (.iconst 0, 1) := dk_3 (dk_at dksX0_todayOf_0 2 rfl rfl)
theorem dX0_todayOf_3 : decode cX0_todayOf 3 = .ok (.istore 4, 2) := dk_54 4 (dk_at dksX0_todayOf_0 3 rfl rfl)
theorem dX0_todayOf_5 : decode cX0_todayOf 5 = .ok (.iload 4, 2) := dk_21 4 (dk_at dksX0_todayOf_0 5 rfl rfl)
theorem dX0_todayOf_7 : decode cX0_todayOf 7 = .ok (.aload_n 1, 1) := dk_43 (dk_at dksX0_todayOf_0 7 rfl rfl)
theorem dX0_todayOf_8 : decode cX0_todayOf 8 = .ok (.getfield 126, 3) := dk_180 0 126 (dk_at dksX0_todayOf_0 8 rfl rfl)
theorem dX0_todayOf_11 : decode cX0_todayOf 11 = .ok (.if_icmp .ge 55, 3) := dk_162 0 55 (dk_at dksX0_todayOf_0 11 rfl rfl)
theorem dX0_todayOf_14 : decode cX0_todayOf 14 = .ok (.aload_n 1, 1) := dk_43 (dk_at dksX0_todayOf_0 14 rfl rfl)
theorem dX0_todayOf_15 : decode cX0_todayOf 15 = .ok (.getfield 137, 3) := dk_180 0 137 (dk_at dksX0_todayOf_0 15 rfl rfl)
theorem dX0_todayOf_18 : decode cX0_todayOf 18 = .ok (.iload 4, 2) := dk_21 4 (dk_at dksX0_todayOf_0 18 rfl rfl)
theorem dX0_todayOf_20 : decode cX0_todayOf 20 = .ok (.baload, 1) := dk_51 (dk_at dksX0_todayOf_0 20 rfl rfl)
theorem dX0_todayOf_21 : decode cX0_todayOf 21 = .ok (.istore 5, 2) := dk_54 5 (dk_at dksX0_todayOf_0 21 rfl rfl)
theorem dX0_todayOf_23 : decode cX0_todayOf 23 = .ok (.iload 5, 2) := dk_21 5 (dk_at dksX0_todayOf_1 0 rfl rfl)
theorem dX0_todayOf_25 : decode cX0_todayOf 25 = .ok (.iconst (-1), 1) := dk_2 (dk_at dksX0_todayOf_1 2 rfl rfl)
theorem dX0_todayOf_26 : decode cX0_todayOf 26 = .ok (.if_icmp .eq 34, 3) := dk_159 0 34 (dk_at dksX0_todayOf_1 3 rfl rfl)
theorem dX0_todayOf_29 : decode cX0_todayOf 29 = .ok (.iload_n 2, 1) := dk_28 (dk_at dksX0_todayOf_1 6 rfl rfl)
theorem dX0_todayOf_30 : decode cX0_todayOf 30 = .ok (.iconst (-1), 1) := dk_2 (dk_at dksX0_todayOf_1 7 rfl rfl)
theorem dX0_todayOf_31 : decode cX0_todayOf 31 = .ok (.if_icmp .eq 17, 3) := dk_159 0 17 (dk_at dksX0_todayOf_1 8 rfl rfl)
theorem dX0_todayOf_34 : decode cX0_todayOf 34 = .ok (.aload_n 0, 1) := dk_42 (dk_at dksX0_todayOf_1 11 rfl rfl)
theorem dX0_todayOf_35 : decode cX0_todayOf 35 = .ok (.getfield 23, 3) := dk_180 0 23 (dk_at dksX0_todayOf_1 12 rfl rfl)
theorem dX0_todayOf_38 : decode cX0_todayOf 38 = .ok (.iload 5, 2) := dk_21 5 (dk_at dksX0_todayOf_1 15 rfl rfl)
theorem dX0_todayOf_40 : decode cX0_todayOf 40 = .ok (.aaload, 1) := dk_50 (dk_at dksX0_todayOf_1 17 rfl rfl)
theorem dX0_todayOf_41 : decode cX0_todayOf 41 = .ok (.getfield 184, 3) := dk_180 0 184 (dk_at dksX0_todayOf_1 18 rfl rfl)
theorem dX0_todayOf_44 : decode cX0_todayOf 44 = .ok (.iload_n 2, 1) := dk_28 (dk_at dksX0_todayOf_1 21 rfl rfl)
theorem dX0_todayOf_45 : decode cX0_todayOf 45 = .ok (.if_icmp .ne 15, 3) := dk_160 0 15 (dk_at dksX0_todayOf_2 0 rfl rfl)
theorem dX0_todayOf_48 : decode cX0_todayOf 48 = .ok (.iload_n 3, 1) := dk_29 (dk_at dksX0_todayOf_2 3 rfl rfl)
theorem dX0_todayOf_49 : decode cX0_todayOf 49 = .ok (.aload_n 0, 1) := dk_42 (dk_at dksX0_todayOf_2 4 rfl rfl)
theorem dX0_todayOf_50 : decode cX0_todayOf 50 = .ok (.aload_n 1, 1) := dk_43 (dk_at dksX0_todayOf_2 5 rfl rfl)
theorem dX0_todayOf_51 : decode cX0_todayOf 51 = .ok (.iload 5, 2) := dk_21 5 (dk_at dksX0_todayOf_2 6 rfl rfl)
theorem dX0_todayOf_53 : decode cX0_todayOf 53 = .ok (.iload 4, 2) := dk_21 4 (dk_at dksX0_todayOf_2 8 rfl rfl)
theorem dX0_todayOf_55 : decode cX0_todayOf 55 = .ok (.invokevirtual 221, 3) := dk_182 0 221 (dk_at dksX0_todayOf_2 10 rfl rfl)
theorem dX0_todayOf_58 : decode cX0_todayOf 58 = .ok (.iadd, 1) := dk_96 (dk_at dksX0_todayOf_2 13 rfl rfl)
theorem dX0_todayOf_59 : decode cX0_todayOf 59 = .ok (.istore_n 3, 1) := dk_62 (dk_at dksX0_todayOf_2 14 rfl rfl)
theorem dX0_todayOf_60 : decode cX0_todayOf 60 = .ok (.iinc 4 1, 3) := dk_132 4 1 (dk_at dksX0_todayOf_2 15 rfl rfl)
theorem dX0_todayOf_63 : decode cX0_todayOf 63 = .ok (.goto (-58), 3) := dk_167 255 198 (dk_at dksX0_todayOf_2 18 rfl rfl)
theorem dX0_todayOf_66 : decode cX0_todayOf 66 = .ok (.iload_n 3, 1) := dk_29 (dk_at dksX0_todayOf_2 21 rfl rfl)
theorem dX0_todayOf_67 : decode cX0_todayOf 67 = .ok (.ireturn, 1) := dk_172 (dk_at dksX0_todayOf_2 22 rfl rfl)
abbrev cX0_gust : ByteArray := prog_1_method_22_code
def yX0_gust : MethodName := ⟨RX0, "gust", "(I)I"⟩
def dkwX0_gust_2 : List UInt8 := [167, 255, 226, 42, 180, 0, 30, 27, 182, 1, 11, 28, 172]
abbrev dktX0_gust_2 : List UInt8 := dkwX0_gust_2 ++ []
def dkwX0_gust_1 : List UInt8 := [162, 0, 25, 42, 180, 0, 30, 180, 0, 137, 29, 51, 2, 159, 0, 6, 132, 2, 1, 132, 3, 1]
abbrev dktX0_gust_1 : List UInt8 := dkwX0_gust_1 ++ dktX0_gust_2
def dkwX0_gust_0 : List UInt8 := [27, 3, 8, 184, 0, 130, 154, 0, 6, 16, 254, 172, 3, 61, 3, 62, 29, 42, 180, 0, 30, 180, 0, 126]
abbrev dktX0_gust_0 : List UInt8 := dkwX0_gust_0 ++ dktX0_gust_1
theorem dksX0_gust_0 : cX0_gust.data.toList.drop 0 = dktX0_gust_0 := by decide +kernel
theorem dksX0_gust_1 : cX0_gust.data.toList.drop 24 = dktX0_gust_1 := dk_seg dksX0_gust_0 24 rfl rfl
theorem dksX0_gust_2 : cX0_gust.data.toList.drop 46 = dktX0_gust_2 := dk_seg dksX0_gust_1 22 rfl rfl
theorem dX0_gust_0 : decode cX0_gust 0 = .ok (.iload_n 1, 1) := dk_27 (dk_at dksX0_gust_0 0 rfl rfl)
theorem dX0_gust_1 : decode cX0_gust 1 = .ok (.iconst 0, 1) := dk_3 (dk_at dksX0_gust_0 1 rfl rfl)
theorem dX0_gust_2 : decode cX0_gust 2 = .ok (.iconst 5, 1) := dk_8 (dk_at dksX0_gust_0 2 rfl rfl)
theorem dX0_gust_3 : decode cX0_gust 3 = .ok (.invokestatic 130, 3) := dk_184 0 130 (dk_at dksX0_gust_0 3 rfl rfl)
theorem dX0_gust_6 : decode cX0_gust 6 = .ok (.ifCond .ne 6, 3) := dk_154 0 6 (dk_at dksX0_gust_0 6 rfl rfl)
theorem dX0_gust_9 : decode cX0_gust 9 = .ok (.bipush (-2), 2) := dk_16 254 (dk_at dksX0_gust_0 9 rfl rfl)
theorem dX0_gust_11 : decode cX0_gust 11 = .ok (.ireturn, 1) := dk_172 (dk_at dksX0_gust_0 11 rfl rfl)
theorem dX0_gust_12 : decode cX0_gust 12 = .ok (.iconst 0, 1) := dk_3 (dk_at dksX0_gust_0 12 rfl rfl)
theorem dX0_gust_13 : decode cX0_gust 13 = .ok (.istore_n 2, 1) := dk_61 (dk_at dksX0_gust_0 13 rfl rfl)
theorem dX0_gust_14 : decode cX0_gust 14 = .ok (.iconst 0, 1) := dk_3 (dk_at dksX0_gust_0 14 rfl rfl)
theorem dX0_gust_15 : decode cX0_gust 15 = .ok (.istore_n 3, 1) := dk_62 (dk_at dksX0_gust_0 15 rfl rfl)
theorem dX0_gust_16 : decode cX0_gust 16 = .ok (.iload_n 3, 1) := dk_29 (dk_at dksX0_gust_0 16 rfl rfl)
theorem dX0_gust_17 : decode cX0_gust 17 = .ok (.aload_n 0, 1) := dk_42 (dk_at dksX0_gust_0 17 rfl rfl)
theorem dX0_gust_18 : decode cX0_gust 18 = .ok (.getfield 30, 3) := dk_180 0 30 (dk_at dksX0_gust_0 18 rfl rfl)
theorem dX0_gust_21 : decode cX0_gust 21 = .ok (.getfield 126, 3) := dk_180 0 126 (dk_at dksX0_gust_0 21 rfl rfl)
theorem dX0_gust_24 : decode cX0_gust 24 = .ok (.if_icmp .ge 25, 3) := dk_162 0 25 (dk_at dksX0_gust_1 0 rfl rfl)
theorem dX0_gust_27 : decode cX0_gust 27 = .ok (.aload_n 0, 1) := dk_42 (dk_at dksX0_gust_1 3 rfl rfl)
theorem dX0_gust_28 : decode cX0_gust 28 = .ok (.getfield 30, 3) := dk_180 0 30 (dk_at dksX0_gust_1 4 rfl rfl)
theorem dX0_gust_31 : decode cX0_gust 31 = .ok (.getfield 137, 3) := dk_180 0 137 (dk_at dksX0_gust_1 7 rfl rfl)
theorem dX0_gust_34 : decode cX0_gust 34 = .ok (.iload_n 3, 1) := dk_29 (dk_at dksX0_gust_1 10 rfl rfl)
theorem dX0_gust_35 : decode cX0_gust 35 = .ok (.baload, 1) := dk_51 (dk_at dksX0_gust_1 11 rfl rfl)
theorem dX0_gust_36 : decode cX0_gust 36 = .ok (.iconst (-1), 1) := dk_2 (dk_at dksX0_gust_1 12 rfl rfl)
theorem dX0_gust_37 : decode cX0_gust 37 = .ok (.if_icmp .eq 6, 3) := dk_159 0 6 (dk_at dksX0_gust_1 13 rfl rfl)
theorem dX0_gust_40 : decode cX0_gust 40 = .ok (.iinc 2 1, 3) := dk_132 2 1 (dk_at dksX0_gust_1 16 rfl rfl)
theorem dX0_gust_43 : decode cX0_gust 43 = .ok (.iinc 3 1, 3) := dk_132 3 1 (dk_at dksX0_gust_1 19 rfl rfl)
theorem dX0_gust_46 : decode cX0_gust 46 = .ok (.goto (-30), 3) := dk_167 255 226 (dk_at dksX0_gust_2 0 rfl rfl)
theorem dX0_gust_49 : decode cX0_gust 49 = .ok (.aload_n 0, 1) := dk_42 (dk_at dksX0_gust_2 3 rfl rfl)
theorem dX0_gust_50 : decode cX0_gust 50 = .ok (.getfield 30, 3) := dk_180 0 30 (dk_at dksX0_gust_2 4 rfl rfl)
theorem dX0_gust_53 : decode cX0_gust 53 = .ok (.iload_n 1, 1) := dk_27 (dk_at dksX0_gust_2 7 rfl rfl)
theorem dX0_gust_54 : decode cX0_gust 54 = .ok (.invokevirtual 267, 3) := dk_182 1 11 (dk_at dksX0_gust_2 8 rfl rfl)
theorem dX0_gust_57 : decode cX0_gust 57 = .ok (.iload_n 2, 1) := dk_28 (dk_at dksX0_gust_2 11 rfl rfl)
theorem dX0_gust_58 : decode cX0_gust 58 = .ok (.ireturn, 1) := dk_172 (dk_at dksX0_gust_2 12 rfl rfl)
abbrev cX0_change : ByteArray := prog_1_method_23_code
def yX0_change : MethodName := ⟨RX0, "change", "(II)I"⟩
def dkwX0_change_1 : List UInt8 := [16, 254, 172, 42, 180, 0, 30, 27, 28, 182, 1, 15, 4, 172]
abbrev dktX0_change_1 : List UInt8 := dkwX0_change_1 ++ []
def dkwX0_change_0 : List UInt8 := [42, 27, 182, 0, 218, 153, 0, 11, 42, 28, 182, 0, 218, 154, 0, 5, 2, 172, 27, 28, 160, 0, 6]
abbrev dktX0_change_0 : List UInt8 := dkwX0_change_0 ++ dktX0_change_1
theorem dksX0_change_0 : cX0_change.data.toList.drop 0 = dktX0_change_0 := by decide +kernel
theorem dksX0_change_1 : cX0_change.data.toList.drop 23 = dktX0_change_1 := dk_seg dksX0_change_0 23 rfl rfl
theorem dX0_change_0 : decode cX0_change 0 = .ok (.aload_n 0, 1) := dk_42 (dk_at dksX0_change_0 0 rfl rfl)
theorem dX0_change_1 : decode cX0_change 1 = .ok (.iload_n 1, 1) := dk_27 (dk_at dksX0_change_0 1 rfl rfl)
theorem dX0_change_2 : decode cX0_change 2 = .ok (.invokevirtual 218, 3) := dk_182 0 218 (dk_at dksX0_change_0 2 rfl rfl)
theorem dX0_change_5 : decode cX0_change 5 = .ok (.ifCond .eq 11, 3) := dk_153 0 11 (dk_at dksX0_change_0 5 rfl rfl)
theorem dX0_change_8 : decode cX0_change 8 = .ok (.aload_n 0, 1) := dk_42 (dk_at dksX0_change_0 8 rfl rfl)
theorem dX0_change_9 : decode cX0_change 9 = .ok (.iload_n 2, 1) := dk_28 (dk_at dksX0_change_0 9 rfl rfl)
theorem dX0_change_10 : decode cX0_change 10 = .ok (.invokevirtual 218, 3) := dk_182 0 218 (dk_at dksX0_change_0 10 rfl rfl)
theorem dX0_change_13 : decode cX0_change 13 = .ok (.ifCond .ne 5, 3) := dk_154 0 5 (dk_at dksX0_change_0 13 rfl rfl)
theorem dX0_change_16 : decode cX0_change 16 = .ok (.iconst (-1), 1) := dk_2 (dk_at dksX0_change_0 16 rfl rfl)
theorem dX0_change_17 : decode cX0_change 17 = .ok (.ireturn, 1) := dk_172 (dk_at dksX0_change_0 17 rfl rfl)
theorem dX0_change_18 : decode cX0_change 18 = .ok (.iload_n 1, 1) := dk_27 (dk_at dksX0_change_0 18 rfl rfl)
theorem dX0_change_19 : decode cX0_change 19 = .ok (.iload_n 2, 1) := dk_28 (dk_at dksX0_change_0 19 rfl rfl)
theorem dX0_change_20 : decode cX0_change 20 = .ok (.if_icmp .ne 6, 3) := dk_160 0 6 (dk_at dksX0_change_0 20 rfl rfl)
theorem dX0_change_23 : decode cX0_change 23 = .ok (.bipush (-2), 2) := dk_16 254 (dk_at dksX0_change_1 0 rfl rfl)
theorem dX0_change_25 : decode cX0_change 25 = .ok (.ireturn, 1) := dk_172 (dk_at dksX0_change_1 2 rfl rfl)
theorem dX0_change_26 : decode cX0_change 26 = .ok (.aload_n 0, 1) := dk_42 (dk_at dksX0_change_1 3 rfl rfl)
theorem dX0_change_27 : decode cX0_change 27 = .ok (.getfield 30, 3) := dk_180 0 30 (dk_at dksX0_change_1 4 rfl rfl)
theorem dX0_change_30 : decode cX0_change 30 = .ok (.iload_n 1, 1) := dk_27 (dk_at dksX0_change_1 7 rfl rfl)
theorem dX0_change_31 : decode cX0_change 31 = .ok (.iload_n 2, 1) := dk_28 (dk_at dksX0_change_1 8 rfl rfl)
theorem dX0_change_32 : decode cX0_change 32 = .ok (.invokevirtual 271, 3) := dk_182 1 15 (dk_at dksX0_change_1 9 rfl rfl)
theorem dX0_change_35 : decode cX0_change 35 = .ok (.iconst 1, 1) := dk_4 (dk_at dksX0_change_1 12 rfl rfl)
theorem dX0_change_36 : decode cX0_change 36 = .ok (.ireturn, 1) := dk_172 (dk_at dksX0_change_1 13 rfl rfl)
abbrev cX0_today : ByteArray := prog_1_method_24_code
def yX0_today : MethodName := ⟨RX0, "today", "(I)I"⟩
def dkwX0_today_1 : List UInt8 := [2, 172]
abbrev dktX0_today_1 : List UInt8 := dkwX0_today_1 ++ []
def dkwX0_today_0 : List UInt8 := [27, 2, 159, 0, 10, 27, 184, 0, 161, 153, 0, 15, 42, 42, 180, 0, 30, 27, 182, 0, 253, 167, 0, 4]
abbrev dktX0_today_0 : List UInt8 := dkwX0_today_0 ++ dktX0_today_1
theorem dksX0_today_0 : cX0_today.data.toList.drop 0 = dktX0_today_0 := by decide +kernel
theorem dksX0_today_1 : cX0_today.data.toList.drop 24 = dktX0_today_1 := dk_seg dksX0_today_0 24 rfl rfl
theorem dX0_today_0 : decode cX0_today 0 = .ok (.iload_n 1, 1) := dk_27 (dk_at dksX0_today_0 0 rfl rfl)
theorem dX0_today_1 : decode cX0_today 1 = .ok (.iconst (-1), 1) := dk_2 (dk_at dksX0_today_0 1 rfl rfl)
theorem dX0_today_2 : decode cX0_today 2 = .ok (.if_icmp .eq 10, 3) := dk_159 0 10 (dk_at dksX0_today_0 2 rfl rfl)
theorem dX0_today_5 : decode cX0_today 5 = .ok (.iload_n 1, 1) := dk_27 (dk_at dksX0_today_0 5 rfl rfl)
theorem dX0_today_6 : decode cX0_today 6 = .ok (.invokestatic 161, 3) := dk_184 0 161 (dk_at dksX0_today_0 6 rfl rfl)
theorem dX0_today_9 : decode cX0_today 9 = .ok (.ifCond .eq 15, 3) := dk_153 0 15 (dk_at dksX0_today_0 9 rfl rfl)
theorem dX0_today_12 : decode cX0_today 12 = .ok (.aload_n 0, 1) := dk_42 (dk_at dksX0_today_0 12 rfl rfl)
theorem dX0_today_13 : decode cX0_today 13 = .ok (.aload_n 0, 1) := dk_42 (dk_at dksX0_today_0 13 rfl rfl)
theorem dX0_today_14 : decode cX0_today 14 = .ok (.getfield 30, 3) := dk_180 0 30 (dk_at dksX0_today_0 14 rfl rfl)
theorem dX0_today_17 : decode cX0_today 17 = .ok (.iload_n 1, 1) := dk_27 (dk_at dksX0_today_0 17 rfl rfl)
theorem dX0_today_18 : decode cX0_today 18 = .ok (.invokevirtual 253, 3) := dk_182 0 253 (dk_at dksX0_today_0 18 rfl rfl)
theorem dX0_today_21 : decode cX0_today 21 = .ok (.goto 4, 3) := dk_167 0 4 (dk_at dksX0_today_0 21 rfl rfl)
theorem dX0_today_24 : decode cX0_today 24 = .ok (.iconst (-1), 1) := dk_2 (dk_at dksX0_today_1 0 rfl rfl)
theorem dX0_today_25 : decode cX0_today 25 = .ok (.ireturn, 1) := dk_172 (dk_at dksX0_today_1 1 rfl rfl)
abbrev cX0_enough : ByteArray := prog_1_method_26_code
def yX0_enough : MethodName := ⟨RX0, "enough", "()I"⟩
def dkwX0_enough_1 : List UInt8 := [120, 128, 60, 132, 2, 1, 167, 255, 230, 27, 172]
abbrev dktX0_enough_1 : List UInt8 := dkwX0_enough_1 ++ []
def dkwX0_enough_0 : List UInt8 := [3, 60, 3, 61, 28, 8, 162, 0, 27, 42, 42, 180, 0, 30, 28, 182, 1, 19, 153, 0, 9, 27, 4, 28]
abbrev dktX0_enough_0 : List UInt8 := dkwX0_enough_0 ++ dktX0_enough_1
theorem dksX0_enough_0 : cX0_enough.data.toList.drop 0 = dktX0_enough_0 := by decide +kernel
theorem dksX0_enough_1 : cX0_enough.data.toList.drop 24 = dktX0_enough_1 := dk_seg dksX0_enough_0 24 rfl rfl
theorem dX0_enough_0 : decode cX0_enough 0 = .ok (.iconst 0, 1) := dk_3 (dk_at dksX0_enough_0 0 rfl rfl)
theorem dX0_enough_1 : decode cX0_enough 1 = .ok (.istore_n 1, 1) := dk_60 (dk_at dksX0_enough_0 1 rfl rfl)
theorem dX0_enough_2 : decode cX0_enough 2 = .ok (.iconst 0, 1) := dk_3 (dk_at dksX0_enough_0 2 rfl rfl)
theorem dX0_enough_3 : decode cX0_enough 3 = .ok (.istore_n 2, 1) := dk_61 (dk_at dksX0_enough_0 3 rfl rfl)
theorem dX0_enough_4 : decode cX0_enough 4 = .ok (.iload_n 2, 1) := dk_28 (dk_at dksX0_enough_0 4 rfl rfl)
theorem dX0_enough_5 : decode cX0_enough 5 = .ok (.iconst 5, 1) := dk_8 (dk_at dksX0_enough_0 5 rfl rfl)
theorem dX0_enough_6 : decode cX0_enough 6 = .ok (.if_icmp .ge 27, 3) := dk_162 0 27 (dk_at dksX0_enough_0 6 rfl rfl)
theorem dX0_enough_9 : decode cX0_enough 9 = .ok (.aload_n 0, 1) := dk_42 (dk_at dksX0_enough_0 9 rfl rfl)
theorem dX0_enough_10 : decode cX0_enough 10 = .ok (.aload_n 0, 1) := dk_42 (dk_at dksX0_enough_0 10 rfl rfl)
theorem dX0_enough_11 : decode cX0_enough 11 = .ok (.getfield 30, 3) := dk_180 0 30 (dk_at dksX0_enough_0 11 rfl rfl)
theorem dX0_enough_14 : decode cX0_enough 14 = .ok (.iload_n 2, 1) := dk_28 (dk_at dksX0_enough_0 14 rfl rfl)
theorem dX0_enough_15 : decode cX0_enough 15 = .ok (.invokevirtual 275, 3) := dk_182 1 19 (dk_at dksX0_enough_0 15 rfl rfl)
theorem dX0_enough_18 : decode cX0_enough 18 = .ok (.ifCond .eq 9, 3) := dk_153 0 9 (dk_at dksX0_enough_0 18 rfl rfl)
theorem dX0_enough_21 : decode cX0_enough 21 = .ok (.iload_n 1, 1) := dk_27 (dk_at dksX0_enough_0 21 rfl rfl)
theorem dX0_enough_22 : decode cX0_enough 22 = .ok (.iconst 1, 1) := dk_4 (dk_at dksX0_enough_0 22 rfl rfl)
theorem dX0_enough_23 : decode cX0_enough 23 = .ok (.iload_n 2, 1) := dk_28 (dk_at dksX0_enough_0 23 rfl rfl)
theorem dX0_enough_24 : decode cX0_enough 24 = .ok (.ishl, 1) := dk_120 (dk_at dksX0_enough_1 0 rfl rfl)
theorem dX0_enough_25 : decode cX0_enough 25 = .ok (.ior, 1) := dk_128 (dk_at dksX0_enough_1 1 rfl rfl)
theorem dX0_enough_26 : decode cX0_enough 26 = .ok (.istore_n 1, 1) := dk_60 (dk_at dksX0_enough_1 2 rfl rfl)
theorem dX0_enough_27 : decode cX0_enough 27 = .ok (.iinc 2 1, 3) := dk_132 2 1 (dk_at dksX0_enough_1 3 rfl rfl)
theorem dX0_enough_30 : decode cX0_enough 30 = .ok (.goto (-26), 3) := dk_167 255 230 (dk_at dksX0_enough_1 6 rfl rfl)
theorem dX0_enough_33 : decode cX0_enough 33 = .ok (.iload_n 1, 1) := dk_27 (dk_at dksX0_enough_1 9 rfl rfl)
theorem dX0_enough_34 : decode cX0_enough 34 = .ok (.ireturn, 1) := dk_172 (dk_at dksX0_enough_1 10 rfl rfl)
abbrev cX0_isEnough : ByteArray := prog_1_method_25_code
def yX0_isEnough : MethodName := ⟨RX0, "isEnough", "(LHatsDecide$Time;I)Z"⟩
def dkwX0_isEnough_0 : List UInt8 := [42, 43, 28, 182, 0, 253, 42, 180, 0, 47, 180, 0, 250, 28, 46, 161, 0, 7, 4, 167, 0, 4, 3, 172]
abbrev dktX0_isEnough_0 : List UInt8 := dkwX0_isEnough_0 ++ []
theorem dksX0_isEnough_0 : cX0_isEnough.data.toList.drop 0 = dktX0_isEnough_0 := by decide +kernel
theorem dX0_isEnough_0 : decode cX0_isEnough 0 = .ok (.aload_n 0, 1) := dk_42 (dk_at dksX0_isEnough_0 0 rfl rfl)
theorem dX0_isEnough_1 : decode cX0_isEnough 1 = .ok (.aload_n 1, 1) := dk_43 (dk_at dksX0_isEnough_0 1 rfl rfl)
theorem dX0_isEnough_2 : decode cX0_isEnough 2 = .ok (.iload_n 2, 1) := dk_28 (dk_at dksX0_isEnough_0 2 rfl rfl)
theorem dX0_isEnough_3 : decode cX0_isEnough 3 = .ok (.invokevirtual 253, 3) := dk_182 0 253 (dk_at dksX0_isEnough_0 3 rfl rfl)
theorem dX0_isEnough_6 : decode cX0_isEnough 6 = .ok (.aload_n 0, 1) := dk_42 (dk_at dksX0_isEnough_0 6 rfl rfl)
theorem dX0_isEnough_7 : decode cX0_isEnough 7 = .ok (.getfield 47, 3) := dk_180 0 47 (dk_at dksX0_isEnough_0 7 rfl rfl)
theorem dX0_isEnough_10 : decode cX0_isEnough 10 = .ok (.getfield 250, 3) := dk_180 0 250 (dk_at dksX0_isEnough_0 10 rfl rfl)
theorem dX0_isEnough_13 : decode cX0_isEnough 13 = .ok (.iload_n 2, 1) := dk_28 (dk_at dksX0_isEnough_0 13 rfl rfl)
theorem dX0_isEnough_14 : decode cX0_isEnough 14 = .ok (.iaload, 1) := dk_46 (dk_at dksX0_isEnough_0 14 rfl rfl)
theorem dX0_isEnough_15 : decode cX0_isEnough 15 = .ok (.if_icmp .lt 7, 3) := dk_161 0 7 (dk_at dksX0_isEnough_0 15 rfl rfl)
theorem dX0_isEnough_18 : decode cX0_isEnough 18 = .ok (.iconst 1, 1) := dk_4 (dk_at dksX0_isEnough_0 18 rfl rfl)
theorem dX0_isEnough_19 : decode cX0_isEnough 19 = .ok (.goto 4, 3) := dk_167 0 4 (dk_at dksX0_isEnough_0 19 rfl rfl)
theorem dX0_isEnough_22 : decode cX0_isEnough 22 = .ok (.iconst 0, 1) := dk_3 (dk_at dksX0_isEnough_0 22 rfl rfl)
theorem dX0_isEnough_23 : decode cX0_isEnough 23 = .ok (.ireturn, 1) := dk_172 (dk_at dksX0_isEnough_0 23 rfl rfl)
abbrev cX0_best : ByteArray := prog_1_method_27_code
def yX0_best : MethodName := ⟨RX0, "best", "(I)I"⟩
def dkwX0_best_2 : List UInt8 := [163, 0, 6, 167, 0, 9, 21, 5, 62, 21, 4, 61, 132, 4, 1, 167, 255, 213, 28, 172]
abbrev dktX0_best_2 : List UInt8 := dkwX0_best_2 ++ []
def dkwX0_best_1 : List UInt8 := [180, 0, 126, 162, 0, 37, 42, 42, 180, 0, 30, 27, 21, 4, 182, 0, 221, 54, 5, 21, 5, 29]
abbrev dktX0_best_1 : List UInt8 := dkwX0_best_1 ++ dktX0_best_2
def dkwX0_best_0 : List UInt8 := [42, 27, 182, 0, 202, 154, 0, 5, 2, 172, 16, 251, 61, 2, 62, 3, 54, 4, 21, 4, 42, 180, 0, 30]
abbrev dktX0_best_0 : List UInt8 := dkwX0_best_0 ++ dktX0_best_1
theorem dksX0_best_0 : cX0_best.data.toList.drop 0 = dktX0_best_0 := by decide +kernel
theorem dksX0_best_1 : cX0_best.data.toList.drop 24 = dktX0_best_1 := dk_seg dksX0_best_0 24 rfl rfl
theorem dksX0_best_2 : cX0_best.data.toList.drop 46 = dktX0_best_2 := dk_seg dksX0_best_1 22 rfl rfl
theorem dX0_best_0 : decode cX0_best 0 = .ok (.aload_n 0, 1) := dk_42 (dk_at dksX0_best_0 0 rfl rfl)
theorem dX0_best_1 : decode cX0_best 1 = .ok (.iload_n 1, 1) := dk_27 (dk_at dksX0_best_0 1 rfl rfl)
theorem dX0_best_2 : decode cX0_best 2 = .ok (.invokevirtual 202, 3) := dk_182 0 202 (dk_at dksX0_best_0 2 rfl rfl)
theorem dX0_best_5 : decode cX0_best 5 = .ok (.ifCond .ne 5, 3) := dk_154 0 5 (dk_at dksX0_best_0 5 rfl rfl)
theorem dX0_best_8 : decode cX0_best 8 = .ok (.iconst (-1), 1) := dk_2 (dk_at dksX0_best_0 8 rfl rfl)
theorem dX0_best_9 : decode cX0_best 9 = .ok (.ireturn, 1) := dk_172 (dk_at dksX0_best_0 9 rfl rfl)
theorem dX0_best_10 : decode cX0_best 10 = .ok (.bipush (-5), 2) := dk_16 251 (dk_at dksX0_best_0 10 rfl rfl)
theorem dX0_best_12 : decode cX0_best 12 = .ok (.istore_n 2, 1) := dk_61 (dk_at dksX0_best_0 12 rfl rfl)
theorem dX0_best_13 : decode cX0_best 13 = .ok (.iconst (-1), 1) := dk_2 (dk_at dksX0_best_0 13 rfl rfl)
theorem dX0_best_14 : decode cX0_best 14 = .ok (.istore_n 3, 1) := dk_62 (dk_at dksX0_best_0 14 rfl rfl)
theorem dX0_best_15 : decode cX0_best 15 = .ok (.iconst 0, 1) := dk_3 (dk_at dksX0_best_0 15 rfl rfl)
theorem dX0_best_16 : decode cX0_best 16 = .ok (.istore 4, 2) := dk_54 4 (dk_at dksX0_best_0 16 rfl rfl)
theorem dX0_best_18 : decode cX0_best 18 = .ok (.iload 4, 2) := dk_21 4 (dk_at dksX0_best_0 18 rfl rfl)
theorem dX0_best_20 : decode cX0_best 20 = .ok (.aload_n 0, 1) := dk_42 (dk_at dksX0_best_0 20 rfl rfl)
theorem dX0_best_21 : decode cX0_best 21 = .ok (.getfield 30, 3) := dk_180 0 30 (dk_at dksX0_best_0 21 rfl rfl)
theorem dX0_best_24 : decode cX0_best 24 = .ok (.getfield 126, 3) := dk_180 0 126 (dk_at dksX0_best_1 0 rfl rfl)
theorem dX0_best_27 : decode cX0_best 27 = .ok (.if_icmp .ge 37, 3) := dk_162 0 37 (dk_at dksX0_best_1 3 rfl rfl)
theorem dX0_best_30 : decode cX0_best 30 = .ok (.aload_n 0, 1) := dk_42 (dk_at dksX0_best_1 6 rfl rfl)
theorem dX0_best_31 : decode cX0_best 31 = .ok (.aload_n 0, 1) := dk_42 (dk_at dksX0_best_1 7 rfl rfl)
theorem dX0_best_32 : decode cX0_best 32 = .ok (.getfield 30, 3) := dk_180 0 30 (dk_at dksX0_best_1 8 rfl rfl)
theorem dX0_best_35 : decode cX0_best 35 = .ok (.iload_n 1, 1) := dk_27 (dk_at dksX0_best_1 11 rfl rfl)
theorem dX0_best_36 : decode cX0_best 36 = .ok (.iload 4, 2) := dk_21 4 (dk_at dksX0_best_1 12 rfl rfl)
theorem dX0_best_38 : decode cX0_best 38 = .ok (.invokevirtual 221, 3) := dk_182 0 221 (dk_at dksX0_best_1 14 rfl rfl)
theorem dX0_best_41 : decode cX0_best 41 = .ok (.istore 5, 2) := dk_54 5 (dk_at dksX0_best_1 17 rfl rfl)
theorem dX0_best_43 : decode cX0_best 43 = .ok (.iload 5, 2) := dk_21 5 (dk_at dksX0_best_1 19 rfl rfl)
theorem dX0_best_45 : decode cX0_best 45 = .ok (.iload_n 3, 1) := dk_29 (dk_at dksX0_best_1 21 rfl rfl)
theorem dX0_best_46 : decode cX0_best 46 = .ok (.if_icmp .gt 6, 3) := dk_163 0 6 (dk_at dksX0_best_2 0 rfl rfl)
theorem dX0_best_49 : decode cX0_best 49 = .ok (.goto 9, 3) := dk_167 0 9 (dk_at dksX0_best_2 3 rfl rfl)
theorem dX0_best_52 : decode cX0_best 52 = .ok (.iload 5, 2) := dk_21 5 (dk_at dksX0_best_2 6 rfl rfl)
theorem dX0_best_54 : decode cX0_best 54 = .ok (.istore_n 3, 1) := dk_62 (dk_at dksX0_best_2 8 rfl rfl)
theorem dX0_best_55 : decode cX0_best 55 = .ok (.iload 4, 2) := dk_21 4 (dk_at dksX0_best_2 9 rfl rfl)
theorem dX0_best_57 : decode cX0_best 57 = .ok (.istore_n 2, 1) := dk_61 (dk_at dksX0_best_2 11 rfl rfl)
theorem dX0_best_58 : decode cX0_best 58 = .ok (.iinc 4 1, 3) := dk_132 4 1 (dk_at dksX0_best_2 12 rfl rfl)
theorem dX0_best_61 : decode cX0_best 61 = .ok (.goto (-43), 3) := dk_167 255 213 (dk_at dksX0_best_2 15 rfl rfl)
theorem dX0_best_64 : decode cX0_best 64 = .ok (.iload_n 2, 1) := dk_28 (dk_at dksX0_best_2 18 rfl rfl)
theorem dX0_best_65 : decode cX0_best 65 = .ok (.ireturn, 1) := dk_172 (dk_at dksX0_best_2 19 rfl rfl)
abbrev cX0_on : ByteArray := prog_1_method_28_code
def yX0_on : MethodName := ⟨RX0, "on", "(II)I"⟩
def dkwX0_on_2 : List UInt8 := [180, 0, 34, 27, 182, 0, 253, 96, 62, 42, 180, 0, 34, 182, 1, 8, 132, 4, 1, 167, 255, 228, 29, 172]
abbrev dktX0_on_2 : List UInt8 := dkwX0_on_2 ++ []
def dkwX0_on_1 : List UInt8 := [180, 0, 34, 42, 180, 0, 30, 182, 1, 23, 3, 62, 3, 54, 4, 21, 4, 28, 162, 0, 28, 29, 42, 42]
abbrev dktX0_on_1 : List UInt8 := dkwX0_on_1 ++ dktX0_on_2
def dkwX0_on_0 : List UInt8 := [27, 184, 0, 161, 154, 0, 5, 2, 172, 28, 3, 16, 30, 184, 0, 130, 154, 0, 6, 16, 254, 172, 42]
abbrev dktX0_on_0 : List UInt8 := dkwX0_on_0 ++ dktX0_on_1
theorem dksX0_on_0 : cX0_on.data.toList.drop 0 = dktX0_on_0 := by decide +kernel
theorem dksX0_on_1 : cX0_on.data.toList.drop 23 = dktX0_on_1 := dk_seg dksX0_on_0 23 rfl rfl
theorem dksX0_on_2 : cX0_on.data.toList.drop 47 = dktX0_on_2 := dk_seg dksX0_on_1 24 rfl rfl
theorem dX0_on_0 : decode cX0_on 0 = .ok (.iload_n 1, 1) := dk_27 (dk_at dksX0_on_0 0 rfl rfl)
theorem dX0_on_1 : decode cX0_on 1 = .ok (.invokestatic 161, 3) := dk_184 0 161 (dk_at dksX0_on_0 1 rfl rfl)
theorem dX0_on_4 : decode cX0_on 4 = .ok (.ifCond .ne 5, 3) := dk_154 0 5 (dk_at dksX0_on_0 4 rfl rfl)
theorem dX0_on_7 : decode cX0_on 7 = .ok (.iconst (-1), 1) := dk_2 (dk_at dksX0_on_0 7 rfl rfl)
theorem dX0_on_8 : decode cX0_on 8 = .ok (.ireturn, 1) := dk_172 (dk_at dksX0_on_0 8 rfl rfl)
theorem dX0_on_9 : decode cX0_on 9 = .ok (.iload_n 2, 1) := dk_28 (dk_at dksX0_on_0 9 rfl rfl)
theorem dX0_on_10 : decode cX0_on 10 = .ok (.iconst 0, 1) := dk_3 (dk_at dksX0_on_0 10 rfl rfl)
theorem dX0_on_11 : decode cX0_on 11 = .ok (.bipush 30, 2) := dk_16 30 (dk_at dksX0_on_0 11 rfl rfl)
theorem dX0_on_13 : decode cX0_on 13 = .ok (.invokestatic 130, 3) := dk_184 0 130 (dk_at dksX0_on_0 13 rfl rfl)
theorem dX0_on_16 : decode cX0_on 16 = .ok (.ifCond .ne 6, 3) := dk_154 0 6 (dk_at dksX0_on_0 16 rfl rfl)
theorem dX0_on_19 : decode cX0_on 19 = .ok (.bipush (-2), 2) := dk_16 254 (dk_at dksX0_on_0 19 rfl rfl)
theorem dX0_on_21 : decode cX0_on 21 = .ok (.ireturn, 1) := dk_172 (dk_at dksX0_on_0 21 rfl rfl)
theorem dX0_on_22 : decode cX0_on 22 = .ok (.aload_n 0, 1) := dk_42 (dk_at dksX0_on_0 22 rfl rfl)
theorem dX0_on_23 : decode cX0_on 23 = .ok (.getfield 34, 3) := dk_180 0 34 (dk_at dksX0_on_1 0 rfl rfl)
theorem dX0_on_26 : decode cX0_on 26 = .ok (.aload_n 0, 1) := dk_42 (dk_at dksX0_on_1 3 rfl rfl)
theorem dX0_on_27 : decode cX0_on 27 = .ok (.getfield 30, 3) := dk_180 0 30 (dk_at dksX0_on_1 4 rfl rfl)
theorem dX0_on_30 : decode cX0_on 30 = .ok (.invokevirtual 279, 3) := dk_182 1 23 (dk_at dksX0_on_1 7 rfl rfl)
theorem dX0_on_33 : decode cX0_on 33 = .ok (.iconst 0, 1) := dk_3 (dk_at dksX0_on_1 10 rfl rfl)
theorem dX0_on_34 : decode cX0_on 34 = .ok (.istore_n 3, 1) := dk_62 (dk_at dksX0_on_1 11 rfl rfl)
theorem dX0_on_35 : decode cX0_on 35 = .ok (.iconst 0, 1) := dk_3 (dk_at dksX0_on_1 12 rfl rfl)
theorem dX0_on_36 : decode cX0_on 36 = .ok (.istore 4, 2) := dk_54 4 (dk_at dksX0_on_1 13 rfl rfl)
theorem dX0_on_38 : decode cX0_on 38 = .ok (.iload 4, 2) := dk_21 4 (dk_at dksX0_on_1 15 rfl rfl)
theorem dX0_on_40 : decode cX0_on 40 = .ok (.iload_n 2, 1) := dk_28 (dk_at dksX0_on_1 17 rfl rfl)
theorem dX0_on_41 : decode cX0_on 41 = .ok (.if_icmp .ge 28, 3) := dk_162 0 28 (dk_at dksX0_on_1 18 rfl rfl)
theorem dX0_on_44 : decode cX0_on 44 = .ok (.iload_n 3, 1) := dk_29 (dk_at dksX0_on_1 21 rfl rfl)
theorem dX0_on_45 : decode cX0_on 45 = .ok (.aload_n 0, 1) := dk_42 (dk_at dksX0_on_1 22 rfl rfl)
theorem dX0_on_46 : decode cX0_on 46 = .ok (.aload_n 0, 1) := dk_42 (dk_at dksX0_on_1 23 rfl rfl)
theorem dX0_on_47 : decode cX0_on 47 = .ok (.getfield 34, 3) := dk_180 0 34 (dk_at dksX0_on_2 0 rfl rfl)
theorem dX0_on_50 : decode cX0_on 50 = .ok (.iload_n 1, 1) := dk_27 (dk_at dksX0_on_2 3 rfl rfl)
theorem dX0_on_51 : decode cX0_on 51 = .ok (.invokevirtual 253, 3) := dk_182 0 253 (dk_at dksX0_on_2 4 rfl rfl)
theorem dX0_on_54 : decode cX0_on 54 = .ok (.iadd, 1) := dk_96 (dk_at dksX0_on_2 7 rfl rfl)
theorem dX0_on_55 : decode cX0_on 55 = .ok (.istore_n 3, 1) := dk_62 (dk_at dksX0_on_2 8 rfl rfl)
theorem dX0_on_56 : decode cX0_on 56 = .ok (.aload_n 0, 1) := dk_42 (dk_at dksX0_on_2 9 rfl rfl)
theorem dX0_on_57 : decode cX0_on 57 = .ok (.getfield 34, 3) := dk_180 0 34 (dk_at dksX0_on_2 10 rfl rfl)
theorem dX0_on_60 : decode cX0_on 60 = .ok (.invokevirtual 264, 3) := dk_182 1 8 (dk_at dksX0_on_2 13 rfl rfl)
theorem dX0_on_63 : decode cX0_on 63 = .ok (.iinc 4 1, 3) := dk_132 4 1 (dk_at dksX0_on_2 16 rfl rfl)
theorem dX0_on_66 : decode cX0_on 66 = .ok (.goto (-28), 3) := dk_167 255 228 (dk_at dksX0_on_2 19 rfl rfl)
theorem dX0_on_69 : decode cX0_on 69 = .ok (.iload_n 3, 1) := dk_29 (dk_at dksX0_on_2 22 rfl rfl)
theorem dX0_on_70 : decode cX0_on 70 = .ok (.ireturn, 1) := dk_172 (dk_at dksX0_on_2 23 rfl rfl)
abbrev cX0_lasts : ByteArray := prog_1_method_29_code
def yX0_lasts : MethodName := ⟨RX0, "lasts", "(I)I"⟩
def dkwX0_lasts_2 : List UInt8 := [182, 1, 8, 132, 2, 1, 167, 255, 226, 16, 251, 172]
abbrev dktX0_lasts_2 : List UInt8 := dkwX0_lasts_2 ++ []
def dkwX0_lasts_1 : List UInt8 := [16, 30, 163, 0, 30, 42, 42, 180, 0, 34, 27, 182, 1, 19, 154, 0, 5, 28, 172, 42, 180, 0, 34]
abbrev dktX0_lasts_1 : List UInt8 := dkwX0_lasts_1 ++ dktX0_lasts_2
def dkwX0_lasts_0 : List UInt8 := [27, 184, 0, 161, 154, 0, 5, 2, 172, 42, 180, 0, 34, 42, 180, 0, 30, 182, 1, 23, 3, 61, 28]
abbrev dktX0_lasts_0 : List UInt8 := dkwX0_lasts_0 ++ dktX0_lasts_1
theorem dksX0_lasts_0 : cX0_lasts.data.toList.drop 0 = dktX0_lasts_0 := by decide +kernel
theorem dksX0_lasts_1 : cX0_lasts.data.toList.drop 23 = dktX0_lasts_1 := dk_seg dksX0_lasts_0 23 rfl rfl
theorem dksX0_lasts_2 : cX0_lasts.data.toList.drop 46 = dktX0_lasts_2 := dk_seg dksX0_lasts_1 23 rfl rfl
theorem dX0_lasts_0 : decode cX0_lasts 0 = .ok (.iload_n 1, 1) := dk_27 (dk_at dksX0_lasts_0 0 rfl rfl)
theorem dX0_lasts_1 : decode cX0_lasts 1 = .ok (.invokestatic 161, 3) := dk_184 0 161 (dk_at dksX0_lasts_0 1 rfl rfl)
theorem dX0_lasts_4 : decode cX0_lasts 4 = .ok (.ifCond .ne 5, 3) := dk_154 0 5 (dk_at dksX0_lasts_0 4 rfl rfl)
theorem dX0_lasts_7 : decode cX0_lasts 7 = .ok (.iconst (-1), 1) := dk_2 (dk_at dksX0_lasts_0 7 rfl rfl)
theorem dX0_lasts_8 : decode cX0_lasts 8 = .ok (.ireturn, 1) := dk_172 (dk_at dksX0_lasts_0 8 rfl rfl)
theorem dX0_lasts_9 : decode cX0_lasts 9 = .ok (.aload_n 0, 1) := dk_42 (dk_at dksX0_lasts_0 9 rfl rfl)
theorem dX0_lasts_10 : decode cX0_lasts 10 = .ok (.getfield 34, 3) := dk_180 0 34 (dk_at dksX0_lasts_0 10 rfl rfl)
theorem dX0_lasts_13 : decode cX0_lasts 13 = .ok (.aload_n 0, 1) := dk_42 (dk_at dksX0_lasts_0 13 rfl rfl)
theorem dX0_lasts_14 : decode cX0_lasts 14 = .ok (.getfield 30, 3) := dk_180 0 30 (dk_at dksX0_lasts_0 14 rfl rfl)
theorem dX0_lasts_17 : decode cX0_lasts 17 = .ok (.invokevirtual 279, 3) := dk_182 1 23 (dk_at dksX0_lasts_0 17 rfl rfl)
theorem dX0_lasts_20 : decode cX0_lasts 20 = .ok (.iconst 0, 1) := dk_3 (dk_at dksX0_lasts_0 20 rfl rfl)
theorem dX0_lasts_21 : decode cX0_lasts 21 = .ok (.istore_n 2, 1) := dk_61 (dk_at dksX0_lasts_0 21 rfl rfl)
theorem dX0_lasts_22 : decode cX0_lasts 22 = .ok (.iload_n 2, 1) := dk_28 (dk_at dksX0_lasts_0 22 rfl rfl)
theorem dX0_lasts_23 : decode cX0_lasts 23 = .ok (.bipush 30, 2) := dk_16 30 (dk_at dksX0_lasts_1 0 rfl rfl)
theorem dX0_lasts_25 : decode cX0_lasts 25 = .ok (.if_icmp .gt 30, 3) := dk_163 0 30 (dk_at dksX0_lasts_1 2 rfl rfl)
theorem dX0_lasts_28 : decode cX0_lasts 28 = .ok (.aload_n 0, 1) := dk_42 (dk_at dksX0_lasts_1 5 rfl rfl)
theorem dX0_lasts_29 : decode cX0_lasts 29 = .ok (.aload_n 0, 1) := dk_42 (dk_at dksX0_lasts_1 6 rfl rfl)
theorem dX0_lasts_30 : decode cX0_lasts 30 = .ok (.getfield 34, 3) := dk_180 0 34 (dk_at dksX0_lasts_1 7 rfl rfl)
theorem dX0_lasts_33 : decode cX0_lasts 33 = .ok (.iload_n 1, 1) := dk_27 (dk_at dksX0_lasts_1 10 rfl rfl)
theorem dX0_lasts_34 : decode cX0_lasts 34 = .ok (.invokevirtual 275, 3) := dk_182 1 19 (dk_at dksX0_lasts_1 11 rfl rfl)
theorem dX0_lasts_37 : decode cX0_lasts 37 = .ok (.ifCond .ne 5, 3) := dk_154 0 5 (dk_at dksX0_lasts_1 14 rfl rfl)
theorem dX0_lasts_40 : decode cX0_lasts 40 = .ok (.iload_n 2, 1) := dk_28 (dk_at dksX0_lasts_1 17 rfl rfl)
theorem dX0_lasts_41 : decode cX0_lasts 41 = .ok (.ireturn, 1) := dk_172 (dk_at dksX0_lasts_1 18 rfl rfl)
theorem dX0_lasts_42 : decode cX0_lasts 42 = .ok (.aload_n 0, 1) := dk_42 (dk_at dksX0_lasts_1 19 rfl rfl)
theorem dX0_lasts_43 : decode cX0_lasts 43 = .ok (.getfield 34, 3) := dk_180 0 34 (dk_at dksX0_lasts_1 20 rfl rfl)
theorem dX0_lasts_46 : decode cX0_lasts 46 = .ok (.invokevirtual 264, 3) := dk_182 1 8 (dk_at dksX0_lasts_2 0 rfl rfl)
theorem dX0_lasts_49 : decode cX0_lasts 49 = .ok (.iinc 2 1, 3) := dk_132 2 1 (dk_at dksX0_lasts_2 3 rfl rfl)
theorem dX0_lasts_52 : decode cX0_lasts 52 = .ok (.goto (-30), 3) := dk_167 255 226 (dk_at dksX0_lasts_2 6 rfl rfl)
theorem dX0_lasts_55 : decode cX0_lasts 55 = .ok (.bipush (-5), 2) := dk_16 251 (dk_at dksX0_lasts_2 9 rfl rfl)
theorem dX0_lasts_57 : decode cX0_lasts 57 = .ok (.ireturn, 1) := dk_172 (dk_at dksX0_lasts_2 11 rfl rfl)
abbrev cX0_by : ByteArray := prog_1_method_32_code
def yX0_by : MethodName := ⟨RX0, "by", "(I)I"⟩
def dkwX0_by_3 : List UInt8 := [180, 0, 89, 27, 51, 184, 0, 215, 167, 0, 5, 16, 251, 172]
abbrev dktX0_by_3 : List UInt8 := dkwX0_by_3 ++ []
def dkwX0_by_2 : List UInt8 := [27, 2, 160, 0, 10, 42, 180, 1, 27, 167, 0, 28, 27, 42, 180, 0, 30, 180, 0, 126, 162, 0, 15, 42]
abbrev dktX0_by_2 : List UInt8 := dkwX0_by_2 ++ dktX0_by_3
def dkwX0_by_1 : List UInt8 := [180, 0, 134, 120, 4, 100, 42, 180, 0, 134, 42, 180, 0, 30, 180, 0, 126, 184, 1, 2, 3, 182, 1, 36]
abbrev dktX0_by_1 : List UInt8 := dkwX0_by_1 ++ dktX0_by_2
def dkwX0_by_0 : List UInt8 := [27, 2, 8, 184, 0, 130, 154, 0, 5, 2, 172, 42, 182, 1, 40, 42, 2, 181, 1, 27, 42, 3, 4, 42]
abbrev dktX0_by_0 : List UInt8 := dkwX0_by_0 ++ dktX0_by_1
theorem dksX0_by_0 : cX0_by.data.toList.drop 0 = dktX0_by_0 := by decide +kernel
theorem dksX0_by_1 : cX0_by.data.toList.drop 24 = dktX0_by_1 := dk_seg dksX0_by_0 24 rfl rfl
theorem dksX0_by_2 : cX0_by.data.toList.drop 48 = dktX0_by_2 := dk_seg dksX0_by_1 24 rfl rfl
theorem dksX0_by_3 : cX0_by.data.toList.drop 72 = dktX0_by_3 := dk_seg dksX0_by_2 24 rfl rfl
theorem dX0_by_0 : decode cX0_by 0 = .ok (.iload_n 1, 1) := dk_27 (dk_at dksX0_by_0 0 rfl rfl)
theorem dX0_by_1 : decode cX0_by 1 = .ok (.iconst (-1), 1) := dk_2 (dk_at dksX0_by_0 1 rfl rfl)
theorem dX0_by_2 : decode cX0_by 2 = .ok (.iconst 5, 1) := dk_8 (dk_at dksX0_by_0 2 rfl rfl)
theorem dX0_by_3 : decode cX0_by 3 = .ok (.invokestatic 130, 3) := dk_184 0 130 (dk_at dksX0_by_0 3 rfl rfl)
theorem dX0_by_6 : decode cX0_by 6 = .ok (.ifCond .ne 5, 3) := dk_154 0 5 (dk_at dksX0_by_0 6 rfl rfl)
theorem dX0_by_9 : decode cX0_by 9 = .ok (.iconst (-1), 1) := dk_2 (dk_at dksX0_by_0 9 rfl rfl)
theorem dX0_by_10 : decode cX0_by 10 = .ok (.ireturn, 1) := dk_172 (dk_at dksX0_by_0 10 rfl rfl)
theorem dX0_by_11 : decode cX0_by 11 = .ok (.aload_n 0, 1) := dk_42 (dk_at dksX0_by_0 11 rfl rfl)
theorem dX0_by_12 : decode cX0_by 12 = .ok (.invokevirtual 296, 3) := dk_182 1 40 (dk_at dksX0_by_0 12 rfl rfl)
theorem dX0_by_15 : decode cX0_by 15 = .ok (.aload_n 0, 1) := dk_42 (dk_at dksX0_by_0 15 rfl rfl)
theorem dX0_by_16 : decode cX0_by 16 = .ok (.iconst (-1), 1) := dk_2 (dk_at dksX0_by_0 16 rfl rfl)
theorem dX0_by_17 : decode cX0_by 17 = .ok (.putfield 283, 3) := dk_181 1 27 (dk_at dksX0_by_0 17 rfl rfl)
theorem dX0_by_20 : decode cX0_by 20 = .ok (.aload_n 0, 1) := dk_42 (dk_at dksX0_by_0 20 rfl rfl)
theorem dX0_by_21 : decode cX0_by 21 = .ok (.iconst 0, 1) := dk_3 (dk_at dksX0_by_0 21 rfl rfl)
theorem dX0_by_22 : decode cX0_by 22 = .ok (.iconst 1, 1) := dk_4 (dk_at dksX0_by_0 22 rfl rfl)
theorem dX0_by_23 : decode cX0_by 23 = .ok (.aload_n 0, 1) := dk_42 (dk_at dksX0_by_0 23 rfl rfl)
theorem dX0_by_24 : decode cX0_by 24 = .ok (.getfield 134, 3) := dk_180 0 134 (dk_at dksX0_by_1 0 rfl rfl)
theorem dX0_by_27 : decode cX0_by 27 = .ok (.ishl, 1) := dk_120 (dk_at dksX0_by_1 3 rfl rfl)
theorem dX0_by_28 : decode cX0_by 28 = .ok (.iconst 1, 1) := dk_4 (dk_at dksX0_by_1 4 rfl rfl)
theorem dX0_by_29 : decode cX0_by 29 = .ok (.isub, 1) := dk_100 (dk_at dksX0_by_1 5 rfl rfl)
theorem dX0_by_30 : decode cX0_by 30 = .ok (.aload_n 0, 1) := dk_42 (dk_at dksX0_by_1 6 rfl rfl)
theorem dX0_by_31 : decode cX0_by 31 = .ok (.getfield 134, 3) := dk_180 0 134 (dk_at dksX0_by_1 7 rfl rfl)
theorem dX0_by_34 : decode cX0_by 34 = .ok (.aload_n 0, 1) := dk_42 (dk_at dksX0_by_1 10 rfl rfl)
theorem dX0_by_35 : decode cX0_by 35 = .ok (.getfield 30, 3) := dk_180 0 30 (dk_at dksX0_by_1 11 rfl rfl)
theorem dX0_by_38 : decode cX0_by 38 = .ok (.getfield 126, 3) := dk_180 0 126 (dk_at dksX0_by_1 14 rfl rfl)
theorem dX0_by_41 : decode cX0_by 41 = .ok (.invokestatic 258, 3) := dk_184 1 2 (dk_at dksX0_by_1 17 rfl rfl)
theorem dX0_by_44 : decode cX0_by 44 = .ok (.iconst 0, 1) := dk_3 (dk_at dksX0_by_1 20 rfl rfl)
theorem dX0_by_45 : decode cX0_by 45 = .ok (.invokevirtual 292, 3) := dk_182 1 36 (dk_at dksX0_by_1 21 rfl rfl)
theorem dX0_by_48 : decode cX0_by 48 = .ok (.iload_n 1, 1) := dk_27 (dk_at dksX0_by_2 0 rfl rfl)
theorem dX0_by_49 : decode cX0_by 49 = .ok (.iconst (-1), 1) := dk_2 (dk_at dksX0_by_2 1 rfl rfl)
theorem dX0_by_50 : decode cX0_by 50 = .ok (.if_icmp .ne 10, 3) := dk_160 0 10 (dk_at dksX0_by_2 2 rfl rfl)
theorem dX0_by_53 : decode cX0_by 53 = .ok (.aload_n 0, 1) := dk_42 (dk_at dksX0_by_2 5 rfl rfl)
theorem dX0_by_54 : decode cX0_by 54 = .ok (.getfield 283, 3) := dk_180 1 27 (dk_at dksX0_by_2 6 rfl rfl)
theorem dX0_by_57 : decode cX0_by 57 = .ok (.goto 28, 3) := dk_167 0 28 (dk_at dksX0_by_2 9 rfl rfl)
theorem dX0_by_60 : decode cX0_by 60 = .ok (.iload_n 1, 1) := dk_27 (dk_at dksX0_by_2 12 rfl rfl)
theorem dX0_by_61 : decode cX0_by 61 = .ok (.aload_n 0, 1) := dk_42 (dk_at dksX0_by_2 13 rfl rfl)
theorem dX0_by_62 : decode cX0_by 62 = .ok (.getfield 30, 3) := dk_180 0 30 (dk_at dksX0_by_2 14 rfl rfl)
theorem dX0_by_65 : decode cX0_by 65 = .ok (.getfield 126, 3) := dk_180 0 126 (dk_at dksX0_by_2 17 rfl rfl)
theorem dX0_by_68 : decode cX0_by 68 = .ok (.if_icmp .ge 15, 3) := dk_162 0 15 (dk_at dksX0_by_2 20 rfl rfl)
theorem dX0_by_71 : decode cX0_by 71 = .ok (.aload_n 0, 1) := dk_42 (dk_at dksX0_by_2 23 rfl rfl)
theorem dX0_by_72 : decode cX0_by 72 = .ok (.getfield 89, 3) := dk_180 0 89 (dk_at dksX0_by_3 0 rfl rfl)
theorem dX0_by_75 : decode cX0_by 75 = .ok (.iload_n 1, 1) := dk_27 (dk_at dksX0_by_3 3 rfl rfl)
theorem dX0_by_76 : decode cX0_by 76 = .ok (.baload, 1) := dk_51 (dk_at dksX0_by_3 4 rfl rfl)
theorem dX0_by_77 : decode cX0_by 77 = .ok (.invokestatic 215, 3) := dk_184 0 215 (dk_at dksX0_by_3 5 rfl rfl)
theorem dX0_by_80 : decode cX0_by 80 = .ok (.goto 5, 3) := dk_167 0 5 (dk_at dksX0_by_3 8 rfl rfl)
theorem dX0_by_83 : decode cX0_by 83 = .ok (.bipush (-5), 2) := dk_16 251 (dk_at dksX0_by_3 11 rfl rfl)
theorem dX0_by_85 : decode cX0_by 85 = .ok (.ireturn, 1) := dk_172 (dk_at dksX0_by_3 13 rfl rfl)
abbrev cX0_looksForDeeds : ByteArray := prog_1_method_30_code
def yX0_looksForDeeds : MethodName := ⟨RX0, "looksForDeeds", "()V"⟩
def dkwX0_looksForDeeds_2 : List UInt8 := [167, 255, 221, 132, 1, 1, 167, 255, 205, 177]
abbrev dktX0_looksForDeeds_2 : List UInt8 := dkwX0_looksForDeeds_2 ++ []
def dkwX0_looksForDeeds_1 : List UInt8 := [180, 0, 83, 16, 6, 27, 104, 28, 96, 42, 42, 180, 0, 30, 27, 28, 182, 0, 221, 79, 132, 2, 1]
abbrev dktX0_looksForDeeds_1 : List UInt8 := dkwX0_looksForDeeds_1 ++ dktX0_looksForDeeds_2
def dkwX0_looksForDeeds_0 : List UInt8 := [3, 60, 27, 42, 180, 0, 134, 162, 0, 49, 3, 61, 28, 42, 180, 0, 30, 180, 0, 126, 162, 0, 30, 42]
abbrev dktX0_looksForDeeds_0 : List UInt8 := dkwX0_looksForDeeds_0 ++ dktX0_looksForDeeds_1
theorem dksX0_looksForDeeds_0 : cX0_looksForDeeds.data.toList.drop 0 = dktX0_looksForDeeds_0 := by decide +kernel
theorem dksX0_looksForDeeds_1 : cX0_looksForDeeds.data.toList.drop 24 = dktX0_looksForDeeds_1 := dk_seg dksX0_looksForDeeds_0 24 rfl rfl
theorem dksX0_looksForDeeds_2 : cX0_looksForDeeds.data.toList.drop 47 = dktX0_looksForDeeds_2 := dk_seg dksX0_looksForDeeds_1 23 rfl rfl
theorem dX0_looksForDeeds_0 : decode cX0_looksForDeeds 0 = .ok (.iconst 0, 1) := dk_3 (dk_at dksX0_looksForDeeds_0 0 rfl rfl)
theorem dX0_looksForDeeds_1 : decode cX0_looksForDeeds 1 = .ok (.istore_n 1, 1) := dk_60 (dk_at dksX0_looksForDeeds_0 1 rfl rfl)
theorem dX0_looksForDeeds_2 : decode cX0_looksForDeeds 2 = .ok (.iload_n 1, 1) := dk_27 (dk_at dksX0_looksForDeeds_0 2 rfl rfl)
theorem dX0_looksForDeeds_3 : decode cX0_looksForDeeds 3 = .ok (.aload_n 0, 1) := dk_42 (dk_at dksX0_looksForDeeds_0 3 rfl rfl)
theorem dX0_looksForDeeds_4 : decode cX0_looksForDeeds 4 = .ok (.getfield 134, 3) := dk_180 0 134 (dk_at dksX0_looksForDeeds_0 4 rfl rfl)
theorem dX0_looksForDeeds_7 : decode cX0_looksForDeeds 7 = .ok (.if_icmp .ge 49, 3) := dk_162 0 49 (dk_at dksX0_looksForDeeds_0 7 rfl rfl)
theorem dX0_looksForDeeds_10 : decode cX0_looksForDeeds 10 = .ok (.iconst 0, 1) := dk_3 (dk_at dksX0_looksForDeeds_0 10 rfl rfl)
theorem dX0_looksForDeeds_11 : decode cX0_looksForDeeds 11 = .ok (.istore_n 2, 1) := dk_61 (dk_at dksX0_looksForDeeds_0 11 rfl rfl)
theorem dX0_looksForDeeds_12 : decode cX0_looksForDeeds 12 = .ok (.iload_n 2, 1) := dk_28 (dk_at dksX0_looksForDeeds_0 12 rfl rfl)
theorem dX0_looksForDeeds_13 : decode cX0_looksForDeeds 13 = .ok (.aload_n 0, 1) := dk_42 (dk_at dksX0_looksForDeeds_0 13 rfl rfl)
theorem dX0_looksForDeeds_14 : decode cX0_looksForDeeds 14 = .ok (.getfield 30, 3) := dk_180 0 30 (dk_at dksX0_looksForDeeds_0 14 rfl rfl)
theorem dX0_looksForDeeds_17 : decode cX0_looksForDeeds 17 = .ok (.getfield 126, 3) := dk_180 0 126 (dk_at dksX0_looksForDeeds_0 17 rfl rfl)
theorem dX0_looksForDeeds_20 : decode cX0_looksForDeeds 20 = .ok (.if_icmp .ge 30, 3) := dk_162 0 30 (dk_at dksX0_looksForDeeds_0 20 rfl rfl)
theorem dX0_looksForDeeds_23 : decode cX0_looksForDeeds 23 = .ok (.aload_n 0, 1) := dk_42 (dk_at dksX0_looksForDeeds_0 23 rfl rfl)
theorem dX0_looksForDeeds_24 : decode cX0_looksForDeeds 24 = .ok (.getfield 83, 3) := dk_180 0 83 (dk_at dksX0_looksForDeeds_1 0 rfl rfl)
theorem dX0_looksForDeeds_27 : decode cX0_looksForDeeds 27 = .ok (.bipush 6, 2) := dk_16 6 (dk_at dksX0_looksForDeeds_1 3 rfl rfl)
theorem dX0_looksForDeeds_29 : decode cX0_looksForDeeds 29 = .ok (.iload_n 1, 1) := dk_27 (dk_at dksX0_looksForDeeds_1 5 rfl rfl)
theorem dX0_looksForDeeds_30 : decode cX0_looksForDeeds 30 = .ok (.imul, 1) := dk_104 (dk_at dksX0_looksForDeeds_1 6 rfl rfl)
theorem dX0_looksForDeeds_31 : decode cX0_looksForDeeds 31 = .ok (.iload_n 2, 1) := dk_28 (dk_at dksX0_looksForDeeds_1 7 rfl rfl)
theorem dX0_looksForDeeds_32 : decode cX0_looksForDeeds 32 = .ok (.iadd, 1) := dk_96 (dk_at dksX0_looksForDeeds_1 8 rfl rfl)
theorem dX0_looksForDeeds_33 : decode cX0_looksForDeeds 33 = .ok (.aload_n 0, 1) := dk_42 (dk_at dksX0_looksForDeeds_1 9 rfl rfl)
theorem dX0_looksForDeeds_34 : decode cX0_looksForDeeds 34 = .ok (.aload_n 0, 1) := dk_42 (dk_at dksX0_looksForDeeds_1 10 rfl rfl)
theorem dX0_looksForDeeds_35 : decode cX0_looksForDeeds 35 = .ok (.getfield 30, 3) := dk_180 0 30 (dk_at dksX0_looksForDeeds_1 11 rfl rfl)
theorem dX0_looksForDeeds_38 : decode cX0_looksForDeeds 38 = .ok (.iload_n 1, 1) := dk_27 (dk_at dksX0_looksForDeeds_1 14 rfl rfl)
theorem dX0_looksForDeeds_39 : decode cX0_looksForDeeds 39 = .ok (.iload_n 2, 1) := dk_28 (dk_at dksX0_looksForDeeds_1 15 rfl rfl)
theorem dX0_looksForDeeds_40 : decode cX0_looksForDeeds 40 = .ok (.invokevirtual 221, 3) := dk_182 0 221 (dk_at dksX0_looksForDeeds_1 16 rfl rfl)
theorem dX0_looksForDeeds_43 : decode cX0_looksForDeeds 43 = .ok (.iastore, 1) := dk_79 (dk_at dksX0_looksForDeeds_1 19 rfl rfl)
theorem dX0_looksForDeeds_44 : decode cX0_looksForDeeds 44 = .ok (.iinc 2 1, 3) := dk_132 2 1 (dk_at dksX0_looksForDeeds_1 20 rfl rfl)
theorem dX0_looksForDeeds_47 : decode cX0_looksForDeeds 47 = .ok (.goto (-35), 3) := dk_167 255 221 (dk_at dksX0_looksForDeeds_2 0 rfl rfl)
theorem dX0_looksForDeeds_50 : decode cX0_looksForDeeds 50 = .ok (.iinc 1 1, 3) := dk_132 1 1 (dk_at dksX0_looksForDeeds_2 3 rfl rfl)
theorem dX0_looksForDeeds_53 : decode cX0_looksForDeeds 53 = .ok (.goto (-51), 3) := dk_167 255 205 (dk_at dksX0_looksForDeeds_2 6 rfl rfl)
theorem dX0_looksForDeeds_56 : decode cX0_looksForDeeds 56 = .ok (.return_, 1) := dk_177 (dk_at dksX0_looksForDeeds_2 9 rfl rfl)
abbrev cX0_waysFrom : ByteArray := prog_1_method_31_code
def yX0_waysFrom : MethodName := ⟨RX0, "waysFrom", "(IIII)V"⟩
def dkwX0_waysFrom_6 : List UInt8 := [182, 1, 36, 132, 5, 1, 167, 255, 186, 177]
abbrev dktX0_waysFrom_6 : List UInt8 := dkwX0_waysFrom_6 ++ []
def dkwX0_waysFrom_5 : List UInt8 := [21, 5, 120, 2, 130, 126, 29, 4, 100, 21, 4, 42, 180, 0, 83, 16, 6, 21, 5, 104, 27, 96, 46, 96]
abbrev dktX0_waysFrom_5 : List UInt8 := dkwX0_waysFrom_5 ++ dktX0_waysFrom_6
def dkwX0_waysFrom_4 : List UInt8 := [122, 4, 126, 154, 0, 6, 167, 0, 45, 42, 180, 0, 86, 27, 21, 5, 145, 84, 42, 27, 4, 96, 28, 4]
abbrev dktX0_waysFrom_4 : List UInt8 := dkwX0_waysFrom_4 ++ dktX0_waysFrom_5
def dkwX0_waysFrom_3 : List UInt8 := [21, 4, 182, 1, 36, 3, 54, 5, 21, 5, 42, 180, 0, 134, 162, 0, 67, 29, 158, 0, 63, 28, 21, 5]
abbrev dktX0_waysFrom_3 : List UInt8 := dkwX0_waysFrom_3 ++ dktX0_waysFrom_4
def dkwX0_waysFrom_2 : List UInt8 := [42, 180, 0, 89, 3, 16, 6, 184, 1, 30, 177, 42, 180, 0, 86, 27, 2, 84, 42, 27, 4, 96, 28, 29]
abbrev dktX0_waysFrom_2 : List UInt8 := dkwX0_waysFrom_2 ++ dktX0_waysFrom_3
def dkwX0_waysFrom_1 : List UInt8 := [160, 0, 35, 21, 4, 42, 180, 1, 27, 163, 0, 4, 177, 42, 21, 4, 181, 1, 27, 42, 180, 0, 86, 3]
abbrev dktX0_waysFrom_1 : List UInt8 := dkwX0_waysFrom_1 ++ dktX0_waysFrom_2
def dkwX0_waysFrom_0 : List UInt8 := [29, 42, 180, 0, 30, 180, 0, 126, 27, 100, 164, 0, 4, 177, 27, 42, 180, 0, 30, 180, 0, 126]
abbrev dktX0_waysFrom_0 : List UInt8 := dkwX0_waysFrom_0 ++ dktX0_waysFrom_1
theorem dksX0_waysFrom_0 : cX0_waysFrom.data.toList.drop 0 = dktX0_waysFrom_0 := by decide +kernel
theorem dksX0_waysFrom_1 : cX0_waysFrom.data.toList.drop 22 = dktX0_waysFrom_1 := dk_seg dksX0_waysFrom_0 22 rfl rfl
theorem dksX0_waysFrom_2 : cX0_waysFrom.data.toList.drop 46 = dktX0_waysFrom_2 := dk_seg dksX0_waysFrom_1 24 rfl rfl
theorem dksX0_waysFrom_3 : cX0_waysFrom.data.toList.drop 70 = dktX0_waysFrom_3 := dk_seg dksX0_waysFrom_2 24 rfl rfl
theorem dksX0_waysFrom_4 : cX0_waysFrom.data.toList.drop 94 = dktX0_waysFrom_4 := dk_seg dksX0_waysFrom_3 24 rfl rfl
theorem dksX0_waysFrom_5 : cX0_waysFrom.data.toList.drop 118 = dktX0_waysFrom_5 := dk_seg dksX0_waysFrom_4 24 rfl rfl
theorem dksX0_waysFrom_6 : cX0_waysFrom.data.toList.drop 142 = dktX0_waysFrom_6 := dk_seg dksX0_waysFrom_5 24 rfl rfl
theorem dX0_waysFrom_0 : decode cX0_waysFrom 0 = .ok (.iload_n 3, 1) := dk_29 (dk_at dksX0_waysFrom_0 0 rfl rfl)
theorem dX0_waysFrom_1 : decode cX0_waysFrom 1 = .ok (.aload_n 0, 1) := dk_42 (dk_at dksX0_waysFrom_0 1 rfl rfl)
theorem dX0_waysFrom_2 : decode cX0_waysFrom 2 = .ok (.getfield 30, 3) := dk_180 0 30 (dk_at dksX0_waysFrom_0 2 rfl rfl)
theorem dX0_waysFrom_5 : decode cX0_waysFrom 5 = .ok (.getfield 126, 3) := dk_180 0 126 (dk_at dksX0_waysFrom_0 5 rfl rfl)
theorem dX0_waysFrom_8 : decode cX0_waysFrom 8 = .ok (.iload_n 1, 1) := dk_27 (dk_at dksX0_waysFrom_0 8 rfl rfl)
theorem dX0_waysFrom_9 : decode cX0_waysFrom 9 = .ok (.isub, 1) := dk_100 (dk_at dksX0_waysFrom_0 9 rfl rfl)
theorem dX0_waysFrom_10 : decode cX0_waysFrom 10 = .ok (.if_icmp .le 4, 3) := dk_164 0 4 (dk_at dksX0_waysFrom_0 10 rfl rfl)
theorem dX0_waysFrom_13 : decode cX0_waysFrom 13 = .ok (.return_, 1) := dk_177 (dk_at dksX0_waysFrom_0 13 rfl rfl)
theorem dX0_waysFrom_14 : decode cX0_waysFrom 14 = .ok (.iload_n 1, 1) := dk_27 (dk_at dksX0_waysFrom_0 14 rfl rfl)
theorem dX0_waysFrom_15 : decode cX0_waysFrom 15 = .ok (.aload_n 0, 1) := dk_42 (dk_at dksX0_waysFrom_0 15 rfl rfl)
theorem dX0_waysFrom_16 : decode cX0_waysFrom 16 = .ok (.getfield 30, 3) := dk_180 0 30 (dk_at dksX0_waysFrom_0 16 rfl rfl)
theorem dX0_waysFrom_19 : decode cX0_waysFrom 19 = .ok (.getfield 126, 3) := dk_180 0 126 (dk_at dksX0_waysFrom_0 19 rfl rfl)
theorem dX0_waysFrom_22 : decode cX0_waysFrom 22 = .ok (.if_icmp .ne 35, 3) := dk_160 0 35 (dk_at dksX0_waysFrom_1 0 rfl rfl)
theorem dX0_waysFrom_25 : decode cX0_waysFrom 25 = .ok (.iload 4, 2) := dk_21 4 (dk_at dksX0_waysFrom_1 3 rfl rfl)
theorem dX0_waysFrom_27 : decode cX0_waysFrom 27 = .ok (.aload_n 0, 1) := dk_42 (dk_at dksX0_waysFrom_1 5 rfl rfl)
theorem dX0_waysFrom_28 : decode cX0_waysFrom 28 = .ok (.getfield 283, 3) := dk_180 1 27 (dk_at dksX0_waysFrom_1 6 rfl rfl)
theorem dX0_waysFrom_31 : decode cX0_waysFrom 31 = .ok (.if_icmp .gt 4, 3) := dk_163 0 4 (dk_at dksX0_waysFrom_1 9 rfl rfl)
theorem dX0_waysFrom_34 : decode cX0_waysFrom 34 = .ok (.return_, 1) := dk_177 (dk_at dksX0_waysFrom_1 12 rfl rfl)
theorem dX0_waysFrom_35 : decode cX0_waysFrom 35 = .ok (.aload_n 0, 1) := dk_42 (dk_at dksX0_waysFrom_1 13 rfl rfl)
theorem dX0_waysFrom_36 : decode cX0_waysFrom 36 = .ok (.iload 4, 2) := dk_21 4 (dk_at dksX0_waysFrom_1 14 rfl rfl)
theorem dX0_waysFrom_38 : decode cX0_waysFrom 38 = .ok (.putfield 283, 3) := dk_181 1 27 (dk_at dksX0_waysFrom_1 16 rfl rfl)
theorem dX0_waysFrom_41 : decode cX0_waysFrom 41 = .ok (.aload_n 0, 1) := dk_42 (dk_at dksX0_waysFrom_1 19 rfl rfl)
theorem dX0_waysFrom_42 : decode cX0_waysFrom 42 = .ok (.getfield 86, 3) := dk_180 0 86 (dk_at dksX0_waysFrom_1 20 rfl rfl)
theorem dX0_waysFrom_45 : decode cX0_waysFrom 45 = .ok (.iconst 0, 1) := dk_3 (dk_at dksX0_waysFrom_1 23 rfl rfl)
theorem dX0_waysFrom_46 : decode cX0_waysFrom 46 = .ok (.aload_n 0, 1) := dk_42 (dk_at dksX0_waysFrom_2 0 rfl rfl)
theorem dX0_waysFrom_47 : decode cX0_waysFrom 47 = .ok (.getfield 89, 3) := dk_180 0 89 (dk_at dksX0_waysFrom_2 1 rfl rfl)
theorem dX0_waysFrom_50 : decode cX0_waysFrom 50 = .ok (.iconst 0, 1) := dk_3 (dk_at dksX0_waysFrom_2 4 rfl rfl)
theorem dX0_waysFrom_51 : decode cX0_waysFrom 51 = .ok (.bipush 6, 2) := dk_16 6 (dk_at dksX0_waysFrom_2 5 rfl rfl)
theorem dX0_waysFrom_53 : decode cX0_waysFrom 53 = .ok (.invokestatic 286, 3) := dk_184 1 30 (dk_at dksX0_waysFrom_2 7 rfl rfl)
theorem dX0_waysFrom_56 : decode cX0_waysFrom 56 = .ok (.return_, 1) := dk_177 (dk_at dksX0_waysFrom_2 10 rfl rfl)
theorem dX0_waysFrom_57 : decode cX0_waysFrom 57 = .ok (.aload_n 0, 1) := dk_42 (dk_at dksX0_waysFrom_2 11 rfl rfl)
theorem dX0_waysFrom_58 : decode cX0_waysFrom 58 = .ok (.getfield 86, 3) := dk_180 0 86 (dk_at dksX0_waysFrom_2 12 rfl rfl)
theorem dX0_waysFrom_61 : decode cX0_waysFrom 61 = .ok (.iload_n 1, 1) := dk_27 (dk_at dksX0_waysFrom_2 15 rfl rfl)
theorem dX0_waysFrom_62 : decode cX0_waysFrom 62 = .ok (.iconst (-1), 1) := dk_2 (dk_at dksX0_waysFrom_2 16 rfl rfl)
theorem dX0_waysFrom_63 : decode cX0_waysFrom 63 = .ok (.bastore, 1) := dk_84 (dk_at dksX0_waysFrom_2 17 rfl rfl)
theorem dX0_waysFrom_64 : decode cX0_waysFrom 64 = .ok (.aload_n 0, 1) := dk_42 (dk_at dksX0_waysFrom_2 18 rfl rfl)
theorem dX0_waysFrom_65 : decode cX0_waysFrom 65 = .ok (.iload_n 1, 1) := dk_27 (dk_at dksX0_waysFrom_2 19 rfl rfl)
theorem dX0_waysFrom_66 : decode cX0_waysFrom 66 = .ok (.iconst 1, 1) := dk_4 (dk_at dksX0_waysFrom_2 20 rfl rfl)
theorem dX0_waysFrom_67 : decode cX0_waysFrom 67 = .ok (.iadd, 1) := dk_96 (dk_at dksX0_waysFrom_2 21 rfl rfl)
theorem dX0_waysFrom_68 : decode cX0_waysFrom 68 = .ok (.iload_n 2, 1) := dk_28 (dk_at dksX0_waysFrom_2 22 rfl rfl)
theorem dX0_waysFrom_69 : decode cX0_waysFrom 69 = .ok (.iload_n 3, 1) := dk_29 (dk_at dksX0_waysFrom_2 23 rfl rfl)
theorem dX0_waysFrom_70 : decode cX0_waysFrom 70 = .ok (.iload 4, 2) := dk_21 4 (dk_at dksX0_waysFrom_3 0 rfl rfl)
theorem dX0_waysFrom_72 : decode cX0_waysFrom 72 = .ok (.invokevirtual 292, 3) := dk_182 1 36 (dk_at dksX0_waysFrom_3 2 rfl rfl)
theorem dX0_waysFrom_75 : decode cX0_waysFrom 75 = .ok (.iconst 0, 1) := dk_3 (dk_at dksX0_waysFrom_3 5 rfl rfl)
theorem dX0_waysFrom_76 : decode cX0_waysFrom 76 = .ok (.istore 5, 2) := dk_54 5 (dk_at dksX0_waysFrom_3 6 rfl rfl)
theorem dX0_waysFrom_78 : decode cX0_waysFrom 78 = .ok (.iload 5, 2) := dk_21 5 (dk_at dksX0_waysFrom_3 8 rfl rfl)
theorem dX0_waysFrom_80 : decode cX0_waysFrom 80 = .ok (.aload_n 0, 1) := dk_42 (dk_at dksX0_waysFrom_3 10 rfl rfl)
theorem dX0_waysFrom_81 : decode cX0_waysFrom 81 = .ok (.getfield 134, 3) := dk_180 0 134 (dk_at dksX0_waysFrom_3 11 rfl rfl)
theorem dX0_waysFrom_84 : decode cX0_waysFrom 84 = .ok (.if_icmp .ge 67, 3) := dk_162 0 67 (dk_at dksX0_waysFrom_3 14 rfl rfl)
theorem dX0_waysFrom_87 : decode cX0_waysFrom 87 = .ok (.iload_n 3, 1) := dk_29 (dk_at dksX0_waysFrom_3 17 rfl rfl)
theorem dX0_waysFrom_88 : decode cX0_waysFrom 88 = .ok (.ifCond .le 63, 3) := dk_158 0 63 (dk_at dksX0_waysFrom_3 18 rfl rfl)
theorem dX0_waysFrom_91 : decode cX0_waysFrom 91 = .ok (.iload_n 2, 1) := dk_28 (dk_at dksX0_waysFrom_3 21 rfl rfl)
theorem dX0_waysFrom_92 : decode cX0_waysFrom 92 = .ok (.iload 5, 2) := dk_21 5 (dk_at dksX0_waysFrom_3 22 rfl rfl)
theorem dX0_waysFrom_94 : decode cX0_waysFrom 94 = .ok (.ishr, 1) := dk_122 (dk_at dksX0_waysFrom_4 0 rfl rfl)
theorem dX0_waysFrom_95 : decode cX0_waysFrom 95 = .ok (.iconst 1, 1) := dk_4 (dk_at dksX0_waysFrom_4 1 rfl rfl)
theorem dX0_waysFrom_96 : decode cX0_waysFrom 96 = .ok (.iand, 1) := dk_126 (dk_at dksX0_waysFrom_4 2 rfl rfl)
theorem dX0_waysFrom_97 : decode cX0_waysFrom 97 = .ok (.ifCond .ne 6, 3) := dk_154 0 6 (dk_at dksX0_waysFrom_4 3 rfl rfl)
theorem dX0_waysFrom_100 : decode cX0_waysFrom 100 = .ok (.goto 45, 3) := dk_167 0 45 (dk_at dksX0_waysFrom_4 6 rfl rfl)
theorem dX0_waysFrom_103 : decode cX0_waysFrom 103 = .ok (.aload_n 0, 1) := dk_42 (dk_at dksX0_waysFrom_4 9 rfl rfl)
theorem dX0_waysFrom_104 : decode cX0_waysFrom 104 = .ok (.getfield 86, 3) := dk_180 0 86 (dk_at dksX0_waysFrom_4 10 rfl rfl)
theorem dX0_waysFrom_107 : decode cX0_waysFrom 107 = .ok (.iload_n 1, 1) := dk_27 (dk_at dksX0_waysFrom_4 13 rfl rfl)
theorem dX0_waysFrom_108 : decode cX0_waysFrom 108 = .ok (.iload 5, 2) := dk_21 5 (dk_at dksX0_waysFrom_4 14 rfl rfl)
theorem dX0_waysFrom_110 : decode cX0_waysFrom 110 = .ok (.i2b, 1) := dk_145 (dk_at dksX0_waysFrom_4 16 rfl rfl)
theorem dX0_waysFrom_111 : decode cX0_waysFrom 111 = .ok (.bastore, 1) := dk_84 (dk_at dksX0_waysFrom_4 17 rfl rfl)
theorem dX0_waysFrom_112 : decode cX0_waysFrom 112 = .ok (.aload_n 0, 1) := dk_42 (dk_at dksX0_waysFrom_4 18 rfl rfl)
theorem dX0_waysFrom_113 : decode cX0_waysFrom 113 = .ok (.iload_n 1, 1) := dk_27 (dk_at dksX0_waysFrom_4 19 rfl rfl)
theorem dX0_waysFrom_114 : decode cX0_waysFrom 114 = .ok (.iconst 1, 1) := dk_4 (dk_at dksX0_waysFrom_4 20 rfl rfl)
theorem dX0_waysFrom_115 : decode cX0_waysFrom 115 = .ok (.iadd, 1) := dk_96 (dk_at dksX0_waysFrom_4 21 rfl rfl)
theorem dX0_waysFrom_116 : decode cX0_waysFrom 116 = .ok (.iload_n 2, 1) := dk_28 (dk_at dksX0_waysFrom_4 22 rfl rfl)
theorem dX0_waysFrom_117 : decode cX0_waysFrom 117 = .ok (.iconst 1, 1) := dk_4 (dk_at dksX0_waysFrom_4 23 rfl rfl)
theorem dX0_waysFrom_118 : decode cX0_waysFrom 118 = .ok (.iload 5, 2) := dk_21 5 (dk_at dksX0_waysFrom_5 0 rfl rfl)
theorem dX0_waysFrom_120 : decode cX0_waysFrom 120 = .ok (.ishl, 1) := dk_120 (dk_at dksX0_waysFrom_5 2 rfl rfl)
theorem dX0_waysFrom_121 : decode cX0_waysFrom 121 = .ok (.iconst (-1), 1) := dk_2 (dk_at dksX0_waysFrom_5 3 rfl rfl)
theorem dX0_waysFrom_122 : decode cX0_waysFrom 122 = .ok (.ixor, 1) := dk_130 (dk_at dksX0_waysFrom_5 4 rfl rfl)
theorem dX0_waysFrom_123 : decode cX0_waysFrom 123 = .ok (.iand, 1) := dk_126 (dk_at dksX0_waysFrom_5 5 rfl rfl)
theorem dX0_waysFrom_124 : decode cX0_waysFrom 124 = .ok (.iload_n 3, 1) := dk_29 (dk_at dksX0_waysFrom_5 6 rfl rfl)
theorem dX0_waysFrom_125 : decode cX0_waysFrom 125 = .ok (.iconst 1, 1) := dk_4 (dk_at dksX0_waysFrom_5 7 rfl rfl)
theorem dX0_waysFrom_126 : decode cX0_waysFrom 126 = .ok (.isub, 1) := dk_100 (dk_at dksX0_waysFrom_5 8 rfl rfl)
theorem dX0_waysFrom_127 : decode cX0_waysFrom 127 = .ok (.iload 4, 2) := dk_21 4 (dk_at dksX0_waysFrom_5 9 rfl rfl)
theorem dX0_waysFrom_129 : decode cX0_waysFrom 129 = .ok (.aload_n 0, 1) := dk_42 (dk_at dksX0_waysFrom_5 11 rfl rfl)
theorem dX0_waysFrom_130 : decode cX0_waysFrom 130 = .ok (.getfield 83, 3) := dk_180 0 83 (dk_at dksX0_waysFrom_5 12 rfl rfl)
theorem dX0_waysFrom_133 : decode cX0_waysFrom 133 = .ok (.bipush 6, 2) := dk_16 6 (dk_at dksX0_waysFrom_5 15 rfl rfl)
theorem dX0_waysFrom_135 : decode cX0_waysFrom 135 = .ok (.iload 5, 2) := dk_21 5 (dk_at dksX0_waysFrom_5 17 rfl rfl)
theorem dX0_waysFrom_137 : decode cX0_waysFrom 137 = .ok (.imul, 1) := dk_104 (dk_at dksX0_waysFrom_5 19 rfl rfl)
theorem dX0_waysFrom_138 : decode cX0_waysFrom 138 = .ok (.iload_n 1, 1) := dk_27 (dk_at dksX0_waysFrom_5 20 rfl rfl)
theorem dX0_waysFrom_139 : decode cX0_waysFrom 139 = .ok (.iadd, 1) := dk_96 (dk_at dksX0_waysFrom_5 21 rfl rfl)
theorem dX0_waysFrom_140 : decode cX0_waysFrom 140 = .ok (.iaload, 1) := dk_46 (dk_at dksX0_waysFrom_5 22 rfl rfl)
theorem dX0_waysFrom_141 : decode cX0_waysFrom 141 = .ok (.iadd, 1) := dk_96 (dk_at dksX0_waysFrom_5 23 rfl rfl)
theorem dX0_waysFrom_142 : decode cX0_waysFrom 142 = .ok (.invokevirtual 292, 3) := dk_182 1 36 (dk_at dksX0_waysFrom_6 0 rfl rfl)
theorem dX0_waysFrom_145 : decode cX0_waysFrom 145 = .ok (.iinc 5 1, 3) := dk_132 5 1 (dk_at dksX0_waysFrom_6 3 rfl rfl)
theorem dX0_waysFrom_148 : decode cX0_waysFrom 148 = .ok (.goto (-70), 3) := dk_167 255 186 (dk_at dksX0_waysFrom_6 6 rfl rfl)
theorem dX0_waysFrom_151 : decode cX0_waysFrom 151 = .ok (.return_, 1) := dk_177 (dk_at dksX0_waysFrom_6 9 rfl rfl)
abbrev cX0_can : ByteArray := prog_1_method_34_code
def yX0_can : MethodName := ⟨RX0, "can", "()I"⟩
def dkwX0_can_1 : List UInt8 := [180, 0, 250, 28, 46, 161, 0, 9, 27, 4, 28, 120, 128, 60, 132, 2, 1, 167, 255, 223, 27, 172]
abbrev dktX0_can_1 : List UInt8 := dkwX0_can_1 ++ []
def dkwX0_can_0 : List UInt8 := [42, 182, 1, 40, 3, 60, 3, 61, 28, 8, 162, 0, 34, 42, 28, 3, 3, 182, 1, 43, 42, 180, 0, 47]
abbrev dktX0_can_0 : List UInt8 := dkwX0_can_0 ++ dktX0_can_1
theorem dksX0_can_0 : cX0_can.data.toList.drop 0 = dktX0_can_0 := by decide +kernel
theorem dksX0_can_1 : cX0_can.data.toList.drop 24 = dktX0_can_1 := dk_seg dksX0_can_0 24 rfl rfl
theorem dX0_can_0 : decode cX0_can 0 = .ok (.aload_n 0, 1) := dk_42 (dk_at dksX0_can_0 0 rfl rfl)
theorem dX0_can_1 : decode cX0_can 1 = .ok (.invokevirtual 296, 3) := dk_182 1 40 (dk_at dksX0_can_0 1 rfl rfl)
theorem dX0_can_4 : decode cX0_can 4 = .ok (.iconst 0, 1) := dk_3 (dk_at dksX0_can_0 4 rfl rfl)
theorem dX0_can_5 : decode cX0_can 5 = .ok (.istore_n 1, 1) := dk_60 (dk_at dksX0_can_0 5 rfl rfl)
theorem dX0_can_6 : decode cX0_can 6 = .ok (.iconst 0, 1) := dk_3 (dk_at dksX0_can_0 6 rfl rfl)
theorem dX0_can_7 : decode cX0_can 7 = .ok (.istore_n 2, 1) := dk_61 (dk_at dksX0_can_0 7 rfl rfl)
theorem dX0_can_8 : decode cX0_can 8 = .ok (.iload_n 2, 1) := dk_28 (dk_at dksX0_can_0 8 rfl rfl)
theorem dX0_can_9 : decode cX0_can 9 = .ok (.iconst 5, 1) := dk_8 (dk_at dksX0_can_0 9 rfl rfl)
theorem dX0_can_10 : decode cX0_can 10 = .ok (.if_icmp .ge 34, 3) := dk_162 0 34 (dk_at dksX0_can_0 10 rfl rfl)
theorem dX0_can_13 : decode cX0_can 13 = .ok (.aload_n 0, 1) := dk_42 (dk_at dksX0_can_0 13 rfl rfl)
theorem dX0_can_14 : decode cX0_can 14 = .ok (.iload_n 2, 1) := dk_28 (dk_at dksX0_can_0 14 rfl rfl)
theorem dX0_can_15 : decode cX0_can 15 = .ok (.iconst 0, 1) := dk_3 (dk_at dksX0_can_0 15 rfl rfl)
theorem dX0_can_16 : decode cX0_can 16 = .ok (.iconst 0, 1) := dk_3 (dk_at dksX0_can_0 16 rfl rfl)
theorem dX0_can_17 : decode cX0_can 17 = .ok (.invokevirtual 299, 3) := dk_182 1 43 (dk_at dksX0_can_0 17 rfl rfl)
theorem dX0_can_20 : decode cX0_can 20 = .ok (.aload_n 0, 1) := dk_42 (dk_at dksX0_can_0 20 rfl rfl)
theorem dX0_can_21 : decode cX0_can 21 = .ok (.getfield 47, 3) := dk_180 0 47 (dk_at dksX0_can_0 21 rfl rfl)
theorem dX0_can_24 : decode cX0_can 24 = .ok (.getfield 250, 3) := dk_180 0 250 (dk_at dksX0_can_1 0 rfl rfl)
theorem dX0_can_27 : decode cX0_can 27 = .ok (.iload_n 2, 1) := dk_28 (dk_at dksX0_can_1 3 rfl rfl)
theorem dX0_can_28 : decode cX0_can 28 = .ok (.iaload, 1) := dk_46 (dk_at dksX0_can_1 4 rfl rfl)
theorem dX0_can_29 : decode cX0_can 29 = .ok (.if_icmp .lt 9, 3) := dk_161 0 9 (dk_at dksX0_can_1 5 rfl rfl)
theorem dX0_can_32 : decode cX0_can 32 = .ok (.iload_n 1, 1) := dk_27 (dk_at dksX0_can_1 8 rfl rfl)
theorem dX0_can_33 : decode cX0_can 33 = .ok (.iconst 1, 1) := dk_4 (dk_at dksX0_can_1 9 rfl rfl)
theorem dX0_can_34 : decode cX0_can 34 = .ok (.iload_n 2, 1) := dk_28 (dk_at dksX0_can_1 10 rfl rfl)
theorem dX0_can_35 : decode cX0_can 35 = .ok (.ishl, 1) := dk_120 (dk_at dksX0_can_1 11 rfl rfl)
theorem dX0_can_36 : decode cX0_can 36 = .ok (.ior, 1) := dk_128 (dk_at dksX0_can_1 12 rfl rfl)
theorem dX0_can_37 : decode cX0_can 37 = .ok (.istore_n 1, 1) := dk_60 (dk_at dksX0_can_1 13 rfl rfl)
theorem dX0_can_38 : decode cX0_can 38 = .ok (.iinc 2 1, 3) := dk_132 2 1 (dk_at dksX0_can_1 14 rfl rfl)
theorem dX0_can_41 : decode cX0_can 41 = .ok (.goto (-33), 3) := dk_167 255 223 (dk_at dksX0_can_1 17 rfl rfl)
theorem dX0_can_44 : decode cX0_can 44 = .ok (.iload_n 1, 1) := dk_27 (dk_at dksX0_can_1 20 rfl rfl)
theorem dX0_can_45 : decode cX0_can 45 = .ok (.ireturn, 1) := dk_172 (dk_at dksX0_can_1 21 rfl rfl)
abbrev cX0_mostFrom : ByteArray := prog_1_method_33_code
def yX0_mostFrom : MethodName := ⟨RX0, "mostFrom", "(III)I"⟩
def dkwX0_mostFrom_4 : List UInt8 := [54, 4, 132, 5, 1, 167, 255, 198, 21, 4, 172]
abbrev dktX0_mostFrom_4 : List UInt8 := dkwX0_mostFrom_4 ++ []
def dkwX0_mostFrom_3 : List UInt8 := [104, 21, 5, 96, 46, 42, 27, 28, 4, 96, 29, 4, 21, 5, 120, 128, 182, 1, 43, 96, 184, 1, 47]
abbrev dktX0_mostFrom_3 : List UInt8 := dkwX0_mostFrom_3 ++ dktX0_mostFrom_4
def dkwX0_mostFrom_2 : List UInt8 := [180, 0, 126, 162, 0, 52, 29, 21, 5, 122, 4, 126, 154, 0, 37, 21, 4, 42, 180, 0, 83, 16, 6, 28]
abbrev dktX0_mostFrom_2 : List UInt8 := dkwX0_mostFrom_2 ++ dktX0_mostFrom_3
def dkwX0_mostFrom_1 : List UInt8 := [180, 0, 23, 28, 50, 180, 0, 184, 27, 159, 0, 6, 21, 4, 172, 3, 54, 5, 21, 5, 42, 180, 0, 30]
abbrev dktX0_mostFrom_1 : List UInt8 := dkwX0_mostFrom_1 ++ dktX0_mostFrom_2
def dkwX0_mostFrom_0 : List UInt8 := [28, 42, 180, 0, 134, 160, 0, 5, 3, 172, 42, 27, 28, 4, 96, 29, 182, 1, 43, 54, 4, 42]
abbrev dktX0_mostFrom_0 : List UInt8 := dkwX0_mostFrom_0 ++ dktX0_mostFrom_1
theorem dksX0_mostFrom_0 : cX0_mostFrom.data.toList.drop 0 = dktX0_mostFrom_0 := by decide +kernel
theorem dksX0_mostFrom_1 : cX0_mostFrom.data.toList.drop 22 = dktX0_mostFrom_1 := dk_seg dksX0_mostFrom_0 22 rfl rfl
theorem dksX0_mostFrom_2 : cX0_mostFrom.data.toList.drop 46 = dktX0_mostFrom_2 := dk_seg dksX0_mostFrom_1 24 rfl rfl
theorem dksX0_mostFrom_3 : cX0_mostFrom.data.toList.drop 70 = dktX0_mostFrom_3 := dk_seg dksX0_mostFrom_2 24 rfl rfl
theorem dksX0_mostFrom_4 : cX0_mostFrom.data.toList.drop 93 = dktX0_mostFrom_4 := dk_seg dksX0_mostFrom_3 23 rfl rfl
theorem dX0_mostFrom_0 : decode cX0_mostFrom 0 = .ok (.iload_n 2, 1) := dk_28 (dk_at dksX0_mostFrom_0 0 rfl rfl)
theorem dX0_mostFrom_1 : decode cX0_mostFrom 1 = .ok (.aload_n 0, 1) := dk_42 (dk_at dksX0_mostFrom_0 1 rfl rfl)
theorem dX0_mostFrom_2 : decode cX0_mostFrom 2 = .ok (.getfield 134, 3) := dk_180 0 134 (dk_at dksX0_mostFrom_0 2 rfl rfl)
theorem dX0_mostFrom_5 : decode cX0_mostFrom 5 = .ok (.if_icmp .ne 5, 3) := dk_160 0 5 (dk_at dksX0_mostFrom_0 5 rfl rfl)
theorem dX0_mostFrom_8 : decode cX0_mostFrom 8 = .ok (.iconst 0, 1) := dk_3 (dk_at dksX0_mostFrom_0 8 rfl rfl)
theorem dX0_mostFrom_9 : decode cX0_mostFrom 9 = .ok (.ireturn, 1) := dk_172 (dk_at dksX0_mostFrom_0 9 rfl rfl)
theorem dX0_mostFrom_10 : decode cX0_mostFrom 10 = .ok (.aload_n 0, 1) := dk_42 (dk_at dksX0_mostFrom_0 10 rfl rfl)
theorem dX0_mostFrom_11 : decode cX0_mostFrom 11 = .ok (.iload_n 1, 1) := dk_27 (dk_at dksX0_mostFrom_0 11 rfl rfl)
theorem dX0_mostFrom_12 : decode cX0_mostFrom 12 = .ok (.iload_n 2, 1) := dk_28 (dk_at dksX0_mostFrom_0 12 rfl rfl)
theorem dX0_mostFrom_13 : decode cX0_mostFrom 13 = .ok (.iconst 1, 1) := dk_4 (dk_at dksX0_mostFrom_0 13 rfl rfl)
theorem dX0_mostFrom_14 : decode cX0_mostFrom 14 = .ok (.iadd, 1) := dk_96 (dk_at dksX0_mostFrom_0 14 rfl rfl)
theorem dX0_mostFrom_15 : decode cX0_mostFrom 15 = .ok (.iload_n 3, 1) := dk_29 (dk_at dksX0_mostFrom_0 15 rfl rfl)
theorem dX0_mostFrom_16 : decode cX0_mostFrom 16 = .ok (.invokevirtual 299, 3) := dk_182 1 43 (dk_at dksX0_mostFrom_0 16 rfl rfl)
theorem dX0_mostFrom_19 : decode cX0_mostFrom 19 = .ok (.istore 4, 2) := dk_54 4 (dk_at dksX0_mostFrom_0 19 rfl rfl)
theorem dX0_mostFrom_21 : decode cX0_mostFrom 21 = .ok (.aload_n 0, 1) := dk_42 (dk_at dksX0_mostFrom_0 21 rfl rfl)
theorem dX0_mostFrom_22 : decode cX0_mostFrom 22 = .ok (.getfield 23, 3) := dk_180 0 23 (dk_at dksX0_mostFrom_1 0 rfl rfl)
theorem dX0_mostFrom_25 : decode cX0_mostFrom 25 = .ok (.iload_n 2, 1) := dk_28 (dk_at dksX0_mostFrom_1 3 rfl rfl)
theorem dX0_mostFrom_26 : decode cX0_mostFrom 26 = .ok (.aaload, 1) := dk_50 (dk_at dksX0_mostFrom_1 4 rfl rfl)
theorem dX0_mostFrom_27 : decode cX0_mostFrom 27 = .ok (.getfield 184, 3) := dk_180 0 184 (dk_at dksX0_mostFrom_1 5 rfl rfl)
theorem dX0_mostFrom_30 : decode cX0_mostFrom 30 = .ok (.iload_n 1, 1) := dk_27 (dk_at dksX0_mostFrom_1 8 rfl rfl)
theorem dX0_mostFrom_31 : decode cX0_mostFrom 31 = .ok (.if_icmp .eq 6, 3) := dk_159 0 6 (dk_at dksX0_mostFrom_1 9 rfl rfl)
theorem dX0_mostFrom_34 : decode cX0_mostFrom 34 = .ok (.iload 4, 2) := dk_21 4 (dk_at dksX0_mostFrom_1 12 rfl rfl)
theorem dX0_mostFrom_36 : decode cX0_mostFrom 36 = .ok (.ireturn, 1) := dk_172 (dk_at dksX0_mostFrom_1 14 rfl rfl)
theorem dX0_mostFrom_37 : decode cX0_mostFrom 37 = .ok (.iconst 0, 1) := dk_3 (dk_at dksX0_mostFrom_1 15 rfl rfl)
theorem dX0_mostFrom_38 : decode cX0_mostFrom 38 = .ok (.istore 5, 2) := dk_54 5 (dk_at dksX0_mostFrom_1 16 rfl rfl)
theorem dX0_mostFrom_40 : decode cX0_mostFrom 40 = .ok (.iload 5, 2) := dk_21 5 (dk_at dksX0_mostFrom_1 18 rfl rfl)
theorem dX0_mostFrom_42 : decode cX0_mostFrom 42 = .ok (.aload_n 0, 1) := dk_42 (dk_at dksX0_mostFrom_1 20 rfl rfl)
theorem dX0_mostFrom_43 : decode cX0_mostFrom 43 = .ok (.getfield 30, 3) := dk_180 0 30 (dk_at dksX0_mostFrom_1 21 rfl rfl)
theorem dX0_mostFrom_46 : decode cX0_mostFrom 46 = .ok (.getfield 126, 3) := dk_180 0 126 (dk_at dksX0_mostFrom_2 0 rfl rfl)
theorem dX0_mostFrom_49 : decode cX0_mostFrom 49 = .ok (.if_icmp .ge 52, 3) := dk_162 0 52 (dk_at dksX0_mostFrom_2 3 rfl rfl)
theorem dX0_mostFrom_52 : decode cX0_mostFrom 52 = .ok (.iload_n 3, 1) := dk_29 (dk_at dksX0_mostFrom_2 6 rfl rfl)
theorem dX0_mostFrom_53 : decode cX0_mostFrom 53 = .ok (.iload 5, 2) := dk_21 5 (dk_at dksX0_mostFrom_2 7 rfl rfl)
theorem dX0_mostFrom_55 : decode cX0_mostFrom 55 = .ok (.ishr, 1) := dk_122 (dk_at dksX0_mostFrom_2 9 rfl rfl)
theorem dX0_mostFrom_56 : decode cX0_mostFrom 56 = .ok (.iconst 1, 1) := dk_4 (dk_at dksX0_mostFrom_2 10 rfl rfl)
theorem dX0_mostFrom_57 : decode cX0_mostFrom 57 = .ok (.iand, 1) := dk_126 (dk_at dksX0_mostFrom_2 11 rfl rfl)
theorem dX0_mostFrom_58 : decode cX0_mostFrom 58 = .ok (.ifCond .ne 37, 3) := dk_154 0 37 (dk_at dksX0_mostFrom_2 12 rfl rfl)
theorem dX0_mostFrom_61 : decode cX0_mostFrom 61 = .ok (.iload 4, 2) := dk_21 4 (dk_at dksX0_mostFrom_2 15 rfl rfl)
theorem dX0_mostFrom_63 : decode cX0_mostFrom 63 = .ok (.aload_n 0, 1) := dk_42 (dk_at dksX0_mostFrom_2 17 rfl rfl)
theorem dX0_mostFrom_64 : decode cX0_mostFrom 64 = .ok (.getfield 83, 3) := dk_180 0 83 (dk_at dksX0_mostFrom_2 18 rfl rfl)
theorem dX0_mostFrom_67 : decode cX0_mostFrom 67 = .ok (.bipush 6, 2) := dk_16 6 (dk_at dksX0_mostFrom_2 21 rfl rfl)
theorem dX0_mostFrom_69 : decode cX0_mostFrom 69 = .ok (.iload_n 2, 1) := dk_28 (dk_at dksX0_mostFrom_2 23 rfl rfl)
theorem dX0_mostFrom_70 : decode cX0_mostFrom 70 = .ok (.imul, 1) := dk_104 (dk_at dksX0_mostFrom_3 0 rfl rfl)
theorem dX0_mostFrom_71 : decode cX0_mostFrom 71 = .ok (.iload 5, 2) := dk_21 5 (dk_at dksX0_mostFrom_3 1 rfl rfl)
theorem dX0_mostFrom_73 : decode cX0_mostFrom 73 = .ok (.iadd, 1) := dk_96 (dk_at dksX0_mostFrom_3 3 rfl rfl)
theorem dX0_mostFrom_74 : decode cX0_mostFrom 74 = .ok (.iaload, 1) := dk_46 (dk_at dksX0_mostFrom_3 4 rfl rfl)
theorem dX0_mostFrom_75 : decode cX0_mostFrom 75 = .ok (.aload_n 0, 1) := dk_42 (dk_at dksX0_mostFrom_3 5 rfl rfl)
theorem dX0_mostFrom_76 : decode cX0_mostFrom 76 = .ok (.iload_n 1, 1) := dk_27 (dk_at dksX0_mostFrom_3 6 rfl rfl)
theorem dX0_mostFrom_77 : decode cX0_mostFrom 77 = .ok (.iload_n 2, 1) := dk_28 (dk_at dksX0_mostFrom_3 7 rfl rfl)
theorem dX0_mostFrom_78 : decode cX0_mostFrom 78 = .ok (.iconst 1, 1) := dk_4 (dk_at dksX0_mostFrom_3 8 rfl rfl)
theorem dX0_mostFrom_79 : decode cX0_mostFrom 79 = .ok (.iadd, 1) := dk_96 (dk_at dksX0_mostFrom_3 9 rfl rfl)
theorem dX0_mostFrom_80 : decode cX0_mostFrom 80 = .ok (.iload_n 3, 1) := dk_29 (dk_at dksX0_mostFrom_3 10 rfl rfl)
theorem dX0_mostFrom_81 : decode cX0_mostFrom 81 = .ok (.iconst 1, 1) := dk_4 (dk_at dksX0_mostFrom_3 11 rfl rfl)
theorem dX0_mostFrom_82 : decode cX0_mostFrom 82 = .ok (.iload 5, 2) := dk_21 5 (dk_at dksX0_mostFrom_3 12 rfl rfl)
theorem dX0_mostFrom_84 : decode cX0_mostFrom 84 = .ok (.ishl, 1) := dk_120 (dk_at dksX0_mostFrom_3 14 rfl rfl)
theorem dX0_mostFrom_85 : decode cX0_mostFrom 85 = .ok (.ior, 1) := dk_128 (dk_at dksX0_mostFrom_3 15 rfl rfl)
theorem dX0_mostFrom_86 : decode cX0_mostFrom 86 = .ok (.invokevirtual 299, 3) := dk_182 1 43 (dk_at dksX0_mostFrom_3 16 rfl rfl)
theorem dX0_mostFrom_89 : decode cX0_mostFrom 89 = .ok (.iadd, 1) := dk_96 (dk_at dksX0_mostFrom_3 19 rfl rfl)
theorem dX0_mostFrom_90 : decode cX0_mostFrom 90 = .ok (.invokestatic 303, 3) := dk_184 1 47 (dk_at dksX0_mostFrom_3 20 rfl rfl)
theorem dX0_mostFrom_93 : decode cX0_mostFrom 93 = .ok (.istore 4, 2) := dk_54 4 (dk_at dksX0_mostFrom_4 0 rfl rfl)
theorem dX0_mostFrom_95 : decode cX0_mostFrom 95 = .ok (.iinc 5 1, 3) := dk_132 5 1 (dk_at dksX0_mostFrom_4 2 rfl rfl)
theorem dX0_mostFrom_98 : decode cX0_mostFrom 98 = .ok (.goto (-58), 3) := dk_167 255 198 (dk_at dksX0_mostFrom_4 5 rfl rfl)
theorem dX0_mostFrom_101 : decode cX0_mostFrom 101 = .ok (.iload 4, 2) := dk_21 4 (dk_at dksX0_mostFrom_4 8 rfl rfl)
theorem dX0_mostFrom_103 : decode cX0_mostFrom 103 = .ok (.ireturn, 1) := dk_172 (dk_at dksX0_mostFrom_4 10 rfl rfl)
abbrev cX0_back : ByteArray := prog_1_method_37_code
def yX0_back : MethodName := ⟨RX0, "back", "()I"⟩
def dkwX0_back_3 : List UInt8 := [132, 1, 255, 132, 2, 1, 167, 255, 231, 27, 172]
abbrev dktX0_back_3 : List UInt8 := dkwX0_back_3 ++ []
def dkwX0_back_2 : List UInt8 := [167, 255, 214, 3, 61, 28, 42, 180, 0, 30, 180, 0, 126, 162, 0, 20, 42, 28, 182, 1, 53, 153, 0, 6]
abbrev dktX0_back_2 : List UInt8 := dkwX0_back_2 ++ dktX0_back_3
def dkwX0_back_1 : List UInt8 := [160, 0, 6, 16, 251, 172, 29, 2, 159, 0, 11, 29, 28, 159, 0, 6, 132, 1, 1, 132, 2, 1]
abbrev dktX0_back_1 : List UInt8 := dkwX0_back_1 ++ dktX0_back_2
def dkwX0_back_0 : List UInt8 := [3, 60, 3, 61, 28, 42, 180, 0, 30, 180, 0, 126, 162, 0, 37, 42, 28, 182, 1, 50, 62, 29, 16, 251]
abbrev dktX0_back_0 : List UInt8 := dkwX0_back_0 ++ dktX0_back_1
theorem dksX0_back_0 : cX0_back.data.toList.drop 0 = dktX0_back_0 := by decide +kernel
theorem dksX0_back_1 : cX0_back.data.toList.drop 24 = dktX0_back_1 := dk_seg dksX0_back_0 24 rfl rfl
theorem dksX0_back_2 : cX0_back.data.toList.drop 46 = dktX0_back_2 := dk_seg dksX0_back_1 22 rfl rfl
theorem dksX0_back_3 : cX0_back.data.toList.drop 70 = dktX0_back_3 := dk_seg dksX0_back_2 24 rfl rfl
theorem dX0_back_0 : decode cX0_back 0 = .ok (.iconst 0, 1) := dk_3 (dk_at dksX0_back_0 0 rfl rfl)
theorem dX0_back_1 : decode cX0_back 1 = .ok (.istore_n 1, 1) := dk_60 (dk_at dksX0_back_0 1 rfl rfl)
theorem dX0_back_2 : decode cX0_back 2 = .ok (.iconst 0, 1) := dk_3 (dk_at dksX0_back_0 2 rfl rfl)
theorem dX0_back_3 : decode cX0_back 3 = .ok (.istore_n 2, 1) := dk_61 (dk_at dksX0_back_0 3 rfl rfl)
theorem dX0_back_4 : decode cX0_back 4 = .ok (.iload_n 2, 1) := dk_28 (dk_at dksX0_back_0 4 rfl rfl)
theorem dX0_back_5 : decode cX0_back 5 = .ok (.aload_n 0, 1) := dk_42 (dk_at dksX0_back_0 5 rfl rfl)
theorem dX0_back_6 : decode cX0_back 6 = .ok (.getfield 30, 3) := dk_180 0 30 (dk_at dksX0_back_0 6 rfl rfl)
theorem dX0_back_9 : decode cX0_back 9 = .ok (.getfield 126, 3) := dk_180 0 126 (dk_at dksX0_back_0 9 rfl rfl)
theorem dX0_back_12 : decode cX0_back 12 = .ok (.if_icmp .ge 37, 3) := dk_162 0 37 (dk_at dksX0_back_0 12 rfl rfl)
theorem dX0_back_15 : decode cX0_back 15 = .ok (.aload_n 0, 1) := dk_42 (dk_at dksX0_back_0 15 rfl rfl)
theorem dX0_back_16 : decode cX0_back 16 = .ok (.iload_n 2, 1) := dk_28 (dk_at dksX0_back_0 16 rfl rfl)
theorem dX0_back_17 : decode cX0_back 17 = .ok (.invokevirtual 306, 3) := dk_182 1 50 (dk_at dksX0_back_0 17 rfl rfl)
theorem dX0_back_20 : decode cX0_back 20 = .ok (.istore_n 3, 1) := dk_62 (dk_at dksX0_back_0 20 rfl rfl)
theorem dX0_back_21 : decode cX0_back 21 = .ok (.iload_n 3, 1) := dk_29 (dk_at dksX0_back_0 21 rfl rfl)
theorem dX0_back_22 : decode cX0_back 22 = .ok (.bipush (-5), 2) := dk_16 251 (dk_at dksX0_back_0 22 rfl rfl)
theorem dX0_back_24 : decode cX0_back 24 = .ok (.if_icmp .ne 6, 3) := dk_160 0 6 (dk_at dksX0_back_1 0 rfl rfl)
theorem dX0_back_27 : decode cX0_back 27 = .ok (.bipush (-5), 2) := dk_16 251 (dk_at dksX0_back_1 3 rfl rfl)
theorem dX0_back_29 : decode cX0_back 29 = .ok (.ireturn, 1) := dk_172 (dk_at dksX0_back_1 5 rfl rfl)
theorem dX0_back_30 : decode cX0_back 30 = .ok (.iload_n 3, 1) := dk_29 (dk_at dksX0_back_1 6 rfl rfl)
theorem dX0_back_31 : decode cX0_back 31 = .ok (.iconst (-1), 1) := dk_2 (dk_at dksX0_back_1 7 rfl rfl)
theorem dX0_back_32 : decode cX0_back 32 = .ok (.if_icmp .eq 11, 3) := dk_159 0 11 (dk_at dksX0_back_1 8 rfl rfl)
theorem dX0_back_35 : decode cX0_back 35 = .ok (.iload_n 3, 1) := dk_29 (dk_at dksX0_back_1 11 rfl rfl)
theorem dX0_back_36 : decode cX0_back 36 = .ok (.iload_n 2, 1) := dk_28 (dk_at dksX0_back_1 12 rfl rfl)
theorem dX0_back_37 : decode cX0_back 37 = .ok (.if_icmp .eq 6, 3) := dk_159 0 6 (dk_at dksX0_back_1 13 rfl rfl)
theorem dX0_back_40 : decode cX0_back 40 = .ok (.iinc 1 1, 3) := dk_132 1 1 (dk_at dksX0_back_1 16 rfl rfl)
theorem dX0_back_43 : decode cX0_back 43 = .ok (.iinc 2 1, 3) := dk_132 2 1 (dk_at dksX0_back_1 19 rfl rfl)
theorem dX0_back_46 : decode cX0_back 46 = .ok (.goto (-42), 3) := dk_167 255 214 (dk_at dksX0_back_2 0 rfl rfl)
theorem dX0_back_49 : decode cX0_back 49 = .ok (.iconst 0, 1) := dk_3 (dk_at dksX0_back_2 3 rfl rfl)
theorem dX0_back_50 : decode cX0_back 50 = .ok (.istore_n 2, 1) := dk_61 (dk_at dksX0_back_2 4 rfl rfl)
theorem dX0_back_51 : decode cX0_back 51 = .ok (.iload_n 2, 1) := dk_28 (dk_at dksX0_back_2 5 rfl rfl)
theorem dX0_back_52 : decode cX0_back 52 = .ok (.aload_n 0, 1) := dk_42 (dk_at dksX0_back_2 6 rfl rfl)
theorem dX0_back_53 : decode cX0_back 53 = .ok (.getfield 30, 3) := dk_180 0 30 (dk_at dksX0_back_2 7 rfl rfl)
theorem dX0_back_56 : decode cX0_back 56 = .ok (.getfield 126, 3) := dk_180 0 126 (dk_at dksX0_back_2 10 rfl rfl)
theorem dX0_back_59 : decode cX0_back 59 = .ok (.if_icmp .ge 20, 3) := dk_162 0 20 (dk_at dksX0_back_2 13 rfl rfl)
theorem dX0_back_62 : decode cX0_back 62 = .ok (.aload_n 0, 1) := dk_42 (dk_at dksX0_back_2 16 rfl rfl)
theorem dX0_back_63 : decode cX0_back 63 = .ok (.iload_n 2, 1) := dk_28 (dk_at dksX0_back_2 17 rfl rfl)
theorem dX0_back_64 : decode cX0_back 64 = .ok (.invokevirtual 309, 3) := dk_182 1 53 (dk_at dksX0_back_2 18 rfl rfl)
theorem dX0_back_67 : decode cX0_back 67 = .ok (.ifCond .eq 6, 3) := dk_153 0 6 (dk_at dksX0_back_2 21 rfl rfl)
theorem dX0_back_70 : decode cX0_back 70 = .ok (.iinc 1 (-1), 3) := dk_132 1 255 (dk_at dksX0_back_3 0 rfl rfl)
theorem dX0_back_73 : decode cX0_back 73 = .ok (.iinc 2 1, 3) := dk_132 2 1 (dk_at dksX0_back_3 3 rfl rfl)
theorem dX0_back_76 : decode cX0_back 76 = .ok (.goto (-25), 3) := dk_167 255 231 (dk_at dksX0_back_3 6 rfl rfl)
theorem dX0_back_79 : decode cX0_back 79 = .ok (.iload_n 1, 1) := dk_27 (dk_at dksX0_back_3 9 rfl rfl)
theorem dX0_back_80 : decode cX0_back 80 = .ok (.ireturn, 1) := dk_172 (dk_at dksX0_back_3 10 rfl rfl)
abbrev cX0_goalOf : ByteArray := prog_1_method_35_code
def yX0_goalOf : MethodName := ⟨RX0, "goalOf", "(I)I"⟩
def dkwX0_goalOf_2 : List UInt8 := [167, 0, 13, 28, 2, 159, 0, 6, 16, 251, 172, 29, 61, 132, 3, 1, 167, 255, 198, 28, 172]
abbrev dktX0_goalOf_2 : List UInt8 := dkwX0_goalOf_2 ++ []
def dkwX0_goalOf_1 : List UInt8 := [2, 159, 0, 34, 42, 180, 0, 15, 29, 46, 42, 180, 0, 30, 180, 0, 137, 27, 51, 159, 0, 6]
abbrev dktX0_goalOf_1 : List UInt8 := dkwX0_goalOf_1 ++ dktX0_goalOf_2
def dkwX0_goalOf_0 : List UInt8 := [2, 61, 3, 62, 29, 42, 180, 0, 30, 180, 0, 126, 162, 0, 53, 42, 180, 0, 30, 180, 0, 137, 27, 51]
abbrev dktX0_goalOf_0 : List UInt8 := dkwX0_goalOf_0 ++ dktX0_goalOf_1
theorem dksX0_goalOf_0 : cX0_goalOf.data.toList.drop 0 = dktX0_goalOf_0 := by decide +kernel
theorem dksX0_goalOf_1 : cX0_goalOf.data.toList.drop 24 = dktX0_goalOf_1 := dk_seg dksX0_goalOf_0 24 rfl rfl
theorem dksX0_goalOf_2 : cX0_goalOf.data.toList.drop 46 = dktX0_goalOf_2 := dk_seg dksX0_goalOf_1 22 rfl rfl
theorem dX0_goalOf_0 : decode cX0_goalOf 0 = .ok (.iconst (-1), 1) := dk_2 (dk_at dksX0_goalOf_0 0 rfl rfl)
theorem dX0_goalOf_1 : decode cX0_goalOf 1 = .ok (.istore_n 2, 1) := dk_61 (dk_at dksX0_goalOf_0 1 rfl rfl)
theorem dX0_goalOf_2 : decode cX0_goalOf 2 = .ok (.iconst 0, 1) := dk_3 (dk_at dksX0_goalOf_0 2 rfl rfl)
theorem dX0_goalOf_3 : decode cX0_goalOf 3 = .ok (.istore_n 3, 1) := dk_62 (dk_at dksX0_goalOf_0 3 rfl rfl)
theorem dX0_goalOf_4 : decode cX0_goalOf 4 = .ok (.iload_n 3, 1) := dk_29 (dk_at dksX0_goalOf_0 4 rfl rfl)
theorem dX0_goalOf_5 : decode cX0_goalOf 5 = .ok (.aload_n 0, 1) := dk_42 (dk_at dksX0_goalOf_0 5 rfl rfl)
theorem dX0_goalOf_6 : decode cX0_goalOf 6 = .ok (.getfield 30, 3) := dk_180 0 30 (dk_at dksX0_goalOf_0 6 rfl rfl)
theorem dX0_goalOf_9 : decode cX0_goalOf 9 = .ok (.getfield 126, 3) := dk_180 0 126 (dk_at dksX0_goalOf_0 9 rfl rfl)
theorem dX0_goalOf_12 : decode cX0_goalOf 12 = .ok (.if_icmp .ge 53, 3) := dk_162 0 53 (dk_at dksX0_goalOf_0 12 rfl rfl)
theorem dX0_goalOf_15 : decode cX0_goalOf 15 = .ok (.aload_n 0, 1) := dk_42 (dk_at dksX0_goalOf_0 15 rfl rfl)
theorem dX0_goalOf_16 : decode cX0_goalOf 16 = .ok (.getfield 30, 3) := dk_180 0 30 (dk_at dksX0_goalOf_0 16 rfl rfl)
theorem dX0_goalOf_19 : decode cX0_goalOf 19 = .ok (.getfield 137, 3) := dk_180 0 137 (dk_at dksX0_goalOf_0 19 rfl rfl)
theorem dX0_goalOf_22 : decode cX0_goalOf 22 = .ok (.iload_n 1, 1) := dk_27 (dk_at dksX0_goalOf_0 22 rfl rfl)
theorem dX0_goalOf_23 : decode cX0_goalOf 23 = .ok (.baload, 1) := dk_51 (dk_at dksX0_goalOf_0 23 rfl rfl)
theorem dX0_goalOf_24 : decode cX0_goalOf 24 = .ok (.iconst (-1), 1) := dk_2 (dk_at dksX0_goalOf_1 0 rfl rfl)
theorem dX0_goalOf_25 : decode cX0_goalOf 25 = .ok (.if_icmp .eq 34, 3) := dk_159 0 34 (dk_at dksX0_goalOf_1 1 rfl rfl)
theorem dX0_goalOf_28 : decode cX0_goalOf 28 = .ok (.aload_n 0, 1) := dk_42 (dk_at dksX0_goalOf_1 4 rfl rfl)
theorem dX0_goalOf_29 : decode cX0_goalOf 29 = .ok (.getfield 15, 3) := dk_180 0 15 (dk_at dksX0_goalOf_1 5 rfl rfl)
theorem dX0_goalOf_32 : decode cX0_goalOf 32 = .ok (.iload_n 3, 1) := dk_29 (dk_at dksX0_goalOf_1 8 rfl rfl)
theorem dX0_goalOf_33 : decode cX0_goalOf 33 = .ok (.iaload, 1) := dk_46 (dk_at dksX0_goalOf_1 9 rfl rfl)
theorem dX0_goalOf_34 : decode cX0_goalOf 34 = .ok (.aload_n 0, 1) := dk_42 (dk_at dksX0_goalOf_1 10 rfl rfl)
theorem dX0_goalOf_35 : decode cX0_goalOf 35 = .ok (.getfield 30, 3) := dk_180 0 30 (dk_at dksX0_goalOf_1 11 rfl rfl)
theorem dX0_goalOf_38 : decode cX0_goalOf 38 = .ok (.getfield 137, 3) := dk_180 0 137 (dk_at dksX0_goalOf_1 14 rfl rfl)
theorem dX0_goalOf_41 : decode cX0_goalOf 41 = .ok (.iload_n 1, 1) := dk_27 (dk_at dksX0_goalOf_1 17 rfl rfl)
theorem dX0_goalOf_42 : decode cX0_goalOf 42 = .ok (.baload, 1) := dk_51 (dk_at dksX0_goalOf_1 18 rfl rfl)
theorem dX0_goalOf_43 : decode cX0_goalOf 43 = .ok (.if_icmp .eq 6, 3) := dk_159 0 6 (dk_at dksX0_goalOf_1 19 rfl rfl)
theorem dX0_goalOf_46 : decode cX0_goalOf 46 = .ok (.goto 13, 3) := dk_167 0 13 (dk_at dksX0_goalOf_2 0 rfl rfl)
theorem dX0_goalOf_49 : decode cX0_goalOf 49 = .ok (.iload_n 2, 1) := dk_28 (dk_at dksX0_goalOf_2 3 rfl rfl)
theorem dX0_goalOf_50 : decode cX0_goalOf 50 = .ok (.iconst (-1), 1) := dk_2 (dk_at dksX0_goalOf_2 4 rfl rfl)
theorem dX0_goalOf_51 : decode cX0_goalOf 51 = .ok (.if_icmp .eq 6, 3) := dk_159 0 6 (dk_at dksX0_goalOf_2 5 rfl rfl)
theorem dX0_goalOf_54 : decode cX0_goalOf 54 = .ok (.bipush (-5), 2) := dk_16 251 (dk_at dksX0_goalOf_2 8 rfl rfl)
theorem dX0_goalOf_56 : decode cX0_goalOf 56 = .ok (.ireturn, 1) := dk_172 (dk_at dksX0_goalOf_2 10 rfl rfl)
theorem dX0_goalOf_57 : decode cX0_goalOf 57 = .ok (.iload_n 3, 1) := dk_29 (dk_at dksX0_goalOf_2 11 rfl rfl)
theorem dX0_goalOf_58 : decode cX0_goalOf 58 = .ok (.istore_n 2, 1) := dk_61 (dk_at dksX0_goalOf_2 12 rfl rfl)
theorem dX0_goalOf_59 : decode cX0_goalOf 59 = .ok (.iinc 3 1, 3) := dk_132 3 1 (dk_at dksX0_goalOf_2 13 rfl rfl)
theorem dX0_goalOf_62 : decode cX0_goalOf 62 = .ok (.goto (-58), 3) := dk_167 255 198 (dk_at dksX0_goalOf_2 16 rfl rfl)
theorem dX0_goalOf_65 : decode cX0_goalOf 65 = .ok (.iload_n 2, 1) := dk_28 (dk_at dksX0_goalOf_2 19 rfl rfl)
theorem dX0_goalOf_66 : decode cX0_goalOf 66 = .ok (.ireturn, 1) := dk_172 (dk_at dksX0_goalOf_2 20 rfl rfl)
abbrev cX0_isRing : ByteArray := prog_1_method_36_code
def yX0_isRing : MethodName := ⟨RX0, "isRing", "(I)Z"⟩
def dkwX0_isRing_2 : List UInt8 := [3, 172]
abbrev dktX0_isRing_2 : List UInt8 := dkwX0_isRing_2 ++ []
def dkwX0_isRing_1 : List UInt8 := [27, 162, 0, 5, 3, 172, 42, 28, 182, 1, 50, 61, 167, 255, 233, 28, 27, 160, 0, 7, 4, 167, 0, 4]
abbrev dktX0_isRing_1 : List UInt8 := dkwX0_isRing_1 ++ dktX0_isRing_2
def dkwX0_isRing_0 : List UInt8 := [42, 27, 182, 1, 50, 61, 28, 27, 160, 0, 5, 3, 172, 28, 2, 159, 0, 24, 28, 27, 159, 0, 19, 28]
abbrev dktX0_isRing_0 : List UInt8 := dkwX0_isRing_0 ++ dktX0_isRing_1
theorem dksX0_isRing_0 : cX0_isRing.data.toList.drop 0 = dktX0_isRing_0 := by decide +kernel
theorem dksX0_isRing_1 : cX0_isRing.data.toList.drop 24 = dktX0_isRing_1 := dk_seg dksX0_isRing_0 24 rfl rfl
theorem dksX0_isRing_2 : cX0_isRing.data.toList.drop 48 = dktX0_isRing_2 := dk_seg dksX0_isRing_1 24 rfl rfl
theorem dX0_isRing_0 : decode cX0_isRing 0 = .ok (.aload_n 0, 1) := dk_42 (dk_at dksX0_isRing_0 0 rfl rfl)
theorem dX0_isRing_1 : decode cX0_isRing 1 = .ok (.iload_n 1, 1) := dk_27 (dk_at dksX0_isRing_0 1 rfl rfl)
theorem dX0_isRing_2 : decode cX0_isRing 2 = .ok (.invokevirtual 306, 3) := dk_182 1 50 (dk_at dksX0_isRing_0 2 rfl rfl)
theorem dX0_isRing_5 : decode cX0_isRing 5 = .ok (.istore_n 2, 1) := dk_61 (dk_at dksX0_isRing_0 5 rfl rfl)
theorem dX0_isRing_6 : decode cX0_isRing 6 = .ok (.iload_n 2, 1) := dk_28 (dk_at dksX0_isRing_0 6 rfl rfl)
theorem dX0_isRing_7 : decode cX0_isRing 7 = .ok (.iload_n 1, 1) := dk_27 (dk_at dksX0_isRing_0 7 rfl rfl)
theorem dX0_isRing_8 : decode cX0_isRing 8 = .ok (.if_icmp .ne 5, 3) := dk_160 0 5 (dk_at dksX0_isRing_0 8 rfl rfl)
theorem dX0_isRing_11 : decode cX0_isRing 11 = .ok (.iconst 0, 1) := dk_3 (dk_at dksX0_isRing_0 11 rfl rfl)
theorem dX0_isRing_12 : decode cX0_isRing 12 = .ok (.ireturn, 1) := dk_172 (dk_at dksX0_isRing_0 12 rfl rfl)
theorem dX0_isRing_13 : decode cX0_isRing 13 = .ok (.iload_n 2, 1) := dk_28 (dk_at dksX0_isRing_0 13 rfl rfl)
theorem dX0_isRing_14 : decode cX0_isRing 14 = .ok (.iconst (-1), 1) := dk_2 (dk_at dksX0_isRing_0 14 rfl rfl)
theorem dX0_isRing_15 : decode cX0_isRing 15 = .ok (.if_icmp .eq 24, 3) := dk_159 0 24 (dk_at dksX0_isRing_0 15 rfl rfl)
theorem dX0_isRing_18 : decode cX0_isRing 18 = .ok (.iload_n 2, 1) := dk_28 (dk_at dksX0_isRing_0 18 rfl rfl)
theorem dX0_isRing_19 : decode cX0_isRing 19 = .ok (.iload_n 1, 1) := dk_27 (dk_at dksX0_isRing_0 19 rfl rfl)
theorem dX0_isRing_20 : decode cX0_isRing 20 = .ok (.if_icmp .eq 19, 3) := dk_159 0 19 (dk_at dksX0_isRing_0 20 rfl rfl)
theorem dX0_isRing_23 : decode cX0_isRing 23 = .ok (.iload_n 2, 1) := dk_28 (dk_at dksX0_isRing_0 23 rfl rfl)
theorem dX0_isRing_24 : decode cX0_isRing 24 = .ok (.iload_n 1, 1) := dk_27 (dk_at dksX0_isRing_1 0 rfl rfl)
theorem dX0_isRing_25 : decode cX0_isRing 25 = .ok (.if_icmp .ge 5, 3) := dk_162 0 5 (dk_at dksX0_isRing_1 1 rfl rfl)
theorem dX0_isRing_28 : decode cX0_isRing 28 = .ok (.iconst 0, 1) := dk_3 (dk_at dksX0_isRing_1 4 rfl rfl)
theorem dX0_isRing_29 : decode cX0_isRing 29 = .ok (.ireturn, 1) := dk_172 (dk_at dksX0_isRing_1 5 rfl rfl)
theorem dX0_isRing_30 : decode cX0_isRing 30 = .ok (.aload_n 0, 1) := dk_42 (dk_at dksX0_isRing_1 6 rfl rfl)
theorem dX0_isRing_31 : decode cX0_isRing 31 = .ok (.iload_n 2, 1) := dk_28 (dk_at dksX0_isRing_1 7 rfl rfl)
theorem dX0_isRing_32 : decode cX0_isRing 32 = .ok (.invokevirtual 306, 3) := dk_182 1 50 (dk_at dksX0_isRing_1 8 rfl rfl)
theorem dX0_isRing_35 : decode cX0_isRing 35 = .ok (.istore_n 2, 1) := dk_61 (dk_at dksX0_isRing_1 11 rfl rfl)
theorem dX0_isRing_36 : decode cX0_isRing 36 = .ok (.goto (-23), 3) := dk_167 255 233 (dk_at dksX0_isRing_1 12 rfl rfl)
theorem dX0_isRing_39 : decode cX0_isRing 39 = .ok (.iload_n 2, 1) := dk_28 (dk_at dksX0_isRing_1 15 rfl rfl)
theorem dX0_isRing_40 : decode cX0_isRing 40 = .ok (.iload_n 1, 1) := dk_27 (dk_at dksX0_isRing_1 16 rfl rfl)
theorem dX0_isRing_41 : decode cX0_isRing 41 = .ok (.if_icmp .ne 7, 3) := dk_160 0 7 (dk_at dksX0_isRing_1 17 rfl rfl)
theorem dX0_isRing_44 : decode cX0_isRing 44 = .ok (.iconst 1, 1) := dk_4 (dk_at dksX0_isRing_1 20 rfl rfl)
theorem dX0_isRing_45 : decode cX0_isRing 45 = .ok (.goto 4, 3) := dk_167 0 4 (dk_at dksX0_isRing_1 21 rfl rfl)
theorem dX0_isRing_48 : decode cX0_isRing 48 = .ok (.iconst 0, 1) := dk_3 (dk_at dksX0_isRing_2 0 rfl rfl)
theorem dX0_isRing_49 : decode cX0_isRing 49 = .ok (.ireturn, 1) := dk_172 (dk_at dksX0_isRing_2 1 rfl rfl)
abbrev cX0_gusted : ByteArray := prog_1_method_39_code
def yX0_gusted : MethodName := ⟨RX0, "gusted", "(I)I"⟩
def dkwX0_gusted_0 : List UInt8 := [27, 3, 8, 184, 0, 130, 153, 0, 12, 42, 27, 2, 182, 1, 56, 167, 0, 5, 16, 254, 172]
abbrev dktX0_gusted_0 : List UInt8 := dkwX0_gusted_0 ++ []
theorem dksX0_gusted_0 : cX0_gusted.data.toList.drop 0 = dktX0_gusted_0 := by decide +kernel
theorem dX0_gusted_0 : decode cX0_gusted 0 = .ok (.iload_n 1, 1) := dk_27 (dk_at dksX0_gusted_0 0 rfl rfl)
theorem dX0_gusted_1 : decode cX0_gusted 1 = .ok (.iconst 0, 1) := dk_3 (dk_at dksX0_gusted_0 1 rfl rfl)
theorem dX0_gusted_2 : decode cX0_gusted 2 = .ok (.iconst 5, 1) := dk_8 (dk_at dksX0_gusted_0 2 rfl rfl)
theorem dX0_gusted_3 : decode cX0_gusted 3 = .ok (.invokestatic 130, 3) := dk_184 0 130 (dk_at dksX0_gusted_0 3 rfl rfl)
theorem dX0_gusted_6 : decode cX0_gusted 6 = .ok (.ifCond .eq 12, 3) := dk_153 0 12 (dk_at dksX0_gusted_0 6 rfl rfl)
theorem dX0_gusted_9 : decode cX0_gusted 9 = .ok (.aload_n 0, 1) := dk_42 (dk_at dksX0_gusted_0 9 rfl rfl)
theorem dX0_gusted_10 : decode cX0_gusted 10 = .ok (.iload_n 1, 1) := dk_27 (dk_at dksX0_gusted_0 10 rfl rfl)
theorem dX0_gusted_11 : decode cX0_gusted 11 = .ok (.iconst (-1), 1) := dk_2 (dk_at dksX0_gusted_0 11 rfl rfl)
theorem dX0_gusted_12 : decode cX0_gusted 12 = .ok (.invokevirtual 312, 3) := dk_182 1 56 (dk_at dksX0_gusted_0 12 rfl rfl)
theorem dX0_gusted_15 : decode cX0_gusted 15 = .ok (.goto 5, 3) := dk_167 0 5 (dk_at dksX0_gusted_0 15 rfl rfl)
theorem dX0_gusted_18 : decode cX0_gusted 18 = .ok (.bipush (-2), 2) := dk_16 254 (dk_at dksX0_gusted_0 18 rfl rfl)
theorem dX0_gusted_20 : decode cX0_gusted 20 = .ok (.ireturn, 1) := dk_172 (dk_at dksX0_gusted_0 20 rfl rfl)
abbrev cX0_gustedBy : ByteArray := prog_1_method_38_code
def yX0_gustedBy : MethodName := ⟨RX0, "gustedBy", "(II)I"⟩
def dkwX0_gustedBy_1 : List UInt8 := [28, 182, 0, 253, 172]
abbrev dktX0_gustedBy_1 : List UInt8 := dkwX0_gustedBy_1 ++ []
def dkwX0_gustedBy_0 : List UInt8 := [42, 180, 0, 34, 42, 180, 0, 30, 182, 1, 23, 42, 180, 0, 34, 27, 182, 1, 11, 42, 42, 180, 0, 34]
abbrev dktX0_gustedBy_0 : List UInt8 := dkwX0_gustedBy_0 ++ dktX0_gustedBy_1
theorem dksX0_gustedBy_0 : cX0_gustedBy.data.toList.drop 0 = dktX0_gustedBy_0 := by decide +kernel
theorem dksX0_gustedBy_1 : cX0_gustedBy.data.toList.drop 24 = dktX0_gustedBy_1 := dk_seg dksX0_gustedBy_0 24 rfl rfl
theorem dX0_gustedBy_0 : decode cX0_gustedBy 0 = .ok (.aload_n 0, 1) := dk_42 (dk_at dksX0_gustedBy_0 0 rfl rfl)
theorem dX0_gustedBy_1 : decode cX0_gustedBy 1 = .ok (.getfield 34, 3) := dk_180 0 34 (dk_at dksX0_gustedBy_0 1 rfl rfl)
theorem dX0_gustedBy_4 : decode cX0_gustedBy 4 = .ok (.aload_n 0, 1) := dk_42 (dk_at dksX0_gustedBy_0 4 rfl rfl)
theorem dX0_gustedBy_5 : decode cX0_gustedBy 5 = .ok (.getfield 30, 3) := dk_180 0 30 (dk_at dksX0_gustedBy_0 5 rfl rfl)
theorem dX0_gustedBy_8 : decode cX0_gustedBy 8 = .ok (.invokevirtual 279, 3) := dk_182 1 23 (dk_at dksX0_gustedBy_0 8 rfl rfl)
theorem dX0_gustedBy_11 : decode cX0_gustedBy 11 = .ok (.aload_n 0, 1) := dk_42 (dk_at dksX0_gustedBy_0 11 rfl rfl)
theorem dX0_gustedBy_12 : decode cX0_gustedBy 12 = .ok (.getfield 34, 3) := dk_180 0 34 (dk_at dksX0_gustedBy_0 12 rfl rfl)
theorem dX0_gustedBy_15 : decode cX0_gustedBy 15 = .ok (.iload_n 1, 1) := dk_27 (dk_at dksX0_gustedBy_0 15 rfl rfl)
theorem dX0_gustedBy_16 : decode cX0_gustedBy 16 = .ok (.invokevirtual 267, 3) := dk_182 1 11 (dk_at dksX0_gustedBy_0 16 rfl rfl)
theorem dX0_gustedBy_19 : decode cX0_gustedBy 19 = .ok (.aload_n 0, 1) := dk_42 (dk_at dksX0_gustedBy_0 19 rfl rfl)
theorem dX0_gustedBy_20 : decode cX0_gustedBy 20 = .ok (.aload_n 0, 1) := dk_42 (dk_at dksX0_gustedBy_0 20 rfl rfl)
theorem dX0_gustedBy_21 : decode cX0_gustedBy 21 = .ok (.getfield 34, 3) := dk_180 0 34 (dk_at dksX0_gustedBy_0 21 rfl rfl)
theorem dX0_gustedBy_24 : decode cX0_gustedBy 24 = .ok (.iload_n 2, 1) := dk_28 (dk_at dksX0_gustedBy_1 0 rfl rfl)
theorem dX0_gustedBy_25 : decode cX0_gustedBy 25 = .ok (.invokevirtual 253, 3) := dk_182 0 253 (dk_at dksX0_gustedBy_1 1 rfl rfl)
theorem dX0_gustedBy_28 : decode cX0_gustedBy 28 = .ok (.ireturn, 1) := dk_172 (dk_at dksX0_gustedBy_1 4 rfl rfl)
abbrev cX0_lucky : ByteArray := prog_1_method_40_code
def yX0_lucky : MethodName := ⟨RX0, "lucky", "()I"⟩
def dkwX0_lucky_1 : List UInt8 := [54, 4, 21, 4, 28, 163, 0, 6, 167, 0, 8, 21, 4, 61, 29, 60, 132, 3, 1, 167, 255, 220, 27, 172]
abbrev dktX0_lucky_1 : List UInt8 := dkwX0_lucky_1 ++ []
def dkwX0_lucky_0 : List UInt8 := [16, 251, 60, 2, 61, 3, 62, 29, 42, 180, 0, 30, 180, 0, 126, 162, 0, 31, 42, 29, 2, 182, 1, 56]
abbrev dktX0_lucky_0 : List UInt8 := dkwX0_lucky_0 ++ dktX0_lucky_1
theorem dksX0_lucky_0 : cX0_lucky.data.toList.drop 0 = dktX0_lucky_0 := by decide +kernel
theorem dksX0_lucky_1 : cX0_lucky.data.toList.drop 24 = dktX0_lucky_1 := dk_seg dksX0_lucky_0 24 rfl rfl
theorem dX0_lucky_0 : decode cX0_lucky 0 = .ok (.bipush (-5), 2) := dk_16 251 (dk_at dksX0_lucky_0 0 rfl rfl)
theorem dX0_lucky_2 : decode cX0_lucky 2 = .ok (.istore_n 1, 1) := dk_60 (dk_at dksX0_lucky_0 2 rfl rfl)
theorem dX0_lucky_3 : decode cX0_lucky 3 = .ok (.iconst (-1), 1) := dk_2 (dk_at dksX0_lucky_0 3 rfl rfl)
theorem dX0_lucky_4 : decode cX0_lucky 4 = .ok (.istore_n 2, 1) := dk_61 (dk_at dksX0_lucky_0 4 rfl rfl)
theorem dX0_lucky_5 : decode cX0_lucky 5 = .ok (.iconst 0, 1) := dk_3 (dk_at dksX0_lucky_0 5 rfl rfl)
theorem dX0_lucky_6 : decode cX0_lucky 6 = .ok (.istore_n 3, 1) := dk_62 (dk_at dksX0_lucky_0 6 rfl rfl)
theorem dX0_lucky_7 : decode cX0_lucky 7 = .ok (.iload_n 3, 1) := dk_29 (dk_at dksX0_lucky_0 7 rfl rfl)
theorem dX0_lucky_8 : decode cX0_lucky 8 = .ok (.aload_n 0, 1) := dk_42 (dk_at dksX0_lucky_0 8 rfl rfl)
theorem dX0_lucky_9 : decode cX0_lucky 9 = .ok (.getfield 30, 3) := dk_180 0 30 (dk_at dksX0_lucky_0 9 rfl rfl)
theorem dX0_lucky_12 : decode cX0_lucky 12 = .ok (.getfield 126, 3) := dk_180 0 126 (dk_at dksX0_lucky_0 12 rfl rfl)
theorem dX0_lucky_15 : decode cX0_lucky 15 = .ok (.if_icmp .ge 31, 3) := dk_162 0 31 (dk_at dksX0_lucky_0 15 rfl rfl)
theorem dX0_lucky_18 : decode cX0_lucky 18 = .ok (.aload_n 0, 1) := dk_42 (dk_at dksX0_lucky_0 18 rfl rfl)
theorem dX0_lucky_19 : decode cX0_lucky 19 = .ok (.iload_n 3, 1) := dk_29 (dk_at dksX0_lucky_0 19 rfl rfl)
theorem dX0_lucky_20 : decode cX0_lucky 20 = .ok (.iconst (-1), 1) := dk_2 (dk_at dksX0_lucky_0 20 rfl rfl)
theorem dX0_lucky_21 : decode cX0_lucky 21 = .ok (.invokevirtual 312, 3) := dk_182 1 56 (dk_at dksX0_lucky_0 21 rfl rfl)
theorem dX0_lucky_24 : decode cX0_lucky 24 = .ok (.istore 4, 2) := dk_54 4 (dk_at dksX0_lucky_1 0 rfl rfl)
theorem dX0_lucky_26 : decode cX0_lucky 26 = .ok (.iload 4, 2) := dk_21 4 (dk_at dksX0_lucky_1 2 rfl rfl)
theorem dX0_lucky_28 : decode cX0_lucky 28 = .ok (.iload_n 2, 1) := dk_28 (dk_at dksX0_lucky_1 4 rfl rfl)
theorem dX0_lucky_29 : decode cX0_lucky 29 = .ok (.if_icmp .gt 6, 3) := dk_163 0 6 (dk_at dksX0_lucky_1 5 rfl rfl)
theorem dX0_lucky_32 : decode cX0_lucky 32 = .ok (.goto 8, 3) := dk_167 0 8 (dk_at dksX0_lucky_1 8 rfl rfl)
theorem dX0_lucky_35 : decode cX0_lucky 35 = .ok (.iload 4, 2) := dk_21 4 (dk_at dksX0_lucky_1 11 rfl rfl)
theorem dX0_lucky_37 : decode cX0_lucky 37 = .ok (.istore_n 2, 1) := dk_61 (dk_at dksX0_lucky_1 13 rfl rfl)
theorem dX0_lucky_38 : decode cX0_lucky 38 = .ok (.iload_n 3, 1) := dk_29 (dk_at dksX0_lucky_1 14 rfl rfl)
theorem dX0_lucky_39 : decode cX0_lucky 39 = .ok (.istore_n 1, 1) := dk_60 (dk_at dksX0_lucky_1 15 rfl rfl)
theorem dX0_lucky_40 : decode cX0_lucky 40 = .ok (.iinc 3 1, 3) := dk_132 3 1 (dk_at dksX0_lucky_1 16 rfl rfl)
theorem dX0_lucky_43 : decode cX0_lucky 43 = .ok (.goto (-36), 3) := dk_167 255 220 (dk_at dksX0_lucky_1 19 rfl rfl)
theorem dX0_lucky_46 : decode cX0_lucky 46 = .ok (.iload_n 1, 1) := dk_27 (dk_at dksX0_lucky_1 22 rfl rfl)
theorem dX0_lucky_47 : decode cX0_lucky 47 = .ok (.ireturn, 1) := dk_172 (dk_at dksX0_lucky_1 23 rfl rfl)
abbrev cX0_swap : ByteArray := prog_1_method_41_code
def yX0_swap : MethodName := ⟨RX0, "swap", "()I"⟩
def dkwX0_swap_4 : List UInt8 := [60, 132, 4, 1, 167, 255, 189, 132, 3, 1, 167, 255, 167, 27, 172]
abbrev dktX0_swap_4 : List UInt8 := dkwX0_swap_4 ++ []
def dkwX0_swap_3 : List UInt8 := [182, 0, 253, 54, 5, 21, 5, 28, 163, 0, 6, 167, 0, 14, 21, 5, 61, 16, 10, 29, 104, 21, 4, 96]
abbrev dktX0_swap_3 : List UInt8 := dkwX0_swap_3 ++ dktX0_swap_4
def dkwX0_swap_2 : List UInt8 := [42, 180, 0, 30, 182, 1, 23, 42, 180, 0, 34, 29, 21, 4, 182, 1, 15, 42, 42, 180, 0, 34, 2]
abbrev dktX0_swap_2 : List UInt8 := dkwX0_swap_2 ++ dktX0_swap_3
def dkwX0_swap_1 : List UInt8 := [162, 0, 84, 29, 4, 96, 54, 4, 21, 4, 42, 180, 0, 30, 180, 0, 126, 162, 0, 61, 42, 180, 0, 34]
abbrev dktX0_swap_1 : List UInt8 := dkwX0_swap_1 ++ dktX0_swap_2
def dkwX0_swap_0 : List UInt8 := [16, 251, 60, 42, 42, 180, 0, 30, 2, 182, 0, 253, 61, 3, 62, 29, 42, 180, 0, 30, 180, 0, 126]
abbrev dktX0_swap_0 : List UInt8 := dkwX0_swap_0 ++ dktX0_swap_1
theorem dksX0_swap_0 : cX0_swap.data.toList.drop 0 = dktX0_swap_0 := by decide +kernel
theorem dksX0_swap_1 : cX0_swap.data.toList.drop 23 = dktX0_swap_1 := dk_seg dksX0_swap_0 23 rfl rfl
theorem dksX0_swap_2 : cX0_swap.data.toList.drop 47 = dktX0_swap_2 := dk_seg dksX0_swap_1 24 rfl rfl
theorem dksX0_swap_3 : cX0_swap.data.toList.drop 70 = dktX0_swap_3 := dk_seg dksX0_swap_2 23 rfl rfl
theorem dksX0_swap_4 : cX0_swap.data.toList.drop 94 = dktX0_swap_4 := dk_seg dksX0_swap_3 24 rfl rfl
theorem dX0_swap_0 : decode cX0_swap 0 = .ok (.bipush (-5), 2) := dk_16 251 (dk_at dksX0_swap_0 0 rfl rfl)
theorem dX0_swap_2 : decode cX0_swap 2 = .ok (.istore_n 1, 1) := dk_60 (dk_at dksX0_swap_0 2 rfl rfl)
theorem dX0_swap_3 : decode cX0_swap 3 = .ok (.aload_n 0, 1) := dk_42 (dk_at dksX0_swap_0 3 rfl rfl)
theorem dX0_swap_4 : decode cX0_swap 4 = .ok (.aload_n 0, 1) := dk_42 (dk_at dksX0_swap_0 4 rfl rfl)
theorem dX0_swap_5 : decode cX0_swap 5 = .ok (.getfield 30, 3) := dk_180 0 30 (dk_at dksX0_swap_0 5 rfl rfl)
theorem dX0_swap_8 : decode cX0_swap 8 = .ok (.iconst (-1), 1) := dk_2 (dk_at dksX0_swap_0 8 rfl rfl)
theorem dX0_swap_9 : decode cX0_swap 9 = .ok (.invokevirtual 253, 3) := dk_182 0 253 (dk_at dksX0_swap_0 9 rfl rfl)
theorem dX0_swap_12 : decode cX0_swap 12 = .ok (.istore_n 2, 1) := dk_61 (dk_at dksX0_swap_0 12 rfl rfl)
theorem dX0_swap_13 : decode cX0_swap 13 = .ok (.iconst 0, 1) := dk_3 (dk_at dksX0_swap_0 13 rfl rfl)
theorem dX0_swap_14 : decode cX0_swap 14 = .ok (.istore_n 3, 1) := dk_62 (dk_at dksX0_swap_0 14 rfl rfl)
theorem dX0_swap_15 : decode cX0_swap 15 = .ok (.iload_n 3, 1) := dk_29 (dk_at dksX0_swap_0 15 rfl rfl)
theorem dX0_swap_16 : decode cX0_swap 16 = .ok (.aload_n 0, 1) := dk_42 (dk_at dksX0_swap_0 16 rfl rfl)
theorem dX0_swap_17 : decode cX0_swap 17 = .ok (.getfield 30, 3) := dk_180 0 30 (dk_at dksX0_swap_0 17 rfl rfl)
theorem dX0_swap_20 : decode cX0_swap 20 = .ok (.getfield 126, 3) := dk_180 0 126 (dk_at dksX0_swap_0 20 rfl rfl)
theorem dX0_swap_23 : decode cX0_swap 23 = .ok (.if_icmp .ge 84, 3) := dk_162 0 84 (dk_at dksX0_swap_1 0 rfl rfl)
theorem dX0_swap_26 : decode cX0_swap 26 = .ok (.iload_n 3, 1) := dk_29 (dk_at dksX0_swap_1 3 rfl rfl)
theorem dX0_swap_27 : decode cX0_swap 27 = .ok (.iconst 1, 1) := dk_4 (dk_at dksX0_swap_1 4 rfl rfl)
theorem dX0_swap_28 : decode cX0_swap 28 = .ok (.iadd, 1) := dk_96 (dk_at dksX0_swap_1 5 rfl rfl)
theorem dX0_swap_29 : decode cX0_swap 29 = .ok (.istore 4, 2) := dk_54 4 (dk_at dksX0_swap_1 6 rfl rfl)
theorem dX0_swap_31 : decode cX0_swap 31 = .ok (.iload 4, 2) := dk_21 4 (dk_at dksX0_swap_1 8 rfl rfl)
theorem dX0_swap_33 : decode cX0_swap 33 = .ok (.aload_n 0, 1) := dk_42 (dk_at dksX0_swap_1 10 rfl rfl)
theorem dX0_swap_34 : decode cX0_swap 34 = .ok (.getfield 30, 3) := dk_180 0 30 (dk_at dksX0_swap_1 11 rfl rfl)
theorem dX0_swap_37 : decode cX0_swap 37 = .ok (.getfield 126, 3) := dk_180 0 126 (dk_at dksX0_swap_1 14 rfl rfl)
theorem dX0_swap_40 : decode cX0_swap 40 = .ok (.if_icmp .ge 61, 3) := dk_162 0 61 (dk_at dksX0_swap_1 17 rfl rfl)
theorem dX0_swap_43 : decode cX0_swap 43 = .ok (.aload_n 0, 1) := dk_42 (dk_at dksX0_swap_1 20 rfl rfl)
theorem dX0_swap_44 : decode cX0_swap 44 = .ok (.getfield 34, 3) := dk_180 0 34 (dk_at dksX0_swap_1 21 rfl rfl)
theorem dX0_swap_47 : decode cX0_swap 47 = .ok (.aload_n 0, 1) := dk_42 (dk_at dksX0_swap_2 0 rfl rfl)
theorem dX0_swap_48 : decode cX0_swap 48 = .ok (.getfield 30, 3) := dk_180 0 30 (dk_at dksX0_swap_2 1 rfl rfl)
theorem dX0_swap_51 : decode cX0_swap 51 = .ok (.invokevirtual 279, 3) := dk_182 1 23 (dk_at dksX0_swap_2 4 rfl rfl)
theorem dX0_swap_54 : decode cX0_swap 54 = .ok (.aload_n 0, 1) := dk_42 (dk_at dksX0_swap_2 7 rfl rfl)
theorem dX0_swap_55 : decode cX0_swap 55 = .ok (.getfield 34, 3) := dk_180 0 34 (dk_at dksX0_swap_2 8 rfl rfl)
theorem dX0_swap_58 : decode cX0_swap 58 = .ok (.iload_n 3, 1) := dk_29 (dk_at dksX0_swap_2 11 rfl rfl)
theorem dX0_swap_59 : decode cX0_swap 59 = .ok (.iload 4, 2) := dk_21 4 (dk_at dksX0_swap_2 12 rfl rfl)
theorem dX0_swap_61 : decode cX0_swap 61 = .ok (.invokevirtual 271, 3) := dk_182 1 15 (dk_at dksX0_swap_2 14 rfl rfl)
theorem dX0_swap_64 : decode cX0_swap 64 = .ok (.aload_n 0, 1) := dk_42 (dk_at dksX0_swap_2 17 rfl rfl)
theorem dX0_swap_65 : decode cX0_swap 65 = .ok (.aload_n 0, 1) := dk_42 (dk_at dksX0_swap_2 18 rfl rfl)
theorem dX0_swap_66 : decode cX0_swap 66 = .ok (.getfield 34, 3) := dk_180 0 34 (dk_at dksX0_swap_2 19 rfl rfl)
theorem dX0_swap_69 : decode cX0_swap 69 = .ok (.iconst (-1), 1) := dk_2 (dk_at dksX0_swap_2 22 rfl rfl)
theorem dX0_swap_70 : decode cX0_swap 70 = .ok (.invokevirtual 253, 3) := dk_182 0 253 (dk_at dksX0_swap_3 0 rfl rfl)
theorem dX0_swap_73 : decode cX0_swap 73 = .ok (.istore 5, 2) := dk_54 5 (dk_at dksX0_swap_3 3 rfl rfl)
theorem dX0_swap_75 : decode cX0_swap 75 = .ok (.iload 5, 2) := dk_21 5 (dk_at dksX0_swap_3 5 rfl rfl)
theorem dX0_swap_77 : decode cX0_swap 77 = .ok (.iload_n 2, 1) := dk_28 (dk_at dksX0_swap_3 7 rfl rfl)
theorem dX0_swap_78 : decode cX0_swap 78 = .ok (.if_icmp .gt 6, 3) := dk_163 0 6 (dk_at dksX0_swap_3 8 rfl rfl)
theorem dX0_swap_81 : decode cX0_swap 81 = .ok (.goto 14, 3) := dk_167 0 14 (dk_at dksX0_swap_3 11 rfl rfl)
theorem dX0_swap_84 : decode cX0_swap 84 = .ok (.iload 5, 2) := dk_21 5 (dk_at dksX0_swap_3 14 rfl rfl)
theorem dX0_swap_86 : decode cX0_swap 86 = .ok (.istore_n 2, 1) := dk_61 (dk_at dksX0_swap_3 16 rfl rfl)
theorem dX0_swap_87 : decode cX0_swap 87 = .ok (.bipush 10, 2) := dk_16 10 (dk_at dksX0_swap_3 17 rfl rfl)
theorem dX0_swap_89 : decode cX0_swap 89 = .ok (.iload_n 3, 1) := dk_29 (dk_at dksX0_swap_3 19 rfl rfl)
theorem dX0_swap_90 : decode cX0_swap 90 = .ok (.imul, 1) := dk_104 (dk_at dksX0_swap_3 20 rfl rfl)
theorem dX0_swap_91 : decode cX0_swap 91 = .ok (.iload 4, 2) := dk_21 4 (dk_at dksX0_swap_3 21 rfl rfl)
theorem dX0_swap_93 : decode cX0_swap 93 = .ok (.iadd, 1) := dk_96 (dk_at dksX0_swap_3 23 rfl rfl)
theorem dX0_swap_94 : decode cX0_swap 94 = .ok (.istore_n 1, 1) := dk_60 (dk_at dksX0_swap_4 0 rfl rfl)
theorem dX0_swap_95 : decode cX0_swap 95 = .ok (.iinc 4 1, 3) := dk_132 4 1 (dk_at dksX0_swap_4 1 rfl rfl)
theorem dX0_swap_98 : decode cX0_swap 98 = .ok (.goto (-67), 3) := dk_167 255 189 (dk_at dksX0_swap_4 4 rfl rfl)
theorem dX0_swap_101 : decode cX0_swap 101 = .ok (.iinc 3 1, 3) := dk_132 3 1 (dk_at dksX0_swap_4 7 rfl rfl)
theorem dX0_swap_104 : decode cX0_swap 104 = .ok (.goto (-89), 3) := dk_167 255 167 (dk_at dksX0_swap_4 10 rfl rfl)
theorem dX0_swap_107 : decode cX0_swap 107 = .ok (.iload_n 1, 1) := dk_27 (dk_at dksX0_swap_4 13 rfl rfl)
theorem dX0_swap_108 : decode cX0_swap 108 = .ok (.ireturn, 1) := dk_172 (dk_at dksX0_swap_4 14 rfl rfl)
abbrev cX0_quarrel : ByteArray := prog_1_method_42_code
def yX0_quarrel : MethodName := ⟨RX0, "quarrel", "(III)I"⟩
def dkwX0_quarrel_2 : List UInt8 := [182, 0, 221, 42, 42, 180, 0, 30, 28, 29, 182, 0, 221, 100, 172]
abbrev dktX0_quarrel_2 : List UInt8 := dkwX0_quarrel_2 ++ []
def dkwX0_quarrel_1 : List UInt8 := [17, 216, 239, 172, 27, 28, 160, 0, 9, 17, 216, 238, 167, 0, 24, 42, 42, 180, 0, 30, 27, 29]
abbrev dktX0_quarrel_1 : List UInt8 := dkwX0_quarrel_1 ++ dktX0_quarrel_2
def dkwX0_quarrel_0 : List UInt8 := [42, 27, 182, 0, 202, 153, 0, 19, 42, 28, 182, 0, 202, 153, 0, 11, 42, 29, 182, 0, 218, 154, 0, 7]
abbrev dktX0_quarrel_0 : List UInt8 := dkwX0_quarrel_0 ++ dktX0_quarrel_1
theorem dksX0_quarrel_0 : cX0_quarrel.data.toList.drop 0 = dktX0_quarrel_0 := by decide +kernel
theorem dksX0_quarrel_1 : cX0_quarrel.data.toList.drop 24 = dktX0_quarrel_1 := dk_seg dksX0_quarrel_0 24 rfl rfl
theorem dksX0_quarrel_2 : cX0_quarrel.data.toList.drop 46 = dktX0_quarrel_2 := dk_seg dksX0_quarrel_1 22 rfl rfl
theorem dX0_quarrel_0 : decode cX0_quarrel 0 = .ok (.aload_n 0, 1) := dk_42 (dk_at dksX0_quarrel_0 0 rfl rfl)
theorem dX0_quarrel_1 : decode cX0_quarrel 1 = .ok (.iload_n 1, 1) := dk_27 (dk_at dksX0_quarrel_0 1 rfl rfl)
theorem dX0_quarrel_2 : decode cX0_quarrel 2 = .ok (.invokevirtual 202, 3) := dk_182 0 202 (dk_at dksX0_quarrel_0 2 rfl rfl)
theorem dX0_quarrel_5 : decode cX0_quarrel 5 = .ok (.ifCond .eq 19, 3) := dk_153 0 19 (dk_at dksX0_quarrel_0 5 rfl rfl)
theorem dX0_quarrel_8 : decode cX0_quarrel 8 = .ok (.aload_n 0, 1) := dk_42 (dk_at dksX0_quarrel_0 8 rfl rfl)
theorem dX0_quarrel_9 : decode cX0_quarrel 9 = .ok (.iload_n 2, 1) := dk_28 (dk_at dksX0_quarrel_0 9 rfl rfl)
theorem dX0_quarrel_10 : decode cX0_quarrel 10 = .ok (.invokevirtual 202, 3) := dk_182 0 202 (dk_at dksX0_quarrel_0 10 rfl rfl)
theorem dX0_quarrel_13 : decode cX0_quarrel 13 = .ok (.ifCond .eq 11, 3) := dk_153 0 11 (dk_at dksX0_quarrel_0 13 rfl rfl)
theorem dX0_quarrel_16 : decode cX0_quarrel 16 = .ok (.aload_n 0, 1) := dk_42 (dk_at dksX0_quarrel_0 16 rfl rfl)
theorem dX0_quarrel_17 : decode cX0_quarrel 17 = .ok (.iload_n 3, 1) := dk_29 (dk_at dksX0_quarrel_0 17 rfl rfl)
theorem dX0_quarrel_18 : decode cX0_quarrel 18 = .ok (.invokevirtual 218, 3) := dk_182 0 218 (dk_at dksX0_quarrel_0 18 rfl rfl)
theorem dX0_quarrel_21 : decode cX0_quarrel 21 = .ok (.ifCond .ne 7, 3) := dk_154 0 7 (dk_at dksX0_quarrel_0 21 rfl rfl)
theorem dX0_quarrel_24 : decode cX0_quarrel 24 = .ok (.sipush (-10001), 3) := dk_17 216 239 (dk_at dksX0_quarrel_1 0 rfl rfl)
theorem dX0_quarrel_27 : decode cX0_quarrel 27 = .ok (.ireturn, 1) := dk_172 (dk_at dksX0_quarrel_1 3 rfl rfl)
theorem dX0_quarrel_28 : decode cX0_quarrel 28 = .ok (.iload_n 1, 1) := dk_27 (dk_at dksX0_quarrel_1 4 rfl rfl)
theorem dX0_quarrel_29 : decode cX0_quarrel 29 = .ok (.iload_n 2, 1) := dk_28 (dk_at dksX0_quarrel_1 5 rfl rfl)
theorem dX0_quarrel_30 : decode cX0_quarrel 30 = .ok (.if_icmp .ne 9, 3) := dk_160 0 9 (dk_at dksX0_quarrel_1 6 rfl rfl)
theorem dX0_quarrel_33 : decode cX0_quarrel 33 = .ok (.sipush (-10002), 3) := dk_17 216 238 (dk_at dksX0_quarrel_1 9 rfl rfl)
theorem dX0_quarrel_36 : decode cX0_quarrel 36 = .ok (.goto 24, 3) := dk_167 0 24 (dk_at dksX0_quarrel_1 12 rfl rfl)
theorem dX0_quarrel_39 : decode cX0_quarrel 39 = .ok (.aload_n 0, 1) := dk_42 (dk_at dksX0_quarrel_1 15 rfl rfl)
theorem dX0_quarrel_40 : decode cX0_quarrel 40 = .ok (.aload_n 0, 1) := dk_42 (dk_at dksX0_quarrel_1 16 rfl rfl)
theorem dX0_quarrel_41 : decode cX0_quarrel 41 = .ok (.getfield 30, 3) := dk_180 0 30 (dk_at dksX0_quarrel_1 17 rfl rfl)
theorem dX0_quarrel_44 : decode cX0_quarrel 44 = .ok (.iload_n 1, 1) := dk_27 (dk_at dksX0_quarrel_1 20 rfl rfl)
theorem dX0_quarrel_45 : decode cX0_quarrel 45 = .ok (.iload_n 3, 1) := dk_29 (dk_at dksX0_quarrel_1 21 rfl rfl)
theorem dX0_quarrel_46 : decode cX0_quarrel 46 = .ok (.invokevirtual 221, 3) := dk_182 0 221 (dk_at dksX0_quarrel_2 0 rfl rfl)
theorem dX0_quarrel_49 : decode cX0_quarrel 49 = .ok (.aload_n 0, 1) := dk_42 (dk_at dksX0_quarrel_2 3 rfl rfl)
theorem dX0_quarrel_50 : decode cX0_quarrel 50 = .ok (.aload_n 0, 1) := dk_42 (dk_at dksX0_quarrel_2 4 rfl rfl)
theorem dX0_quarrel_51 : decode cX0_quarrel 51 = .ok (.getfield 30, 3) := dk_180 0 30 (dk_at dksX0_quarrel_2 5 rfl rfl)
theorem dX0_quarrel_54 : decode cX0_quarrel 54 = .ok (.iload_n 2, 1) := dk_28 (dk_at dksX0_quarrel_2 8 rfl rfl)
theorem dX0_quarrel_55 : decode cX0_quarrel 55 = .ok (.iload_n 3, 1) := dk_29 (dk_at dksX0_quarrel_2 9 rfl rfl)
theorem dX0_quarrel_56 : decode cX0_quarrel 56 = .ok (.invokevirtual 221, 3) := dk_182 0 221 (dk_at dksX0_quarrel_2 10 rfl rfl)
theorem dX0_quarrel_59 : decode cX0_quarrel 59 = .ok (.isub, 1) := dk_100 (dk_at dksX0_quarrel_2 13 rfl rfl)
theorem dX0_quarrel_60 : decode cX0_quarrel 60 = .ok (.ireturn, 1) := dk_172 (dk_at dksX0_quarrel_2 14 rfl rfl)
abbrev cX0_how : ByteArray := prog_1_method_43_code
def yX0_how : MethodName := ⟨RX0, "how", "(I)I"⟩
def dkwX0_how_4 : List UInt8 := [167, 0, 4, 29, 172]
abbrev dktX0_how_4 : List UInt8 := dkwX0_how_4 ++ []
def dkwX0_how_3 : List UInt8 := [42, 180, 0, 11, 21, 4, 46, 159, 0, 6, 132, 2, 1, 132, 4, 1, 167, 255, 186, 27, 154, 0, 7, 28]
abbrev dktX0_how_3 : List UInt8 := dkwX0_how_3 ++ dktX0_how_4
def dkwX0_how_2 : List UInt8 := [120, 128, 62, 167, 0, 34, 42, 180, 0, 23, 42, 180, 0, 30, 180, 0, 137, 21, 4, 51, 50, 180, 0, 208]
abbrev dktX0_how_2 : List UInt8 := dkwX0_how_2 ++ dktX0_how_3
def dkwX0_how_1 : List UInt8 := [180, 0, 126, 162, 0, 64, 42, 180, 0, 30, 180, 0, 137, 21, 4, 51, 2, 160, 0, 13, 29, 4, 21, 4]
abbrev dktX0_how_1 : List UInt8 := dkwX0_how_1 ++ dktX0_how_2
def dkwX0_how_0 : List UInt8 := [27, 3, 4, 184, 0, 130, 154, 0, 5, 2, 172, 3, 61, 3, 62, 3, 54, 4, 21, 4, 42, 180, 0, 30]
abbrev dktX0_how_0 : List UInt8 := dkwX0_how_0 ++ dktX0_how_1
theorem dksX0_how_0 : cX0_how.data.toList.drop 0 = dktX0_how_0 := by decide +kernel
theorem dksX0_how_1 : cX0_how.data.toList.drop 24 = dktX0_how_1 := dk_seg dksX0_how_0 24 rfl rfl
theorem dksX0_how_2 : cX0_how.data.toList.drop 48 = dktX0_how_2 := dk_seg dksX0_how_1 24 rfl rfl
theorem dksX0_how_3 : cX0_how.data.toList.drop 72 = dktX0_how_3 := dk_seg dksX0_how_2 24 rfl rfl
theorem dksX0_how_4 : cX0_how.data.toList.drop 96 = dktX0_how_4 := dk_seg dksX0_how_3 24 rfl rfl
theorem dX0_how_0 : decode cX0_how 0 = .ok (.iload_n 1, 1) := dk_27 (dk_at dksX0_how_0 0 rfl rfl)
theorem dX0_how_1 : decode cX0_how 1 = .ok (.iconst 0, 1) := dk_3 (dk_at dksX0_how_0 1 rfl rfl)
theorem dX0_how_2 : decode cX0_how 2 = .ok (.iconst 1, 1) := dk_4 (dk_at dksX0_how_0 2 rfl rfl)
theorem dX0_how_3 : decode cX0_how 3 = .ok (.invokestatic 130, 3) := dk_184 0 130 (dk_at dksX0_how_0 3 rfl rfl)
theorem dX0_how_6 : decode cX0_how 6 = .ok (.ifCond .ne 5, 3) := dk_154 0 5 (dk_at dksX0_how_0 6 rfl rfl)
theorem dX0_how_9 : decode cX0_how 9 = .ok (.iconst (-1), 1) := dk_2 (dk_at dksX0_how_0 9 rfl rfl)
theorem dX0_how_10 : decode cX0_how 10 = .ok (.ireturn, 1) := dk_172 (dk_at dksX0_how_0 10 rfl rfl)
theorem dX0_how_11 : decode cX0_how 11 = .ok (.iconst 0, 1) := dk_3 (dk_at dksX0_how_0 11 rfl rfl)
theorem dX0_how_12 : decode cX0_how 12 = .ok (.istore_n 2, 1) := dk_61 (dk_at dksX0_how_0 12 rfl rfl)
theorem dX0_how_13 : decode cX0_how 13 = .ok (.iconst 0, 1) := dk_3 (dk_at dksX0_how_0 13 rfl rfl)
theorem dX0_how_14 : decode cX0_how 14 = .ok (.istore_n 3, 1) := dk_62 (dk_at dksX0_how_0 14 rfl rfl)
theorem dX0_how_15 : decode cX0_how 15 = .ok (.iconst 0, 1) := dk_3 (dk_at dksX0_how_0 15 rfl rfl)
theorem dX0_how_16 : decode cX0_how 16 = .ok (.istore 4, 2) := dk_54 4 (dk_at dksX0_how_0 16 rfl rfl)
theorem dX0_how_18 : decode cX0_how 18 = .ok (.iload 4, 2) := dk_21 4 (dk_at dksX0_how_0 18 rfl rfl)
theorem dX0_how_20 : decode cX0_how 20 = .ok (.aload_n 0, 1) := dk_42 (dk_at dksX0_how_0 20 rfl rfl)
theorem dX0_how_21 : decode cX0_how 21 = .ok (.getfield 30, 3) := dk_180 0 30 (dk_at dksX0_how_0 21 rfl rfl)
theorem dX0_how_24 : decode cX0_how 24 = .ok (.getfield 126, 3) := dk_180 0 126 (dk_at dksX0_how_1 0 rfl rfl)
theorem dX0_how_27 : decode cX0_how 27 = .ok (.if_icmp .ge 64, 3) := dk_162 0 64 (dk_at dksX0_how_1 3 rfl rfl)
theorem dX0_how_30 : decode cX0_how 30 = .ok (.aload_n 0, 1) := dk_42 (dk_at dksX0_how_1 6 rfl rfl)
theorem dX0_how_31 : decode cX0_how 31 = .ok (.getfield 30, 3) := dk_180 0 30 (dk_at dksX0_how_1 7 rfl rfl)
theorem dX0_how_34 : decode cX0_how 34 = .ok (.getfield 137, 3) := dk_180 0 137 (dk_at dksX0_how_1 10 rfl rfl)
theorem dX0_how_37 : decode cX0_how 37 = .ok (.iload 4, 2) := dk_21 4 (dk_at dksX0_how_1 13 rfl rfl)
theorem dX0_how_39 : decode cX0_how 39 = .ok (.baload, 1) := dk_51 (dk_at dksX0_how_1 15 rfl rfl)
theorem dX0_how_40 : decode cX0_how 40 = .ok (.iconst (-1), 1) := dk_2 (dk_at dksX0_how_1 16 rfl rfl)
theorem dX0_how_41 : decode cX0_how 41 = .ok (.if_icmp .ne 13, 3) := dk_160 0 13 (dk_at dksX0_how_1 17 rfl rfl)
theorem dX0_how_44 : decode cX0_how 44 = .ok (.iload_n 3, 1) := dk_29 (dk_at dksX0_how_1 20 rfl rfl)
theorem dX0_how_45 : decode cX0_how 45 = .ok (.iconst 1, 1) := dk_4 (dk_at dksX0_how_1 21 rfl rfl)
theorem dX0_how_46 : decode cX0_how 46 = .ok (.iload 4, 2) := dk_21 4 (dk_at dksX0_how_1 22 rfl rfl)
theorem dX0_how_48 : decode cX0_how 48 = .ok (.ishl, 1) := dk_120 (dk_at dksX0_how_2 0 rfl rfl)
theorem dX0_how_49 : decode cX0_how 49 = .ok (.ior, 1) := dk_128 (dk_at dksX0_how_2 1 rfl rfl)
theorem dX0_how_50 : decode cX0_how 50 = .ok (.istore_n 3, 1) := dk_62 (dk_at dksX0_how_2 2 rfl rfl)
theorem dX0_how_51 : decode cX0_how 51 = .ok (.goto 34, 3) := dk_167 0 34 (dk_at dksX0_how_2 3 rfl rfl)
theorem dX0_how_54 : decode cX0_how 54 = .ok (.aload_n 0, 1) := dk_42 (dk_at dksX0_how_2 6 rfl rfl)
theorem dX0_how_55 : decode cX0_how 55 = .ok (.getfield 23, 3) := dk_180 0 23 (dk_at dksX0_how_2 7 rfl rfl)
theorem dX0_how_58 : decode cX0_how 58 = .ok (.aload_n 0, 1) := dk_42 (dk_at dksX0_how_2 10 rfl rfl)
theorem dX0_how_59 : decode cX0_how 59 = .ok (.getfield 30, 3) := dk_180 0 30 (dk_at dksX0_how_2 11 rfl rfl)
theorem dX0_how_62 : decode cX0_how 62 = .ok (.getfield 137, 3) := dk_180 0 137 (dk_at dksX0_how_2 14 rfl rfl)
theorem dX0_how_65 : decode cX0_how 65 = .ok (.iload 4, 2) := dk_21 4 (dk_at dksX0_how_2 17 rfl rfl)
theorem dX0_how_67 : decode cX0_how 67 = .ok (.baload, 1) := dk_51 (dk_at dksX0_how_2 19 rfl rfl)
theorem dX0_how_68 : decode cX0_how 68 = .ok (.aaload, 1) := dk_50 (dk_at dksX0_how_2 20 rfl rfl)
theorem dX0_how_69 : decode cX0_how 69 = .ok (.getfield 208, 3) := dk_180 0 208 (dk_at dksX0_how_2 21 rfl rfl)
theorem dX0_how_72 : decode cX0_how 72 = .ok (.aload_n 0, 1) := dk_42 (dk_at dksX0_how_3 0 rfl rfl)
theorem dX0_how_73 : decode cX0_how 73 = .ok (.getfield 11, 3) := dk_180 0 11 (dk_at dksX0_how_3 1 rfl rfl)
theorem dX0_how_76 : decode cX0_how 76 = .ok (.iload 4, 2) := dk_21 4 (dk_at dksX0_how_3 4 rfl rfl)
theorem dX0_how_78 : decode cX0_how 78 = .ok (.iaload, 1) := dk_46 (dk_at dksX0_how_3 6 rfl rfl)
theorem dX0_how_79 : decode cX0_how 79 = .ok (.if_icmp .eq 6, 3) := dk_159 0 6 (dk_at dksX0_how_3 7 rfl rfl)
theorem dX0_how_82 : decode cX0_how 82 = .ok (.iinc 2 1, 3) := dk_132 2 1 (dk_at dksX0_how_3 10 rfl rfl)
theorem dX0_how_85 : decode cX0_how 85 = .ok (.iinc 4 1, 3) := dk_132 4 1 (dk_at dksX0_how_3 13 rfl rfl)
theorem dX0_how_88 : decode cX0_how 88 = .ok (.goto (-70), 3) := dk_167 255 186 (dk_at dksX0_how_3 16 rfl rfl)
theorem dX0_how_91 : decode cX0_how 91 = .ok (.iload_n 1, 1) := dk_27 (dk_at dksX0_how_3 19 rfl rfl)
theorem dX0_how_92 : decode cX0_how 92 = .ok (.ifCond .ne 7, 3) := dk_154 0 7 (dk_at dksX0_how_3 20 rfl rfl)
theorem dX0_how_95 : decode cX0_how 95 = .ok (.iload_n 2, 1) := dk_28 (dk_at dksX0_how_3 23 rfl rfl)
theorem dX0_how_96 : decode cX0_how 96 = .ok (.goto 4, 3) := dk_167 0 4 (dk_at dksX0_how_4 0 rfl rfl)
theorem dX0_how_99 : decode cX0_how 99 = .ok (.iload_n 3, 1) := dk_29 (dk_at dksX0_how_4 3 rfl rfl)
theorem dX0_how_100 : decode cX0_how 100 = .ok (.ireturn, 1) := dk_172 (dk_at dksX0_how_4 4 rfl rfl)
abbrev cX0_see : ByteArray := prog_1_method_44_code
def yX0_see : MethodName := ⟨RX0, "see", "(II)I"⟩
def dkwX0_see_3 : List UInt8 := [181, 1, 59, 28, 79, 42, 180, 1, 59, 172]
abbrev dktX0_see_3 : List UInt8 := dkwX0_see_3 ++ []
def dkwX0_see_2 : List UInt8 := [42, 180, 0, 65, 42, 180, 1, 59, 27, 79, 42, 180, 0, 68, 42, 89, 180, 1, 59, 90, 4, 96]
abbrev dktX0_see_2 : List UInt8 := dkwX0_see_2 ++ dktX0_see_3
def dkwX0_see_1 : List UInt8 := [17, 3, 231, 184, 0, 130, 154, 0, 6, 16, 254, 172, 42, 180, 1, 59, 16, 6, 160, 0, 6, 16, 252, 172]
abbrev dktX0_see_1 : List UInt8 := dkwX0_see_1 ++ dktX0_see_2
def dkwX0_see_0 : List UInt8 := [27, 2, 160, 0, 10, 42, 3, 181, 1, 59, 3, 172, 42, 27, 182, 0, 202, 154, 0, 5, 2, 172, 28, 3]
abbrev dktX0_see_0 : List UInt8 := dkwX0_see_0 ++ dktX0_see_1
theorem dksX0_see_0 : cX0_see.data.toList.drop 0 = dktX0_see_0 := by decide +kernel
theorem dksX0_see_1 : cX0_see.data.toList.drop 24 = dktX0_see_1 := dk_seg dksX0_see_0 24 rfl rfl
theorem dksX0_see_2 : cX0_see.data.toList.drop 48 = dktX0_see_2 := dk_seg dksX0_see_1 24 rfl rfl
theorem dksX0_see_3 : cX0_see.data.toList.drop 70 = dktX0_see_3 := dk_seg dksX0_see_2 22 rfl rfl
theorem dX0_see_0 : decode cX0_see 0 = .ok (.iload_n 1, 1) := dk_27 (dk_at dksX0_see_0 0 rfl rfl)
theorem dX0_see_1 : decode cX0_see 1 = .ok (.iconst (-1), 1) := dk_2 (dk_at dksX0_see_0 1 rfl rfl)
theorem dX0_see_2 : decode cX0_see 2 = .ok (.if_icmp .ne 10, 3) := dk_160 0 10 (dk_at dksX0_see_0 2 rfl rfl)
theorem dX0_see_5 : decode cX0_see 5 = .ok (.aload_n 0, 1) := dk_42 (dk_at dksX0_see_0 5 rfl rfl)
theorem dX0_see_6 : decode cX0_see 6 = .ok (.iconst 0, 1) := dk_3 (dk_at dksX0_see_0 6 rfl rfl)
theorem dX0_see_7 : decode cX0_see 7 = .ok (.putfield 315, 3) := dk_181 1 59 (dk_at dksX0_see_0 7 rfl rfl)
theorem dX0_see_10 : decode cX0_see 10 = .ok (.iconst 0, 1) := dk_3 (dk_at dksX0_see_0 10 rfl rfl)
theorem dX0_see_11 : decode cX0_see 11 = .ok (.ireturn, 1) := dk_172 (dk_at dksX0_see_0 11 rfl rfl)
theorem dX0_see_12 : decode cX0_see 12 = .ok (.aload_n 0, 1) := dk_42 (dk_at dksX0_see_0 12 rfl rfl)
theorem dX0_see_13 : decode cX0_see 13 = .ok (.iload_n 1, 1) := dk_27 (dk_at dksX0_see_0 13 rfl rfl)
theorem dX0_see_14 : decode cX0_see 14 = .ok (.invokevirtual 202, 3) := dk_182 0 202 (dk_at dksX0_see_0 14 rfl rfl)
theorem dX0_see_17 : decode cX0_see 17 = .ok (.ifCond .ne 5, 3) := dk_154 0 5 (dk_at dksX0_see_0 17 rfl rfl)
theorem dX0_see_20 : decode cX0_see 20 = .ok (.iconst (-1), 1) := dk_2 (dk_at dksX0_see_0 20 rfl rfl)
theorem dX0_see_21 : decode cX0_see 21 = .ok (.ireturn, 1) := dk_172 (dk_at dksX0_see_0 21 rfl rfl)
theorem dX0_see_22 : decode cX0_see 22 = .ok (.iload_n 2, 1) := dk_28 (dk_at dksX0_see_0 22 rfl rfl)
theorem dX0_see_23 : decode cX0_see 23 = .ok (.iconst 0, 1) := dk_3 (dk_at dksX0_see_0 23 rfl rfl)
theorem dX0_see_24 : decode cX0_see 24 = .ok (.sipush 999, 3) := dk_17 3 231 (dk_at dksX0_see_1 0 rfl rfl)
theorem dX0_see_27 : decode cX0_see 27 = .ok (.invokestatic 130, 3) := dk_184 0 130 (dk_at dksX0_see_1 3 rfl rfl)
theorem dX0_see_30 : decode cX0_see 30 = .ok (.ifCond .ne 6, 3) := dk_154 0 6 (dk_at dksX0_see_1 6 rfl rfl)
theorem dX0_see_33 : decode cX0_see 33 = .ok (.bipush (-2), 2) := dk_16 254 (dk_at dksX0_see_1 9 rfl rfl)
theorem dX0_see_35 : decode cX0_see 35 = .ok (.ireturn, 1) := dk_172 (dk_at dksX0_see_1 11 rfl rfl)
theorem dX0_see_36 : decode cX0_see 36 = .ok (.aload_n 0, 1) := dk_42 (dk_at dksX0_see_1 12 rfl rfl)
theorem dX0_see_37 : decode cX0_see 37 = .ok (.getfield 315, 3) := dk_180 1 59 (dk_at dksX0_see_1 13 rfl rfl)
theorem dX0_see_40 : decode cX0_see 40 = .ok (.bipush 6, 2) := dk_16 6 (dk_at dksX0_see_1 16 rfl rfl)
theorem dX0_see_42 : decode cX0_see 42 = .ok (.if_icmp .ne 6, 3) := dk_160 0 6 (dk_at dksX0_see_1 18 rfl rfl)
theorem dX0_see_45 : decode cX0_see 45 = .ok (.bipush (-4), 2) := dk_16 252 (dk_at dksX0_see_1 21 rfl rfl)
theorem dX0_see_47 : decode cX0_see 47 = .ok (.ireturn, 1) := dk_172 (dk_at dksX0_see_1 23 rfl rfl)
theorem dX0_see_48 : decode cX0_see 48 = .ok (.aload_n 0, 1) := dk_42 (dk_at dksX0_see_2 0 rfl rfl)
theorem dX0_see_49 : decode cX0_see 49 = .ok (.getfield 65, 3) := dk_180 0 65 (dk_at dksX0_see_2 1 rfl rfl)
theorem dX0_see_52 : decode cX0_see 52 = .ok (.aload_n 0, 1) := dk_42 (dk_at dksX0_see_2 4 rfl rfl)
theorem dX0_see_53 : decode cX0_see 53 = .ok (.getfield 315, 3) := dk_180 1 59 (dk_at dksX0_see_2 5 rfl rfl)
theorem dX0_see_56 : decode cX0_see 56 = .ok (.iload_n 1, 1) := dk_27 (dk_at dksX0_see_2 8 rfl rfl)
theorem dX0_see_57 : decode cX0_see 57 = .ok (.iastore, 1) := dk_79 (dk_at dksX0_see_2 9 rfl rfl)
theorem dX0_see_58 : decode cX0_see 58 = .ok (.aload_n 0, 1) := dk_42 (dk_at dksX0_see_2 10 rfl rfl)
theorem dX0_see_59 : decode cX0_see 59 = .ok (.getfield 68, 3) := dk_180 0 68 (dk_at dksX0_see_2 11 rfl rfl)
theorem dX0_see_62 : decode cX0_see 62 = .ok (.aload_n 0, 1) := dk_42 (dk_at dksX0_see_2 14 rfl rfl)
theorem dX0_see_63 : decode cX0_see 63 = .ok (.dup, 1) := dk_89 (dk_at dksX0_see_2 15 rfl rfl)
theorem dX0_see_64 : decode cX0_see 64 = .ok (.getfield 315, 3) := dk_180 1 59 (dk_at dksX0_see_2 16 rfl rfl)
theorem dX0_see_67 : decode cX0_see 67 = .ok (.dup_x1, 1) := dk_90 (dk_at dksX0_see_2 19 rfl rfl)
theorem dX0_see_68 : decode cX0_see 68 = .ok (.iconst 1, 1) := dk_4 (dk_at dksX0_see_2 20 rfl rfl)
theorem dX0_see_69 : decode cX0_see 69 = .ok (.iadd, 1) := dk_96 (dk_at dksX0_see_2 21 rfl rfl)
theorem dX0_see_70 : decode cX0_see 70 = .ok (.putfield 315, 3) := dk_181 1 59 (dk_at dksX0_see_3 0 rfl rfl)
theorem dX0_see_73 : decode cX0_see 73 = .ok (.iload_n 2, 1) := dk_28 (dk_at dksX0_see_3 3 rfl rfl)
theorem dX0_see_74 : decode cX0_see 74 = .ok (.iastore, 1) := dk_79 (dk_at dksX0_see_3 4 rfl rfl)
theorem dX0_see_75 : decode cX0_see 75 = .ok (.aload_n 0, 1) := dk_42 (dk_at dksX0_see_3 5 rfl rfl)
theorem dX0_see_76 : decode cX0_see 76 = .ok (.getfield 315, 3) := dk_180 1 59 (dk_at dksX0_see_3 6 rfl rfl)
theorem dX0_see_79 : decode cX0_see 79 = .ok (.ireturn, 1) := dk_172 (dk_at dksX0_see_3 9 rfl rfl)
abbrev cX0_wore : ByteArray := prog_1_method_47_code
def yX0_wore : MethodName := ⟨RX0, "wore", "(I)I"⟩
def dkwX0_wore_0 : List UInt8 := [42, 27, 182, 0, 202, 154, 0, 5, 2, 172, 42, 182, 1, 40, 42, 27, 182, 1, 66, 172]
abbrev dktX0_wore_0 : List UInt8 := dkwX0_wore_0 ++ []
theorem dksX0_wore_0 : cX0_wore.data.toList.drop 0 = dktX0_wore_0 := by decide +kernel
theorem dX0_wore_0 : decode cX0_wore 0 = .ok (.aload_n 0, 1) := dk_42 (dk_at dksX0_wore_0 0 rfl rfl)
theorem dX0_wore_1 : decode cX0_wore 1 = .ok (.iload_n 1, 1) := dk_27 (dk_at dksX0_wore_0 1 rfl rfl)
theorem dX0_wore_2 : decode cX0_wore 2 = .ok (.invokevirtual 202, 3) := dk_182 0 202 (dk_at dksX0_wore_0 2 rfl rfl)
theorem dX0_wore_5 : decode cX0_wore 5 = .ok (.ifCond .ne 5, 3) := dk_154 0 5 (dk_at dksX0_wore_0 5 rfl rfl)
theorem dX0_wore_8 : decode cX0_wore 8 = .ok (.iconst (-1), 1) := dk_2 (dk_at dksX0_wore_0 8 rfl rfl)
theorem dX0_wore_9 : decode cX0_wore 9 = .ok (.ireturn, 1) := dk_172 (dk_at dksX0_wore_0 9 rfl rfl)
theorem dX0_wore_10 : decode cX0_wore 10 = .ok (.aload_n 0, 1) := dk_42 (dk_at dksX0_wore_0 10 rfl rfl)
theorem dX0_wore_11 : decode cX0_wore 11 = .ok (.invokevirtual 296, 3) := dk_182 1 40 (dk_at dksX0_wore_0 11 rfl rfl)
theorem dX0_wore_14 : decode cX0_wore 14 = .ok (.aload_n 0, 1) := dk_42 (dk_at dksX0_wore_0 14 rfl rfl)
theorem dX0_wore_15 : decode cX0_wore 15 = .ok (.iload_n 1, 1) := dk_27 (dk_at dksX0_wore_0 15 rfl rfl)
theorem dX0_wore_16 : decode cX0_wore 16 = .ok (.invokevirtual 322, 3) := dk_182 1 66 (dk_at dksX0_wore_0 16 rfl rfl)
theorem dX0_wore_19 : decode cX0_wore 19 = .ok (.ireturn, 1) := dk_172 (dk_at dksX0_wore_0 19 rfl rfl)
abbrev cX0_woreOf : ByteArray := prog_1_method_46_code
def yX0_woreOf : MethodName := ⟨RX0, "woreOf", "(I)I"⟩
def dkwX0_woreOf_1 : List UInt8 := [28, 4, 29, 120, 128, 61, 132, 3, 1, 167, 255, 227, 28, 172]
abbrev dktX0_woreOf_1 : List UInt8 := dkwX0_woreOf_1 ++ []
def dkwX0_woreOf_0 : List UInt8 := [3, 61, 3, 62, 29, 42, 180, 0, 30, 180, 0, 126, 162, 0, 24, 42, 27, 29, 182, 1, 62, 153, 0, 9]
abbrev dktX0_woreOf_0 : List UInt8 := dkwX0_woreOf_0 ++ dktX0_woreOf_1
theorem dksX0_woreOf_0 : cX0_woreOf.data.toList.drop 0 = dktX0_woreOf_0 := by decide +kernel
theorem dksX0_woreOf_1 : cX0_woreOf.data.toList.drop 24 = dktX0_woreOf_1 := dk_seg dksX0_woreOf_0 24 rfl rfl
theorem dX0_woreOf_0 : decode cX0_woreOf 0 = .ok (.iconst 0, 1) := dk_3 (dk_at dksX0_woreOf_0 0 rfl rfl)
theorem dX0_woreOf_1 : decode cX0_woreOf 1 = .ok (.istore_n 2, 1) := dk_61 (dk_at dksX0_woreOf_0 1 rfl rfl)
theorem dX0_woreOf_2 : decode cX0_woreOf 2 = .ok (.iconst 0, 1) := dk_3 (dk_at dksX0_woreOf_0 2 rfl rfl)
theorem dX0_woreOf_3 : decode cX0_woreOf 3 = .ok (.istore_n 3, 1) := dk_62 (dk_at dksX0_woreOf_0 3 rfl rfl)
theorem dX0_woreOf_4 : decode cX0_woreOf 4 = .ok (.iload_n 3, 1) := dk_29 (dk_at dksX0_woreOf_0 4 rfl rfl)
theorem dX0_woreOf_5 : decode cX0_woreOf 5 = .ok (.aload_n 0, 1) := dk_42 (dk_at dksX0_woreOf_0 5 rfl rfl)
theorem dX0_woreOf_6 : decode cX0_woreOf 6 = .ok (.getfield 30, 3) := dk_180 0 30 (dk_at dksX0_woreOf_0 6 rfl rfl)
theorem dX0_woreOf_9 : decode cX0_woreOf 9 = .ok (.getfield 126, 3) := dk_180 0 126 (dk_at dksX0_woreOf_0 9 rfl rfl)
theorem dX0_woreOf_12 : decode cX0_woreOf 12 = .ok (.if_icmp .ge 24, 3) := dk_162 0 24 (dk_at dksX0_woreOf_0 12 rfl rfl)
theorem dX0_woreOf_15 : decode cX0_woreOf 15 = .ok (.aload_n 0, 1) := dk_42 (dk_at dksX0_woreOf_0 15 rfl rfl)
theorem dX0_woreOf_16 : decode cX0_woreOf 16 = .ok (.iload_n 1, 1) := dk_27 (dk_at dksX0_woreOf_0 16 rfl rfl)
theorem dX0_woreOf_17 : decode cX0_woreOf 17 = .ok (.iload_n 3, 1) := dk_29 (dk_at dksX0_woreOf_0 17 rfl rfl)
theorem dX0_woreOf_18 : decode cX0_woreOf 18 = .ok (.invokevirtual 318, 3) := dk_182 1 62 (dk_at dksX0_woreOf_0 18 rfl rfl)
theorem dX0_woreOf_21 : decode cX0_woreOf 21 = .ok (.ifCond .eq 9, 3) := dk_153 0 9 (dk_at dksX0_woreOf_0 21 rfl rfl)
theorem dX0_woreOf_24 : decode cX0_woreOf 24 = .ok (.iload_n 2, 1) := dk_28 (dk_at dksX0_woreOf_1 0 rfl rfl)
theorem dX0_woreOf_25 : decode cX0_woreOf 25 = .ok (.iconst 1, 1) := dk_4 (dk_at dksX0_woreOf_1 1 rfl rfl)
theorem dX0_woreOf_26 : decode cX0_woreOf 26 = .ok (.iload_n 3, 1) := dk_29 (dk_at dksX0_woreOf_1 2 rfl rfl)
theorem dX0_woreOf_27 : decode cX0_woreOf 27 = .ok (.ishl, 1) := dk_120 (dk_at dksX0_woreOf_1 3 rfl rfl)
theorem dX0_woreOf_28 : decode cX0_woreOf 28 = .ok (.ior, 1) := dk_128 (dk_at dksX0_woreOf_1 4 rfl rfl)
theorem dX0_woreOf_29 : decode cX0_woreOf 29 = .ok (.istore_n 2, 1) := dk_61 (dk_at dksX0_woreOf_1 5 rfl rfl)
theorem dX0_woreOf_30 : decode cX0_woreOf 30 = .ok (.iinc 3 1, 3) := dk_132 3 1 (dk_at dksX0_woreOf_1 6 rfl rfl)
theorem dX0_woreOf_33 : decode cX0_woreOf 33 = .ok (.goto (-29), 3) := dk_167 255 227 (dk_at dksX0_woreOf_1 9 rfl rfl)
theorem dX0_woreOf_36 : decode cX0_woreOf 36 = .ok (.iload_n 2, 1) := dk_28 (dk_at dksX0_woreOf_1 12 rfl rfl)
theorem dX0_woreOf_37 : decode cX0_woreOf 37 = .ok (.ireturn, 1) := dk_172 (dk_at dksX0_woreOf_1 13 rfl rfl)
abbrev cX0_isAsSeen : ByteArray := prog_1_method_45_code
def yX0_isAsSeen : MethodName := ⟨RX0, "isAsSeen", "(II)Z"⟩
def dkwX0_isAsSeen_2 : List UInt8 := [4, 172]
abbrev dktX0_isAsSeen_2 : List UInt8 := dkwX0_isAsSeen_2 ++ []
def dkwX0_isAsSeen_1 : List UInt8 := [16, 6, 27, 104, 28, 96, 46, 42, 180, 0, 68, 29, 46, 159, 0, 5, 3, 172, 132, 3, 1, 167, 255, 213]
abbrev dktX0_isAsSeen_1 : List UInt8 := dkwX0_isAsSeen_1 ++ dktX0_isAsSeen_2
def dkwX0_isAsSeen_0 : List UInt8 := [3, 62, 29, 42, 180, 1, 59, 162, 0, 41, 42, 180, 0, 65, 29, 46, 27, 160, 0, 25, 42, 180, 0, 83]
abbrev dktX0_isAsSeen_0 : List UInt8 := dkwX0_isAsSeen_0 ++ dktX0_isAsSeen_1
theorem dksX0_isAsSeen_0 : cX0_isAsSeen.data.toList.drop 0 = dktX0_isAsSeen_0 := by decide +kernel
theorem dksX0_isAsSeen_1 : cX0_isAsSeen.data.toList.drop 24 = dktX0_isAsSeen_1 := dk_seg dksX0_isAsSeen_0 24 rfl rfl
theorem dksX0_isAsSeen_2 : cX0_isAsSeen.data.toList.drop 48 = dktX0_isAsSeen_2 := dk_seg dksX0_isAsSeen_1 24 rfl rfl
theorem dX0_isAsSeen_0 : decode cX0_isAsSeen 0 = .ok (.iconst 0, 1) := dk_3 (dk_at dksX0_isAsSeen_0 0 rfl rfl)
theorem dX0_isAsSeen_1 : decode cX0_isAsSeen 1 = .ok (.istore_n 3, 1) := dk_62 (dk_at dksX0_isAsSeen_0 1 rfl rfl)
theorem dX0_isAsSeen_2 : decode cX0_isAsSeen 2 = .ok (.iload_n 3, 1) := dk_29 (dk_at dksX0_isAsSeen_0 2 rfl rfl)
theorem dX0_isAsSeen_3 : decode cX0_isAsSeen 3 = .ok (.aload_n 0, 1) := dk_42 (dk_at dksX0_isAsSeen_0 3 rfl rfl)
theorem dX0_isAsSeen_4 : decode cX0_isAsSeen 4 = .ok (.getfield 315, 3) := dk_180 1 59 (dk_at dksX0_isAsSeen_0 4 rfl rfl)
theorem dX0_isAsSeen_7 : decode cX0_isAsSeen 7 = .ok (.if_icmp .ge 41, 3) := dk_162 0 41 (dk_at dksX0_isAsSeen_0 7 rfl rfl)
theorem dX0_isAsSeen_10 : decode cX0_isAsSeen 10 = .ok (.aload_n 0, 1) := dk_42 (dk_at dksX0_isAsSeen_0 10 rfl rfl)
theorem dX0_isAsSeen_11 : decode cX0_isAsSeen 11 = .ok (.getfield 65, 3) := dk_180 0 65 (dk_at dksX0_isAsSeen_0 11 rfl rfl)
theorem dX0_isAsSeen_14 : decode cX0_isAsSeen 14 = .ok (.iload_n 3, 1) := dk_29 (dk_at dksX0_isAsSeen_0 14 rfl rfl)
theorem dX0_isAsSeen_15 : decode cX0_isAsSeen 15 = .ok (.iaload, 1) := dk_46 (dk_at dksX0_isAsSeen_0 15 rfl rfl)
theorem dX0_isAsSeen_16 : decode cX0_isAsSeen 16 = .ok (.iload_n 1, 1) := dk_27 (dk_at dksX0_isAsSeen_0 16 rfl rfl)
theorem dX0_isAsSeen_17 : decode cX0_isAsSeen 17 = .ok (.if_icmp .ne 25, 3) := dk_160 0 25 (dk_at dksX0_isAsSeen_0 17 rfl rfl)
theorem dX0_isAsSeen_20 : decode cX0_isAsSeen 20 = .ok (.aload_n 0, 1) := dk_42 (dk_at dksX0_isAsSeen_0 20 rfl rfl)
theorem dX0_isAsSeen_21 : decode cX0_isAsSeen 21 = .ok (.getfield 83, 3) := dk_180 0 83 (dk_at dksX0_isAsSeen_0 21 rfl rfl)
theorem dX0_isAsSeen_24 : decode cX0_isAsSeen 24 = .ok (.bipush 6, 2) := dk_16 6 (dk_at dksX0_isAsSeen_1 0 rfl rfl)
theorem dX0_isAsSeen_26 : decode cX0_isAsSeen 26 = .ok (.iload_n 1, 1) := dk_27 (dk_at dksX0_isAsSeen_1 2 rfl rfl)
theorem dX0_isAsSeen_27 : decode cX0_isAsSeen 27 = .ok (.imul, 1) := dk_104 (dk_at dksX0_isAsSeen_1 3 rfl rfl)
theorem dX0_isAsSeen_28 : decode cX0_isAsSeen 28 = .ok (.iload_n 2, 1) := dk_28 (dk_at dksX0_isAsSeen_1 4 rfl rfl)
theorem dX0_isAsSeen_29 : decode cX0_isAsSeen 29 = .ok (.iadd, 1) := dk_96 (dk_at dksX0_isAsSeen_1 5 rfl rfl)
theorem dX0_isAsSeen_30 : decode cX0_isAsSeen 30 = .ok (.iaload, 1) := dk_46 (dk_at dksX0_isAsSeen_1 6 rfl rfl)
theorem dX0_isAsSeen_31 : decode cX0_isAsSeen 31 = .ok (.aload_n 0, 1) := dk_42 (dk_at dksX0_isAsSeen_1 7 rfl rfl)
theorem dX0_isAsSeen_32 : decode cX0_isAsSeen 32 = .ok (.getfield 68, 3) := dk_180 0 68 (dk_at dksX0_isAsSeen_1 8 rfl rfl)
theorem dX0_isAsSeen_35 : decode cX0_isAsSeen 35 = .ok (.iload_n 3, 1) := dk_29 (dk_at dksX0_isAsSeen_1 11 rfl rfl)
theorem dX0_isAsSeen_36 : decode cX0_isAsSeen 36 = .ok (.iaload, 1) := dk_46 (dk_at dksX0_isAsSeen_1 12 rfl rfl)
theorem dX0_isAsSeen_37 : decode cX0_isAsSeen 37 = .ok (.if_icmp .eq 5, 3) := dk_159 0 5 (dk_at dksX0_isAsSeen_1 13 rfl rfl)
theorem dX0_isAsSeen_40 : decode cX0_isAsSeen 40 = .ok (.iconst 0, 1) := dk_3 (dk_at dksX0_isAsSeen_1 16 rfl rfl)
theorem dX0_isAsSeen_41 : decode cX0_isAsSeen 41 = .ok (.ireturn, 1) := dk_172 (dk_at dksX0_isAsSeen_1 17 rfl rfl)
theorem dX0_isAsSeen_42 : decode cX0_isAsSeen 42 = .ok (.iinc 3 1, 3) := dk_132 3 1 (dk_at dksX0_isAsSeen_1 18 rfl rfl)
theorem dX0_isAsSeen_45 : decode cX0_isAsSeen 45 = .ok (.goto (-43), 3) := dk_167 255 213 (dk_at dksX0_isAsSeen_1 21 rfl rfl)
theorem dX0_isAsSeen_48 : decode cX0_isAsSeen 48 = .ok (.iconst 1, 1) := dk_4 (dk_at dksX0_isAsSeen_2 0 rfl rfl)
theorem dX0_isAsSeen_49 : decode cX0_isAsSeen 49 = .ok (.ireturn, 1) := dk_172 (dk_at dksX0_isAsSeen_2 1 rfl rfl)
abbrev cX0_who : ByteArray := prog_1_method_50_code
def yX0_who : MethodName := ⟨RX0, "who", "()I"⟩
def dkwX0_who_0 : List UInt8 := [42, 182, 1, 40, 42, 3, 3, 182, 1, 72, 172]
abbrev dktX0_who_0 : List UInt8 := dkwX0_who_0 ++ []
theorem dksX0_who_0 : cX0_who.data.toList.drop 0 = dktX0_who_0 := by decide +kernel
theorem dX0_who_0 : decode cX0_who 0 = .ok (.aload_n 0, 1) := dk_42 (dk_at dksX0_who_0 0 rfl rfl)
theorem dX0_who_1 : decode cX0_who 1 = .ok (.invokevirtual 296, 3) := dk_182 1 40 (dk_at dksX0_who_0 1 rfl rfl)
theorem dX0_who_4 : decode cX0_who 4 = .ok (.aload_n 0, 1) := dk_42 (dk_at dksX0_who_0 4 rfl rfl)
theorem dX0_who_5 : decode cX0_who 5 = .ok (.iconst 0, 1) := dk_3 (dk_at dksX0_who_0 5 rfl rfl)
theorem dX0_who_6 : decode cX0_who 6 = .ok (.iconst 0, 1) := dk_3 (dk_at dksX0_who_0 6 rfl rfl)
theorem dX0_who_7 : decode cX0_who 7 = .ok (.invokevirtual 328, 3) := dk_182 1 72 (dk_at dksX0_who_0 7 rfl rfl)
theorem dX0_who_10 : decode cX0_who 10 = .ok (.ireturn, 1) := dk_172 (dk_at dksX0_who_0 10 rfl rfl)
abbrev cX0_waysSeen : ByteArray := prog_1_method_49_code
def yX0_waysSeen : MethodName := ⟨RX0, "waysSeen", "(II)I"⟩
def dkwX0_waysSeen_3 : List UInt8 := [96, 28, 4, 21, 5, 120, 128, 182, 1, 72, 96, 54, 4, 132, 5, 1, 167, 255, 213, 21, 4, 172]
abbrev dktX0_waysSeen_3 : List UInt8 := dkwX0_waysSeen_3 ++ []
def dkwX0_waysSeen_2 : List UInt8 := [180, 0, 30, 180, 0, 126, 162, 0, 37, 29, 21, 5, 122, 4, 126, 4, 160, 0, 21, 21, 4, 42, 27, 4]
abbrev dktX0_waysSeen_2 : List UInt8 := dkwX0_waysSeen_2 ++ dktX0_waysSeen_3
def dkwX0_waysSeen_1 : List UInt8 := [182, 1, 72, 172, 42, 27, 182, 1, 66, 28, 2, 130, 126, 62, 3, 54, 4, 3, 54, 5, 21, 5, 42]
abbrev dktX0_waysSeen_1 : List UInt8 := dkwX0_waysSeen_1 ++ dktX0_waysSeen_2
def dkwX0_waysSeen_0 : List UInt8 := [27, 42, 180, 0, 134, 160, 0, 5, 4, 172, 42, 27, 182, 1, 69, 154, 0, 12, 42, 27, 4, 96, 28]
abbrev dktX0_waysSeen_0 : List UInt8 := dkwX0_waysSeen_0 ++ dktX0_waysSeen_1
theorem dksX0_waysSeen_0 : cX0_waysSeen.data.toList.drop 0 = dktX0_waysSeen_0 := by decide +kernel
theorem dksX0_waysSeen_1 : cX0_waysSeen.data.toList.drop 23 = dktX0_waysSeen_1 := dk_seg dksX0_waysSeen_0 23 rfl rfl
theorem dksX0_waysSeen_2 : cX0_waysSeen.data.toList.drop 46 = dktX0_waysSeen_2 := dk_seg dksX0_waysSeen_1 23 rfl rfl
theorem dksX0_waysSeen_3 : cX0_waysSeen.data.toList.drop 70 = dktX0_waysSeen_3 := dk_seg dksX0_waysSeen_2 24 rfl rfl
theorem dX0_waysSeen_0 : decode cX0_waysSeen 0 = .ok (.iload_n 1, 1) := dk_27 (dk_at dksX0_waysSeen_0 0 rfl rfl)
theorem dX0_waysSeen_1 : decode cX0_waysSeen 1 = .ok (.aload_n 0, 1) := dk_42 (dk_at dksX0_waysSeen_0 1 rfl rfl)
theorem dX0_waysSeen_2 : decode cX0_waysSeen 2 = .ok (.getfield 134, 3) := dk_180 0 134 (dk_at dksX0_waysSeen_0 2 rfl rfl)
theorem dX0_waysSeen_5 : decode cX0_waysSeen 5 = .ok (.if_icmp .ne 5, 3) := dk_160 0 5 (dk_at dksX0_waysSeen_0 5 rfl rfl)
theorem dX0_waysSeen_8 : decode cX0_waysSeen 8 = .ok (.iconst 1, 1) := dk_4 (dk_at dksX0_waysSeen_0 8 rfl rfl)
theorem dX0_waysSeen_9 : decode cX0_waysSeen 9 = .ok (.ireturn, 1) := dk_172 (dk_at dksX0_waysSeen_0 9 rfl rfl)
theorem dX0_waysSeen_10 : decode cX0_waysSeen 10 = .ok (.aload_n 0, 1) := dk_42 (dk_at dksX0_waysSeen_0 10 rfl rfl)
theorem dX0_waysSeen_11 : decode cX0_waysSeen 11 = .ok (.iload_n 1, 1) := dk_27 (dk_at dksX0_waysSeen_0 11 rfl rfl)
theorem dX0_waysSeen_12 : decode cX0_waysSeen 12 = .ok (.invokevirtual 325, 3) := dk_182 1 69 (dk_at dksX0_waysSeen_0 12 rfl rfl)
theorem dX0_waysSeen_15 : decode cX0_waysSeen 15 = .ok (.ifCond .ne 12, 3) := dk_154 0 12 (dk_at dksX0_waysSeen_0 15 rfl rfl)
theorem dX0_waysSeen_18 : decode cX0_waysSeen 18 = .ok (.aload_n 0, 1) := dk_42 (dk_at dksX0_waysSeen_0 18 rfl rfl)
theorem dX0_waysSeen_19 : decode cX0_waysSeen 19 = .ok (.iload_n 1, 1) := dk_27 (dk_at dksX0_waysSeen_0 19 rfl rfl)
theorem dX0_waysSeen_20 : decode cX0_waysSeen 20 = .ok (.iconst 1, 1) := dk_4 (dk_at dksX0_waysSeen_0 20 rfl rfl)
theorem dX0_waysSeen_21 : decode cX0_waysSeen 21 = .ok (.iadd, 1) := dk_96 (dk_at dksX0_waysSeen_0 21 rfl rfl)
theorem dX0_waysSeen_22 : decode cX0_waysSeen 22 = .ok (.iload_n 2, 1) := dk_28 (dk_at dksX0_waysSeen_0 22 rfl rfl)
theorem dX0_waysSeen_23 : decode cX0_waysSeen 23 = .ok (.invokevirtual 328, 3) := dk_182 1 72 (dk_at dksX0_waysSeen_1 0 rfl rfl)
theorem dX0_waysSeen_26 : decode cX0_waysSeen 26 = .ok (.ireturn, 1) := dk_172 (dk_at dksX0_waysSeen_1 3 rfl rfl)
theorem dX0_waysSeen_27 : decode cX0_waysSeen 27 = .ok (.aload_n 0, 1) := dk_42 (dk_at dksX0_waysSeen_1 4 rfl rfl)
theorem dX0_waysSeen_28 : decode cX0_waysSeen 28 = .ok (.iload_n 1, 1) := dk_27 (dk_at dksX0_waysSeen_1 5 rfl rfl)
theorem dX0_waysSeen_29 : decode cX0_waysSeen 29 = .ok (.invokevirtual 322, 3) := dk_182 1 66 (dk_at dksX0_waysSeen_1 6 rfl rfl)
theorem dX0_waysSeen_32 : decode cX0_waysSeen 32 = .ok (.iload_n 2, 1) := dk_28 (dk_at dksX0_waysSeen_1 9 rfl rfl)
theorem dX0_waysSeen_33 : decode cX0_waysSeen 33 = .ok (.iconst (-1), 1) := dk_2 (dk_at dksX0_waysSeen_1 10 rfl rfl)
theorem dX0_waysSeen_34 : decode cX0_waysSeen 34 = .ok (.ixor, 1) := dk_130 (dk_at dksX0_waysSeen_1 11 rfl rfl)
theorem dX0_waysSeen_35 : decode cX0_waysSeen 35 = .ok (.iand, 1) := dk_126 (dk_at dksX0_waysSeen_1 12 rfl rfl)
theorem dX0_waysSeen_36 : decode cX0_waysSeen 36 = .ok (.istore_n 3, 1) := dk_62 (dk_at dksX0_waysSeen_1 13 rfl rfl)
theorem dX0_waysSeen_37 : decode cX0_waysSeen 37 = .ok (.iconst 0, 1) := dk_3 (dk_at dksX0_waysSeen_1 14 rfl rfl)
theorem dX0_waysSeen_38 : decode cX0_waysSeen 38 = .ok (.istore 4, 2) := dk_54 4 (dk_at dksX0_waysSeen_1 15 rfl rfl)
theorem dX0_waysSeen_40 : decode cX0_waysSeen 40 = .ok (.iconst 0, 1) := dk_3 (dk_at dksX0_waysSeen_1 17 rfl rfl)
theorem dX0_waysSeen_41 : decode cX0_waysSeen 41 = .ok (.istore 5, 2) := dk_54 5 (dk_at dksX0_waysSeen_1 18 rfl rfl)
theorem dX0_waysSeen_43 : decode cX0_waysSeen 43 = .ok (.iload 5, 2) := dk_21 5 (dk_at dksX0_waysSeen_1 20 rfl rfl)
theorem dX0_waysSeen_45 : decode cX0_waysSeen 45 = .ok (.aload_n 0, 1) := dk_42 (dk_at dksX0_waysSeen_1 22 rfl rfl)
theorem dX0_waysSeen_46 : decode cX0_waysSeen 46 = .ok (.getfield 30, 3) := dk_180 0 30 (dk_at dksX0_waysSeen_2 0 rfl rfl)
theorem dX0_waysSeen_49 : decode cX0_waysSeen 49 = .ok (.getfield 126, 3) := dk_180 0 126 (dk_at dksX0_waysSeen_2 3 rfl rfl)
theorem dX0_waysSeen_52 : decode cX0_waysSeen 52 = .ok (.if_icmp .ge 37, 3) := dk_162 0 37 (dk_at dksX0_waysSeen_2 6 rfl rfl)
theorem dX0_waysSeen_55 : decode cX0_waysSeen 55 = .ok (.iload_n 3, 1) := dk_29 (dk_at dksX0_waysSeen_2 9 rfl rfl)
theorem dX0_waysSeen_56 : decode cX0_waysSeen 56 = .ok (.iload 5, 2) := dk_21 5 (dk_at dksX0_waysSeen_2 10 rfl rfl)
theorem dX0_waysSeen_58 : decode cX0_waysSeen 58 = .ok (.ishr, 1) := dk_122 (dk_at dksX0_waysSeen_2 12 rfl rfl)
theorem dX0_waysSeen_59 : decode cX0_waysSeen 59 = .ok (.iconst 1, 1) := dk_4 (dk_at dksX0_waysSeen_2 13 rfl rfl)
theorem dX0_waysSeen_60 : decode cX0_waysSeen 60 = .ok (.iand, 1) := dk_126 (dk_at dksX0_waysSeen_2 14 rfl rfl)
theorem dX0_waysSeen_61 : decode cX0_waysSeen 61 = .ok (.iconst 1, 1) := dk_4 (dk_at dksX0_waysSeen_2 15 rfl rfl)
theorem dX0_waysSeen_62 : decode cX0_waysSeen 62 = .ok (.if_icmp .ne 21, 3) := dk_160 0 21 (dk_at dksX0_waysSeen_2 16 rfl rfl)
theorem dX0_waysSeen_65 : decode cX0_waysSeen 65 = .ok (.iload 4, 2) := dk_21 4 (dk_at dksX0_waysSeen_2 19 rfl rfl)
theorem dX0_waysSeen_67 : decode cX0_waysSeen 67 = .ok (.aload_n 0, 1) := dk_42 (dk_at dksX0_waysSeen_2 21 rfl rfl)
theorem dX0_waysSeen_68 : decode cX0_waysSeen 68 = .ok (.iload_n 1, 1) := dk_27 (dk_at dksX0_waysSeen_2 22 rfl rfl)
theorem dX0_waysSeen_69 : decode cX0_waysSeen 69 = .ok (.iconst 1, 1) := dk_4 (dk_at dksX0_waysSeen_2 23 rfl rfl)
theorem dX0_waysSeen_70 : decode cX0_waysSeen 70 = .ok (.iadd, 1) := dk_96 (dk_at dksX0_waysSeen_3 0 rfl rfl)
theorem dX0_waysSeen_71 : decode cX0_waysSeen 71 = .ok (.iload_n 2, 1) := dk_28 (dk_at dksX0_waysSeen_3 1 rfl rfl)
theorem dX0_waysSeen_72 : decode cX0_waysSeen 72 = .ok (.iconst 1, 1) := dk_4 (dk_at dksX0_waysSeen_3 2 rfl rfl)
theorem dX0_waysSeen_73 : decode cX0_waysSeen 73 = .ok (.iload 5, 2) := dk_21 5 (dk_at dksX0_waysSeen_3 3 rfl rfl)
theorem dX0_waysSeen_75 : decode cX0_waysSeen 75 = .ok (.ishl, 1) := dk_120 (dk_at dksX0_waysSeen_3 5 rfl rfl)
theorem dX0_waysSeen_76 : decode cX0_waysSeen 76 = .ok (.ior, 1) := dk_128 (dk_at dksX0_waysSeen_3 6 rfl rfl)
theorem dX0_waysSeen_77 : decode cX0_waysSeen 77 = .ok (.invokevirtual 328, 3) := dk_182 1 72 (dk_at dksX0_waysSeen_3 7 rfl rfl)
theorem dX0_waysSeen_80 : decode cX0_waysSeen 80 = .ok (.iadd, 1) := dk_96 (dk_at dksX0_waysSeen_3 10 rfl rfl)
theorem dX0_waysSeen_81 : decode cX0_waysSeen 81 = .ok (.istore 4, 2) := dk_54 4 (dk_at dksX0_waysSeen_3 11 rfl rfl)
theorem dX0_waysSeen_83 : decode cX0_waysSeen 83 = .ok (.iinc 5 1, 3) := dk_132 5 1 (dk_at dksX0_waysSeen_3 13 rfl rfl)
theorem dX0_waysSeen_86 : decode cX0_waysSeen 86 = .ok (.goto (-43), 3) := dk_167 255 213 (dk_at dksX0_waysSeen_3 16 rfl rfl)
theorem dX0_waysSeen_89 : decode cX0_waysSeen 89 = .ok (.iload 4, 2) := dk_21 4 (dk_at dksX0_waysSeen_3 19 rfl rfl)
theorem dX0_waysSeen_91 : decode cX0_waysSeen 91 = .ok (.ireturn, 1) := dk_172 (dk_at dksX0_waysSeen_3 21 rfl rfl)
abbrev cX0_isSeen : ByteArray := prog_1_method_48_code
def yX0_isSeen : MethodName := ⟨RX0, "isSeen", "(I)Z"⟩
def dkwX0_isSeen_1 : List UInt8 := [132, 2, 1, 167, 255, 233, 3, 172]
abbrev dktX0_isSeen_1 : List UInt8 := dkwX0_isSeen_1 ++ []
def dkwX0_isSeen_0 : List UInt8 := [3, 61, 28, 42, 180, 1, 59, 162, 0, 21, 42, 180, 0, 65, 28, 46, 27, 160, 0, 5, 4, 172]
abbrev dktX0_isSeen_0 : List UInt8 := dkwX0_isSeen_0 ++ dktX0_isSeen_1
theorem dksX0_isSeen_0 : cX0_isSeen.data.toList.drop 0 = dktX0_isSeen_0 := by decide +kernel
theorem dksX0_isSeen_1 : cX0_isSeen.data.toList.drop 22 = dktX0_isSeen_1 := dk_seg dksX0_isSeen_0 22 rfl rfl
theorem dX0_isSeen_0 : decode cX0_isSeen 0 = .ok (.iconst 0, 1) := dk_3 (dk_at dksX0_isSeen_0 0 rfl rfl)
theorem dX0_isSeen_1 : decode cX0_isSeen 1 = .ok (.istore_n 2, 1) := dk_61 (dk_at dksX0_isSeen_0 1 rfl rfl)
theorem dX0_isSeen_2 : decode cX0_isSeen 2 = .ok (.iload_n 2, 1) := dk_28 (dk_at dksX0_isSeen_0 2 rfl rfl)
theorem dX0_isSeen_3 : decode cX0_isSeen 3 = .ok (.aload_n 0, 1) := dk_42 (dk_at dksX0_isSeen_0 3 rfl rfl)
theorem dX0_isSeen_4 : decode cX0_isSeen 4 = .ok (.getfield 315, 3) := dk_180 1 59 (dk_at dksX0_isSeen_0 4 rfl rfl)
theorem dX0_isSeen_7 : decode cX0_isSeen 7 = .ok (.if_icmp .ge 21, 3) := dk_162 0 21 (dk_at dksX0_isSeen_0 7 rfl rfl)
theorem dX0_isSeen_10 : decode cX0_isSeen 10 = .ok (.aload_n 0, 1) := dk_42 (dk_at dksX0_isSeen_0 10 rfl rfl)
theorem dX0_isSeen_11 : decode cX0_isSeen 11 = .ok (.getfield 65, 3) := dk_180 0 65 (dk_at dksX0_isSeen_0 11 rfl rfl)
theorem dX0_isSeen_14 : decode cX0_isSeen 14 = .ok (.iload_n 2, 1) := dk_28 (dk_at dksX0_isSeen_0 14 rfl rfl)
theorem dX0_isSeen_15 : decode cX0_isSeen 15 = .ok (.iaload, 1) := dk_46 (dk_at dksX0_isSeen_0 15 rfl rfl)
theorem dX0_isSeen_16 : decode cX0_isSeen 16 = .ok (.iload_n 1, 1) := dk_27 (dk_at dksX0_isSeen_0 16 rfl rfl)
theorem dX0_isSeen_17 : decode cX0_isSeen 17 = .ok (.if_icmp .ne 5, 3) := dk_160 0 5 (dk_at dksX0_isSeen_0 17 rfl rfl)
theorem dX0_isSeen_20 : decode cX0_isSeen 20 = .ok (.iconst 1, 1) := dk_4 (dk_at dksX0_isSeen_0 20 rfl rfl)
theorem dX0_isSeen_21 : decode cX0_isSeen 21 = .ok (.ireturn, 1) := dk_172 (dk_at dksX0_isSeen_0 21 rfl rfl)
theorem dX0_isSeen_22 : decode cX0_isSeen 22 = .ok (.iinc 2 1, 3) := dk_132 2 1 (dk_at dksX0_isSeen_1 0 rfl rfl)
theorem dX0_isSeen_25 : decode cX0_isSeen 25 = .ok (.goto (-23), 3) := dk_167 255 233 (dk_at dksX0_isSeen_1 3 rfl rfl)
theorem dX0_isSeen_28 : decode cX0_isSeen 28 = .ok (.iconst 0, 1) := dk_3 (dk_at dksX0_isSeen_1 6 rfl rfl)
theorem dX0_isSeen_29 : decode cX0_isSeen 29 = .ok (.ireturn, 1) := dk_172 (dk_at dksX0_isSeen_1 7 rfl rfl)
abbrev cX0_odds : ByteArray := prog_1_method_53_code
def yX0_odds : MethodName := ⟨RX0, "odds", "(II)J"⟩
def dkwX0_odds_3 : List UInt8 := [132, 5, 1, 167, 255, 218, 33, 42, 180, 0, 30, 180, 0, 126, 133, 28, 184, 1, 81, 173]
abbrev dktX0_odds_3 : List UInt8 := dkwX0_odds_3 ++ []
def dkwX0_odds_2 : List UInt8 := [42, 21, 5, 27, 182, 1, 56, 42, 180, 0, 47, 180, 0, 250, 27, 46, 161, 0, 7, 33, 10, 97, 66]
abbrev dktX0_odds_2 : List UInt8 := dkwX0_odds_2 ++ dktX0_odds_3
def dkwX0_odds_1 : List UInt8 := [154, 0, 7, 20, 1, 79, 173, 9, 66, 3, 54, 5, 21, 5, 42, 180, 0, 30, 180, 0, 126, 162, 0, 32]
abbrev dktX0_odds_1 : List UInt8 := dkwX0_odds_1 ++ dktX0_odds_2
def dkwX0_odds_0 : List UInt8 := [27, 184, 0, 161, 153, 0, 22, 28, 3, 4, 184, 0, 130, 153, 0, 13, 42, 180, 0, 30, 180, 0, 126]
abbrev dktX0_odds_0 : List UInt8 := dkwX0_odds_0 ++ dktX0_odds_1
theorem dksX0_odds_0 : cX0_odds.data.toList.drop 0 = dktX0_odds_0 := by decide +kernel
theorem dksX0_odds_1 : cX0_odds.data.toList.drop 23 = dktX0_odds_1 := dk_seg dksX0_odds_0 23 rfl rfl
theorem dksX0_odds_2 : cX0_odds.data.toList.drop 47 = dktX0_odds_2 := dk_seg dksX0_odds_1 24 rfl rfl
theorem dksX0_odds_3 : cX0_odds.data.toList.drop 70 = dktX0_odds_3 := dk_seg dksX0_odds_2 23 rfl rfl
theorem dX0_odds_0 : decode cX0_odds 0 = .ok (.iload_n 1, 1) := dk_27 (dk_at dksX0_odds_0 0 rfl rfl)
theorem dX0_odds_1 : decode cX0_odds 1 = .ok (.invokestatic 161, 3) := dk_184 0 161 (dk_at dksX0_odds_0 1 rfl rfl)
theorem dX0_odds_4 : decode cX0_odds 4 = .ok (.ifCond .eq 22, 3) := dk_153 0 22 (dk_at dksX0_odds_0 4 rfl rfl)
theorem dX0_odds_7 : decode cX0_odds 7 = .ok (.iload_n 2, 1) := dk_28 (dk_at dksX0_odds_0 7 rfl rfl)
theorem dX0_odds_8 : decode cX0_odds 8 = .ok (.iconst 0, 1) := dk_3 (dk_at dksX0_odds_0 8 rfl rfl)
theorem dX0_odds_9 : decode cX0_odds 9 = .ok (.iconst 1, 1) := dk_4 (dk_at dksX0_odds_0 9 rfl rfl)
theorem dX0_odds_10 : decode cX0_odds 10 = .ok (.invokestatic 130, 3) := dk_184 0 130 (dk_at dksX0_odds_0 10 rfl rfl)
theorem dX0_odds_13 : decode cX0_odds 13 = .ok (.ifCond .eq 13, 3) := dk_153 0 13 (dk_at dksX0_odds_0 13 rfl rfl)
theorem dX0_odds_16 : decode cX0_odds 16 = .ok (.aload_n 0, 1) := dk_42 (dk_at dksX0_odds_0 16 rfl rfl)
theorem dX0_odds_17 : decode cX0_odds 17 = .ok (.getfield 30, 3) := dk_180 0 30 (dk_at dksX0_odds_0 17 rfl rfl)
theorem dX0_odds_20 : decode cX0_odds 20 = .ok (.getfield 126, 3) := dk_180 0 126 (dk_at dksX0_odds_0 20 rfl rfl)
theorem dX0_odds_23 : decode cX0_odds 23 = .ok (.ifCond .ne 7, 3) := dk_154 0 7 (dk_at dksX0_odds_1 0 rfl rfl)
theorem dX0_odds_26 : decode cX0_odds 26 = .ok (.ldc2_w 335, 3) := dk_20 1 79 (dk_at dksX0_odds_1 3 rfl rfl)
theorem dX0_odds_29 : decode cX0_odds 29 = .ok (.lreturn, 1) := dk_173 (dk_at dksX0_odds_1 6 rfl rfl)
theorem dX0_odds_30 : decode cX0_odds 30 = .ok (.lconst 0, 1) := dk_9 (dk_at dksX0_odds_1 7 rfl rfl)
theorem dX0_odds_31 : decode cX0_odds 31 = .ok (.lstore_n 3, 1) := dk_66 (dk_at dksX0_odds_1 8 rfl rfl)
theorem dX0_odds_32 : decode cX0_odds 32 = .ok (.iconst 0, 1) := dk_3 (dk_at dksX0_odds_1 9 rfl rfl)
theorem dX0_odds_33 : decode cX0_odds 33 = .ok (.istore 5, 2) := dk_54 5 (dk_at dksX0_odds_1 10 rfl rfl)
theorem dX0_odds_35 : decode cX0_odds 35 = .ok (.iload 5, 2) := dk_21 5 (dk_at dksX0_odds_1 12 rfl rfl)
theorem dX0_odds_37 : decode cX0_odds 37 = .ok (.aload_n 0, 1) := dk_42 (dk_at dksX0_odds_1 14 rfl rfl)
theorem dX0_odds_38 : decode cX0_odds 38 = .ok (.getfield 30, 3) := dk_180 0 30 (dk_at dksX0_odds_1 15 rfl rfl)
theorem dX0_odds_41 : decode cX0_odds 41 = .ok (.getfield 126, 3) := dk_180 0 126 (dk_at dksX0_odds_1 18 rfl rfl)
theorem dX0_odds_44 : decode cX0_odds 44 = .ok (.if_icmp .ge 32, 3) := dk_162 0 32 (dk_at dksX0_odds_1 21 rfl rfl)
theorem dX0_odds_47 : decode cX0_odds 47 = .ok (.aload_n 0, 1) := dk_42 (dk_at dksX0_odds_2 0 rfl rfl)
theorem dX0_odds_48 : decode cX0_odds 48 = .ok (.iload 5, 2) := dk_21 5 (dk_at dksX0_odds_2 1 rfl rfl)
theorem dX0_odds_50 : decode cX0_odds 50 = .ok (.iload_n 1, 1) := dk_27 (dk_at dksX0_odds_2 3 rfl rfl)
theorem dX0_odds_51 : decode cX0_odds 51 = .ok (.invokevirtual 312, 3) := dk_182 1 56 (dk_at dksX0_odds_2 4 rfl rfl)
theorem dX0_odds_54 : decode cX0_odds 54 = .ok (.aload_n 0, 1) := dk_42 (dk_at dksX0_odds_2 7 rfl rfl)
theorem dX0_odds_55 : decode cX0_odds 55 = .ok (.getfield 47, 3) := dk_180 0 47 (dk_at dksX0_odds_2 8 rfl rfl)
theorem dX0_odds_58 : decode cX0_odds 58 = .ok (.getfield 250, 3) := dk_180 0 250 (dk_at dksX0_odds_2 11 rfl rfl)
theorem dX0_odds_61 : decode cX0_odds 61 = .ok (.iload_n 1, 1) := dk_27 (dk_at dksX0_odds_2 14 rfl rfl)
theorem dX0_odds_62 : decode cX0_odds 62 = .ok (.iaload, 1) := dk_46 (dk_at dksX0_odds_2 15 rfl rfl)
theorem dX0_odds_63 : decode cX0_odds 63 = .ok (.if_icmp .lt 7, 3) := dk_161 0 7 (dk_at dksX0_odds_2 16 rfl rfl)
theorem dX0_odds_66 : decode cX0_odds 66 = .ok (.lload_n 3, 1) := dk_33 (dk_at dksX0_odds_2 19 rfl rfl)
theorem dX0_odds_67 : decode cX0_odds 67 = .ok (.lconst 1, 1) := dk_10 (dk_at dksX0_odds_2 20 rfl rfl)
theorem dX0_odds_68 : decode cX0_odds 68 = .ok (.ladd, 1) := dk_97 (dk_at dksX0_odds_2 21 rfl rfl)
theorem dX0_odds_69 : decode cX0_odds 69 = .ok (.lstore_n 3, 1) := dk_66 (dk_at dksX0_odds_2 22 rfl rfl)
theorem dX0_odds_70 : decode cX0_odds 70 = .ok (.iinc 5 1, 3) := dk_132 5 1 (dk_at dksX0_odds_3 0 rfl rfl)
theorem dX0_odds_73 : decode cX0_odds 73 = .ok (.goto (-38), 3) := dk_167 255 218 (dk_at dksX0_odds_3 3 rfl rfl)
theorem dX0_odds_76 : decode cX0_odds 76 = .ok (.lload_n 3, 1) := dk_33 (dk_at dksX0_odds_3 6 rfl rfl)
theorem dX0_odds_77 : decode cX0_odds 77 = .ok (.aload_n 0, 1) := dk_42 (dk_at dksX0_odds_3 7 rfl rfl)
theorem dX0_odds_78 : decode cX0_odds 78 = .ok (.getfield 30, 3) := dk_180 0 30 (dk_at dksX0_odds_3 8 rfl rfl)
theorem dX0_odds_81 : decode cX0_odds 81 = .ok (.getfield 126, 3) := dk_180 0 126 (dk_at dksX0_odds_3 11 rfl rfl)
theorem dX0_odds_84 : decode cX0_odds 84 = .ok (.i2l, 1) := dk_133 (dk_at dksX0_odds_3 14 rfl rfl)
theorem dX0_odds_85 : decode cX0_odds 85 = .ok (.iload_n 2, 1) := dk_28 (dk_at dksX0_odds_3 15 rfl rfl)
theorem dX0_odds_86 : decode cX0_odds 86 = .ok (.invokestatic 337, 3) := dk_184 1 81 (dk_at dksX0_odds_3 16 rfl rfl)
theorem dX0_odds_89 : decode cX0_odds 89 = .ok (.lreturn, 1) := dk_173 (dk_at dksX0_odds_3 19 rfl rfl)
abbrev cX0_lowest : ByteArray := prog_1_method_52_code
def yX0_lowest : MethodName := ⟨RX0, "lowest", "(JJI)J"⟩
def dkwX0_lowest_0 : List UInt8 := [21, 4, 154, 0, 7, 30, 167, 0, 4, 32, 30, 32, 184, 1, 75, 109, 173]
abbrev dktX0_lowest_0 : List UInt8 := dkwX0_lowest_0 ++ []
theorem dksX0_lowest_0 : cX0_lowest.data.toList.drop 0 = dktX0_lowest_0 := by decide +kernel
theorem dX0_lowest_0 : decode cX0_lowest 0 = .ok (.iload 4, 2) := dk_21 4 (dk_at dksX0_lowest_0 0 rfl rfl)
theorem dX0_lowest_2 : decode cX0_lowest 2 = .ok (.ifCond .ne 7, 3) := dk_154 0 7 (dk_at dksX0_lowest_0 2 rfl rfl)
theorem dX0_lowest_5 : decode cX0_lowest 5 = .ok (.lload_n 0, 1) := dk_30 (dk_at dksX0_lowest_0 5 rfl rfl)
theorem dX0_lowest_6 : decode cX0_lowest 6 = .ok (.goto 4, 3) := dk_167 0 4 (dk_at dksX0_lowest_0 6 rfl rfl)
theorem dX0_lowest_9 : decode cX0_lowest 9 = .ok (.lload_n 2, 1) := dk_32 (dk_at dksX0_lowest_0 9 rfl rfl)
theorem dX0_lowest_10 : decode cX0_lowest 10 = .ok (.lload_n 0, 1) := dk_30 (dk_at dksX0_lowest_0 10 rfl rfl)
theorem dX0_lowest_11 : decode cX0_lowest 11 = .ok (.lload_n 2, 1) := dk_32 (dk_at dksX0_lowest_0 11 rfl rfl)
theorem dX0_lowest_12 : decode cX0_lowest 12 = .ok (.invokestatic 331, 3) := dk_184 1 75 (dk_at dksX0_lowest_0 12 rfl rfl)
theorem dX0_lowest_15 : decode cX0_lowest 15 = .ok (.ldiv, 1) := dk_109 (dk_at dksX0_lowest_0 15 rfl rfl)
theorem dX0_lowest_16 : decode cX0_lowest 16 = .ok (.lreturn, 1) := dk_173 (dk_at dksX0_lowest_0 16 rfl rfl)
abbrev cX0_divisor : ByteArray := prog_1_method_51_code
def yX0_divisor : MethodName := ⟨RX0, "divisor", "(JJ)J"⟩
def dkwX0_divisor_1 : List UInt8 := [22, 4, 173]
abbrev dktX0_divisor_1 : List UInt8 := dkwX0_divisor_1 ++ []
def dkwX0_divisor_0 : List UInt8 := [30, 55, 4, 32, 9, 148, 153, 0, 18, 22, 4, 32, 113, 55, 6, 32, 55, 4, 22, 6, 65, 167, 255, 238]
abbrev dktX0_divisor_0 : List UInt8 := dkwX0_divisor_0 ++ dktX0_divisor_1
theorem dksX0_divisor_0 : cX0_divisor.data.toList.drop 0 = dktX0_divisor_0 := by decide +kernel
theorem dksX0_divisor_1 : cX0_divisor.data.toList.drop 24 = dktX0_divisor_1 := dk_seg dksX0_divisor_0 24 rfl rfl
theorem dX0_divisor_0 : decode cX0_divisor 0 = .ok (.lload_n 0, 1) := dk_30 (dk_at dksX0_divisor_0 0 rfl rfl)
theorem dX0_divisor_1 : decode cX0_divisor 1 = .ok (.lstore 4, 2) := dk_55 4 (dk_at dksX0_divisor_0 1 rfl rfl)
theorem dX0_divisor_3 : decode cX0_divisor 3 = .ok (.lload_n 2, 1) := dk_32 (dk_at dksX0_divisor_0 3 rfl rfl)
theorem dX0_divisor_4 : decode cX0_divisor 4 = .ok (.lconst 0, 1) := dk_9 (dk_at dksX0_divisor_0 4 rfl rfl)
theorem dX0_divisor_5 : decode cX0_divisor 5 = .ok (.lcmp, 1) := dk_148 (dk_at dksX0_divisor_0 5 rfl rfl)
theorem dX0_divisor_6 : decode cX0_divisor 6 = .ok (.ifCond .eq 18, 3) := dk_153 0 18 (dk_at dksX0_divisor_0 6 rfl rfl)
theorem dX0_divisor_9 : decode cX0_divisor 9 = .ok (.lload 4, 2) := dk_22 4 (dk_at dksX0_divisor_0 9 rfl rfl)
theorem dX0_divisor_11 : decode cX0_divisor 11 = .ok (.lload_n 2, 1) := dk_32 (dk_at dksX0_divisor_0 11 rfl rfl)
theorem dX0_divisor_12 : decode cX0_divisor 12 = .ok (.lrem, 1) := dk_113 (dk_at dksX0_divisor_0 12 rfl rfl)
theorem dX0_divisor_13 : decode cX0_divisor 13 = .ok (.lstore 6, 2) := dk_55 6 (dk_at dksX0_divisor_0 13 rfl rfl)
theorem dX0_divisor_15 : decode cX0_divisor 15 = .ok (.lload_n 2, 1) := dk_32 (dk_at dksX0_divisor_0 15 rfl rfl)
theorem dX0_divisor_16 : decode cX0_divisor 16 = .ok (.lstore 4, 2) := dk_55 4 (dk_at dksX0_divisor_0 16 rfl rfl)
theorem dX0_divisor_18 : decode cX0_divisor 18 = .ok (.lload 6, 2) := dk_22 6 (dk_at dksX0_divisor_0 18 rfl rfl)
theorem dX0_divisor_20 : decode cX0_divisor 20 = .ok (.lstore_n 2, 1) := dk_65 (dk_at dksX0_divisor_0 20 rfl rfl)
theorem dX0_divisor_21 : decode cX0_divisor 21 = .ok (.goto (-18), 3) := dk_167 255 238 (dk_at dksX0_divisor_0 21 rfl rfl)
theorem dX0_divisor_24 : decode cX0_divisor 24 = .ok (.lload 4, 2) := dk_22 4 (dk_at dksX0_divisor_1 0 rfl rfl)
theorem dX0_divisor_26 : decode cX0_divisor 26 = .ok (.lreturn, 1) := dk_173 (dk_at dksX0_divisor_1 2 rfl rfl)
abbrev cX0_mean : ByteArray := prog_1_method_54_code
def yX0_mean : MethodName := ⟨RX0, "mean", "(II)J"⟩
def dkwX0_mean_3 : List UInt8 := [180, 0, 30, 180, 0, 126, 133, 28, 184, 1, 81, 173]
abbrev dktX0_mean_3 : List UInt8 := dkwX0_mean_3 ++ []
def dkwX0_mean_2 : List UInt8 := [33, 42, 42, 180, 0, 30, 27, 21, 5, 182, 0, 221, 133, 97, 66, 132, 5, 1, 167, 255, 226, 33, 42]
abbrev dktX0_mean_2 : List UInt8 := dkwX0_mean_2 ++ dktX0_mean_3
def dkwX0_mean_1 : List UInt8 := [154, 0, 7, 20, 1, 79, 173, 9, 66, 3, 54, 5, 21, 5, 42, 180, 0, 30, 180, 0, 126, 162, 0, 24]
abbrev dktX0_mean_1 : List UInt8 := dkwX0_mean_1 ++ dktX0_mean_2
def dkwX0_mean_0 : List UInt8 := [42, 27, 182, 0, 202, 153, 0, 22, 28, 3, 4, 184, 0, 130, 153, 0, 13, 42, 180, 0, 30, 180, 0, 126]
abbrev dktX0_mean_0 : List UInt8 := dkwX0_mean_0 ++ dktX0_mean_1
theorem dksX0_mean_0 : cX0_mean.data.toList.drop 0 = dktX0_mean_0 := by decide +kernel
theorem dksX0_mean_1 : cX0_mean.data.toList.drop 24 = dktX0_mean_1 := dk_seg dksX0_mean_0 24 rfl rfl
theorem dksX0_mean_2 : cX0_mean.data.toList.drop 48 = dktX0_mean_2 := dk_seg dksX0_mean_1 24 rfl rfl
theorem dksX0_mean_3 : cX0_mean.data.toList.drop 71 = dktX0_mean_3 := dk_seg dksX0_mean_2 23 rfl rfl
theorem dX0_mean_0 : decode cX0_mean 0 = .ok (.aload_n 0, 1) := dk_42 (dk_at dksX0_mean_0 0 rfl rfl)
theorem dX0_mean_1 : decode cX0_mean 1 = .ok (.iload_n 1, 1) := dk_27 (dk_at dksX0_mean_0 1 rfl rfl)
theorem dX0_mean_2 : decode cX0_mean 2 = .ok (.invokevirtual 202, 3) := dk_182 0 202 (dk_at dksX0_mean_0 2 rfl rfl)
theorem dX0_mean_5 : decode cX0_mean 5 = .ok (.ifCond .eq 22, 3) := dk_153 0 22 (dk_at dksX0_mean_0 5 rfl rfl)
theorem dX0_mean_8 : decode cX0_mean 8 = .ok (.iload_n 2, 1) := dk_28 (dk_at dksX0_mean_0 8 rfl rfl)
theorem dX0_mean_9 : decode cX0_mean 9 = .ok (.iconst 0, 1) := dk_3 (dk_at dksX0_mean_0 9 rfl rfl)
theorem dX0_mean_10 : decode cX0_mean 10 = .ok (.iconst 1, 1) := dk_4 (dk_at dksX0_mean_0 10 rfl rfl)
theorem dX0_mean_11 : decode cX0_mean 11 = .ok (.invokestatic 130, 3) := dk_184 0 130 (dk_at dksX0_mean_0 11 rfl rfl)
theorem dX0_mean_14 : decode cX0_mean 14 = .ok (.ifCond .eq 13, 3) := dk_153 0 13 (dk_at dksX0_mean_0 14 rfl rfl)
theorem dX0_mean_17 : decode cX0_mean 17 = .ok (.aload_n 0, 1) := dk_42 (dk_at dksX0_mean_0 17 rfl rfl)
theorem dX0_mean_18 : decode cX0_mean 18 = .ok (.getfield 30, 3) := dk_180 0 30 (dk_at dksX0_mean_0 18 rfl rfl)
theorem dX0_mean_21 : decode cX0_mean 21 = .ok (.getfield 126, 3) := dk_180 0 126 (dk_at dksX0_mean_0 21 rfl rfl)
theorem dX0_mean_24 : decode cX0_mean 24 = .ok (.ifCond .ne 7, 3) := dk_154 0 7 (dk_at dksX0_mean_1 0 rfl rfl)
theorem dX0_mean_27 : decode cX0_mean 27 = .ok (.ldc2_w 335, 3) := dk_20 1 79 (dk_at dksX0_mean_1 3 rfl rfl)
theorem dX0_mean_30 : decode cX0_mean 30 = .ok (.lreturn, 1) := dk_173 (dk_at dksX0_mean_1 6 rfl rfl)
theorem dX0_mean_31 : decode cX0_mean 31 = .ok (.lconst 0, 1) := dk_9 (dk_at dksX0_mean_1 7 rfl rfl)
theorem dX0_mean_32 : decode cX0_mean 32 = .ok (.lstore_n 3, 1) := dk_66 (dk_at dksX0_mean_1 8 rfl rfl)
theorem dX0_mean_33 : decode cX0_mean 33 = .ok (.iconst 0, 1) := dk_3 (dk_at dksX0_mean_1 9 rfl rfl)
theorem dX0_mean_34 : decode cX0_mean 34 = .ok (.istore 5, 2) := dk_54 5 (dk_at dksX0_mean_1 10 rfl rfl)
theorem dX0_mean_36 : decode cX0_mean 36 = .ok (.iload 5, 2) := dk_21 5 (dk_at dksX0_mean_1 12 rfl rfl)
theorem dX0_mean_38 : decode cX0_mean 38 = .ok (.aload_n 0, 1) := dk_42 (dk_at dksX0_mean_1 14 rfl rfl)
theorem dX0_mean_39 : decode cX0_mean 39 = .ok (.getfield 30, 3) := dk_180 0 30 (dk_at dksX0_mean_1 15 rfl rfl)
theorem dX0_mean_42 : decode cX0_mean 42 = .ok (.getfield 126, 3) := dk_180 0 126 (dk_at dksX0_mean_1 18 rfl rfl)
theorem dX0_mean_45 : decode cX0_mean 45 = .ok (.if_icmp .ge 24, 3) := dk_162 0 24 (dk_at dksX0_mean_1 21 rfl rfl)
theorem dX0_mean_48 : decode cX0_mean 48 = .ok (.lload_n 3, 1) := dk_33 (dk_at dksX0_mean_2 0 rfl rfl)
theorem dX0_mean_49 : decode cX0_mean 49 = .ok (.aload_n 0, 1) := dk_42 (dk_at dksX0_mean_2 1 rfl rfl)
theorem dX0_mean_50 : decode cX0_mean 50 = .ok (.aload_n 0, 1) := dk_42 (dk_at dksX0_mean_2 2 rfl rfl)
theorem dX0_mean_51 : decode cX0_mean 51 = .ok (.getfield 30, 3) := dk_180 0 30 (dk_at dksX0_mean_2 3 rfl rfl)
theorem dX0_mean_54 : decode cX0_mean 54 = .ok (.iload_n 1, 1) := dk_27 (dk_at dksX0_mean_2 6 rfl rfl)
theorem dX0_mean_55 : decode cX0_mean 55 = .ok (.iload 5, 2) := dk_21 5 (dk_at dksX0_mean_2 7 rfl rfl)
theorem dX0_mean_57 : decode cX0_mean 57 = .ok (.invokevirtual 221, 3) := dk_182 0 221 (dk_at dksX0_mean_2 9 rfl rfl)
theorem dX0_mean_60 : decode cX0_mean 60 = .ok (.i2l, 1) := dk_133 (dk_at dksX0_mean_2 12 rfl rfl)
theorem dX0_mean_61 : decode cX0_mean 61 = .ok (.ladd, 1) := dk_97 (dk_at dksX0_mean_2 13 rfl rfl)
theorem dX0_mean_62 : decode cX0_mean 62 = .ok (.lstore_n 3, 1) := dk_66 (dk_at dksX0_mean_2 14 rfl rfl)
theorem dX0_mean_63 : decode cX0_mean 63 = .ok (.iinc 5 1, 3) := dk_132 5 1 (dk_at dksX0_mean_2 15 rfl rfl)
theorem dX0_mean_66 : decode cX0_mean 66 = .ok (.goto (-30), 3) := dk_167 255 226 (dk_at dksX0_mean_2 18 rfl rfl)
theorem dX0_mean_69 : decode cX0_mean 69 = .ok (.lload_n 3, 1) := dk_33 (dk_at dksX0_mean_2 21 rfl rfl)
theorem dX0_mean_70 : decode cX0_mean 70 = .ok (.aload_n 0, 1) := dk_42 (dk_at dksX0_mean_2 22 rfl rfl)
theorem dX0_mean_71 : decode cX0_mean 71 = .ok (.getfield 30, 3) := dk_180 0 30 (dk_at dksX0_mean_3 0 rfl rfl)
theorem dX0_mean_74 : decode cX0_mean 74 = .ok (.getfield 126, 3) := dk_180 0 126 (dk_at dksX0_mean_3 3 rfl rfl)
theorem dX0_mean_77 : decode cX0_mean 77 = .ok (.i2l, 1) := dk_133 (dk_at dksX0_mean_3 6 rfl rfl)
theorem dX0_mean_78 : decode cX0_mean 78 = .ok (.iload_n 2, 1) := dk_28 (dk_at dksX0_mean_3 7 rfl rfl)
theorem dX0_mean_79 : decode cX0_mean 79 = .ok (.invokestatic 337, 3) := dk_184 1 81 (dk_at dksX0_mean_3 8 rfl rfl)
theorem dX0_mean_82 : decode cX0_mean 82 = .ok (.lreturn, 1) := dk_173 (dk_at dksX0_mean_3 11 rfl rfl)
abbrev cX0_book : ByteArray := prog_1_method_55_code
def yX0_book : MethodName := ⟨RX0, "book", "(II)I"⟩
def dkwX0_book_3 : List UInt8 := [180, 1, 85, 172]
abbrev dktX0_book_3 : List UInt8 := dkwX0_book_3 ++ []
def dkwX0_book_2 : List UInt8 := [42, 180, 1, 85, 27, 79, 42, 180, 0, 74, 42, 89, 180, 1, 85, 90, 4, 96, 181, 1, 85, 28, 79, 42]
abbrev dktX0_book_2 : List UInt8 := dkwX0_book_2 ++ dktX0_book_3
def dkwX0_book_1 : List UInt8 := [182, 0, 218, 154, 0, 5, 2, 172, 42, 180, 1, 85, 16, 8, 160, 0, 6, 16, 252, 172, 42, 180, 0, 71]
abbrev dktX0_book_1 : List UInt8 := dkwX0_book_1 ++ dktX0_book_2
def dkwX0_book_0 : List UInt8 := [27, 2, 160, 0, 10, 42, 3, 181, 1, 85, 3, 172, 42, 27, 182, 0, 202, 153, 0, 11, 42, 28]
abbrev dktX0_book_0 : List UInt8 := dkwX0_book_0 ++ dktX0_book_1
theorem dksX0_book_0 : cX0_book.data.toList.drop 0 = dktX0_book_0 := by decide +kernel
theorem dksX0_book_1 : cX0_book.data.toList.drop 22 = dktX0_book_1 := dk_seg dksX0_book_0 22 rfl rfl
theorem dksX0_book_2 : cX0_book.data.toList.drop 46 = dktX0_book_2 := dk_seg dksX0_book_1 24 rfl rfl
theorem dksX0_book_3 : cX0_book.data.toList.drop 70 = dktX0_book_3 := dk_seg dksX0_book_2 24 rfl rfl
theorem dX0_book_0 : decode cX0_book 0 = .ok (.iload_n 1, 1) := dk_27 (dk_at dksX0_book_0 0 rfl rfl)
theorem dX0_book_1 : decode cX0_book 1 = .ok (.iconst (-1), 1) := dk_2 (dk_at dksX0_book_0 1 rfl rfl)
theorem dX0_book_2 : decode cX0_book 2 = .ok (.if_icmp .ne 10, 3) := dk_160 0 10 (dk_at dksX0_book_0 2 rfl rfl)
theorem dX0_book_5 : decode cX0_book 5 = .ok (.aload_n 0, 1) := dk_42 (dk_at dksX0_book_0 5 rfl rfl)
theorem dX0_book_6 : decode cX0_book 6 = .ok (.iconst 0, 1) := dk_3 (dk_at dksX0_book_0 6 rfl rfl)
theorem dX0_book_7 : decode cX0_book 7 = .ok (.putfield 341, 3) := dk_181 1 85 (dk_at dksX0_book_0 7 rfl rfl)
theorem dX0_book_10 : decode cX0_book 10 = .ok (.iconst 0, 1) := dk_3 (dk_at dksX0_book_0 10 rfl rfl)
theorem dX0_book_11 : decode cX0_book 11 = .ok (.ireturn, 1) := dk_172 (dk_at dksX0_book_0 11 rfl rfl)
theorem dX0_book_12 : decode cX0_book 12 = .ok (.aload_n 0, 1) := dk_42 (dk_at dksX0_book_0 12 rfl rfl)
theorem dX0_book_13 : decode cX0_book 13 = .ok (.iload_n 1, 1) := dk_27 (dk_at dksX0_book_0 13 rfl rfl)
theorem dX0_book_14 : decode cX0_book 14 = .ok (.invokevirtual 202, 3) := dk_182 0 202 (dk_at dksX0_book_0 14 rfl rfl)
theorem dX0_book_17 : decode cX0_book 17 = .ok (.ifCond .eq 11, 3) := dk_153 0 11 (dk_at dksX0_book_0 17 rfl rfl)
theorem dX0_book_20 : decode cX0_book 20 = .ok (.aload_n 0, 1) := dk_42 (dk_at dksX0_book_0 20 rfl rfl)
theorem dX0_book_21 : decode cX0_book 21 = .ok (.iload_n 2, 1) := dk_28 (dk_at dksX0_book_0 21 rfl rfl)
theorem dX0_book_22 : decode cX0_book 22 = .ok (.invokevirtual 218, 3) := dk_182 0 218 (dk_at dksX0_book_1 0 rfl rfl)
theorem dX0_book_25 : decode cX0_book 25 = .ok (.ifCond .ne 5, 3) := dk_154 0 5 (dk_at dksX0_book_1 3 rfl rfl)
theorem dX0_book_28 : decode cX0_book 28 = .ok (.iconst (-1), 1) := dk_2 (dk_at dksX0_book_1 6 rfl rfl)
theorem dX0_book_29 : decode cX0_book 29 = .ok (.ireturn, 1) := dk_172 (dk_at dksX0_book_1 7 rfl rfl)
theorem dX0_book_30 : decode cX0_book 30 = .ok (.aload_n 0, 1) := dk_42 (dk_at dksX0_book_1 8 rfl rfl)
theorem dX0_book_31 : decode cX0_book 31 = .ok (.getfield 341, 3) := dk_180 1 85 (dk_at dksX0_book_1 9 rfl rfl)
theorem dX0_book_34 : decode cX0_book 34 = .ok (.bipush 8, 2) := dk_16 8 (dk_at dksX0_book_1 12 rfl rfl)
theorem dX0_book_36 : decode cX0_book 36 = .ok (.if_icmp .ne 6, 3) := dk_160 0 6 (dk_at dksX0_book_1 14 rfl rfl)
theorem dX0_book_39 : decode cX0_book 39 = .ok (.bipush (-4), 2) := dk_16 252 (dk_at dksX0_book_1 17 rfl rfl)
theorem dX0_book_41 : decode cX0_book 41 = .ok (.ireturn, 1) := dk_172 (dk_at dksX0_book_1 19 rfl rfl)
theorem dX0_book_42 : decode cX0_book 42 = .ok (.aload_n 0, 1) := dk_42 (dk_at dksX0_book_1 20 rfl rfl)
theorem dX0_book_43 : decode cX0_book 43 = .ok (.getfield 71, 3) := dk_180 0 71 (dk_at dksX0_book_1 21 rfl rfl)
theorem dX0_book_46 : decode cX0_book 46 = .ok (.aload_n 0, 1) := dk_42 (dk_at dksX0_book_2 0 rfl rfl)
theorem dX0_book_47 : decode cX0_book 47 = .ok (.getfield 341, 3) := dk_180 1 85 (dk_at dksX0_book_2 1 rfl rfl)
theorem dX0_book_50 : decode cX0_book 50 = .ok (.iload_n 1, 1) := dk_27 (dk_at dksX0_book_2 4 rfl rfl)
theorem dX0_book_51 : decode cX0_book 51 = .ok (.iastore, 1) := dk_79 (dk_at dksX0_book_2 5 rfl rfl)
theorem dX0_book_52 : decode cX0_book 52 = .ok (.aload_n 0, 1) := dk_42 (dk_at dksX0_book_2 6 rfl rfl)
theorem dX0_book_53 : decode cX0_book 53 = .ok (.getfield 74, 3) := dk_180 0 74 (dk_at dksX0_book_2 7 rfl rfl)
theorem dX0_book_56 : decode cX0_book 56 = .ok (.aload_n 0, 1) := dk_42 (dk_at dksX0_book_2 10 rfl rfl)
theorem dX0_book_57 : decode cX0_book 57 = .ok (.dup, 1) := dk_89 (dk_at dksX0_book_2 11 rfl rfl)
theorem dX0_book_58 : decode cX0_book 58 = .ok (.getfield 341, 3) := dk_180 1 85 (dk_at dksX0_book_2 12 rfl rfl)
theorem dX0_book_61 : decode cX0_book 61 = .ok (.dup_x1, 1) := dk_90 (dk_at dksX0_book_2 15 rfl rfl)
theorem dX0_book_62 : decode cX0_book 62 = .ok (.iconst 1, 1) := dk_4 (dk_at dksX0_book_2 16 rfl rfl)
theorem dX0_book_63 : decode cX0_book 63 = .ok (.iadd, 1) := dk_96 (dk_at dksX0_book_2 17 rfl rfl)
theorem dX0_book_64 : decode cX0_book 64 = .ok (.putfield 341, 3) := dk_181 1 85 (dk_at dksX0_book_2 18 rfl rfl)
theorem dX0_book_67 : decode cX0_book 67 = .ok (.iload_n 2, 1) := dk_28 (dk_at dksX0_book_2 21 rfl rfl)
theorem dX0_book_68 : decode cX0_book 68 = .ok (.iastore, 1) := dk_79 (dk_at dksX0_book_2 22 rfl rfl)
theorem dX0_book_69 : decode cX0_book 69 = .ok (.aload_n 0, 1) := dk_42 (dk_at dksX0_book_2 23 rfl rfl)
theorem dX0_book_70 : decode cX0_book 70 = .ok (.getfield 341, 3) := dk_180 1 85 (dk_at dksX0_book_3 0 rfl rfl)
theorem dX0_book_73 : decode cX0_book 73 = .ok (.ireturn, 1) := dk_172 (dk_at dksX0_book_3 3 rfl rfl)
abbrev cX0_looked : ByteArray := prog_1_method_56_code
def yX0_looked : MethodName := ⟨RX0, "looked", "()I"⟩
def dkwX0_looked_1 : List UInt8 := [180, 0, 74, 27, 46, 159, 0, 5, 27, 172, 132, 1, 1, 167, 255, 221, 16, 251, 172]
abbrev dktX0_looked_1 : List UInt8 := dkwX0_looked_1 ++ []
def dkwX0_looked_0 : List UInt8 := [3, 60, 27, 42, 180, 1, 85, 162, 0, 33, 42, 180, 0, 30, 42, 180, 0, 71, 27, 46, 182, 0, 211, 42]
abbrev dktX0_looked_0 : List UInt8 := dkwX0_looked_0 ++ dktX0_looked_1
theorem dksX0_looked_0 : cX0_looked.data.toList.drop 0 = dktX0_looked_0 := by decide +kernel
theorem dksX0_looked_1 : cX0_looked.data.toList.drop 24 = dktX0_looked_1 := dk_seg dksX0_looked_0 24 rfl rfl
theorem dX0_looked_0 : decode cX0_looked 0 = .ok (.iconst 0, 1) := dk_3 (dk_at dksX0_looked_0 0 rfl rfl)
theorem dX0_looked_1 : decode cX0_looked 1 = .ok (.istore_n 1, 1) := dk_60 (dk_at dksX0_looked_0 1 rfl rfl)
theorem dX0_looked_2 : decode cX0_looked 2 = .ok (.iload_n 1, 1) := dk_27 (dk_at dksX0_looked_0 2 rfl rfl)
theorem dX0_looked_3 : decode cX0_looked 3 = .ok (.aload_n 0, 1) := dk_42 (dk_at dksX0_looked_0 3 rfl rfl)
theorem dX0_looked_4 : decode cX0_looked 4 = .ok (.getfield 341, 3) := dk_180 1 85 (dk_at dksX0_looked_0 4 rfl rfl)
theorem dX0_looked_7 : decode cX0_looked 7 = .ok (.if_icmp .ge 33, 3) := dk_162 0 33 (dk_at dksX0_looked_0 7 rfl rfl)
theorem dX0_looked_10 : decode cX0_looked 10 = .ok (.aload_n 0, 1) := dk_42 (dk_at dksX0_looked_0 10 rfl rfl)
theorem dX0_looked_11 : decode cX0_looked 11 = .ok (.getfield 30, 3) := dk_180 0 30 (dk_at dksX0_looked_0 11 rfl rfl)
theorem dX0_looked_14 : decode cX0_looked 14 = .ok (.aload_n 0, 1) := dk_42 (dk_at dksX0_looked_0 14 rfl rfl)
theorem dX0_looked_15 : decode cX0_looked 15 = .ok (.getfield 71, 3) := dk_180 0 71 (dk_at dksX0_looked_0 15 rfl rfl)
theorem dX0_looked_18 : decode cX0_looked 18 = .ok (.iload_n 1, 1) := dk_27 (dk_at dksX0_looked_0 18 rfl rfl)
theorem dX0_looked_19 : decode cX0_looked 19 = .ok (.iaload, 1) := dk_46 (dk_at dksX0_looked_0 19 rfl rfl)
theorem dX0_looked_20 : decode cX0_looked 20 = .ok (.invokevirtual 211, 3) := dk_182 0 211 (dk_at dksX0_looked_0 20 rfl rfl)
theorem dX0_looked_23 : decode cX0_looked 23 = .ok (.aload_n 0, 1) := dk_42 (dk_at dksX0_looked_0 23 rfl rfl)
theorem dX0_looked_24 : decode cX0_looked 24 = .ok (.getfield 74, 3) := dk_180 0 74 (dk_at dksX0_looked_1 0 rfl rfl)
theorem dX0_looked_27 : decode cX0_looked 27 = .ok (.iload_n 1, 1) := dk_27 (dk_at dksX0_looked_1 3 rfl rfl)
theorem dX0_looked_28 : decode cX0_looked 28 = .ok (.iaload, 1) := dk_46 (dk_at dksX0_looked_1 4 rfl rfl)
theorem dX0_looked_29 : decode cX0_looked 29 = .ok (.if_icmp .eq 5, 3) := dk_159 0 5 (dk_at dksX0_looked_1 5 rfl rfl)
theorem dX0_looked_32 : decode cX0_looked 32 = .ok (.iload_n 1, 1) := dk_27 (dk_at dksX0_looked_1 8 rfl rfl)
theorem dX0_looked_33 : decode cX0_looked 33 = .ok (.ireturn, 1) := dk_172 (dk_at dksX0_looked_1 9 rfl rfl)
theorem dX0_looked_34 : decode cX0_looked 34 = .ok (.iinc 1 1, 3) := dk_132 1 1 (dk_at dksX0_looked_1 10 rfl rfl)
theorem dX0_looked_37 : decode cX0_looked 37 = .ok (.goto (-35), 3) := dk_167 255 221 (dk_at dksX0_looked_1 13 rfl rfl)
theorem dX0_looked_40 : decode cX0_looked 40 = .ok (.bipush (-5), 2) := dk_16 251 (dk_at dksX0_looked_1 16 rfl rfl)
theorem dX0_looked_42 : decode cX0_looked 42 = .ok (.ireturn, 1) := dk_172 (dk_at dksX0_looked_1 18 rfl rfl)
abbrev cX0_judge : ByteArray := prog_1_method_58_code
def yX0_judge : MethodName := ⟨RX0, "judge", "(II)I"⟩
def dkwX0_judge_1 : List UInt8 := [182, 1, 99, 172, 78, 16, 244, 172]
abbrev dktX0_judge_1 : List UInt8 := dkwX0_judge_1 ++ []
def dkwX0_judge_0 : List UInt8 := [27, 184, 1, 92, 154, 0, 5, 2, 172, 42, 42, 180, 0, 79, 27, 50, 180, 1, 95, 192, 1, 98, 28]
abbrev dktX0_judge_0 : List UInt8 := dkwX0_judge_0 ++ dktX0_judge_1
theorem dksX0_judge_0 : cX0_judge.data.toList.drop 0 = dktX0_judge_0 := by decide +kernel
theorem dksX0_judge_1 : cX0_judge.data.toList.drop 23 = dktX0_judge_1 := dk_seg dksX0_judge_0 23 rfl rfl
theorem dX0_judge_0 : decode cX0_judge 0 = .ok (.iload_n 1, 1) := dk_27 (dk_at dksX0_judge_0 0 rfl rfl)
theorem dX0_judge_1 : decode cX0_judge 1 = .ok (.invokestatic 348, 3) := dk_184 1 92 (dk_at dksX0_judge_0 1 rfl rfl)
theorem dX0_judge_4 : decode cX0_judge 4 = .ok (.ifCond .ne 5, 3) := dk_154 0 5 (dk_at dksX0_judge_0 4 rfl rfl)
theorem dX0_judge_7 : decode cX0_judge 7 = .ok (.iconst (-1), 1) := dk_2 (dk_at dksX0_judge_0 7 rfl rfl)
theorem dX0_judge_8 : decode cX0_judge 8 = .ok (.ireturn, 1) := dk_172 (dk_at dksX0_judge_0 8 rfl rfl)
theorem dX0_judge_9 : decode cX0_judge 9 = .ok (.aload_n 0, 1) := dk_42 (dk_at dksX0_judge_0 9 rfl rfl)
theorem dX0_judge_10 : decode cX0_judge 10 = .ok (.aload_n 0, 1) := dk_42 (dk_at dksX0_judge_0 10 rfl rfl)
theorem dX0_judge_11 : decode cX0_judge 11 = .ok (.getfield 79, 3) := dk_180 0 79 (dk_at dksX0_judge_0 11 rfl rfl)
theorem dX0_judge_14 : decode cX0_judge 14 = .ok (.iload_n 1, 1) := dk_27 (dk_at dksX0_judge_0 14 rfl rfl)
theorem dX0_judge_15 : decode cX0_judge 15 = .ok (.aaload, 1) := dk_50 (dk_at dksX0_judge_0 15 rfl rfl)
theorem dX0_judge_16 : decode cX0_judge 16 = .ok (.getfield 351, 3) := dk_180 1 95 (dk_at dksX0_judge_0 16 rfl rfl)
theorem dX0_judge_19 : decode cX0_judge 19 = .ok (.checkcast 354, 3) := dk_192 1 98 (dk_at dksX0_judge_0 19 rfl rfl)
theorem dX0_judge_22 : decode cX0_judge 22 = .ok (.iload_n 2, 1) := dk_28 (dk_at dksX0_judge_0 22 rfl rfl)
theorem dX0_judge_23 : decode cX0_judge 23 = .ok (.invokevirtual 355, 3) := dk_182 1 99 (dk_at dksX0_judge_1 0 rfl rfl)
theorem dX0_judge_26 : decode cX0_judge 26 = .ok (.ireturn, 1) := dk_172 (dk_at dksX0_judge_1 3 rfl rfl)
theorem dX0_judge_27 : decode cX0_judge 27 = .ok (.astore_n 3, 1) := dk_78 (dk_at dksX0_judge_1 4 rfl rfl)
theorem dX0_judge_28 : decode cX0_judge 28 = .ok (.bipush (-12), 2) := dk_16 244 (dk_at dksX0_judge_1 5 rfl rfl)
theorem dX0_judge_30 : decode cX0_judge 30 = .ok (.ireturn, 1) := dk_172 (dk_at dksX0_judge_1 7 rfl rfl)
abbrev cX0_isTape : ByteArray := prog_1_method_67_code
def yX0_isTape : MethodName := ⟨RX0, "isTape", "(I)Z"⟩
def dkwX0_isTape_0 : List UInt8 := [26, 3, 8, 184, 0, 130, 172]
abbrev dktX0_isTape_0 : List UInt8 := dkwX0_isTape_0 ++ []
theorem dksX0_isTape_0 : cX0_isTape.data.toList.drop 0 = dktX0_isTape_0 := by decide +kernel
theorem dX0_isTape_0 : decode cX0_isTape 0 = .ok (.iload_n 0, 1) := dk_26 (dk_at dksX0_isTape_0 0 rfl rfl)
theorem dX0_isTape_1 : decode cX0_isTape 1 = .ok (.iconst 0, 1) := dk_3 (dk_at dksX0_isTape_0 1 rfl rfl)
theorem dX0_isTape_2 : decode cX0_isTape 2 = .ok (.iconst 5, 1) := dk_8 (dk_at dksX0_isTape_0 2 rfl rfl)
theorem dX0_isTape_3 : decode cX0_isTape 3 = .ok (.invokestatic 130, 3) := dk_184 0 130 (dk_at dksX0_isTape_0 3 rfl rfl)
theorem dX0_isTape_6 : decode cX0_isTape 6 = .ok (.ireturn, 1) := dk_172 (dk_at dksX0_isTape_0 6 rfl rfl)
abbrev cX0_firstOther : ByteArray := prog_1_method_57_code
def yX0_firstOther : MethodName := ⟨RX0, "firstOther", "([BI)I"⟩
def dkwX0_firstOther_3 : List UInt8 := [16, 251, 172, 58, 4, 29, 16, 100, 96, 172, 58, 4, 29, 16, 100, 96, 172]
abbrev dktX0_firstOther_3 : List UInt8 := dkwX0_firstOther_3 ++ []
def dkwX0_firstOther_2 : List UInt8 := [22, 4, 136, 51, 42, 180, 0, 30, 180, 0, 137, 29, 51, 159, 0, 5, 29, 172, 132, 3, 1, 167, 255, 190]
abbrev dktX0_firstOther_2 : List UInt8 := dkwX0_firstOther_2 ++ dktX0_firstOther_3
def dkwX0_firstOther_1 : List UInt8 := [133, 148, 156, 0, 10, 22, 4, 9, 148, 156, 0, 13, 187, 0, 242, 89, 16, 243, 183, 1, 88, 191, 43]
abbrev dktX0_firstOther_1 : List UInt8 := dkwX0_firstOther_1 ++ dktX0_firstOther_2
def dkwX0_firstOther_0 : List UInt8 := [3, 62, 29, 42, 180, 0, 30, 180, 0, 126, 162, 0, 61, 28, 133, 29, 133, 97, 55, 4, 22, 4, 43, 190]
abbrev dktX0_firstOther_0 : List UInt8 := dkwX0_firstOther_0 ++ dktX0_firstOther_1
theorem dksX0_firstOther_0 : cX0_firstOther.data.toList.drop 0 = dktX0_firstOther_0 := by decide +kernel
theorem dksX0_firstOther_1 : cX0_firstOther.data.toList.drop 24 = dktX0_firstOther_1 := dk_seg dksX0_firstOther_0 24 rfl rfl
theorem dksX0_firstOther_2 : cX0_firstOther.data.toList.drop 47 = dktX0_firstOther_2 := dk_seg dksX0_firstOther_1 23 rfl rfl
theorem dksX0_firstOther_3 : cX0_firstOther.data.toList.drop 71 = dktX0_firstOther_3 := dk_seg dksX0_firstOther_2 24 rfl rfl
theorem dX0_firstOther_0 : decode cX0_firstOther 0 = .ok (.iconst 0, 1) := dk_3 (dk_at dksX0_firstOther_0 0 rfl rfl)
theorem dX0_firstOther_1 : decode cX0_firstOther 1 = .ok (.istore_n 3, 1) := dk_62 (dk_at dksX0_firstOther_0 1 rfl rfl)
theorem dX0_firstOther_2 : decode cX0_firstOther 2 = .ok (.iload_n 3, 1) := dk_29 (dk_at dksX0_firstOther_0 2 rfl rfl)
theorem dX0_firstOther_3 : decode cX0_firstOther 3 = .ok (.aload_n 0, 1) := dk_42 (dk_at dksX0_firstOther_0 3 rfl rfl)
theorem dX0_firstOther_4 : decode cX0_firstOther 4 = .ok (.getfield 30, 3) := dk_180 0 30 (dk_at dksX0_firstOther_0 4 rfl rfl)
theorem dX0_firstOther_7 : decode cX0_firstOther 7 = .ok (.getfield 126, 3) := dk_180 0 126 (dk_at dksX0_firstOther_0 7 rfl rfl)
theorem dX0_firstOther_10 : decode cX0_firstOther 10 = .ok (.if_icmp .ge 61, 3) := dk_162 0 61 (dk_at dksX0_firstOther_0 10 rfl rfl)
theorem dX0_firstOther_13 : decode cX0_firstOther 13 = .ok (.iload_n 2, 1) := dk_28 (dk_at dksX0_firstOther_0 13 rfl rfl)
theorem dX0_firstOther_14 : decode cX0_firstOther 14 = .ok (.i2l, 1) := dk_133 (dk_at dksX0_firstOther_0 14 rfl rfl)
theorem dX0_firstOther_15 : decode cX0_firstOther 15 = .ok (.iload_n 3, 1) := dk_29 (dk_at dksX0_firstOther_0 15 rfl rfl)
theorem dX0_firstOther_16 : decode cX0_firstOther 16 = .ok (.i2l, 1) := dk_133 (dk_at dksX0_firstOther_0 16 rfl rfl)
theorem dX0_firstOther_17 : decode cX0_firstOther 17 = .ok (.ladd, 1) := dk_97 (dk_at dksX0_firstOther_0 17 rfl rfl)
theorem dX0_firstOther_18 : decode cX0_firstOther 18 = .ok (.lstore 4, 2) := dk_55 4 (dk_at dksX0_firstOther_0 18 rfl rfl)
theorem dX0_firstOther_20 : decode cX0_firstOther 20 = .ok (.lload 4, 2) := dk_22 4 (dk_at dksX0_firstOther_0 20 rfl rfl)
theorem dX0_firstOther_22 : decode cX0_firstOther 22 = .ok (.aload_n 1, 1) := dk_43 (dk_at dksX0_firstOther_0 22 rfl rfl)
theorem dX0_firstOther_23 : decode cX0_firstOther 23 = .ok (.arraylength, 1) := dk_190 (dk_at dksX0_firstOther_0 23 rfl rfl)
theorem dX0_firstOther_24 : decode cX0_firstOther 24 = .ok (.i2l, 1) := dk_133 (dk_at dksX0_firstOther_1 0 rfl rfl)
theorem dX0_firstOther_25 : decode cX0_firstOther 25 = .ok (.lcmp, 1) := dk_148 (dk_at dksX0_firstOther_1 1 rfl rfl)
theorem dX0_firstOther_26 : decode cX0_firstOther 26 = .ok (.ifCond .ge 10, 3) := dk_156 0 10 (dk_at dksX0_firstOther_1 2 rfl rfl)
theorem dX0_firstOther_29 : decode cX0_firstOther 29 = .ok (.lload 4, 2) := dk_22 4 (dk_at dksX0_firstOther_1 5 rfl rfl)
theorem dX0_firstOther_31 : decode cX0_firstOther 31 = .ok (.lconst 0, 1) := dk_9 (dk_at dksX0_firstOther_1 7 rfl rfl)
theorem dX0_firstOther_32 : decode cX0_firstOther 32 = .ok (.lcmp, 1) := dk_148 (dk_at dksX0_firstOther_1 8 rfl rfl)
theorem dX0_firstOther_33 : decode cX0_firstOther 33 = .ok (.ifCond .ge 13, 3) := dk_156 0 13 (dk_at dksX0_firstOther_1 9 rfl rfl)
theorem dX0_firstOther_36 : decode cX0_firstOther 36 = .ok (.new 242, 3) := dk_187 0 242 (dk_at dksX0_firstOther_1 12 rfl rfl)
theorem dX0_firstOther_39 : decode cX0_firstOther 39 = .ok (.dup, 1) := dk_89 (dk_at dksX0_firstOther_1 15 rfl rfl)
theorem dX0_firstOther_40 : decode cX0_firstOther 40 = .ok (.bipush (-13), 2) := dk_16 243 (dk_at dksX0_firstOther_1 16 rfl rfl)
theorem dX0_firstOther_42 : decode cX0_firstOther 42 = .ok (.invokespecial 344, 3) := dk_183 1 88 (dk_at dksX0_firstOther_1 18 rfl rfl)
theorem dX0_firstOther_45 : decode cX0_firstOther 45 = .ok (.athrow, 1) := dk_191 (dk_at dksX0_firstOther_1 21 rfl rfl)
theorem dX0_firstOther_46 : decode cX0_firstOther 46 = .ok (.aload_n 1, 1) := dk_43 (dk_at dksX0_firstOther_1 22 rfl rfl)
theorem dX0_firstOther_47 : decode cX0_firstOther 47 = .ok (.lload 4, 2) := dk_22 4 (dk_at dksX0_firstOther_2 0 rfl rfl)
theorem dX0_firstOther_49 : decode cX0_firstOther 49 = .ok (.l2i, 1) := dk_136 (dk_at dksX0_firstOther_2 2 rfl rfl)
theorem dX0_firstOther_50 : decode cX0_firstOther 50 = .ok (.baload, 1) := dk_51 (dk_at dksX0_firstOther_2 3 rfl rfl)
theorem dX0_firstOther_51 : decode cX0_firstOther 51 = .ok (.aload_n 0, 1) := dk_42 (dk_at dksX0_firstOther_2 4 rfl rfl)
theorem dX0_firstOther_52 : decode cX0_firstOther 52 = .ok (.getfield 30, 3) := dk_180 0 30 (dk_at dksX0_firstOther_2 5 rfl rfl)
theorem dX0_firstOther_55 : decode cX0_firstOther 55 = .ok (.getfield 137, 3) := dk_180 0 137 (dk_at dksX0_firstOther_2 8 rfl rfl)
theorem dX0_firstOther_58 : decode cX0_firstOther 58 = .ok (.iload_n 3, 1) := dk_29 (dk_at dksX0_firstOther_2 11 rfl rfl)
theorem dX0_firstOther_59 : decode cX0_firstOther 59 = .ok (.baload, 1) := dk_51 (dk_at dksX0_firstOther_2 12 rfl rfl)
theorem dX0_firstOther_60 : decode cX0_firstOther 60 = .ok (.if_icmp .eq 5, 3) := dk_159 0 5 (dk_at dksX0_firstOther_2 13 rfl rfl)
theorem dX0_firstOther_63 : decode cX0_firstOther 63 = .ok (.iload_n 3, 1) := dk_29 (dk_at dksX0_firstOther_2 16 rfl rfl)
theorem dX0_firstOther_64 : decode cX0_firstOther 64 = .ok (.ireturn, 1) := dk_172 (dk_at dksX0_firstOther_2 17 rfl rfl)
theorem dX0_firstOther_65 : decode cX0_firstOther 65 = .ok (.iinc 3 1, 3) := dk_132 3 1 (dk_at dksX0_firstOther_2 18 rfl rfl)
theorem dX0_firstOther_68 : decode cX0_firstOther 68 = .ok (.goto (-66), 3) := dk_167 255 190 (dk_at dksX0_firstOther_2 21 rfl rfl)
theorem dX0_firstOther_71 : decode cX0_firstOther 71 = .ok (.bipush (-5), 2) := dk_16 251 (dk_at dksX0_firstOther_3 0 rfl rfl)
theorem dX0_firstOther_73 : decode cX0_firstOther 73 = .ok (.ireturn, 1) := dk_172 (dk_at dksX0_firstOther_3 2 rfl rfl)
theorem dX0_firstOther_74 : decode cX0_firstOther 74 = .ok (.astore 4, 2) := dk_58 4 (dk_at dksX0_firstOther_3 3 rfl rfl)
theorem dX0_firstOther_76 : decode cX0_firstOther 76 = .ok (.iload_n 3, 1) := dk_29 (dk_at dksX0_firstOther_3 5 rfl rfl)
theorem dX0_firstOther_77 : decode cX0_firstOther 77 = .ok (.bipush 100, 2) := dk_16 100 (dk_at dksX0_firstOther_3 6 rfl rfl)
theorem dX0_firstOther_79 : decode cX0_firstOther 79 = .ok (.iadd, 1) := dk_96 (dk_at dksX0_firstOther_3 8 rfl rfl)
theorem dX0_firstOther_80 : decode cX0_firstOther 80 = .ok (.ireturn, 1) := dk_172 (dk_at dksX0_firstOther_3 9 rfl rfl)
theorem dX0_firstOther_81 : decode cX0_firstOther 81 = .ok (.astore 4, 2) := dk_58 4 (dk_at dksX0_firstOther_3 10 rfl rfl)
theorem dX0_firstOther_83 : decode cX0_firstOther 83 = .ok (.iload_n 3, 1) := dk_29 (dk_at dksX0_firstOther_3 12 rfl rfl)
theorem dX0_firstOther_84 : decode cX0_firstOther 84 = .ok (.bipush 100, 2) := dk_16 100 (dk_at dksX0_firstOther_3 13 rfl rfl)
theorem dX0_firstOther_86 : decode cX0_firstOther 86 = .ok (.iadd, 1) := dk_96 (dk_at dksX0_firstOther_3 15 rfl rfl)
theorem dX0_firstOther_87 : decode cX0_firstOther 87 = .ok (.ireturn, 1) := dk_172 (dk_at dksX0_firstOther_3 16 rfl rfl)
abbrev cX0_image : ByteArray := prog_1_method_59_code
def yX0_image : MethodName := ⟨RX0, "image", "()I"⟩
def dkwX0_image_9 : List UInt8 := [181, 1, 108, 42, 42, 180, 1, 85, 181, 1, 111, 42, 42, 180, 0, 47, 181, 1, 114, 42, 180, 0, 134, 172]
abbrev dktX0_image_9 : List UInt8 := dkwX0_image_9 ++ []
def dkwX0_image_8 : List UInt8 := [180, 0, 122, 3, 16, 8, 184, 1, 30, 42, 42, 180, 0, 134, 181, 1, 105, 42, 42, 180, 1, 59]
abbrev dktX0_image_8 : List UInt8 := dkwX0_image_8 ++ dktX0_image_9
def dkwX0_image_7 : List UInt8 := [184, 1, 30, 42, 180, 0, 71, 3, 42, 180, 0, 119, 3, 16, 8, 184, 1, 30, 42, 180, 0, 74, 3, 42]
abbrev dktX0_image_7 : List UInt8 := dkwX0_image_7 ++ dktX0_image_8
def dkwX0_image_6 : List UInt8 := [3, 42, 180, 0, 113, 3, 16, 6, 184, 1, 30, 42, 180, 0, 68, 3, 42, 180, 0, 116, 3, 16, 6]
abbrev dktX0_image_6 : List UInt8 := dkwX0_image_6 ++ dktX0_image_7
def dkwX0_image_5 : List UInt8 := [3, 16, 6, 184, 1, 30, 42, 180, 0, 37, 3, 42, 180, 0, 110, 3, 8, 184, 1, 30, 42, 180, 0, 65]
abbrev dktX0_image_5 : List UInt8 := dkwX0_image_5 ++ dktX0_image_6
def dkwX0_image_4 : List UInt8 := [42, 180, 0, 15, 3, 42, 180, 0, 104, 3, 16, 6, 184, 1, 30, 42, 180, 0, 18, 3, 42, 180, 0, 107]
abbrev dktX0_image_4 : List UInt8 := dkwX0_image_4 ++ dktX0_image_5
def dkwX0_image_3 : List UInt8 := [184, 1, 30, 132, 1, 1, 167, 255, 209, 42, 180, 0, 11, 3, 42, 180, 0, 101, 3, 16, 6, 184, 1, 30]
abbrev dktX0_image_3 : List UInt8 := dkwX0_image_3 ++ dktX0_image_4
def dkwX0_image_2 : List UInt8 := [153, 0, 27, 42, 180, 0, 23, 27, 50, 192, 0, 157, 180, 0, 225, 3, 42, 180, 0, 98, 7, 27, 104, 7]
abbrev dktX0_image_2 : List UInt8 := dkwX0_image_2 ++ dktX0_image_3
def dkwX0_image_1 : List UInt8 := [184, 1, 30, 3, 60, 27, 42, 180, 0, 134, 162, 0, 45, 42, 180, 0, 23, 27, 50, 193, 0, 157]
abbrev dktX0_image_1 : List UInt8 := dkwX0_image_1 ++ dktX0_image_2
def dkwX0_image_0 : List UInt8 := [42, 180, 0, 92, 42, 180, 0, 30, 182, 1, 23, 42, 180, 0, 23, 3, 42, 180, 0, 95, 3, 16, 6]
abbrev dktX0_image_0 : List UInt8 := dkwX0_image_0 ++ dktX0_image_1
theorem dksX0_image_0 : cX0_image.data.toList.drop 0 = dktX0_image_0 := by decide +kernel
theorem dksX0_image_1 : cX0_image.data.toList.drop 23 = dktX0_image_1 := dk_seg dksX0_image_0 23 rfl rfl
theorem dksX0_image_2 : cX0_image.data.toList.drop 45 = dktX0_image_2 := dk_seg dksX0_image_1 22 rfl rfl
theorem dksX0_image_3 : cX0_image.data.toList.drop 69 = dktX0_image_3 := dk_seg dksX0_image_2 24 rfl rfl
theorem dksX0_image_4 : cX0_image.data.toList.drop 93 = dktX0_image_4 := dk_seg dksX0_image_3 24 rfl rfl
theorem dksX0_image_5 : cX0_image.data.toList.drop 117 = dktX0_image_5 := dk_seg dksX0_image_4 24 rfl rfl
theorem dksX0_image_6 : cX0_image.data.toList.drop 141 = dktX0_image_6 := dk_seg dksX0_image_5 24 rfl rfl
theorem dksX0_image_7 : cX0_image.data.toList.drop 164 = dktX0_image_7 := dk_seg dksX0_image_6 23 rfl rfl
theorem dksX0_image_8 : cX0_image.data.toList.drop 188 = dktX0_image_8 := dk_seg dksX0_image_7 24 rfl rfl
theorem dksX0_image_9 : cX0_image.data.toList.drop 210 = dktX0_image_9 := dk_seg dksX0_image_8 22 rfl rfl
theorem dX0_image_0 : decode cX0_image 0 = .ok (.aload_n 0, 1) := dk_42 (dk_at dksX0_image_0 0 rfl rfl)
theorem dX0_image_1 : decode cX0_image 1 = .ok (.getfield 92, 3) := dk_180 0 92 (dk_at dksX0_image_0 1 rfl rfl)
theorem dX0_image_4 : decode cX0_image 4 = .ok (.aload_n 0, 1) := dk_42 (dk_at dksX0_image_0 4 rfl rfl)
theorem dX0_image_5 : decode cX0_image 5 = .ok (.getfield 30, 3) := dk_180 0 30 (dk_at dksX0_image_0 5 rfl rfl)
theorem dX0_image_8 : decode cX0_image 8 = .ok (.invokevirtual 279, 3) := dk_182 1 23 (dk_at dksX0_image_0 8 rfl rfl)
theorem dX0_image_11 : decode cX0_image 11 = .ok (.aload_n 0, 1) := dk_42 (dk_at dksX0_image_0 11 rfl rfl)
theorem dX0_image_12 : decode cX0_image 12 = .ok (.getfield 23, 3) := dk_180 0 23 (dk_at dksX0_image_0 12 rfl rfl)
theorem dX0_image_15 : decode cX0_image 15 = .ok (.iconst 0, 1) := dk_3 (dk_at dksX0_image_0 15 rfl rfl)
theorem dX0_image_16 : decode cX0_image 16 = .ok (.aload_n 0, 1) := dk_42 (dk_at dksX0_image_0 16 rfl rfl)
theorem dX0_image_17 : decode cX0_image 17 = .ok (.getfield 95, 3) := dk_180 0 95 (dk_at dksX0_image_0 17 rfl rfl)
theorem dX0_image_20 : decode cX0_image 20 = .ok (.iconst 0, 1) := dk_3 (dk_at dksX0_image_0 20 rfl rfl)
theorem dX0_image_21 : decode cX0_image 21 = .ok (.bipush 6, 2) := dk_16 6 (dk_at dksX0_image_0 21 rfl rfl)
theorem dX0_image_23 : decode cX0_image 23 = .ok (.invokestatic 286, 3) := dk_184 1 30 (dk_at dksX0_image_1 0 rfl rfl)
theorem dX0_image_26 : decode cX0_image 26 = .ok (.iconst 0, 1) := dk_3 (dk_at dksX0_image_1 3 rfl rfl)
theorem dX0_image_27 : decode cX0_image 27 = .ok (.istore_n 1, 1) := dk_60 (dk_at dksX0_image_1 4 rfl rfl)
theorem dX0_image_28 : decode cX0_image 28 = .ok (.iload_n 1, 1) := dk_27 (dk_at dksX0_image_1 5 rfl rfl)
theorem dX0_image_29 : decode cX0_image 29 = .ok (.aload_n 0, 1) := dk_42 (dk_at dksX0_image_1 6 rfl rfl)
theorem dX0_image_30 : decode cX0_image 30 = .ok (.getfield 134, 3) := dk_180 0 134 (dk_at dksX0_image_1 7 rfl rfl)
theorem dX0_image_33 : decode cX0_image 33 = .ok (.if_icmp .ge 45, 3) := dk_162 0 45 (dk_at dksX0_image_1 10 rfl rfl)
theorem dX0_image_36 : decode cX0_image 36 = .ok (.aload_n 0, 1) := dk_42 (dk_at dksX0_image_1 13 rfl rfl)
theorem dX0_image_37 : decode cX0_image 37 = .ok (.getfield 23, 3) := dk_180 0 23 (dk_at dksX0_image_1 14 rfl rfl)
theorem dX0_image_40 : decode cX0_image 40 = .ok (.iload_n 1, 1) := dk_27 (dk_at dksX0_image_1 17 rfl rfl)
theorem dX0_image_41 : decode cX0_image 41 = .ok (.aaload, 1) := dk_50 (dk_at dksX0_image_1 18 rfl rfl)
theorem dX0_image_42 : decode cX0_image 42 = .ok (.instanceof 157, 3) := dk_193 0 157 (dk_at dksX0_image_1 19 rfl rfl)
theorem dX0_image_45 : decode cX0_image 45 = .ok (.ifCond .eq 27, 3) := dk_153 0 27 (dk_at dksX0_image_2 0 rfl rfl)
theorem dX0_image_48 : decode cX0_image 48 = .ok (.aload_n 0, 1) := dk_42 (dk_at dksX0_image_2 3 rfl rfl)
theorem dX0_image_49 : decode cX0_image 49 = .ok (.getfield 23, 3) := dk_180 0 23 (dk_at dksX0_image_2 4 rfl rfl)
theorem dX0_image_52 : decode cX0_image 52 = .ok (.iload_n 1, 1) := dk_27 (dk_at dksX0_image_2 7 rfl rfl)
theorem dX0_image_53 : decode cX0_image 53 = .ok (.aaload, 1) := dk_50 (dk_at dksX0_image_2 8 rfl rfl)
theorem dX0_image_54 : decode cX0_image 54 = .ok (.checkcast 157, 3) := dk_192 0 157 (dk_at dksX0_image_2 9 rfl rfl)
theorem dX0_image_57 : decode cX0_image 57 = .ok (.getfield 225, 3) := dk_180 0 225 (dk_at dksX0_image_2 12 rfl rfl)
theorem dX0_image_60 : decode cX0_image 60 = .ok (.iconst 0, 1) := dk_3 (dk_at dksX0_image_2 15 rfl rfl)
theorem dX0_image_61 : decode cX0_image 61 = .ok (.aload_n 0, 1) := dk_42 (dk_at dksX0_image_2 16 rfl rfl)
theorem dX0_image_62 : decode cX0_image 62 = .ok (.getfield 98, 3) := dk_180 0 98 (dk_at dksX0_image_2 17 rfl rfl)
theorem dX0_image_65 : decode cX0_image 65 = .ok (.iconst 4, 1) := dk_7 (dk_at dksX0_image_2 20 rfl rfl)
theorem dX0_image_66 : decode cX0_image 66 = .ok (.iload_n 1, 1) := dk_27 (dk_at dksX0_image_2 21 rfl rfl)
theorem dX0_image_67 : decode cX0_image 67 = .ok (.imul, 1) := dk_104 (dk_at dksX0_image_2 22 rfl rfl)
theorem dX0_image_68 : decode cX0_image 68 = .ok (.iconst 4, 1) := dk_7 (dk_at dksX0_image_2 23 rfl rfl)
theorem dX0_image_69 : decode cX0_image 69 = .ok (.invokestatic 286, 3) := dk_184 1 30 (dk_at dksX0_image_3 0 rfl rfl)
theorem dX0_image_72 : decode cX0_image 72 = .ok (.iinc 1 1, 3) := dk_132 1 1 (dk_at dksX0_image_3 3 rfl rfl)
theorem dX0_image_75 : decode cX0_image 75 = .ok (.goto (-47), 3) := dk_167 255 209 (dk_at dksX0_image_3 6 rfl rfl)
theorem dX0_image_78 : decode cX0_image 78 = .ok (.aload_n 0, 1) := dk_42 (dk_at dksX0_image_3 9 rfl rfl)
theorem dX0_image_79 : decode cX0_image 79 = .ok (.getfield 11, 3) := dk_180 0 11 (dk_at dksX0_image_3 10 rfl rfl)
theorem dX0_image_82 : decode cX0_image 82 = .ok (.iconst 0, 1) := dk_3 (dk_at dksX0_image_3 13 rfl rfl)
theorem dX0_image_83 : decode cX0_image 83 = .ok (.aload_n 0, 1) := dk_42 (dk_at dksX0_image_3 14 rfl rfl)
theorem dX0_image_84 : decode cX0_image 84 = .ok (.getfield 101, 3) := dk_180 0 101 (dk_at dksX0_image_3 15 rfl rfl)
theorem dX0_image_87 : decode cX0_image 87 = .ok (.iconst 0, 1) := dk_3 (dk_at dksX0_image_3 18 rfl rfl)
theorem dX0_image_88 : decode cX0_image 88 = .ok (.bipush 6, 2) := dk_16 6 (dk_at dksX0_image_3 19 rfl rfl)
theorem dX0_image_90 : decode cX0_image 90 = .ok (.invokestatic 286, 3) := dk_184 1 30 (dk_at dksX0_image_3 21 rfl rfl)
theorem dX0_image_93 : decode cX0_image 93 = .ok (.aload_n 0, 1) := dk_42 (dk_at dksX0_image_4 0 rfl rfl)
theorem dX0_image_94 : decode cX0_image 94 = .ok (.getfield 15, 3) := dk_180 0 15 (dk_at dksX0_image_4 1 rfl rfl)
theorem dX0_image_97 : decode cX0_image 97 = .ok (.iconst 0, 1) := dk_3 (dk_at dksX0_image_4 4 rfl rfl)
theorem dX0_image_98 : decode cX0_image 98 = .ok (.aload_n 0, 1) := dk_42 (dk_at dksX0_image_4 5 rfl rfl)
theorem dX0_image_99 : decode cX0_image 99 = .ok (.getfield 104, 3) := dk_180 0 104 (dk_at dksX0_image_4 6 rfl rfl)
theorem dX0_image_102 : decode cX0_image 102 = .ok (.iconst 0, 1) := dk_3 (dk_at dksX0_image_4 9 rfl rfl)
theorem dX0_image_103 : decode cX0_image 103 = .ok (.bipush 6, 2) := dk_16 6 (dk_at dksX0_image_4 10 rfl rfl)
theorem dX0_image_105 : decode cX0_image 105 = .ok (.invokestatic 286, 3) := dk_184 1 30 (dk_at dksX0_image_4 12 rfl rfl)
theorem dX0_image_108 : decode cX0_image 108 = .ok (.aload_n 0, 1) := dk_42 (dk_at dksX0_image_4 15 rfl rfl)
theorem dX0_image_109 : decode cX0_image 109 = .ok (.getfield 18, 3) := dk_180 0 18 (dk_at dksX0_image_4 16 rfl rfl)
theorem dX0_image_112 : decode cX0_image 112 = .ok (.iconst 0, 1) := dk_3 (dk_at dksX0_image_4 19 rfl rfl)
theorem dX0_image_113 : decode cX0_image 113 = .ok (.aload_n 0, 1) := dk_42 (dk_at dksX0_image_4 20 rfl rfl)
theorem dX0_image_114 : decode cX0_image 114 = .ok (.getfield 107, 3) := dk_180 0 107 (dk_at dksX0_image_4 21 rfl rfl)
theorem dX0_image_117 : decode cX0_image 117 = .ok (.iconst 0, 1) := dk_3 (dk_at dksX0_image_5 0 rfl rfl)
theorem dX0_image_118 : decode cX0_image 118 = .ok (.bipush 6, 2) := dk_16 6 (dk_at dksX0_image_5 1 rfl rfl)
theorem dX0_image_120 : decode cX0_image 120 = .ok (.invokestatic 286, 3) := dk_184 1 30 (dk_at dksX0_image_5 3 rfl rfl)
theorem dX0_image_123 : decode cX0_image 123 = .ok (.aload_n 0, 1) := dk_42 (dk_at dksX0_image_5 6 rfl rfl)
theorem dX0_image_124 : decode cX0_image 124 = .ok (.getfield 37, 3) := dk_180 0 37 (dk_at dksX0_image_5 7 rfl rfl)
theorem dX0_image_127 : decode cX0_image 127 = .ok (.iconst 0, 1) := dk_3 (dk_at dksX0_image_5 10 rfl rfl)
theorem dX0_image_128 : decode cX0_image 128 = .ok (.aload_n 0, 1) := dk_42 (dk_at dksX0_image_5 11 rfl rfl)
theorem dX0_image_129 : decode cX0_image 129 = .ok (.getfield 110, 3) := dk_180 0 110 (dk_at dksX0_image_5 12 rfl rfl)
theorem dX0_image_132 : decode cX0_image 132 = .ok (.iconst 0, 1) := dk_3 (dk_at dksX0_image_5 15 rfl rfl)
theorem dX0_image_133 : decode cX0_image 133 = .ok (.iconst 5, 1) := dk_8 (dk_at dksX0_image_5 16 rfl rfl)
theorem dX0_image_134 : decode cX0_image 134 = .ok (.invokestatic 286, 3) := dk_184 1 30 (dk_at dksX0_image_5 17 rfl rfl)
theorem dX0_image_137 : decode cX0_image 137 = .ok (.aload_n 0, 1) := dk_42 (dk_at dksX0_image_5 20 rfl rfl)
theorem dX0_image_138 : decode cX0_image 138 = .ok (.getfield 65, 3) := dk_180 0 65 (dk_at dksX0_image_5 21 rfl rfl)
theorem dX0_image_141 : decode cX0_image 141 = .ok (.iconst 0, 1) := dk_3 (dk_at dksX0_image_6 0 rfl rfl)
theorem dX0_image_142 : decode cX0_image 142 = .ok (.aload_n 0, 1) := dk_42 (dk_at dksX0_image_6 1 rfl rfl)
theorem dX0_image_143 : decode cX0_image 143 = .ok (.getfield 113, 3) := dk_180 0 113 (dk_at dksX0_image_6 2 rfl rfl)
theorem dX0_image_146 : decode cX0_image 146 = .ok (.iconst 0, 1) := dk_3 (dk_at dksX0_image_6 5 rfl rfl)
theorem dX0_image_147 : decode cX0_image 147 = .ok (.bipush 6, 2) := dk_16 6 (dk_at dksX0_image_6 6 rfl rfl)
theorem dX0_image_149 : decode cX0_image 149 = .ok (.invokestatic 286, 3) := dk_184 1 30 (dk_at dksX0_image_6 8 rfl rfl)
theorem dX0_image_152 : decode cX0_image 152 = .ok (.aload_n 0, 1) := dk_42 (dk_at dksX0_image_6 11 rfl rfl)
theorem dX0_image_153 : decode cX0_image 153 = .ok (.getfield 68, 3) := dk_180 0 68 (dk_at dksX0_image_6 12 rfl rfl)
theorem dX0_image_156 : decode cX0_image 156 = .ok (.iconst 0, 1) := dk_3 (dk_at dksX0_image_6 15 rfl rfl)
theorem dX0_image_157 : decode cX0_image 157 = .ok (.aload_n 0, 1) := dk_42 (dk_at dksX0_image_6 16 rfl rfl)
theorem dX0_image_158 : decode cX0_image 158 = .ok (.getfield 116, 3) := dk_180 0 116 (dk_at dksX0_image_6 17 rfl rfl)
theorem dX0_image_161 : decode cX0_image 161 = .ok (.iconst 0, 1) := dk_3 (dk_at dksX0_image_6 20 rfl rfl)
theorem dX0_image_162 : decode cX0_image 162 = .ok (.bipush 6, 2) := dk_16 6 (dk_at dksX0_image_6 21 rfl rfl)
theorem dX0_image_164 : decode cX0_image 164 = .ok (.invokestatic 286, 3) := dk_184 1 30 (dk_at dksX0_image_7 0 rfl rfl)
theorem dX0_image_167 : decode cX0_image 167 = .ok (.aload_n 0, 1) := dk_42 (dk_at dksX0_image_7 3 rfl rfl)
theorem dX0_image_168 : decode cX0_image 168 = .ok (.getfield 71, 3) := dk_180 0 71 (dk_at dksX0_image_7 4 rfl rfl)
theorem dX0_image_171 : decode cX0_image 171 = .ok (.iconst 0, 1) := dk_3 (dk_at dksX0_image_7 7 rfl rfl)
theorem dX0_image_172 : decode cX0_image 172 = .ok (.aload_n 0, 1) := dk_42 (dk_at dksX0_image_7 8 rfl rfl)
theorem dX0_image_173 : decode cX0_image 173 = .ok (.getfield 119, 3) := dk_180 0 119 (dk_at dksX0_image_7 9 rfl rfl)
theorem dX0_image_176 : decode cX0_image 176 = .ok (.iconst 0, 1) := dk_3 (dk_at dksX0_image_7 12 rfl rfl)
theorem dX0_image_177 : decode cX0_image 177 = .ok (.bipush 8, 2) := dk_16 8 (dk_at dksX0_image_7 13 rfl rfl)
theorem dX0_image_179 : decode cX0_image 179 = .ok (.invokestatic 286, 3) := dk_184 1 30 (dk_at dksX0_image_7 15 rfl rfl)
theorem dX0_image_182 : decode cX0_image 182 = .ok (.aload_n 0, 1) := dk_42 (dk_at dksX0_image_7 18 rfl rfl)
theorem dX0_image_183 : decode cX0_image 183 = .ok (.getfield 74, 3) := dk_180 0 74 (dk_at dksX0_image_7 19 rfl rfl)
theorem dX0_image_186 : decode cX0_image 186 = .ok (.iconst 0, 1) := dk_3 (dk_at dksX0_image_7 22 rfl rfl)
theorem dX0_image_187 : decode cX0_image 187 = .ok (.aload_n 0, 1) := dk_42 (dk_at dksX0_image_7 23 rfl rfl)
theorem dX0_image_188 : decode cX0_image 188 = .ok (.getfield 122, 3) := dk_180 0 122 (dk_at dksX0_image_8 0 rfl rfl)
theorem dX0_image_191 : decode cX0_image 191 = .ok (.iconst 0, 1) := dk_3 (dk_at dksX0_image_8 3 rfl rfl)
theorem dX0_image_192 : decode cX0_image 192 = .ok (.bipush 8, 2) := dk_16 8 (dk_at dksX0_image_8 4 rfl rfl)
theorem dX0_image_194 : decode cX0_image 194 = .ok (.invokestatic 286, 3) := dk_184 1 30 (dk_at dksX0_image_8 6 rfl rfl)
theorem dX0_image_197 : decode cX0_image 197 = .ok (.aload_n 0, 1) := dk_42 (dk_at dksX0_image_8 9 rfl rfl)
theorem dX0_image_198 : decode cX0_image 198 = .ok (.aload_n 0, 1) := dk_42 (dk_at dksX0_image_8 10 rfl rfl)
theorem dX0_image_199 : decode cX0_image 199 = .ok (.getfield 134, 3) := dk_180 0 134 (dk_at dksX0_image_8 11 rfl rfl)
theorem dX0_image_202 : decode cX0_image 202 = .ok (.putfield 361, 3) := dk_181 1 105 (dk_at dksX0_image_8 14 rfl rfl)
theorem dX0_image_205 : decode cX0_image 205 = .ok (.aload_n 0, 1) := dk_42 (dk_at dksX0_image_8 17 rfl rfl)
theorem dX0_image_206 : decode cX0_image 206 = .ok (.aload_n 0, 1) := dk_42 (dk_at dksX0_image_8 18 rfl rfl)
theorem dX0_image_207 : decode cX0_image 207 = .ok (.getfield 315, 3) := dk_180 1 59 (dk_at dksX0_image_8 19 rfl rfl)
theorem dX0_image_210 : decode cX0_image 210 = .ok (.putfield 364, 3) := dk_181 1 108 (dk_at dksX0_image_9 0 rfl rfl)
theorem dX0_image_213 : decode cX0_image 213 = .ok (.aload_n 0, 1) := dk_42 (dk_at dksX0_image_9 3 rfl rfl)
theorem dX0_image_214 : decode cX0_image 214 = .ok (.aload_n 0, 1) := dk_42 (dk_at dksX0_image_9 4 rfl rfl)
theorem dX0_image_215 : decode cX0_image 215 = .ok (.getfield 341, 3) := dk_180 1 85 (dk_at dksX0_image_9 5 rfl rfl)
theorem dX0_image_218 : decode cX0_image 218 = .ok (.putfield 367, 3) := dk_181 1 111 (dk_at dksX0_image_9 8 rfl rfl)
theorem dX0_image_221 : decode cX0_image 221 = .ok (.aload_n 0, 1) := dk_42 (dk_at dksX0_image_9 11 rfl rfl)
theorem dX0_image_222 : decode cX0_image 222 = .ok (.aload_n 0, 1) := dk_42 (dk_at dksX0_image_9 12 rfl rfl)
theorem dX0_image_223 : decode cX0_image 223 = .ok (.getfield 47, 3) := dk_180 0 47 (dk_at dksX0_image_9 13 rfl rfl)
theorem dX0_image_226 : decode cX0_image 226 = .ok (.putfield 370, 3) := dk_181 1 114 (dk_at dksX0_image_9 16 rfl rfl)
theorem dX0_image_229 : decode cX0_image 229 = .ok (.aload_n 0, 1) := dk_42 (dk_at dksX0_image_9 19 rfl rfl)
theorem dX0_image_230 : decode cX0_image 230 = .ok (.getfield 134, 3) := dk_180 0 134 (dk_at dksX0_image_9 20 rfl rfl)
theorem dX0_image_233 : decode cX0_image 233 = .ok (.ireturn, 1) := dk_172 (dk_at dksX0_image_9 23 rfl rfl)
abbrev cX0_undo : ByteArray := prog_1_method_60_code
def yX0_undo : MethodName := ⟨RX0, "undo", "()I"⟩
def dkwX0_undo_10 : List UInt8 := [181, 0, 47, 42, 180, 0, 134, 172]
abbrev dktX0_undo_10 : List UInt8 := dkwX0_undo_10 ++ []
def dkwX0_undo_9 : List UInt8 := [184, 1, 30, 42, 42, 180, 1, 108, 181, 1, 59, 42, 42, 180, 1, 111, 181, 1, 85, 42, 42, 180, 1, 114]
abbrev dktX0_undo_9 : List UInt8 := dkwX0_undo_9 ++ dktX0_undo_10
def dkwX0_undo_8 : List UInt8 := [3, 42, 180, 0, 71, 3, 16, 8, 184, 1, 30, 42, 180, 0, 122, 3, 42, 180, 0, 74, 3, 16, 8]
abbrev dktX0_undo_8 : List UInt8 := dkwX0_undo_8 ++ dktX0_undo_9
def dkwX0_undo_7 : List UInt8 := [16, 6, 184, 1, 30, 42, 180, 0, 116, 3, 42, 180, 0, 68, 3, 16, 6, 184, 1, 30, 42, 180, 0, 119]
abbrev dktX0_undo_7 : List UInt8 := dkwX0_undo_7 ++ dktX0_undo_8
def dkwX0_undo_6 : List UInt8 := [42, 180, 0, 110, 3, 42, 180, 0, 37, 3, 8, 184, 1, 30, 42, 180, 0, 113, 3, 42, 180, 0, 65, 3]
abbrev dktX0_undo_6 : List UInt8 := dkwX0_undo_6 ++ dktX0_undo_7
def dkwX0_undo_5 : List UInt8 := [180, 0, 15, 3, 16, 6, 184, 1, 30, 42, 180, 0, 107, 3, 42, 180, 0, 18, 3, 16, 6, 184, 1, 30]
abbrev dktX0_undo_5 : List UInt8 := dkwX0_undo_5 ++ dktX0_undo_6
def dkwX0_undo_4 : List UInt8 := [167, 255, 209, 42, 180, 0, 101, 3, 42, 180, 0, 11, 3, 16, 6, 184, 1, 30, 42, 180, 0, 104, 3, 42]
abbrev dktX0_undo_4 : List UInt8 := dkwX0_undo_4 ++ dktX0_undo_5
def dkwX0_undo_3 : List UInt8 := [7, 27, 104, 42, 180, 0, 23, 27, 50, 192, 0, 157, 180, 0, 225, 3, 7, 184, 1, 30, 132, 1, 1]
abbrev dktX0_undo_3 : List UInt8 := dkwX0_undo_3 ++ dktX0_undo_4
def dkwX0_undo_2 : List UInt8 := [27, 42, 180, 0, 134, 162, 0, 45, 42, 180, 0, 23, 27, 50, 193, 0, 157, 153, 0, 27, 42, 180, 0, 98]
abbrev dktX0_undo_2 : List UInt8 := dkwX0_undo_2 ++ dktX0_undo_3
def dkwX0_undo_1 : List UInt8 := [180, 0, 95, 3, 42, 180, 0, 23, 3, 16, 6, 184, 1, 30, 42, 42, 180, 1, 105, 181, 0, 134, 3, 60]
abbrev dktX0_undo_1 : List UInt8 := dkwX0_undo_1 ++ dktX0_undo_2
def dkwX0_undo_0 : List UInt8 := [42, 180, 1, 114, 199, 0, 6, 16, 253, 172, 42, 180, 0, 30, 42, 180, 0, 92, 182, 1, 23, 42]
abbrev dktX0_undo_0 : List UInt8 := dkwX0_undo_0 ++ dktX0_undo_1
theorem dksX0_undo_0 : cX0_undo.data.toList.drop 0 = dktX0_undo_0 := by decide +kernel
theorem dksX0_undo_1 : cX0_undo.data.toList.drop 22 = dktX0_undo_1 := dk_seg dksX0_undo_0 22 rfl rfl
theorem dksX0_undo_2 : cX0_undo.data.toList.drop 46 = dktX0_undo_2 := dk_seg dksX0_undo_1 24 rfl rfl
theorem dksX0_undo_3 : cX0_undo.data.toList.drop 70 = dktX0_undo_3 := dk_seg dksX0_undo_2 24 rfl rfl
theorem dksX0_undo_4 : cX0_undo.data.toList.drop 93 = dktX0_undo_4 := dk_seg dksX0_undo_3 23 rfl rfl
theorem dksX0_undo_5 : cX0_undo.data.toList.drop 117 = dktX0_undo_5 := dk_seg dksX0_undo_4 24 rfl rfl
theorem dksX0_undo_6 : cX0_undo.data.toList.drop 141 = dktX0_undo_6 := dk_seg dksX0_undo_5 24 rfl rfl
theorem dksX0_undo_7 : cX0_undo.data.toList.drop 165 = dktX0_undo_7 := dk_seg dksX0_undo_6 24 rfl rfl
theorem dksX0_undo_8 : cX0_undo.data.toList.drop 189 = dktX0_undo_8 := dk_seg dksX0_undo_7 24 rfl rfl
theorem dksX0_undo_9 : cX0_undo.data.toList.drop 212 = dktX0_undo_9 := dk_seg dksX0_undo_8 23 rfl rfl
theorem dksX0_undo_10 : cX0_undo.data.toList.drop 236 = dktX0_undo_10 := dk_seg dksX0_undo_9 24 rfl rfl
theorem dX0_undo_0 : decode cX0_undo 0 = .ok (.aload_n 0, 1) := dk_42 (dk_at dksX0_undo_0 0 rfl rfl)
theorem dX0_undo_1 : decode cX0_undo 1 = .ok (.getfield 370, 3) := dk_180 1 114 (dk_at dksX0_undo_0 1 rfl rfl)
theorem dX0_undo_4 : decode cX0_undo 4 = .ok (.ifnonnull 6, 3) := dk_199 0 6 (dk_at dksX0_undo_0 4 rfl rfl)
theorem dX0_undo_7 : decode cX0_undo 7 = .ok (.bipush (-3), 2) := dk_16 253 (dk_at dksX0_undo_0 7 rfl rfl)
theorem dX0_undo_9 : decode cX0_undo 9 = .ok (.ireturn, 1) := dk_172 (dk_at dksX0_undo_0 9 rfl rfl)
theorem dX0_undo_10 : decode cX0_undo 10 = .ok (.aload_n 0, 1) := dk_42 (dk_at dksX0_undo_0 10 rfl rfl)
theorem dX0_undo_11 : decode cX0_undo 11 = .ok (.getfield 30, 3) := dk_180 0 30 (dk_at dksX0_undo_0 11 rfl rfl)
theorem dX0_undo_14 : decode cX0_undo 14 = .ok (.aload_n 0, 1) := dk_42 (dk_at dksX0_undo_0 14 rfl rfl)
theorem dX0_undo_15 : decode cX0_undo 15 = .ok (.getfield 92, 3) := dk_180 0 92 (dk_at dksX0_undo_0 15 rfl rfl)
theorem dX0_undo_18 : decode cX0_undo 18 = .ok (.invokevirtual 279, 3) := dk_182 1 23 (dk_at dksX0_undo_0 18 rfl rfl)
theorem dX0_undo_21 : decode cX0_undo 21 = .ok (.aload_n 0, 1) := dk_42 (dk_at dksX0_undo_0 21 rfl rfl)
theorem dX0_undo_22 : decode cX0_undo 22 = .ok (.getfield 95, 3) := dk_180 0 95 (dk_at dksX0_undo_1 0 rfl rfl)
theorem dX0_undo_25 : decode cX0_undo 25 = .ok (.iconst 0, 1) := dk_3 (dk_at dksX0_undo_1 3 rfl rfl)
theorem dX0_undo_26 : decode cX0_undo 26 = .ok (.aload_n 0, 1) := dk_42 (dk_at dksX0_undo_1 4 rfl rfl)
theorem dX0_undo_27 : decode cX0_undo 27 = .ok (.getfield 23, 3) := dk_180 0 23 (dk_at dksX0_undo_1 5 rfl rfl)
theorem dX0_undo_30 : decode cX0_undo 30 = .ok (.iconst 0, 1) := dk_3 (dk_at dksX0_undo_1 8 rfl rfl)
theorem dX0_undo_31 : decode cX0_undo 31 = .ok (.bipush 6, 2) := dk_16 6 (dk_at dksX0_undo_1 9 rfl rfl)
theorem dX0_undo_33 : decode cX0_undo 33 = .ok (.invokestatic 286, 3) := dk_184 1 30 (dk_at dksX0_undo_1 11 rfl rfl)
theorem dX0_undo_36 : decode cX0_undo 36 = .ok (.aload_n 0, 1) := dk_42 (dk_at dksX0_undo_1 14 rfl rfl)
theorem dX0_undo_37 : decode cX0_undo 37 = .ok (.aload_n 0, 1) := dk_42 (dk_at dksX0_undo_1 15 rfl rfl)
theorem dX0_undo_38 : decode cX0_undo 38 = .ok (.getfield 361, 3) := dk_180 1 105 (dk_at dksX0_undo_1 16 rfl rfl)
theorem dX0_undo_41 : decode cX0_undo 41 = .ok (.putfield 134, 3) := dk_181 0 134 (dk_at dksX0_undo_1 19 rfl rfl)
theorem dX0_undo_44 : decode cX0_undo 44 = .ok (.iconst 0, 1) := dk_3 (dk_at dksX0_undo_1 22 rfl rfl)
theorem dX0_undo_45 : decode cX0_undo 45 = .ok (.istore_n 1, 1) := dk_60 (dk_at dksX0_undo_1 23 rfl rfl)
theorem dX0_undo_46 : decode cX0_undo 46 = .ok (.iload_n 1, 1) := dk_27 (dk_at dksX0_undo_2 0 rfl rfl)
theorem dX0_undo_47 : decode cX0_undo 47 = .ok (.aload_n 0, 1) := dk_42 (dk_at dksX0_undo_2 1 rfl rfl)
theorem dX0_undo_48 : decode cX0_undo 48 = .ok (.getfield 134, 3) := dk_180 0 134 (dk_at dksX0_undo_2 2 rfl rfl)
theorem dX0_undo_51 : decode cX0_undo 51 = .ok (.if_icmp .ge 45, 3) := dk_162 0 45 (dk_at dksX0_undo_2 5 rfl rfl)
theorem dX0_undo_54 : decode cX0_undo 54 = .ok (.aload_n 0, 1) := dk_42 (dk_at dksX0_undo_2 8 rfl rfl)
theorem dX0_undo_55 : decode cX0_undo 55 = .ok (.getfield 23, 3) := dk_180 0 23 (dk_at dksX0_undo_2 9 rfl rfl)
theorem dX0_undo_58 : decode cX0_undo 58 = .ok (.iload_n 1, 1) := dk_27 (dk_at dksX0_undo_2 12 rfl rfl)
theorem dX0_undo_59 : decode cX0_undo 59 = .ok (.aaload, 1) := dk_50 (dk_at dksX0_undo_2 13 rfl rfl)
theorem dX0_undo_60 : decode cX0_undo 60 = .ok (.instanceof 157, 3) := dk_193 0 157 (dk_at dksX0_undo_2 14 rfl rfl)
theorem dX0_undo_63 : decode cX0_undo 63 = .ok (.ifCond .eq 27, 3) := dk_153 0 27 (dk_at dksX0_undo_2 17 rfl rfl)
theorem dX0_undo_66 : decode cX0_undo 66 = .ok (.aload_n 0, 1) := dk_42 (dk_at dksX0_undo_2 20 rfl rfl)
theorem dX0_undo_67 : decode cX0_undo 67 = .ok (.getfield 98, 3) := dk_180 0 98 (dk_at dksX0_undo_2 21 rfl rfl)
theorem dX0_undo_70 : decode cX0_undo 70 = .ok (.iconst 4, 1) := dk_7 (dk_at dksX0_undo_3 0 rfl rfl)
theorem dX0_undo_71 : decode cX0_undo 71 = .ok (.iload_n 1, 1) := dk_27 (dk_at dksX0_undo_3 1 rfl rfl)
theorem dX0_undo_72 : decode cX0_undo 72 = .ok (.imul, 1) := dk_104 (dk_at dksX0_undo_3 2 rfl rfl)
theorem dX0_undo_73 : decode cX0_undo 73 = .ok (.aload_n 0, 1) := dk_42 (dk_at dksX0_undo_3 3 rfl rfl)
theorem dX0_undo_74 : decode cX0_undo 74 = .ok (.getfield 23, 3) := dk_180 0 23 (dk_at dksX0_undo_3 4 rfl rfl)
theorem dX0_undo_77 : decode cX0_undo 77 = .ok (.iload_n 1, 1) := dk_27 (dk_at dksX0_undo_3 7 rfl rfl)
theorem dX0_undo_78 : decode cX0_undo 78 = .ok (.aaload, 1) := dk_50 (dk_at dksX0_undo_3 8 rfl rfl)
theorem dX0_undo_79 : decode cX0_undo 79 = .ok (.checkcast 157, 3) := dk_192 0 157 (dk_at dksX0_undo_3 9 rfl rfl)
theorem dX0_undo_82 : decode cX0_undo 82 = .ok (.getfield 225, 3) := dk_180 0 225 (dk_at dksX0_undo_3 12 rfl rfl)
theorem dX0_undo_85 : decode cX0_undo 85 = .ok (.iconst 0, 1) := dk_3 (dk_at dksX0_undo_3 15 rfl rfl)
theorem dX0_undo_86 : decode cX0_undo 86 = .ok (.iconst 4, 1) := dk_7 (dk_at dksX0_undo_3 16 rfl rfl)
theorem dX0_undo_87 : decode cX0_undo 87 = .ok (.invokestatic 286, 3) := dk_184 1 30 (dk_at dksX0_undo_3 17 rfl rfl)
theorem dX0_undo_90 : decode cX0_undo 90 = .ok (.iinc 1 1, 3) := dk_132 1 1 (dk_at dksX0_undo_3 20 rfl rfl)
theorem dX0_undo_93 : decode cX0_undo 93 = .ok (.goto (-47), 3) := dk_167 255 209 (dk_at dksX0_undo_4 0 rfl rfl)
theorem dX0_undo_96 : decode cX0_undo 96 = .ok (.aload_n 0, 1) := dk_42 (dk_at dksX0_undo_4 3 rfl rfl)
theorem dX0_undo_97 : decode cX0_undo 97 = .ok (.getfield 101, 3) := dk_180 0 101 (dk_at dksX0_undo_4 4 rfl rfl)
theorem dX0_undo_100 : decode cX0_undo 100 = .ok (.iconst 0, 1) := dk_3 (dk_at dksX0_undo_4 7 rfl rfl)
theorem dX0_undo_101 : decode cX0_undo 101 = .ok (.aload_n 0, 1) := dk_42 (dk_at dksX0_undo_4 8 rfl rfl)
theorem dX0_undo_102 : decode cX0_undo 102 = .ok (.getfield 11, 3) := dk_180 0 11 (dk_at dksX0_undo_4 9 rfl rfl)
theorem dX0_undo_105 : decode cX0_undo 105 = .ok (.iconst 0, 1) := dk_3 (dk_at dksX0_undo_4 12 rfl rfl)
theorem dX0_undo_106 : decode cX0_undo 106 = .ok (.bipush 6, 2) := dk_16 6 (dk_at dksX0_undo_4 13 rfl rfl)
theorem dX0_undo_108 : decode cX0_undo 108 = .ok (.invokestatic 286, 3) := dk_184 1 30 (dk_at dksX0_undo_4 15 rfl rfl)
theorem dX0_undo_111 : decode cX0_undo 111 = .ok (.aload_n 0, 1) := dk_42 (dk_at dksX0_undo_4 18 rfl rfl)
theorem dX0_undo_112 : decode cX0_undo 112 = .ok (.getfield 104, 3) := dk_180 0 104 (dk_at dksX0_undo_4 19 rfl rfl)
theorem dX0_undo_115 : decode cX0_undo 115 = .ok (.iconst 0, 1) := dk_3 (dk_at dksX0_undo_4 22 rfl rfl)
theorem dX0_undo_116 : decode cX0_undo 116 = .ok (.aload_n 0, 1) := dk_42 (dk_at dksX0_undo_4 23 rfl rfl)
theorem dX0_undo_117 : decode cX0_undo 117 = .ok (.getfield 15, 3) := dk_180 0 15 (dk_at dksX0_undo_5 0 rfl rfl)
theorem dX0_undo_120 : decode cX0_undo 120 = .ok (.iconst 0, 1) := dk_3 (dk_at dksX0_undo_5 3 rfl rfl)
theorem dX0_undo_121 : decode cX0_undo 121 = .ok (.bipush 6, 2) := dk_16 6 (dk_at dksX0_undo_5 4 rfl rfl)
theorem dX0_undo_123 : decode cX0_undo 123 = .ok (.invokestatic 286, 3) := dk_184 1 30 (dk_at dksX0_undo_5 6 rfl rfl)
theorem dX0_undo_126 : decode cX0_undo 126 = .ok (.aload_n 0, 1) := dk_42 (dk_at dksX0_undo_5 9 rfl rfl)
theorem dX0_undo_127 : decode cX0_undo 127 = .ok (.getfield 107, 3) := dk_180 0 107 (dk_at dksX0_undo_5 10 rfl rfl)
theorem dX0_undo_130 : decode cX0_undo 130 = .ok (.iconst 0, 1) := dk_3 (dk_at dksX0_undo_5 13 rfl rfl)
theorem dX0_undo_131 : decode cX0_undo 131 = .ok (.aload_n 0, 1) := dk_42 (dk_at dksX0_undo_5 14 rfl rfl)
theorem dX0_undo_132 : decode cX0_undo 132 = .ok (.getfield 18, 3) := dk_180 0 18 (dk_at dksX0_undo_5 15 rfl rfl)
theorem dX0_undo_135 : decode cX0_undo 135 = .ok (.iconst 0, 1) := dk_3 (dk_at dksX0_undo_5 18 rfl rfl)
theorem dX0_undo_136 : decode cX0_undo 136 = .ok (.bipush 6, 2) := dk_16 6 (dk_at dksX0_undo_5 19 rfl rfl)
theorem dX0_undo_138 : decode cX0_undo 138 = .ok (.invokestatic 286, 3) := dk_184 1 30 (dk_at dksX0_undo_5 21 rfl rfl)
theorem dX0_undo_141 : decode cX0_undo 141 = .ok (.aload_n 0, 1) := dk_42 (dk_at dksX0_undo_6 0 rfl rfl)
theorem dX0_undo_142 : decode cX0_undo 142 = .ok (.getfield 110, 3) := dk_180 0 110 (dk_at dksX0_undo_6 1 rfl rfl)
theorem dX0_undo_145 : decode cX0_undo 145 = .ok (.iconst 0, 1) := dk_3 (dk_at dksX0_undo_6 4 rfl rfl)
theorem dX0_undo_146 : decode cX0_undo 146 = .ok (.aload_n 0, 1) := dk_42 (dk_at dksX0_undo_6 5 rfl rfl)
theorem dX0_undo_147 : decode cX0_undo 147 = .ok (.getfield 37, 3) := dk_180 0 37 (dk_at dksX0_undo_6 6 rfl rfl)
theorem dX0_undo_150 : decode cX0_undo 150 = .ok (.iconst 0, 1) := dk_3 (dk_at dksX0_undo_6 9 rfl rfl)
theorem dX0_undo_151 : decode cX0_undo 151 = .ok (.iconst 5, 1) := dk_8 (dk_at dksX0_undo_6 10 rfl rfl)
theorem dX0_undo_152 : decode cX0_undo 152 = .ok (.invokestatic 286, 3) := dk_184 1 30 (dk_at dksX0_undo_6 11 rfl rfl)
theorem dX0_undo_155 : decode cX0_undo 155 = .ok (.aload_n 0, 1) := dk_42 (dk_at dksX0_undo_6 14 rfl rfl)
theorem dX0_undo_156 : decode cX0_undo 156 = .ok (.getfield 113, 3) := dk_180 0 113 (dk_at dksX0_undo_6 15 rfl rfl)
theorem dX0_undo_159 : decode cX0_undo 159 = .ok (.iconst 0, 1) := dk_3 (dk_at dksX0_undo_6 18 rfl rfl)
theorem dX0_undo_160 : decode cX0_undo 160 = .ok (.aload_n 0, 1) := dk_42 (dk_at dksX0_undo_6 19 rfl rfl)
theorem dX0_undo_161 : decode cX0_undo 161 = .ok (.getfield 65, 3) := dk_180 0 65 (dk_at dksX0_undo_6 20 rfl rfl)
theorem dX0_undo_164 : decode cX0_undo 164 = .ok (.iconst 0, 1) := dk_3 (dk_at dksX0_undo_6 23 rfl rfl)
theorem dX0_undo_165 : decode cX0_undo 165 = .ok (.bipush 6, 2) := dk_16 6 (dk_at dksX0_undo_7 0 rfl rfl)
theorem dX0_undo_167 : decode cX0_undo 167 = .ok (.invokestatic 286, 3) := dk_184 1 30 (dk_at dksX0_undo_7 2 rfl rfl)
theorem dX0_undo_170 : decode cX0_undo 170 = .ok (.aload_n 0, 1) := dk_42 (dk_at dksX0_undo_7 5 rfl rfl)
theorem dX0_undo_171 : decode cX0_undo 171 = .ok (.getfield 116, 3) := dk_180 0 116 (dk_at dksX0_undo_7 6 rfl rfl)
theorem dX0_undo_174 : decode cX0_undo 174 = .ok (.iconst 0, 1) := dk_3 (dk_at dksX0_undo_7 9 rfl rfl)
theorem dX0_undo_175 : decode cX0_undo 175 = .ok (.aload_n 0, 1) := dk_42 (dk_at dksX0_undo_7 10 rfl rfl)
theorem dX0_undo_176 : decode cX0_undo 176 = .ok (.getfield 68, 3) := dk_180 0 68 (dk_at dksX0_undo_7 11 rfl rfl)
theorem dX0_undo_179 : decode cX0_undo 179 = .ok (.iconst 0, 1) := dk_3 (dk_at dksX0_undo_7 14 rfl rfl)
theorem dX0_undo_180 : decode cX0_undo 180 = .ok (.bipush 6, 2) := dk_16 6 (dk_at dksX0_undo_7 15 rfl rfl)
theorem dX0_undo_182 : decode cX0_undo 182 = .ok (.invokestatic 286, 3) := dk_184 1 30 (dk_at dksX0_undo_7 17 rfl rfl)
theorem dX0_undo_185 : decode cX0_undo 185 = .ok (.aload_n 0, 1) := dk_42 (dk_at dksX0_undo_7 20 rfl rfl)
theorem dX0_undo_186 : decode cX0_undo 186 = .ok (.getfield 119, 3) := dk_180 0 119 (dk_at dksX0_undo_7 21 rfl rfl)
theorem dX0_undo_189 : decode cX0_undo 189 = .ok (.iconst 0, 1) := dk_3 (dk_at dksX0_undo_8 0 rfl rfl)
theorem dX0_undo_190 : decode cX0_undo 190 = .ok (.aload_n 0, 1) := dk_42 (dk_at dksX0_undo_8 1 rfl rfl)
theorem dX0_undo_191 : decode cX0_undo 191 = .ok (.getfield 71, 3) := dk_180 0 71 (dk_at dksX0_undo_8 2 rfl rfl)
theorem dX0_undo_194 : decode cX0_undo 194 = .ok (.iconst 0, 1) := dk_3 (dk_at dksX0_undo_8 5 rfl rfl)
theorem dX0_undo_195 : decode cX0_undo 195 = .ok (.bipush 8, 2) := dk_16 8 (dk_at dksX0_undo_8 6 rfl rfl)
theorem dX0_undo_197 : decode cX0_undo 197 = .ok (.invokestatic 286, 3) := dk_184 1 30 (dk_at dksX0_undo_8 8 rfl rfl)
theorem dX0_undo_200 : decode cX0_undo 200 = .ok (.aload_n 0, 1) := dk_42 (dk_at dksX0_undo_8 11 rfl rfl)
theorem dX0_undo_201 : decode cX0_undo 201 = .ok (.getfield 122, 3) := dk_180 0 122 (dk_at dksX0_undo_8 12 rfl rfl)
theorem dX0_undo_204 : decode cX0_undo 204 = .ok (.iconst 0, 1) := dk_3 (dk_at dksX0_undo_8 15 rfl rfl)
theorem dX0_undo_205 : decode cX0_undo 205 = .ok (.aload_n 0, 1) := dk_42 (dk_at dksX0_undo_8 16 rfl rfl)
theorem dX0_undo_206 : decode cX0_undo 206 = .ok (.getfield 74, 3) := dk_180 0 74 (dk_at dksX0_undo_8 17 rfl rfl)
theorem dX0_undo_209 : decode cX0_undo 209 = .ok (.iconst 0, 1) := dk_3 (dk_at dksX0_undo_8 20 rfl rfl)
theorem dX0_undo_210 : decode cX0_undo 210 = .ok (.bipush 8, 2) := dk_16 8 (dk_at dksX0_undo_8 21 rfl rfl)
theorem dX0_undo_212 : decode cX0_undo 212 = .ok (.invokestatic 286, 3) := dk_184 1 30 (dk_at dksX0_undo_9 0 rfl rfl)
theorem dX0_undo_215 : decode cX0_undo 215 = .ok (.aload_n 0, 1) := dk_42 (dk_at dksX0_undo_9 3 rfl rfl)
theorem dX0_undo_216 : decode cX0_undo 216 = .ok (.aload_n 0, 1) := dk_42 (dk_at dksX0_undo_9 4 rfl rfl)
theorem dX0_undo_217 : decode cX0_undo 217 = .ok (.getfield 364, 3) := dk_180 1 108 (dk_at dksX0_undo_9 5 rfl rfl)
theorem dX0_undo_220 : decode cX0_undo 220 = .ok (.putfield 315, 3) := dk_181 1 59 (dk_at dksX0_undo_9 8 rfl rfl)
theorem dX0_undo_223 : decode cX0_undo 223 = .ok (.aload_n 0, 1) := dk_42 (dk_at dksX0_undo_9 11 rfl rfl)
theorem dX0_undo_224 : decode cX0_undo 224 = .ok (.aload_n 0, 1) := dk_42 (dk_at dksX0_undo_9 12 rfl rfl)
theorem dX0_undo_225 : decode cX0_undo 225 = .ok (.getfield 367, 3) := dk_180 1 111 (dk_at dksX0_undo_9 13 rfl rfl)
theorem dX0_undo_228 : decode cX0_undo 228 = .ok (.putfield 341, 3) := dk_181 1 85 (dk_at dksX0_undo_9 16 rfl rfl)
theorem dX0_undo_231 : decode cX0_undo 231 = .ok (.aload_n 0, 1) := dk_42 (dk_at dksX0_undo_9 19 rfl rfl)
theorem dX0_undo_232 : decode cX0_undo 232 = .ok (.aload_n 0, 1) := dk_42 (dk_at dksX0_undo_9 20 rfl rfl)
theorem dX0_undo_233 : decode cX0_undo 233 = .ok (.getfield 370, 3) := dk_180 1 114 (dk_at dksX0_undo_9 21 rfl rfl)
theorem dX0_undo_236 : decode cX0_undo 236 = .ok (.putfield 47, 3) := dk_181 0 47 (dk_at dksX0_undo_10 0 rfl rfl)
theorem dX0_undo_239 : decode cX0_undo 239 = .ok (.aload_n 0, 1) := dk_42 (dk_at dksX0_undo_10 3 rfl rfl)
theorem dX0_undo_240 : decode cX0_undo 240 = .ok (.getfield 134, 3) := dk_180 0 134 (dk_at dksX0_undo_10 4 rfl rfl)
theorem dX0_undo_243 : decode cX0_undo 243 = .ok (.ireturn, 1) := dk_172 (dk_at dksX0_undo_10 7 rfl rfl)
abbrev cX0_act : ByteArray := prog_1_method_61_code
def yX0_act : MethodName := ⟨RX0, "act", "(III)I"⟩
def dkwX0_act_2 : List UInt8 := [167, 0, 23, 28, 4, 160, 0, 12, 25, 4, 29, 182, 1, 123, 167, 0, 9, 25, 4, 29, 182, 1, 126, 172]
abbrev dktX0_act_2 : List UInt8 := dkwX0_act_2 ++ []
def dkwX0_act_1 : List UInt8 := [154, 0, 5, 3, 172, 42, 180, 0, 23, 27, 50, 58, 4, 28, 154, 0, 12, 25, 4, 29, 182, 1, 120]
abbrev dktX0_act_1 : List UInt8 := dkwX0_act_1 ++ dktX0_act_2
def dkwX0_act_0 : List UInt8 := [42, 180, 0, 61, 3, 181, 1, 117, 42, 27, 182, 0, 202, 153, 0, 12, 28, 3, 5, 184, 0, 130]
abbrev dktX0_act_0 : List UInt8 := dkwX0_act_0 ++ dktX0_act_1
theorem dksX0_act_0 : cX0_act.data.toList.drop 0 = dktX0_act_0 := by decide +kernel
theorem dksX0_act_1 : cX0_act.data.toList.drop 22 = dktX0_act_1 := dk_seg dksX0_act_0 22 rfl rfl
theorem dksX0_act_2 : cX0_act.data.toList.drop 45 = dktX0_act_2 := dk_seg dksX0_act_1 23 rfl rfl
theorem dX0_act_0 : decode cX0_act 0 = .ok (.aload_n 0, 1) := dk_42 (dk_at dksX0_act_0 0 rfl rfl)
theorem dX0_act_1 : decode cX0_act 1 = .ok (.getfield 61, 3) := dk_180 0 61 (dk_at dksX0_act_0 1 rfl rfl)
theorem dX0_act_4 : decode cX0_act 4 = .ok (.iconst 0, 1) := dk_3 (dk_at dksX0_act_0 4 rfl rfl)
theorem dX0_act_5 : decode cX0_act 5 = .ok (.putfield 373, 3) := dk_181 1 117 (dk_at dksX0_act_0 5 rfl rfl)
theorem dX0_act_8 : decode cX0_act 8 = .ok (.aload_n 0, 1) := dk_42 (dk_at dksX0_act_0 8 rfl rfl)
theorem dX0_act_9 : decode cX0_act 9 = .ok (.iload_n 1, 1) := dk_27 (dk_at dksX0_act_0 9 rfl rfl)
theorem dX0_act_10 : decode cX0_act 10 = .ok (.invokevirtual 202, 3) := dk_182 0 202 (dk_at dksX0_act_0 10 rfl rfl)
theorem dX0_act_13 : decode cX0_act 13 = .ok (.ifCond .eq 12, 3) := dk_153 0 12 (dk_at dksX0_act_0 13 rfl rfl)
theorem dX0_act_16 : decode cX0_act 16 = .ok (.iload_n 2, 1) := dk_28 (dk_at dksX0_act_0 16 rfl rfl)
theorem dX0_act_17 : decode cX0_act 17 = .ok (.iconst 0, 1) := dk_3 (dk_at dksX0_act_0 17 rfl rfl)
theorem dX0_act_18 : decode cX0_act 18 = .ok (.iconst 2, 1) := dk_5 (dk_at dksX0_act_0 18 rfl rfl)
theorem dX0_act_19 : decode cX0_act 19 = .ok (.invokestatic 130, 3) := dk_184 0 130 (dk_at dksX0_act_0 19 rfl rfl)
theorem dX0_act_22 : decode cX0_act 22 = .ok (.ifCond .ne 5, 3) := dk_154 0 5 (dk_at dksX0_act_1 0 rfl rfl)
theorem dX0_act_25 : decode cX0_act 25 = .ok (.iconst 0, 1) := dk_3 (dk_at dksX0_act_1 3 rfl rfl)
theorem dX0_act_26 : decode cX0_act 26 = .ok (.ireturn, 1) := dk_172 (dk_at dksX0_act_1 4 rfl rfl)
theorem dX0_act_27 : decode cX0_act 27 = .ok (.aload_n 0, 1) := dk_42 (dk_at dksX0_act_1 5 rfl rfl)
theorem dX0_act_28 : decode cX0_act 28 = .ok (.getfield 23, 3) := dk_180 0 23 (dk_at dksX0_act_1 6 rfl rfl)
theorem dX0_act_31 : decode cX0_act 31 = .ok (.iload_n 1, 1) := dk_27 (dk_at dksX0_act_1 9 rfl rfl)
theorem dX0_act_32 : decode cX0_act 32 = .ok (.aaload, 1) := dk_50 (dk_at dksX0_act_1 10 rfl rfl)
theorem dX0_act_33 : decode cX0_act 33 = .ok (.astore 4, 2) := dk_58 4 (dk_at dksX0_act_1 11 rfl rfl)
theorem dX0_act_35 : decode cX0_act 35 = .ok (.iload_n 2, 1) := dk_28 (dk_at dksX0_act_1 13 rfl rfl)
theorem dX0_act_36 : decode cX0_act 36 = .ok (.ifCond .ne 12, 3) := dk_154 0 12 (dk_at dksX0_act_1 14 rfl rfl)
theorem dX0_act_39 : decode cX0_act 39 = .ok (.aload 4, 2) := dk_25 4 (dk_at dksX0_act_1 17 rfl rfl)
theorem dX0_act_41 : decode cX0_act 41 = .ok (.iload_n 3, 1) := dk_29 (dk_at dksX0_act_1 19 rfl rfl)
theorem dX0_act_42 : decode cX0_act 42 = .ok (.invokevirtual 376, 3) := dk_182 1 120 (dk_at dksX0_act_1 20 rfl rfl)
theorem dX0_act_45 : decode cX0_act 45 = .ok (.goto 23, 3) := dk_167 0 23 (dk_at dksX0_act_2 0 rfl rfl)
theorem dX0_act_48 : decode cX0_act 48 = .ok (.iload_n 2, 1) := dk_28 (dk_at dksX0_act_2 3 rfl rfl)
theorem dX0_act_49 : decode cX0_act 49 = .ok (.iconst 1, 1) := dk_4 (dk_at dksX0_act_2 4 rfl rfl)
theorem dX0_act_50 : decode cX0_act 50 = .ok (.if_icmp .ne 12, 3) := dk_160 0 12 (dk_at dksX0_act_2 5 rfl rfl)
theorem dX0_act_53 : decode cX0_act 53 = .ok (.aload 4, 2) := dk_25 4 (dk_at dksX0_act_2 8 rfl rfl)
theorem dX0_act_55 : decode cX0_act 55 = .ok (.iload_n 3, 1) := dk_29 (dk_at dksX0_act_2 10 rfl rfl)
theorem dX0_act_56 : decode cX0_act 56 = .ok (.invokevirtual 379, 3) := dk_182 1 123 (dk_at dksX0_act_2 11 rfl rfl)
theorem dX0_act_59 : decode cX0_act 59 = .ok (.goto 9, 3) := dk_167 0 9 (dk_at dksX0_act_2 14 rfl rfl)
theorem dX0_act_62 : decode cX0_act 62 = .ok (.aload 4, 2) := dk_25 4 (dk_at dksX0_act_2 17 rfl rfl)
theorem dX0_act_64 : decode cX0_act 64 = .ok (.iload_n 3, 1) := dk_29 (dk_at dksX0_act_2 19 rfl rfl)
theorem dX0_act_65 : decode cX0_act 65 = .ok (.invokevirtual 382, 3) := dk_182 1 126 (dk_at dksX0_act_2 20 rfl rfl)
theorem dX0_act_68 : decode cX0_act 68 = .ok (.ireturn, 1) := dk_172 (dk_at dksX0_act_2 23 rfl rfl)
abbrev cX0_trace : ByteArray := prog_1_method_62_code
def yX0_trace : MethodName := ⟨RX0, "trace", "(I)I"⟩
def dkwX0_trace_1 : List UInt8 := [180, 0, 61, 180, 1, 129, 27, 46, 167, 0, 4, 2, 172]
abbrev dktX0_trace_1 : List UInt8 := dkwX0_trace_1 ++ []
def dkwX0_trace_0 : List UInt8 := [27, 3, 42, 180, 0, 61, 180, 1, 117, 16, 20, 184, 1, 2, 4, 100, 184, 0, 130, 153, 0, 15, 42]
abbrev dktX0_trace_0 : List UInt8 := dkwX0_trace_0 ++ dktX0_trace_1
theorem dksX0_trace_0 : cX0_trace.data.toList.drop 0 = dktX0_trace_0 := by decide +kernel
theorem dksX0_trace_1 : cX0_trace.data.toList.drop 23 = dktX0_trace_1 := dk_seg dksX0_trace_0 23 rfl rfl
theorem dX0_trace_0 : decode cX0_trace 0 = .ok (.iload_n 1, 1) := dk_27 (dk_at dksX0_trace_0 0 rfl rfl)
theorem dX0_trace_1 : decode cX0_trace 1 = .ok (.iconst 0, 1) := dk_3 (dk_at dksX0_trace_0 1 rfl rfl)
theorem dX0_trace_2 : decode cX0_trace 2 = .ok (.aload_n 0, 1) := dk_42 (dk_at dksX0_trace_0 2 rfl rfl)
theorem dX0_trace_3 : decode cX0_trace 3 = .ok (.getfield 61, 3) := dk_180 0 61 (dk_at dksX0_trace_0 3 rfl rfl)
theorem dX0_trace_6 : decode cX0_trace 6 = .ok (.getfield 373, 3) := dk_180 1 117 (dk_at dksX0_trace_0 6 rfl rfl)
theorem dX0_trace_9 : decode cX0_trace 9 = .ok (.bipush 20, 2) := dk_16 20 (dk_at dksX0_trace_0 9 rfl rfl)
theorem dX0_trace_11 : decode cX0_trace 11 = .ok (.invokestatic 258, 3) := dk_184 1 2 (dk_at dksX0_trace_0 11 rfl rfl)
theorem dX0_trace_14 : decode cX0_trace 14 = .ok (.iconst 1, 1) := dk_4 (dk_at dksX0_trace_0 14 rfl rfl)
theorem dX0_trace_15 : decode cX0_trace 15 = .ok (.isub, 1) := dk_100 (dk_at dksX0_trace_0 15 rfl rfl)
theorem dX0_trace_16 : decode cX0_trace 16 = .ok (.invokestatic 130, 3) := dk_184 0 130 (dk_at dksX0_trace_0 16 rfl rfl)
theorem dX0_trace_19 : decode cX0_trace 19 = .ok (.ifCond .eq 15, 3) := dk_153 0 15 (dk_at dksX0_trace_0 19 rfl rfl)
theorem dX0_trace_22 : decode cX0_trace 22 = .ok (.aload_n 0, 1) := dk_42 (dk_at dksX0_trace_0 22 rfl rfl)
theorem dX0_trace_23 : decode cX0_trace 23 = .ok (.getfield 61, 3) := dk_180 0 61 (dk_at dksX0_trace_1 0 rfl rfl)
theorem dX0_trace_26 : decode cX0_trace 26 = .ok (.getfield 385, 3) := dk_180 1 129 (dk_at dksX0_trace_1 3 rfl rfl)
theorem dX0_trace_29 : decode cX0_trace 29 = .ok (.iload_n 1, 1) := dk_27 (dk_at dksX0_trace_1 6 rfl rfl)
theorem dX0_trace_30 : decode cX0_trace 30 = .ok (.iaload, 1) := dk_46 (dk_at dksX0_trace_1 7 rfl rfl)
theorem dX0_trace_31 : decode cX0_trace 31 = .ok (.goto 4, 3) := dk_167 0 4 (dk_at dksX0_trace_1 8 rfl rfl)
theorem dX0_trace_34 : decode cX0_trace 34 = .ok (.iconst (-1), 1) := dk_2 (dk_at dksX0_trace_1 11 rfl rfl)
theorem dX0_trace_35 : decode cX0_trace 35 = .ok (.ireturn, 1) := dk_172 (dk_at dksX0_trace_1 12 rfl rfl)
abbrev cX0_taken : ByteArray := prog_1_method_64_code
def yX0_taken : MethodName := ⟨RX0, "taken", "(II)I"⟩
def dkwX0_taken_2 : List UInt8 := [172]
abbrev dktX0_taken_2 : List UInt8 := dkwX0_taken_2 ++ []
def dkwX0_taken_1 : List UInt8 := [180, 0, 23, 27, 50, 167, 0, 4, 1, 28, 184, 1, 132, 182, 0, 178, 172, 78, 16, 245, 172, 78, 16, 244]
abbrev dktX0_taken_1 : List UInt8 := dkwX0_taken_1 ++ dktX0_taken_2
def dkwX0_taken_0 : List UInt8 := [28, 3, 16, 6, 184, 0, 130, 154, 0, 6, 16, 254, 172, 42, 27, 182, 0, 202, 153, 0, 12, 42]
abbrev dktX0_taken_0 : List UInt8 := dkwX0_taken_0 ++ dktX0_taken_1
theorem dksX0_taken_0 : cX0_taken.data.toList.drop 0 = dktX0_taken_0 := by decide +kernel
theorem dksX0_taken_1 : cX0_taken.data.toList.drop 22 = dktX0_taken_1 := dk_seg dksX0_taken_0 22 rfl rfl
theorem dksX0_taken_2 : cX0_taken.data.toList.drop 46 = dktX0_taken_2 := dk_seg dksX0_taken_1 24 rfl rfl
theorem dX0_taken_0 : decode cX0_taken 0 = .ok (.iload_n 2, 1) := dk_28 (dk_at dksX0_taken_0 0 rfl rfl)
theorem dX0_taken_1 : decode cX0_taken 1 = .ok (.iconst 0, 1) := dk_3 (dk_at dksX0_taken_0 1 rfl rfl)
theorem dX0_taken_2 : decode cX0_taken 2 = .ok (.bipush 6, 2) := dk_16 6 (dk_at dksX0_taken_0 2 rfl rfl)
theorem dX0_taken_4 : decode cX0_taken 4 = .ok (.invokestatic 130, 3) := dk_184 0 130 (dk_at dksX0_taken_0 4 rfl rfl)
theorem dX0_taken_7 : decode cX0_taken 7 = .ok (.ifCond .ne 6, 3) := dk_154 0 6 (dk_at dksX0_taken_0 7 rfl rfl)
theorem dX0_taken_10 : decode cX0_taken 10 = .ok (.bipush (-2), 2) := dk_16 254 (dk_at dksX0_taken_0 10 rfl rfl)
theorem dX0_taken_12 : decode cX0_taken 12 = .ok (.ireturn, 1) := dk_172 (dk_at dksX0_taken_0 12 rfl rfl)
theorem dX0_taken_13 : decode cX0_taken 13 = .ok (.aload_n 0, 1) := dk_42 (dk_at dksX0_taken_0 13 rfl rfl)
theorem dX0_taken_14 : decode cX0_taken 14 = .ok (.iload_n 1, 1) := dk_27 (dk_at dksX0_taken_0 14 rfl rfl)
theorem dX0_taken_15 : decode cX0_taken 15 = .ok (.invokevirtual 202, 3) := dk_182 0 202 (dk_at dksX0_taken_0 15 rfl rfl)
theorem dX0_taken_18 : decode cX0_taken 18 = .ok (.ifCond .eq 12, 3) := dk_153 0 12 (dk_at dksX0_taken_0 18 rfl rfl)
theorem dX0_taken_21 : decode cX0_taken 21 = .ok (.aload_n 0, 1) := dk_42 (dk_at dksX0_taken_0 21 rfl rfl)
theorem dX0_taken_22 : decode cX0_taken 22 = .ok (.getfield 23, 3) := dk_180 0 23 (dk_at dksX0_taken_1 0 rfl rfl)
theorem dX0_taken_25 : decode cX0_taken 25 = .ok (.iload_n 1, 1) := dk_27 (dk_at dksX0_taken_1 3 rfl rfl)
theorem dX0_taken_26 : decode cX0_taken 26 = .ok (.aaload, 1) := dk_50 (dk_at dksX0_taken_1 4 rfl rfl)
theorem dX0_taken_27 : decode cX0_taken 27 = .ok (.goto 4, 3) := dk_167 0 4 (dk_at dksX0_taken_1 5 rfl rfl)
theorem dX0_taken_30 : decode cX0_taken 30 = .ok (.aconst_null, 1) := dk_1 (dk_at dksX0_taken_1 8 rfl rfl)
theorem dX0_taken_31 : decode cX0_taken 31 = .ok (.iload_n 2, 1) := dk_28 (dk_at dksX0_taken_1 9 rfl rfl)
theorem dX0_taken_32 : decode cX0_taken 32 = .ok (.invokestatic 388, 3) := dk_184 1 132 (dk_at dksX0_taken_1 10 rfl rfl)
theorem dX0_taken_35 : decode cX0_taken 35 = .ok (.invokevirtual 178, 3) := dk_182 0 178 (dk_at dksX0_taken_1 13 rfl rfl)
theorem dX0_taken_38 : decode cX0_taken 38 = .ok (.ireturn, 1) := dk_172 (dk_at dksX0_taken_1 16 rfl rfl)
theorem dX0_taken_39 : decode cX0_taken 39 = .ok (.astore_n 3, 1) := dk_78 (dk_at dksX0_taken_1 17 rfl rfl)
theorem dX0_taken_40 : decode cX0_taken 40 = .ok (.bipush (-11), 2) := dk_16 245 (dk_at dksX0_taken_1 18 rfl rfl)
theorem dX0_taken_42 : decode cX0_taken 42 = .ok (.ireturn, 1) := dk_172 (dk_at dksX0_taken_1 20 rfl rfl)
theorem dX0_taken_43 : decode cX0_taken 43 = .ok (.astore_n 3, 1) := dk_78 (dk_at dksX0_taken_1 21 rfl rfl)
theorem dX0_taken_44 : decode cX0_taken 44 = .ok (.bipush (-12), 2) := dk_16 244 (dk_at dksX0_taken_1 22 rfl rfl)
theorem dX0_taken_46 : decode cX0_taken 46 = .ok (.ireturn, 1) := dk_172 (dk_at dksX0_taken_2 0 rfl rfl)
abbrev cX0_takenFor : ByteArray := prog_1_method_63_code
def yX0_takenFor : MethodName := ⟨RX0, "takenFor", "(LHatsDecide$Tells;I)LHatsDecide$Hat;"⟩
def dkwX0_takenFor_3 : List UInt8 := [176, 42, 192, 0, 154, 176, 42, 192, 0, 157, 176]
abbrev dktX0_takenFor_3 : List UInt8 := dkwX0_takenFor_3 ++ []
def dkwX0_takenFor_2 : List UInt8 := [42, 192, 0, 21, 176, 42, 192, 0, 140, 176, 42, 192, 0, 145, 176, 42, 192, 0, 148, 176, 42, 192, 0, 151]
abbrev dktX0_takenFor_2 : List UInt8 := dkwX0_takenFor_2 ++ dktX0_takenFor_3
def dkwX0_takenFor_1 : List UInt8 := [170, 0, 0, 0, 0, 0, 69, 0, 0, 0, 0, 0, 0, 0, 5, 0, 0, 0, 39, 0, 0, 0, 44, 0, 0, 0, 49, 0, 0, 0, 54, 0, 0, 0, 59, 0, 0, 0, 64]
abbrev dktX0_takenFor_1 : List UInt8 := dkwX0_takenFor_1 ++ dktX0_takenFor_2
def dkwX0_takenFor_0 : List UInt8 := [27]
abbrev dktX0_takenFor_0 : List UInt8 := dkwX0_takenFor_0 ++ dktX0_takenFor_1
theorem dksX0_takenFor_0 : cX0_takenFor.data.toList.drop 0 = dktX0_takenFor_0 := by decide +kernel
theorem dksX0_takenFor_1 : cX0_takenFor.data.toList.drop 1 = dktX0_takenFor_1 := dk_seg dksX0_takenFor_0 1 rfl rfl
theorem dksX0_takenFor_2 : cX0_takenFor.data.toList.drop 40 = dktX0_takenFor_2 := dk_seg dksX0_takenFor_1 39 rfl rfl
theorem dksX0_takenFor_3 : cX0_takenFor.data.toList.drop 64 = dktX0_takenFor_3 := dk_seg dksX0_takenFor_2 24 rfl rfl
theorem dX0_takenFor_0 : decode cX0_takenFor 0 = .ok (.iload_n 1, 1) := dk_27 (dk_at dksX0_takenFor_0 0 rfl rfl)
theorem dX0_takenFor_1 : decode cX0_takenFor 1 = .ok (.tableswitch 69 0 5 #[39, 44, 49, 54, 59, 64], 39) := by decide +kernel
theorem dX0_takenFor_40 : decode cX0_takenFor 40 = .ok (.aload_n 0, 1) := dk_42 (dk_at dksX0_takenFor_2 0 rfl rfl)
theorem dX0_takenFor_41 : decode cX0_takenFor 41 = .ok (.checkcast 21, 3) := dk_192 0 21 (dk_at dksX0_takenFor_2 1 rfl rfl)
theorem dX0_takenFor_44 : decode cX0_takenFor 44 = .ok (.areturn, 1) := dk_176 (dk_at dksX0_takenFor_2 4 rfl rfl)
theorem dX0_takenFor_45 : decode cX0_takenFor 45 = .ok (.aload_n 0, 1) := dk_42 (dk_at dksX0_takenFor_2 5 rfl rfl)
theorem dX0_takenFor_46 : decode cX0_takenFor 46 = .ok (.checkcast 140, 3) := dk_192 0 140 (dk_at dksX0_takenFor_2 6 rfl rfl)
theorem dX0_takenFor_49 : decode cX0_takenFor 49 = .ok (.areturn, 1) := dk_176 (dk_at dksX0_takenFor_2 9 rfl rfl)
theorem dX0_takenFor_50 : decode cX0_takenFor 50 = .ok (.aload_n 0, 1) := dk_42 (dk_at dksX0_takenFor_2 10 rfl rfl)
theorem dX0_takenFor_51 : decode cX0_takenFor 51 = .ok (.checkcast 145, 3) := dk_192 0 145 (dk_at dksX0_takenFor_2 11 rfl rfl)
theorem dX0_takenFor_54 : decode cX0_takenFor 54 = .ok (.areturn, 1) := dk_176 (dk_at dksX0_takenFor_2 14 rfl rfl)
theorem dX0_takenFor_55 : decode cX0_takenFor 55 = .ok (.aload_n 0, 1) := dk_42 (dk_at dksX0_takenFor_2 15 rfl rfl)
theorem dX0_takenFor_56 : decode cX0_takenFor 56 = .ok (.checkcast 148, 3) := dk_192 0 148 (dk_at dksX0_takenFor_2 16 rfl rfl)
theorem dX0_takenFor_59 : decode cX0_takenFor 59 = .ok (.areturn, 1) := dk_176 (dk_at dksX0_takenFor_2 19 rfl rfl)
theorem dX0_takenFor_60 : decode cX0_takenFor 60 = .ok (.aload_n 0, 1) := dk_42 (dk_at dksX0_takenFor_2 20 rfl rfl)
theorem dX0_takenFor_61 : decode cX0_takenFor 61 = .ok (.checkcast 151, 3) := dk_192 0 151 (dk_at dksX0_takenFor_2 21 rfl rfl)
theorem dX0_takenFor_64 : decode cX0_takenFor 64 = .ok (.areturn, 1) := dk_176 (dk_at dksX0_takenFor_3 0 rfl rfl)
theorem dX0_takenFor_65 : decode cX0_takenFor 65 = .ok (.aload_n 0, 1) := dk_42 (dk_at dksX0_takenFor_3 1 rfl rfl)
theorem dX0_takenFor_66 : decode cX0_takenFor 66 = .ok (.checkcast 154, 3) := dk_192 0 154 (dk_at dksX0_takenFor_3 2 rfl rfl)
theorem dX0_takenFor_69 : decode cX0_takenFor 69 = .ok (.areturn, 1) := dk_176 (dk_at dksX0_takenFor_3 5 rfl rfl)
theorem dX0_takenFor_70 : decode cX0_takenFor 70 = .ok (.aload_n 0, 1) := dk_42 (dk_at dksX0_takenFor_3 6 rfl rfl)
theorem dX0_takenFor_71 : decode cX0_takenFor 71 = .ok (.checkcast 157, 3) := dk_192 0 157 (dk_at dksX0_takenFor_3 7 rfl rfl)
theorem dX0_takenFor_74 : decode cX0_takenFor 74 = .ok (.areturn, 1) := dk_176 (dk_at dksX0_takenFor_3 10 rfl rfl)
abbrev cX0_count : ByteArray := prog_1_method_65_code
def yX0_count : MethodName := ⟨RX0, "count", "(I)I"⟩
def dkwX0_count_3 : List UInt8 := [180, 1, 85, 172, 42, 180, 0, 228, 172, 42, 180, 0, 61, 180, 1, 117, 172, 16, 254, 172]
abbrev dktX0_count_3 : List UInt8 := dkwX0_count_3 ++ []
def dkwX0_count_2 : List UInt8 := [42, 180, 0, 134, 172, 42, 180, 0, 30, 180, 0, 126, 172, 42, 180, 0, 231, 172, 42, 180, 1, 59, 172, 42]
abbrev dktX0_count_2 : List UInt8 := dkwX0_count_2 ++ dktX0_count_3
def dkwX0_count_1 : List UInt8 := [170, 0, 0, 0, 0, 0, 84, 0, 0, 0, 0, 0, 0, 0, 6, 0, 0, 0, 43, 0, 0, 0, 48, 0, 0, 0, 56, 0, 0, 0, 61, 0, 0, 0, 66, 0, 0, 0, 71, 0, 0, 0, 76]
abbrev dktX0_count_1 : List UInt8 := dkwX0_count_1 ++ dktX0_count_2
def dkwX0_count_0 : List UInt8 := [27]
abbrev dktX0_count_0 : List UInt8 := dkwX0_count_0 ++ dktX0_count_1
theorem dksX0_count_0 : cX0_count.data.toList.drop 0 = dktX0_count_0 := by decide +kernel
theorem dksX0_count_1 : cX0_count.data.toList.drop 1 = dktX0_count_1 := dk_seg dksX0_count_0 1 rfl rfl
theorem dksX0_count_2 : cX0_count.data.toList.drop 44 = dktX0_count_2 := dk_seg dksX0_count_1 43 rfl rfl
theorem dksX0_count_3 : cX0_count.data.toList.drop 68 = dktX0_count_3 := dk_seg dksX0_count_2 24 rfl rfl
theorem dX0_count_0 : decode cX0_count 0 = .ok (.iload_n 1, 1) := dk_27 (dk_at dksX0_count_0 0 rfl rfl)
theorem dX0_count_1 : decode cX0_count 1 = .ok (.tableswitch 84 0 6 #[43, 48, 56, 61, 66, 71, 76], 43) := by decide +kernel
theorem dX0_count_44 : decode cX0_count 44 = .ok (.aload_n 0, 1) := dk_42 (dk_at dksX0_count_2 0 rfl rfl)
theorem dX0_count_45 : decode cX0_count 45 = .ok (.getfield 134, 3) := dk_180 0 134 (dk_at dksX0_count_2 1 rfl rfl)
theorem dX0_count_48 : decode cX0_count 48 = .ok (.ireturn, 1) := dk_172 (dk_at dksX0_count_2 4 rfl rfl)
theorem dX0_count_49 : decode cX0_count 49 = .ok (.aload_n 0, 1) := dk_42 (dk_at dksX0_count_2 5 rfl rfl)
theorem dX0_count_50 : decode cX0_count 50 = .ok (.getfield 30, 3) := dk_180 0 30 (dk_at dksX0_count_2 6 rfl rfl)
theorem dX0_count_53 : decode cX0_count 53 = .ok (.getfield 126, 3) := dk_180 0 126 (dk_at dksX0_count_2 9 rfl rfl)
theorem dX0_count_56 : decode cX0_count 56 = .ok (.ireturn, 1) := dk_172 (dk_at dksX0_count_2 12 rfl rfl)
theorem dX0_count_57 : decode cX0_count 57 = .ok (.aload_n 0, 1) := dk_42 (dk_at dksX0_count_2 13 rfl rfl)
theorem dX0_count_58 : decode cX0_count 58 = .ok (.getfield 231, 3) := dk_180 0 231 (dk_at dksX0_count_2 14 rfl rfl)
theorem dX0_count_61 : decode cX0_count 61 = .ok (.ireturn, 1) := dk_172 (dk_at dksX0_count_2 17 rfl rfl)
theorem dX0_count_62 : decode cX0_count 62 = .ok (.aload_n 0, 1) := dk_42 (dk_at dksX0_count_2 18 rfl rfl)
theorem dX0_count_63 : decode cX0_count 63 = .ok (.getfield 315, 3) := dk_180 1 59 (dk_at dksX0_count_2 19 rfl rfl)
theorem dX0_count_66 : decode cX0_count 66 = .ok (.ireturn, 1) := dk_172 (dk_at dksX0_count_2 22 rfl rfl)
theorem dX0_count_67 : decode cX0_count 67 = .ok (.aload_n 0, 1) := dk_42 (dk_at dksX0_count_2 23 rfl rfl)
theorem dX0_count_68 : decode cX0_count 68 = .ok (.getfield 341, 3) := dk_180 1 85 (dk_at dksX0_count_3 0 rfl rfl)
theorem dX0_count_71 : decode cX0_count 71 = .ok (.ireturn, 1) := dk_172 (dk_at dksX0_count_3 3 rfl rfl)
theorem dX0_count_72 : decode cX0_count 72 = .ok (.aload_n 0, 1) := dk_42 (dk_at dksX0_count_3 4 rfl rfl)
theorem dX0_count_73 : decode cX0_count 73 = .ok (.getfield 228, 3) := dk_180 0 228 (dk_at dksX0_count_3 5 rfl rfl)
theorem dX0_count_76 : decode cX0_count 76 = .ok (.ireturn, 1) := dk_172 (dk_at dksX0_count_3 8 rfl rfl)
theorem dX0_count_77 : decode cX0_count 77 = .ok (.aload_n 0, 1) := dk_42 (dk_at dksX0_count_3 9 rfl rfl)
theorem dX0_count_78 : decode cX0_count 78 = .ok (.getfield 61, 3) := dk_180 0 61 (dk_at dksX0_count_3 10 rfl rfl)
theorem dX0_count_81 : decode cX0_count 81 = .ok (.getfield 373, 3) := dk_180 1 117 (dk_at dksX0_count_3 13 rfl rfl)
theorem dX0_count_84 : decode cX0_count 84 = .ok (.ireturn, 1) := dk_172 (dk_at dksX0_count_3 16 rfl rfl)
theorem dX0_count_85 : decode cX0_count 85 = .ok (.bipush (-2), 2) := dk_16 254 (dk_at dksX0_count_3 17 rfl rfl)
theorem dX0_count_87 : decode cX0_count 87 = .ok (.ireturn, 1) := dk_172 (dk_at dksX0_count_3 19 rfl rfl)
abbrev cX0_tape : ByteArray := prog_1_method_68_code
def yX0_tape : MethodName := ⟨RX0, "tape", "(III)I"⟩
def dkwX0_tape_2 : List UInt8 := [29, 184, 1, 136, 181, 1, 95, 4, 172, 58, 4, 16, 242, 172]
abbrev dktX0_tape_2 : List UInt8 := dkwX0_tape_2 ++ []
def dkwX0_tape_1 : List UInt8 := [16, 60, 164, 0, 6, 16, 254, 172, 42, 180, 0, 79, 27, 50, 28, 2, 160, 0, 7, 1, 167, 0, 8, 28]
abbrev dktX0_tape_1 : List UInt8 := dkwX0_tape_1 ++ dktX0_tape_2
def dkwX0_tape_0 : List UInt8 := [27, 184, 1, 92, 154, 0, 5, 2, 172, 28, 2, 7, 184, 0, 130, 153, 0, 14, 28, 2, 159, 0, 12, 29]
abbrev dktX0_tape_0 : List UInt8 := dkwX0_tape_0 ++ dktX0_tape_1
theorem dksX0_tape_0 : cX0_tape.data.toList.drop 0 = dktX0_tape_0 := by decide +kernel
theorem dksX0_tape_1 : cX0_tape.data.toList.drop 24 = dktX0_tape_1 := dk_seg dksX0_tape_0 24 rfl rfl
theorem dksX0_tape_2 : cX0_tape.data.toList.drop 48 = dktX0_tape_2 := dk_seg dksX0_tape_1 24 rfl rfl
theorem dX0_tape_0 : decode cX0_tape 0 = .ok (.iload_n 1, 1) := dk_27 (dk_at dksX0_tape_0 0 rfl rfl)
theorem dX0_tape_1 : decode cX0_tape 1 = .ok (.invokestatic 348, 3) := dk_184 1 92 (dk_at dksX0_tape_0 1 rfl rfl)
theorem dX0_tape_4 : decode cX0_tape 4 = .ok (.ifCond .ne 5, 3) := dk_154 0 5 (dk_at dksX0_tape_0 4 rfl rfl)
theorem dX0_tape_7 : decode cX0_tape 7 = .ok (.iconst (-1), 1) := dk_2 (dk_at dksX0_tape_0 7 rfl rfl)
theorem dX0_tape_8 : decode cX0_tape 8 = .ok (.ireturn, 1) := dk_172 (dk_at dksX0_tape_0 8 rfl rfl)
theorem dX0_tape_9 : decode cX0_tape 9 = .ok (.iload_n 2, 1) := dk_28 (dk_at dksX0_tape_0 9 rfl rfl)
theorem dX0_tape_10 : decode cX0_tape 10 = .ok (.iconst (-1), 1) := dk_2 (dk_at dksX0_tape_0 10 rfl rfl)
theorem dX0_tape_11 : decode cX0_tape 11 = .ok (.iconst 4, 1) := dk_7 (dk_at dksX0_tape_0 11 rfl rfl)
theorem dX0_tape_12 : decode cX0_tape 12 = .ok (.invokestatic 130, 3) := dk_184 0 130 (dk_at dksX0_tape_0 12 rfl rfl)
theorem dX0_tape_15 : decode cX0_tape 15 = .ok (.ifCond .eq 14, 3) := dk_153 0 14 (dk_at dksX0_tape_0 15 rfl rfl)
theorem dX0_tape_18 : decode cX0_tape 18 = .ok (.iload_n 2, 1) := dk_28 (dk_at dksX0_tape_0 18 rfl rfl)
theorem dX0_tape_19 : decode cX0_tape 19 = .ok (.iconst (-1), 1) := dk_2 (dk_at dksX0_tape_0 19 rfl rfl)
theorem dX0_tape_20 : decode cX0_tape 20 = .ok (.if_icmp .eq 12, 3) := dk_159 0 12 (dk_at dksX0_tape_0 20 rfl rfl)
theorem dX0_tape_23 : decode cX0_tape 23 = .ok (.iload_n 3, 1) := dk_29 (dk_at dksX0_tape_0 23 rfl rfl)
theorem dX0_tape_24 : decode cX0_tape 24 = .ok (.bipush 60, 2) := dk_16 60 (dk_at dksX0_tape_1 0 rfl rfl)
theorem dX0_tape_26 : decode cX0_tape 26 = .ok (.if_icmp .le 6, 3) := dk_164 0 6 (dk_at dksX0_tape_1 2 rfl rfl)
theorem dX0_tape_29 : decode cX0_tape 29 = .ok (.bipush (-2), 2) := dk_16 254 (dk_at dksX0_tape_1 5 rfl rfl)
theorem dX0_tape_31 : decode cX0_tape 31 = .ok (.ireturn, 1) := dk_172 (dk_at dksX0_tape_1 7 rfl rfl)
theorem dX0_tape_32 : decode cX0_tape 32 = .ok (.aload_n 0, 1) := dk_42 (dk_at dksX0_tape_1 8 rfl rfl)
theorem dX0_tape_33 : decode cX0_tape 33 = .ok (.getfield 79, 3) := dk_180 0 79 (dk_at dksX0_tape_1 9 rfl rfl)
theorem dX0_tape_36 : decode cX0_tape 36 = .ok (.iload_n 1, 1) := dk_27 (dk_at dksX0_tape_1 12 rfl rfl)
theorem dX0_tape_37 : decode cX0_tape 37 = .ok (.aaload, 1) := dk_50 (dk_at dksX0_tape_1 13 rfl rfl)
theorem dX0_tape_38 : decode cX0_tape 38 = .ok (.iload_n 2, 1) := dk_28 (dk_at dksX0_tape_1 14 rfl rfl)
theorem dX0_tape_39 : decode cX0_tape 39 = .ok (.iconst (-1), 1) := dk_2 (dk_at dksX0_tape_1 15 rfl rfl)
theorem dX0_tape_40 : decode cX0_tape 40 = .ok (.if_icmp .ne 7, 3) := dk_160 0 7 (dk_at dksX0_tape_1 16 rfl rfl)
theorem dX0_tape_43 : decode cX0_tape 43 = .ok (.aconst_null, 1) := dk_1 (dk_at dksX0_tape_1 19 rfl rfl)
theorem dX0_tape_44 : decode cX0_tape 44 = .ok (.goto 8, 3) := dk_167 0 8 (dk_at dksX0_tape_1 20 rfl rfl)
theorem dX0_tape_47 : decode cX0_tape 47 = .ok (.iload_n 2, 1) := dk_28 (dk_at dksX0_tape_1 23 rfl rfl)
theorem dX0_tape_48 : decode cX0_tape 48 = .ok (.iload_n 3, 1) := dk_29 (dk_at dksX0_tape_2 0 rfl rfl)
theorem dX0_tape_49 : decode cX0_tape 49 = .ok (.invokestatic 392, 3) := dk_184 1 136 (dk_at dksX0_tape_2 1 rfl rfl)
theorem dX0_tape_52 : decode cX0_tape 52 = .ok (.putfield 351, 3) := dk_181 1 95 (dk_at dksX0_tape_2 4 rfl rfl)
theorem dX0_tape_55 : decode cX0_tape 55 = .ok (.iconst 1, 1) := dk_4 (dk_at dksX0_tape_2 7 rfl rfl)
theorem dX0_tape_56 : decode cX0_tape 56 = .ok (.ireturn, 1) := dk_172 (dk_at dksX0_tape_2 8 rfl rfl)
theorem dX0_tape_57 : decode cX0_tape 57 = .ok (.astore 4, 2) := dk_58 4 (dk_at dksX0_tape_2 9 rfl rfl)
theorem dX0_tape_59 : decode cX0_tape 59 = .ok (.bipush (-14), 2) := dk_16 242 (dk_at dksX0_tape_2 11 rfl rfl)
theorem dX0_tape_61 : decode cX0_tape 61 = .ok (.ireturn, 1) := dk_172 (dk_at dksX0_tape_2 13 rfl rfl)
abbrev cX0_rowOf : ByteArray := prog_1_method_66_code
def yX0_rowOf : MethodName := ⟨RX0, "rowOf", "(II)Ljava/lang/Object;"⟩
def dkwX0_rowOf_2 : List UInt8 := [27, 188, 8, 176, 27, 188, 9, 176, 27, 188, 10, 176, 27, 188, 11, 176, 27, 188, 4, 176]
abbrev dktX0_rowOf_2 : List UInt8 := dkwX0_rowOf_2 ++ []
def dkwX0_rowOf_1 : List UInt8 := [170, 0, 0, 0, 0, 0, 47, 0, 0, 0, 0, 0, 0, 0, 3, 0, 0, 0, 31, 0, 0, 0, 35, 0, 0, 0, 39, 0, 0, 0, 43]
abbrev dktX0_rowOf_1 : List UInt8 := dkwX0_rowOf_1 ++ dktX0_rowOf_2
def dkwX0_rowOf_0 : List UInt8 := [26]
abbrev dktX0_rowOf_0 : List UInt8 := dkwX0_rowOf_0 ++ dktX0_rowOf_1
theorem dksX0_rowOf_0 : cX0_rowOf.data.toList.drop 0 = dktX0_rowOf_0 := by decide +kernel
theorem dksX0_rowOf_1 : cX0_rowOf.data.toList.drop 1 = dktX0_rowOf_1 := dk_seg dksX0_rowOf_0 1 rfl rfl
theorem dksX0_rowOf_2 : cX0_rowOf.data.toList.drop 32 = dktX0_rowOf_2 := dk_seg dksX0_rowOf_1 31 rfl rfl
theorem dX0_rowOf_0 : decode cX0_rowOf 0 = .ok (.iload_n 0, 1) := dk_26 (dk_at dksX0_rowOf_0 0 rfl rfl)
theorem dX0_rowOf_1 : decode cX0_rowOf 1 = .ok (.tableswitch 47 0 3 #[31, 35, 39, 43], 31) := by decide +kernel
theorem dX0_rowOf_32 : decode cX0_rowOf 32 = .ok (.iload_n 1, 1) := dk_27 (dk_at dksX0_rowOf_2 0 rfl rfl)
theorem dX0_rowOf_33 : decode cX0_rowOf 33 = .ok (.newarray .byte, 2) := dk_188_8 (dk_at dksX0_rowOf_2 1 rfl rfl)
theorem dX0_rowOf_35 : decode cX0_rowOf 35 = .ok (.areturn, 1) := dk_176 (dk_at dksX0_rowOf_2 3 rfl rfl)
theorem dX0_rowOf_36 : decode cX0_rowOf 36 = .ok (.iload_n 1, 1) := dk_27 (dk_at dksX0_rowOf_2 4 rfl rfl)
theorem dX0_rowOf_37 : decode cX0_rowOf 37 = .ok (.newarray .short, 2) := dk_188_9 (dk_at dksX0_rowOf_2 5 rfl rfl)
theorem dX0_rowOf_39 : decode cX0_rowOf 39 = .ok (.areturn, 1) := dk_176 (dk_at dksX0_rowOf_2 7 rfl rfl)
theorem dX0_rowOf_40 : decode cX0_rowOf 40 = .ok (.iload_n 1, 1) := dk_27 (dk_at dksX0_rowOf_2 8 rfl rfl)
theorem dX0_rowOf_41 : decode cX0_rowOf 41 = .ok (.newarray .int, 2) := dk_188_10 (dk_at dksX0_rowOf_2 9 rfl rfl)
theorem dX0_rowOf_43 : decode cX0_rowOf 43 = .ok (.areturn, 1) := dk_176 (dk_at dksX0_rowOf_2 11 rfl rfl)
theorem dX0_rowOf_44 : decode cX0_rowOf 44 = .ok (.iload_n 1, 1) := dk_27 (dk_at dksX0_rowOf_2 12 rfl rfl)
theorem dX0_rowOf_45 : decode cX0_rowOf 45 = .ok (.newarray .long, 2) := dk_188_11 (dk_at dksX0_rowOf_2 13 rfl rfl)
theorem dX0_rowOf_47 : decode cX0_rowOf 47 = .ok (.areturn, 1) := dk_176 (dk_at dksX0_rowOf_2 15 rfl rfl)
theorem dX0_rowOf_48 : decode cX0_rowOf 48 = .ok (.iload_n 1, 1) := dk_27 (dk_at dksX0_rowOf_2 16 rfl rfl)
theorem dX0_rowOf_49 : decode cX0_rowOf 49 = .ok (.newarray .boolean, 2) := dk_188_4 (dk_at dksX0_rowOf_2 17 rfl rfl)
theorem dX0_rowOf_51 : decode cX0_rowOf 51 = .ok (.areturn, 1) := dk_176 (dk_at dksX0_rowOf_2 19 rfl rfl)
abbrev cX0_item : ByteArray := prog_1_method_69_code
def yX0_item : MethodName := ⟨RX0, "item", "(IIJ)I"⟩
def dkwX0_item_7 : List UInt8 := [180, 1, 95, 192, 1, 150, 28, 33, 9, 148, 153, 0, 7, 4, 167, 0, 4, 3, 84, 4, 172]
abbrev dktX0_item_7 : List UInt8 := dkwX0_item_7 ++ []
def dkwX0_item_6 : List UInt8 := [193, 1, 148, 153, 0, 18, 25, 10, 192, 1, 148, 58, 9, 25, 9, 28, 33, 80, 167, 0, 24, 25, 5]
abbrev dktX0_item_6 : List UInt8 := dkwX0_item_6 ++ dktX0_item_7
def dkwX0_item_5 : List UInt8 := [192, 1, 147, 58, 8, 25, 8, 28, 33, 136, 79, 167, 0, 54, 25, 5, 180, 1, 95, 58, 10, 25, 10]
abbrev dktX0_item_5 : List UInt8 := dkwX0_item_5 ++ dktX0_item_6
def dkwX0_item_4 : List UInt8 := [136, 147, 86, 167, 0, 85, 25, 5, 180, 1, 95, 58, 10, 25, 10, 193, 1, 147, 153, 0, 19, 25, 10]
abbrev dktX0_item_4 : List UInt8 := dkwX0_item_4 ++ dktX0_item_5
def dkwX0_item_3 : List UInt8 := [180, 1, 95, 58, 10, 25, 10, 193, 1, 145, 153, 0, 20, 25, 10, 192, 1, 145, 58, 7, 25, 7, 28, 33]
abbrev dktX0_item_3 : List UInt8 := dkwX0_item_3 ++ dktX0_item_4
def dkwX0_item_2 : List UInt8 := [153, 0, 20, 25, 10, 192, 1, 98, 58, 6, 25, 6, 28, 33, 136, 145, 84, 167, 0, 117, 25, 5]
abbrev dktX0_item_2 : List UInt8 := dkwX0_item_2 ++ dktX0_item_3
def dkwX0_item_1 : List UInt8 := [167, 0, 11, 58, 6, 25, 6, 180, 0, 244, 172, 25, 5, 180, 1, 95, 58, 10, 25, 10, 193, 1, 98]
abbrev dktX0_item_1 : List UInt8 := dkwX0_item_1 ++ dktX0_item_2
def dkwX0_item_0 : List UInt8 := [27, 184, 1, 92, 154, 0, 5, 2, 172, 42, 180, 0, 79, 27, 50, 58, 5, 25, 5, 28, 182, 1, 142]
abbrev dktX0_item_0 : List UInt8 := dkwX0_item_0 ++ dktX0_item_1
theorem dksX0_item_0 : cX0_item.data.toList.drop 0 = dktX0_item_0 := by decide +kernel
theorem dksX0_item_1 : cX0_item.data.toList.drop 23 = dktX0_item_1 := dk_seg dksX0_item_0 23 rfl rfl
theorem dksX0_item_2 : cX0_item.data.toList.drop 46 = dktX0_item_2 := dk_seg dksX0_item_1 23 rfl rfl
theorem dksX0_item_3 : cX0_item.data.toList.drop 68 = dktX0_item_3 := dk_seg dksX0_item_2 22 rfl rfl
theorem dksX0_item_4 : cX0_item.data.toList.drop 92 = dktX0_item_4 := dk_seg dksX0_item_3 24 rfl rfl
theorem dksX0_item_5 : cX0_item.data.toList.drop 115 = dktX0_item_5 := dk_seg dksX0_item_4 23 rfl rfl
theorem dksX0_item_6 : cX0_item.data.toList.drop 138 = dktX0_item_6 := dk_seg dksX0_item_5 23 rfl rfl
theorem dksX0_item_7 : cX0_item.data.toList.drop 161 = dktX0_item_7 := dk_seg dksX0_item_6 23 rfl rfl
theorem dX0_item_0 : decode cX0_item 0 = .ok (.iload_n 1, 1) := dk_27 (dk_at dksX0_item_0 0 rfl rfl)
theorem dX0_item_1 : decode cX0_item 1 = .ok (.invokestatic 348, 3) := dk_184 1 92 (dk_at dksX0_item_0 1 rfl rfl)
theorem dX0_item_4 : decode cX0_item 4 = .ok (.ifCond .ne 5, 3) := dk_154 0 5 (dk_at dksX0_item_0 4 rfl rfl)
theorem dX0_item_7 : decode cX0_item 7 = .ok (.iconst (-1), 1) := dk_2 (dk_at dksX0_item_0 7 rfl rfl)
theorem dX0_item_8 : decode cX0_item 8 = .ok (.ireturn, 1) := dk_172 (dk_at dksX0_item_0 8 rfl rfl)
theorem dX0_item_9 : decode cX0_item 9 = .ok (.aload_n 0, 1) := dk_42 (dk_at dksX0_item_0 9 rfl rfl)
theorem dX0_item_10 : decode cX0_item 10 = .ok (.getfield 79, 3) := dk_180 0 79 (dk_at dksX0_item_0 10 rfl rfl)
theorem dX0_item_13 : decode cX0_item 13 = .ok (.iload_n 1, 1) := dk_27 (dk_at dksX0_item_0 13 rfl rfl)
theorem dX0_item_14 : decode cX0_item 14 = .ok (.aaload, 1) := dk_50 (dk_at dksX0_item_0 14 rfl rfl)
theorem dX0_item_15 : decode cX0_item 15 = .ok (.astore 5, 2) := dk_58 5 (dk_at dksX0_item_0 15 rfl rfl)
theorem dX0_item_17 : decode cX0_item 17 = .ok (.aload 5, 2) := dk_25 5 (dk_at dksX0_item_0 17 rfl rfl)
theorem dX0_item_19 : decode cX0_item 19 = .ok (.iload_n 2, 1) := dk_28 (dk_at dksX0_item_0 19 rfl rfl)
theorem dX0_item_20 : decode cX0_item 20 = .ok (.invokevirtual 398, 3) := dk_182 1 142 (dk_at dksX0_item_0 20 rfl rfl)
theorem dX0_item_23 : decode cX0_item 23 = .ok (.goto 11, 3) := dk_167 0 11 (dk_at dksX0_item_1 0 rfl rfl)
theorem dX0_item_26 : decode cX0_item 26 = .ok (.astore 6, 2) := dk_58 6 (dk_at dksX0_item_1 3 rfl rfl)
theorem dX0_item_28 : decode cX0_item 28 = .ok (.aload 6, 2) := dk_25 6 (dk_at dksX0_item_1 5 rfl rfl)
theorem dX0_item_30 : decode cX0_item 30 = .ok (.getfield 244, 3) := dk_180 0 244 (dk_at dksX0_item_1 7 rfl rfl)
theorem dX0_item_33 : decode cX0_item 33 = .ok (.ireturn, 1) := dk_172 (dk_at dksX0_item_1 10 rfl rfl)
theorem dX0_item_34 : decode cX0_item 34 = .ok (.aload 5, 2) := dk_25 5 (dk_at dksX0_item_1 11 rfl rfl)
theorem dX0_item_36 : decode cX0_item 36 = .ok (.getfield 351, 3) := dk_180 1 95 (dk_at dksX0_item_1 13 rfl rfl)
theorem dX0_item_39 : decode cX0_item 39 = .ok (.astore 10, 2) := dk_58 10 (dk_at dksX0_item_1 16 rfl rfl)
theorem dX0_item_41 : decode cX0_item 41 = .ok (.aload 10, 2) := dk_25 10 (dk_at dksX0_item_1 18 rfl rfl)
theorem dX0_item_43 : decode cX0_item 43 = .ok (.instanceof 354, 3) := dk_193 1 98 (dk_at dksX0_item_1 20 rfl rfl)
theorem dX0_item_46 : decode cX0_item 46 = .ok (.ifCond .eq 20, 3) := dk_153 0 20 (dk_at dksX0_item_2 0 rfl rfl)
theorem dX0_item_49 : decode cX0_item 49 = .ok (.aload 10, 2) := dk_25 10 (dk_at dksX0_item_2 3 rfl rfl)
theorem dX0_item_51 : decode cX0_item 51 = .ok (.checkcast 354, 3) := dk_192 1 98 (dk_at dksX0_item_2 5 rfl rfl)
theorem dX0_item_54 : decode cX0_item 54 = .ok (.astore 6, 2) := dk_58 6 (dk_at dksX0_item_2 8 rfl rfl)
theorem dX0_item_56 : decode cX0_item 56 = .ok (.aload 6, 2) := dk_25 6 (dk_at dksX0_item_2 10 rfl rfl)
theorem dX0_item_58 : decode cX0_item 58 = .ok (.iload_n 2, 1) := dk_28 (dk_at dksX0_item_2 12 rfl rfl)
theorem dX0_item_59 : decode cX0_item 59 = .ok (.lload_n 3, 1) := dk_33 (dk_at dksX0_item_2 13 rfl rfl)
theorem dX0_item_60 : decode cX0_item 60 = .ok (.l2i, 1) := dk_136 (dk_at dksX0_item_2 14 rfl rfl)
theorem dX0_item_61 : decode cX0_item 61 = .ok (.i2b, 1) := dk_145 (dk_at dksX0_item_2 15 rfl rfl)
theorem dX0_item_62 : decode cX0_item 62 = .ok (.bastore, 1) := dk_84 (dk_at dksX0_item_2 16 rfl rfl)
theorem dX0_item_63 : decode cX0_item 63 = .ok (.goto 117, 3) := dk_167 0 117 (dk_at dksX0_item_2 17 rfl rfl)
theorem dX0_item_66 : decode cX0_item 66 = .ok (.aload 5, 2) := dk_25 5 (dk_at dksX0_item_2 20 rfl rfl)
theorem dX0_item_68 : decode cX0_item 68 = .ok (.getfield 351, 3) := dk_180 1 95 (dk_at dksX0_item_3 0 rfl rfl)
theorem dX0_item_71 : decode cX0_item 71 = .ok (.astore 10, 2) := dk_58 10 (dk_at dksX0_item_3 3 rfl rfl)
theorem dX0_item_73 : decode cX0_item 73 = .ok (.aload 10, 2) := dk_25 10 (dk_at dksX0_item_3 5 rfl rfl)
theorem dX0_item_75 : decode cX0_item 75 = .ok (.instanceof 401, 3) := dk_193 1 145 (dk_at dksX0_item_3 7 rfl rfl)
theorem dX0_item_78 : decode cX0_item 78 = .ok (.ifCond .eq 20, 3) := dk_153 0 20 (dk_at dksX0_item_3 10 rfl rfl)
theorem dX0_item_81 : decode cX0_item 81 = .ok (.aload 10, 2) := dk_25 10 (dk_at dksX0_item_3 13 rfl rfl)
theorem dX0_item_83 : decode cX0_item 83 = .ok (.checkcast 401, 3) := dk_192 1 145 (dk_at dksX0_item_3 15 rfl rfl)
theorem dX0_item_86 : decode cX0_item 86 = .ok (.astore 7, 2) := dk_58 7 (dk_at dksX0_item_3 18 rfl rfl)
theorem dX0_item_88 : decode cX0_item 88 = .ok (.aload 7, 2) := dk_25 7 (dk_at dksX0_item_3 20 rfl rfl)
theorem dX0_item_90 : decode cX0_item 90 = .ok (.iload_n 2, 1) := dk_28 (dk_at dksX0_item_3 22 rfl rfl)
theorem dX0_item_91 : decode cX0_item 91 = .ok (.lload_n 3, 1) := dk_33 (dk_at dksX0_item_3 23 rfl rfl)
theorem dX0_item_92 : decode cX0_item 92 = .ok (.l2i, 1) := dk_136 (dk_at dksX0_item_4 0 rfl rfl)
theorem dX0_item_93 : decode cX0_item 93 = .ok (.i2s, 1) := dk_147 (dk_at dksX0_item_4 1 rfl rfl)
theorem dX0_item_94 : decode cX0_item 94 = .ok (.sastore, 1) := dk_86 (dk_at dksX0_item_4 2 rfl rfl)
theorem dX0_item_95 : decode cX0_item 95 = .ok (.goto 85, 3) := dk_167 0 85 (dk_at dksX0_item_4 3 rfl rfl)
theorem dX0_item_98 : decode cX0_item 98 = .ok (.aload 5, 2) := dk_25 5 (dk_at dksX0_item_4 6 rfl rfl)
theorem dX0_item_100 : decode cX0_item 100 = .ok (.getfield 351, 3) := dk_180 1 95 (dk_at dksX0_item_4 8 rfl rfl)
theorem dX0_item_103 : decode cX0_item 103 = .ok (.astore 10, 2) := dk_58 10 (dk_at dksX0_item_4 11 rfl rfl)
theorem dX0_item_105 : decode cX0_item 105 = .ok (.aload 10, 2) := dk_25 10 (dk_at dksX0_item_4 13 rfl rfl)
theorem dX0_item_107 : decode cX0_item 107 = .ok (.instanceof 403, 3) := dk_193 1 147 (dk_at dksX0_item_4 15 rfl rfl)
theorem dX0_item_110 : decode cX0_item 110 = .ok (.ifCond .eq 19, 3) := dk_153 0 19 (dk_at dksX0_item_4 18 rfl rfl)
theorem dX0_item_113 : decode cX0_item 113 = .ok (.aload 10, 2) := dk_25 10 (dk_at dksX0_item_4 21 rfl rfl)
theorem dX0_item_115 : decode cX0_item 115 = .ok (.checkcast 403, 3) := dk_192 1 147 (dk_at dksX0_item_5 0 rfl rfl)
theorem dX0_item_118 : decode cX0_item 118 = .ok (.astore 8, 2) := dk_58 8 (dk_at dksX0_item_5 3 rfl rfl)
theorem dX0_item_120 : decode cX0_item 120 = .ok (.aload 8, 2) := dk_25 8 (dk_at dksX0_item_5 5 rfl rfl)
theorem dX0_item_122 : decode cX0_item 122 = .ok (.iload_n 2, 1) := dk_28 (dk_at dksX0_item_5 7 rfl rfl)
theorem dX0_item_123 : decode cX0_item 123 = .ok (.lload_n 3, 1) := dk_33 (dk_at dksX0_item_5 8 rfl rfl)
theorem dX0_item_124 : decode cX0_item 124 = .ok (.l2i, 1) := dk_136 (dk_at dksX0_item_5 9 rfl rfl)
theorem dX0_item_125 : decode cX0_item 125 = .ok (.iastore, 1) := dk_79 (dk_at dksX0_item_5 10 rfl rfl)
theorem dX0_item_126 : decode cX0_item 126 = .ok (.goto 54, 3) := dk_167 0 54 (dk_at dksX0_item_5 11 rfl rfl)
theorem dX0_item_129 : decode cX0_item 129 = .ok (.aload 5, 2) := dk_25 5 (dk_at dksX0_item_5 14 rfl rfl)
theorem dX0_item_131 : decode cX0_item 131 = .ok (.getfield 351, 3) := dk_180 1 95 (dk_at dksX0_item_5 16 rfl rfl)
theorem dX0_item_134 : decode cX0_item 134 = .ok (.astore 10, 2) := dk_58 10 (dk_at dksX0_item_5 19 rfl rfl)
theorem dX0_item_136 : decode cX0_item 136 = .ok (.aload 10, 2) := dk_25 10 (dk_at dksX0_item_5 21 rfl rfl)
theorem dX0_item_138 : decode cX0_item 138 = .ok (.instanceof 404, 3) := dk_193 1 148 (dk_at dksX0_item_6 0 rfl rfl)
theorem dX0_item_141 : decode cX0_item 141 = .ok (.ifCond .eq 18, 3) := dk_153 0 18 (dk_at dksX0_item_6 3 rfl rfl)
theorem dX0_item_144 : decode cX0_item 144 = .ok (.aload 10, 2) := dk_25 10 (dk_at dksX0_item_6 6 rfl rfl)
theorem dX0_item_146 : decode cX0_item 146 = .ok (.checkcast 404, 3) := dk_192 1 148 (dk_at dksX0_item_6 8 rfl rfl)
theorem dX0_item_149 : decode cX0_item 149 = .ok (.astore 9, 2) := dk_58 9 (dk_at dksX0_item_6 11 rfl rfl)
theorem dX0_item_151 : decode cX0_item 151 = .ok (.aload 9, 2) := dk_25 9 (dk_at dksX0_item_6 13 rfl rfl)
theorem dX0_item_153 : decode cX0_item 153 = .ok (.iload_n 2, 1) := dk_28 (dk_at dksX0_item_6 15 rfl rfl)
theorem dX0_item_154 : decode cX0_item 154 = .ok (.lload_n 3, 1) := dk_33 (dk_at dksX0_item_6 16 rfl rfl)
theorem dX0_item_155 : decode cX0_item 155 = .ok (.lastore, 1) := dk_80 (dk_at dksX0_item_6 17 rfl rfl)
theorem dX0_item_156 : decode cX0_item 156 = .ok (.goto 24, 3) := dk_167 0 24 (dk_at dksX0_item_6 18 rfl rfl)
theorem dX0_item_159 : decode cX0_item 159 = .ok (.aload 5, 2) := dk_25 5 (dk_at dksX0_item_6 21 rfl rfl)
theorem dX0_item_161 : decode cX0_item 161 = .ok (.getfield 351, 3) := dk_180 1 95 (dk_at dksX0_item_7 0 rfl rfl)
theorem dX0_item_164 : decode cX0_item 164 = .ok (.checkcast 406, 3) := dk_192 1 150 (dk_at dksX0_item_7 3 rfl rfl)
theorem dX0_item_167 : decode cX0_item 167 = .ok (.iload_n 2, 1) := dk_28 (dk_at dksX0_item_7 6 rfl rfl)
theorem dX0_item_168 : decode cX0_item 168 = .ok (.lload_n 3, 1) := dk_33 (dk_at dksX0_item_7 7 rfl rfl)
theorem dX0_item_169 : decode cX0_item 169 = .ok (.lconst 0, 1) := dk_9 (dk_at dksX0_item_7 8 rfl rfl)
theorem dX0_item_170 : decode cX0_item 170 = .ok (.lcmp, 1) := dk_148 (dk_at dksX0_item_7 9 rfl rfl)
theorem dX0_item_171 : decode cX0_item 171 = .ok (.ifCond .eq 7, 3) := dk_153 0 7 (dk_at dksX0_item_7 10 rfl rfl)
theorem dX0_item_174 : decode cX0_item 174 = .ok (.iconst 1, 1) := dk_4 (dk_at dksX0_item_7 13 rfl rfl)
theorem dX0_item_175 : decode cX0_item 175 = .ok (.goto 4, 3) := dk_167 0 4 (dk_at dksX0_item_7 14 rfl rfl)
theorem dX0_item_178 : decode cX0_item 178 = .ok (.iconst 0, 1) := dk_3 (dk_at dksX0_item_7 17 rfl rfl)
theorem dX0_item_179 : decode cX0_item 179 = .ok (.bastore, 1) := dk_84 (dk_at dksX0_item_7 18 rfl rfl)
theorem dX0_item_180 : decode cX0_item 180 = .ok (.iconst 1, 1) := dk_4 (dk_at dksX0_item_7 19 rfl rfl)
theorem dX0_item_181 : decode cX0_item 181 = .ok (.ireturn, 1) := dk_172 (dk_at dksX0_item_7 20 rfl rfl)
abbrev cX0_read : ByteArray := prog_1_method_70_code
def yX0_read : MethodName := ⟨RX0, "read", "(II)J"⟩
def dkwX0_read_7 : List UInt8 := [192, 1, 150, 28, 51, 153, 0, 7, 10, 167, 0, 4, 9, 173]
abbrev dktX0_read_7 : List UInt8 := dkwX0_read_7 ++ []
def dkwX0_read_6 : List UInt8 := [193, 1, 148, 153, 0, 17, 25, 5, 192, 1, 148, 58, 4, 25, 4, 28, 47, 167, 0, 20, 45, 180, 1, 95]
abbrev dktX0_read_6 : List UInt8 := dkwX0_read_6 ++ dktX0_read_7
def dkwX0_read_5 : List UInt8 := [153, 0, 16, 25, 5, 192, 1, 147, 58, 4, 25, 4, 28, 46, 133, 173, 45, 180, 1, 95, 58, 5, 25, 5]
abbrev dktX0_read_5 : List UInt8 := dkwX0_read_5 ++ dktX0_read_6
def dkwX0_read_4 : List UInt8 := [192, 1, 145, 58, 4, 25, 4, 28, 53, 133, 173, 45, 180, 1, 95, 58, 5, 25, 5, 193, 1, 147]
abbrev dktX0_read_4 : List UInt8 := dkwX0_read_4 ++ dktX0_read_5
def dkwX0_read_3 : List UInt8 := [25, 4, 28, 51, 133, 173, 45, 180, 1, 95, 58, 5, 25, 5, 193, 1, 145, 153, 0, 16, 25, 5]
abbrev dktX0_read_3 : List UInt8 := dkwX0_read_3 ++ dktX0_read_4
def dkwX0_read_2 : List UInt8 := [27, 50, 78, 45, 180, 1, 95, 58, 5, 25, 5, 193, 1, 98, 153, 0, 16, 25, 5, 192, 1, 98, 58, 4]
abbrev dktX0_read_2 : List UInt8 := dkwX0_read_2 ++ dktX0_read_3
def dkwX0_read_1 : List UInt8 := [180, 0, 79, 27, 50, 182, 1, 152, 4, 100, 184, 0, 130, 154, 0, 7, 20, 1, 79, 173, 42, 180, 0, 79]
abbrev dktX0_read_1 : List UInt8 := dkwX0_read_1 ++ dktX0_read_2
def dkwX0_read_0 : List UInt8 := [27, 184, 1, 92, 153, 0, 34, 42, 180, 0, 79, 27, 50, 180, 1, 95, 198, 0, 22, 28, 3, 42]
abbrev dktX0_read_0 : List UInt8 := dkwX0_read_0 ++ dktX0_read_1
theorem dksX0_read_0 : cX0_read.data.toList.drop 0 = dktX0_read_0 := by decide +kernel
theorem dksX0_read_1 : cX0_read.data.toList.drop 22 = dktX0_read_1 := dk_seg dksX0_read_0 22 rfl rfl
theorem dksX0_read_2 : cX0_read.data.toList.drop 46 = dktX0_read_2 := dk_seg dksX0_read_1 24 rfl rfl
theorem dksX0_read_3 : cX0_read.data.toList.drop 70 = dktX0_read_3 := dk_seg dksX0_read_2 24 rfl rfl
theorem dksX0_read_4 : cX0_read.data.toList.drop 92 = dktX0_read_4 := dk_seg dksX0_read_3 22 rfl rfl
theorem dksX0_read_5 : cX0_read.data.toList.drop 114 = dktX0_read_5 := dk_seg dksX0_read_4 22 rfl rfl
theorem dksX0_read_6 : cX0_read.data.toList.drop 138 = dktX0_read_6 := dk_seg dksX0_read_5 24 rfl rfl
theorem dksX0_read_7 : cX0_read.data.toList.drop 162 = dktX0_read_7 := dk_seg dksX0_read_6 24 rfl rfl
theorem dX0_read_0 : decode cX0_read 0 = .ok (.iload_n 1, 1) := dk_27 (dk_at dksX0_read_0 0 rfl rfl)
theorem dX0_read_1 : decode cX0_read 1 = .ok (.invokestatic 348, 3) := dk_184 1 92 (dk_at dksX0_read_0 1 rfl rfl)
theorem dX0_read_4 : decode cX0_read 4 = .ok (.ifCond .eq 34, 3) := dk_153 0 34 (dk_at dksX0_read_0 4 rfl rfl)
theorem dX0_read_7 : decode cX0_read 7 = .ok (.aload_n 0, 1) := dk_42 (dk_at dksX0_read_0 7 rfl rfl)
theorem dX0_read_8 : decode cX0_read 8 = .ok (.getfield 79, 3) := dk_180 0 79 (dk_at dksX0_read_0 8 rfl rfl)
theorem dX0_read_11 : decode cX0_read 11 = .ok (.iload_n 1, 1) := dk_27 (dk_at dksX0_read_0 11 rfl rfl)
theorem dX0_read_12 : decode cX0_read 12 = .ok (.aaload, 1) := dk_50 (dk_at dksX0_read_0 12 rfl rfl)
theorem dX0_read_13 : decode cX0_read 13 = .ok (.getfield 351, 3) := dk_180 1 95 (dk_at dksX0_read_0 13 rfl rfl)
theorem dX0_read_16 : decode cX0_read 16 = .ok (.ifnull 22, 3) := dk_198 0 22 (dk_at dksX0_read_0 16 rfl rfl)
theorem dX0_read_19 : decode cX0_read 19 = .ok (.iload_n 2, 1) := dk_28 (dk_at dksX0_read_0 19 rfl rfl)
theorem dX0_read_20 : decode cX0_read 20 = .ok (.iconst 0, 1) := dk_3 (dk_at dksX0_read_0 20 rfl rfl)
theorem dX0_read_21 : decode cX0_read 21 = .ok (.aload_n 0, 1) := dk_42 (dk_at dksX0_read_0 21 rfl rfl)
theorem dX0_read_22 : decode cX0_read 22 = .ok (.getfield 79, 3) := dk_180 0 79 (dk_at dksX0_read_1 0 rfl rfl)
theorem dX0_read_25 : decode cX0_read 25 = .ok (.iload_n 1, 1) := dk_27 (dk_at dksX0_read_1 3 rfl rfl)
theorem dX0_read_26 : decode cX0_read 26 = .ok (.aaload, 1) := dk_50 (dk_at dksX0_read_1 4 rfl rfl)
theorem dX0_read_27 : decode cX0_read 27 = .ok (.invokevirtual 408, 3) := dk_182 1 152 (dk_at dksX0_read_1 5 rfl rfl)
theorem dX0_read_30 : decode cX0_read 30 = .ok (.iconst 1, 1) := dk_4 (dk_at dksX0_read_1 8 rfl rfl)
theorem dX0_read_31 : decode cX0_read 31 = .ok (.isub, 1) := dk_100 (dk_at dksX0_read_1 9 rfl rfl)
theorem dX0_read_32 : decode cX0_read 32 = .ok (.invokestatic 130, 3) := dk_184 0 130 (dk_at dksX0_read_1 10 rfl rfl)
theorem dX0_read_35 : decode cX0_read 35 = .ok (.ifCond .ne 7, 3) := dk_154 0 7 (dk_at dksX0_read_1 13 rfl rfl)
theorem dX0_read_38 : decode cX0_read 38 = .ok (.ldc2_w 335, 3) := dk_20 1 79 (dk_at dksX0_read_1 16 rfl rfl)
theorem dX0_read_41 : decode cX0_read 41 = .ok (.lreturn, 1) := dk_173 (dk_at dksX0_read_1 19 rfl rfl)
theorem dX0_read_42 : decode cX0_read 42 = .ok (.aload_n 0, 1) := dk_42 (dk_at dksX0_read_1 20 rfl rfl)
theorem dX0_read_43 : decode cX0_read 43 = .ok (.getfield 79, 3) := dk_180 0 79 (dk_at dksX0_read_1 21 rfl rfl)
theorem dX0_read_46 : decode cX0_read 46 = .ok (.iload_n 1, 1) := dk_27 (dk_at dksX0_read_2 0 rfl rfl)
theorem dX0_read_47 : decode cX0_read 47 = .ok (.aaload, 1) := dk_50 (dk_at dksX0_read_2 1 rfl rfl)
theorem dX0_read_48 : decode cX0_read 48 = .ok (.astore_n 3, 1) := dk_78 (dk_at dksX0_read_2 2 rfl rfl)
theorem dX0_read_49 : decode cX0_read 49 = .ok (.aload_n 3, 1) := dk_45 (dk_at dksX0_read_2 3 rfl rfl)
theorem dX0_read_50 : decode cX0_read 50 = .ok (.getfield 351, 3) := dk_180 1 95 (dk_at dksX0_read_2 4 rfl rfl)
theorem dX0_read_53 : decode cX0_read 53 = .ok (.astore 5, 2) := dk_58 5 (dk_at dksX0_read_2 7 rfl rfl)
theorem dX0_read_55 : decode cX0_read 55 = .ok (.aload 5, 2) := dk_25 5 (dk_at dksX0_read_2 9 rfl rfl)
theorem dX0_read_57 : decode cX0_read 57 = .ok (.instanceof 354, 3) := dk_193 1 98 (dk_at dksX0_read_2 11 rfl rfl)
theorem dX0_read_60 : decode cX0_read 60 = .ok (.ifCond .eq 16, 3) := dk_153 0 16 (dk_at dksX0_read_2 14 rfl rfl)
theorem dX0_read_63 : decode cX0_read 63 = .ok (.aload 5, 2) := dk_25 5 (dk_at dksX0_read_2 17 rfl rfl)
theorem dX0_read_65 : decode cX0_read 65 = .ok (.checkcast 354, 3) := dk_192 1 98 (dk_at dksX0_read_2 19 rfl rfl)
theorem dX0_read_68 : decode cX0_read 68 = .ok (.astore 4, 2) := dk_58 4 (dk_at dksX0_read_2 22 rfl rfl)
theorem dX0_read_70 : decode cX0_read 70 = .ok (.aload 4, 2) := dk_25 4 (dk_at dksX0_read_3 0 rfl rfl)
theorem dX0_read_72 : decode cX0_read 72 = .ok (.iload_n 2, 1) := dk_28 (dk_at dksX0_read_3 2 rfl rfl)
theorem dX0_read_73 : decode cX0_read 73 = .ok (.baload, 1) := dk_51 (dk_at dksX0_read_3 3 rfl rfl)
theorem dX0_read_74 : decode cX0_read 74 = .ok (.i2l, 1) := dk_133 (dk_at dksX0_read_3 4 rfl rfl)
theorem dX0_read_75 : decode cX0_read 75 = .ok (.lreturn, 1) := dk_173 (dk_at dksX0_read_3 5 rfl rfl)
theorem dX0_read_76 : decode cX0_read 76 = .ok (.aload_n 3, 1) := dk_45 (dk_at dksX0_read_3 6 rfl rfl)
theorem dX0_read_77 : decode cX0_read 77 = .ok (.getfield 351, 3) := dk_180 1 95 (dk_at dksX0_read_3 7 rfl rfl)
theorem dX0_read_80 : decode cX0_read 80 = .ok (.astore 5, 2) := dk_58 5 (dk_at dksX0_read_3 10 rfl rfl)
theorem dX0_read_82 : decode cX0_read 82 = .ok (.aload 5, 2) := dk_25 5 (dk_at dksX0_read_3 12 rfl rfl)
theorem dX0_read_84 : decode cX0_read 84 = .ok (.instanceof 401, 3) := dk_193 1 145 (dk_at dksX0_read_3 14 rfl rfl)
theorem dX0_read_87 : decode cX0_read 87 = .ok (.ifCond .eq 16, 3) := dk_153 0 16 (dk_at dksX0_read_3 17 rfl rfl)
theorem dX0_read_90 : decode cX0_read 90 = .ok (.aload 5, 2) := dk_25 5 (dk_at dksX0_read_3 20 rfl rfl)
theorem dX0_read_92 : decode cX0_read 92 = .ok (.checkcast 401, 3) := dk_192 1 145 (dk_at dksX0_read_4 0 rfl rfl)
theorem dX0_read_95 : decode cX0_read 95 = .ok (.astore 4, 2) := dk_58 4 (dk_at dksX0_read_4 3 rfl rfl)
theorem dX0_read_97 : decode cX0_read 97 = .ok (.aload 4, 2) := dk_25 4 (dk_at dksX0_read_4 5 rfl rfl)
theorem dX0_read_99 : decode cX0_read 99 = .ok (.iload_n 2, 1) := dk_28 (dk_at dksX0_read_4 7 rfl rfl)
theorem dX0_read_100 : decode cX0_read 100 = .ok (.saload, 1) := dk_53 (dk_at dksX0_read_4 8 rfl rfl)
theorem dX0_read_101 : decode cX0_read 101 = .ok (.i2l, 1) := dk_133 (dk_at dksX0_read_4 9 rfl rfl)
theorem dX0_read_102 : decode cX0_read 102 = .ok (.lreturn, 1) := dk_173 (dk_at dksX0_read_4 10 rfl rfl)
theorem dX0_read_103 : decode cX0_read 103 = .ok (.aload_n 3, 1) := dk_45 (dk_at dksX0_read_4 11 rfl rfl)
theorem dX0_read_104 : decode cX0_read 104 = .ok (.getfield 351, 3) := dk_180 1 95 (dk_at dksX0_read_4 12 rfl rfl)
theorem dX0_read_107 : decode cX0_read 107 = .ok (.astore 5, 2) := dk_58 5 (dk_at dksX0_read_4 15 rfl rfl)
theorem dX0_read_109 : decode cX0_read 109 = .ok (.aload 5, 2) := dk_25 5 (dk_at dksX0_read_4 17 rfl rfl)
theorem dX0_read_111 : decode cX0_read 111 = .ok (.instanceof 403, 3) := dk_193 1 147 (dk_at dksX0_read_4 19 rfl rfl)
theorem dX0_read_114 : decode cX0_read 114 = .ok (.ifCond .eq 16, 3) := dk_153 0 16 (dk_at dksX0_read_5 0 rfl rfl)
theorem dX0_read_117 : decode cX0_read 117 = .ok (.aload 5, 2) := dk_25 5 (dk_at dksX0_read_5 3 rfl rfl)
theorem dX0_read_119 : decode cX0_read 119 = .ok (.checkcast 403, 3) := dk_192 1 147 (dk_at dksX0_read_5 5 rfl rfl)
theorem dX0_read_122 : decode cX0_read 122 = .ok (.astore 4, 2) := dk_58 4 (dk_at dksX0_read_5 8 rfl rfl)
theorem dX0_read_124 : decode cX0_read 124 = .ok (.aload 4, 2) := dk_25 4 (dk_at dksX0_read_5 10 rfl rfl)
theorem dX0_read_126 : decode cX0_read 126 = .ok (.iload_n 2, 1) := dk_28 (dk_at dksX0_read_5 12 rfl rfl)
theorem dX0_read_127 : decode cX0_read 127 = .ok (.iaload, 1) := dk_46 (dk_at dksX0_read_5 13 rfl rfl)
theorem dX0_read_128 : decode cX0_read 128 = .ok (.i2l, 1) := dk_133 (dk_at dksX0_read_5 14 rfl rfl)
theorem dX0_read_129 : decode cX0_read 129 = .ok (.lreturn, 1) := dk_173 (dk_at dksX0_read_5 15 rfl rfl)
theorem dX0_read_130 : decode cX0_read 130 = .ok (.aload_n 3, 1) := dk_45 (dk_at dksX0_read_5 16 rfl rfl)
theorem dX0_read_131 : decode cX0_read 131 = .ok (.getfield 351, 3) := dk_180 1 95 (dk_at dksX0_read_5 17 rfl rfl)
theorem dX0_read_134 : decode cX0_read 134 = .ok (.astore 5, 2) := dk_58 5 (dk_at dksX0_read_5 20 rfl rfl)
theorem dX0_read_136 : decode cX0_read 136 = .ok (.aload 5, 2) := dk_25 5 (dk_at dksX0_read_5 22 rfl rfl)
theorem dX0_read_138 : decode cX0_read 138 = .ok (.instanceof 404, 3) := dk_193 1 148 (dk_at dksX0_read_6 0 rfl rfl)
theorem dX0_read_141 : decode cX0_read 141 = .ok (.ifCond .eq 17, 3) := dk_153 0 17 (dk_at dksX0_read_6 3 rfl rfl)
theorem dX0_read_144 : decode cX0_read 144 = .ok (.aload 5, 2) := dk_25 5 (dk_at dksX0_read_6 6 rfl rfl)
theorem dX0_read_146 : decode cX0_read 146 = .ok (.checkcast 404, 3) := dk_192 1 148 (dk_at dksX0_read_6 8 rfl rfl)
theorem dX0_read_149 : decode cX0_read 149 = .ok (.astore 4, 2) := dk_58 4 (dk_at dksX0_read_6 11 rfl rfl)
theorem dX0_read_151 : decode cX0_read 151 = .ok (.aload 4, 2) := dk_25 4 (dk_at dksX0_read_6 13 rfl rfl)
theorem dX0_read_153 : decode cX0_read 153 = .ok (.iload_n 2, 1) := dk_28 (dk_at dksX0_read_6 15 rfl rfl)
theorem dX0_read_154 : decode cX0_read 154 = .ok (.laload, 1) := dk_47 (dk_at dksX0_read_6 16 rfl rfl)
theorem dX0_read_155 : decode cX0_read 155 = .ok (.goto 20, 3) := dk_167 0 20 (dk_at dksX0_read_6 17 rfl rfl)
theorem dX0_read_158 : decode cX0_read 158 = .ok (.aload_n 3, 1) := dk_45 (dk_at dksX0_read_6 20 rfl rfl)
theorem dX0_read_159 : decode cX0_read 159 = .ok (.getfield 351, 3) := dk_180 1 95 (dk_at dksX0_read_6 21 rfl rfl)
theorem dX0_read_162 : decode cX0_read 162 = .ok (.checkcast 406, 3) := dk_192 1 150 (dk_at dksX0_read_7 0 rfl rfl)
theorem dX0_read_165 : decode cX0_read 165 = .ok (.iload_n 2, 1) := dk_28 (dk_at dksX0_read_7 3 rfl rfl)
theorem dX0_read_166 : decode cX0_read 166 = .ok (.baload, 1) := dk_51 (dk_at dksX0_read_7 4 rfl rfl)
theorem dX0_read_167 : decode cX0_read 167 = .ok (.ifCond .eq 7, 3) := dk_153 0 7 (dk_at dksX0_read_7 5 rfl rfl)
theorem dX0_read_170 : decode cX0_read 170 = .ok (.lconst 1, 1) := dk_10 (dk_at dksX0_read_7 8 rfl rfl)
theorem dX0_read_171 : decode cX0_read 171 = .ok (.goto 4, 3) := dk_167 0 4 (dk_at dksX0_read_7 9 rfl rfl)
theorem dX0_read_174 : decode cX0_read 174 = .ok (.lconst 0, 1) := dk_9 (dk_at dksX0_read_7 12 rfl rfl)
theorem dX0_read_175 : decode cX0_read 175 = .ok (.lreturn, 1) := dk_173 (dk_at dksX0_read_7 13 rfl rfl)
abbrev cX0_shift : ByteArray := prog_1_method_71_code
def yX0_shift : MethodName := ⟨RX0, "shift", "(IIIII)I"⟩
def dkwX0_shift_2 : List UInt8 := [58, 6, 16, 245, 172, 58, 6, 16, 244, 172, 58, 6, 16, 243, 172]
abbrev dktX0_shift_2 : List UInt8 := dkwX0_shift_2 ++ []
def dkwX0_shift_1 : List UInt8 := [180, 1, 95, 28, 42, 180, 0, 79, 29, 50, 180, 1, 95, 21, 4, 21, 5, 184, 1, 30, 21, 5, 172]
abbrev dktX0_shift_1 : List UInt8 := dkwX0_shift_1 ++ dktX0_shift_2
def dkwX0_shift_0 : List UInt8 := [27, 184, 1, 92, 153, 0, 10, 29, 184, 1, 92, 154, 0, 5, 2, 172, 42, 180, 0, 79, 27, 50]
abbrev dktX0_shift_0 : List UInt8 := dkwX0_shift_0 ++ dktX0_shift_1
theorem dksX0_shift_0 : cX0_shift.data.toList.drop 0 = dktX0_shift_0 := by decide +kernel
theorem dksX0_shift_1 : cX0_shift.data.toList.drop 22 = dktX0_shift_1 := dk_seg dksX0_shift_0 22 rfl rfl
theorem dksX0_shift_2 : cX0_shift.data.toList.drop 45 = dktX0_shift_2 := dk_seg dksX0_shift_1 23 rfl rfl
theorem dX0_shift_0 : decode cX0_shift 0 = .ok (.iload_n 1, 1) := dk_27 (dk_at dksX0_shift_0 0 rfl rfl)
theorem dX0_shift_1 : decode cX0_shift 1 = .ok (.invokestatic 348, 3) := dk_184 1 92 (dk_at dksX0_shift_0 1 rfl rfl)
theorem dX0_shift_4 : decode cX0_shift 4 = .ok (.ifCond .eq 10, 3) := dk_153 0 10 (dk_at dksX0_shift_0 4 rfl rfl)
theorem dX0_shift_7 : decode cX0_shift 7 = .ok (.iload_n 3, 1) := dk_29 (dk_at dksX0_shift_0 7 rfl rfl)
theorem dX0_shift_8 : decode cX0_shift 8 = .ok (.invokestatic 348, 3) := dk_184 1 92 (dk_at dksX0_shift_0 8 rfl rfl)
theorem dX0_shift_11 : decode cX0_shift 11 = .ok (.ifCond .ne 5, 3) := dk_154 0 5 (dk_at dksX0_shift_0 11 rfl rfl)
theorem dX0_shift_14 : decode cX0_shift 14 = .ok (.iconst (-1), 1) := dk_2 (dk_at dksX0_shift_0 14 rfl rfl)
theorem dX0_shift_15 : decode cX0_shift 15 = .ok (.ireturn, 1) := dk_172 (dk_at dksX0_shift_0 15 rfl rfl)
theorem dX0_shift_16 : decode cX0_shift 16 = .ok (.aload_n 0, 1) := dk_42 (dk_at dksX0_shift_0 16 rfl rfl)
theorem dX0_shift_17 : decode cX0_shift 17 = .ok (.getfield 79, 3) := dk_180 0 79 (dk_at dksX0_shift_0 17 rfl rfl)
theorem dX0_shift_20 : decode cX0_shift 20 = .ok (.iload_n 1, 1) := dk_27 (dk_at dksX0_shift_0 20 rfl rfl)
theorem dX0_shift_21 : decode cX0_shift 21 = .ok (.aaload, 1) := dk_50 (dk_at dksX0_shift_0 21 rfl rfl)
theorem dX0_shift_22 : decode cX0_shift 22 = .ok (.getfield 351, 3) := dk_180 1 95 (dk_at dksX0_shift_1 0 rfl rfl)
theorem dX0_shift_25 : decode cX0_shift 25 = .ok (.iload_n 2, 1) := dk_28 (dk_at dksX0_shift_1 3 rfl rfl)
theorem dX0_shift_26 : decode cX0_shift 26 = .ok (.aload_n 0, 1) := dk_42 (dk_at dksX0_shift_1 4 rfl rfl)
theorem dX0_shift_27 : decode cX0_shift 27 = .ok (.getfield 79, 3) := dk_180 0 79 (dk_at dksX0_shift_1 5 rfl rfl)
theorem dX0_shift_30 : decode cX0_shift 30 = .ok (.iload_n 3, 1) := dk_29 (dk_at dksX0_shift_1 8 rfl rfl)
theorem dX0_shift_31 : decode cX0_shift 31 = .ok (.aaload, 1) := dk_50 (dk_at dksX0_shift_1 9 rfl rfl)
theorem dX0_shift_32 : decode cX0_shift 32 = .ok (.getfield 351, 3) := dk_180 1 95 (dk_at dksX0_shift_1 10 rfl rfl)
theorem dX0_shift_35 : decode cX0_shift 35 = .ok (.iload 4, 2) := dk_21 4 (dk_at dksX0_shift_1 13 rfl rfl)
theorem dX0_shift_37 : decode cX0_shift 37 = .ok (.iload 5, 2) := dk_21 5 (dk_at dksX0_shift_1 15 rfl rfl)
theorem dX0_shift_39 : decode cX0_shift 39 = .ok (.invokestatic 286, 3) := dk_184 1 30 (dk_at dksX0_shift_1 17 rfl rfl)
theorem dX0_shift_42 : decode cX0_shift 42 = .ok (.iload 5, 2) := dk_21 5 (dk_at dksX0_shift_1 20 rfl rfl)
theorem dX0_shift_44 : decode cX0_shift 44 = .ok (.ireturn, 1) := dk_172 (dk_at dksX0_shift_1 22 rfl rfl)
theorem dX0_shift_45 : decode cX0_shift 45 = .ok (.astore 6, 2) := dk_58 6 (dk_at dksX0_shift_2 0 rfl rfl)
theorem dX0_shift_47 : decode cX0_shift 47 = .ok (.bipush (-11), 2) := dk_16 245 (dk_at dksX0_shift_2 2 rfl rfl)
theorem dX0_shift_49 : decode cX0_shift 49 = .ok (.ireturn, 1) := dk_172 (dk_at dksX0_shift_2 4 rfl rfl)
theorem dX0_shift_50 : decode cX0_shift 50 = .ok (.astore 6, 2) := dk_58 6 (dk_at dksX0_shift_2 5 rfl rfl)
theorem dX0_shift_52 : decode cX0_shift 52 = .ok (.bipush (-12), 2) := dk_16 244 (dk_at dksX0_shift_2 7 rfl rfl)
theorem dX0_shift_54 : decode cX0_shift 54 = .ok (.ireturn, 1) := dk_172 (dk_at dksX0_shift_2 9 rfl rfl)
theorem dX0_shift_55 : decode cX0_shift 55 = .ok (.astore 6, 2) := dk_58 6 (dk_at dksX0_shift_2 10 rfl rfl)
theorem dX0_shift_57 : decode cX0_shift 57 = .ok (.bipush (-13), 2) := dk_16 243 (dk_at dksX0_shift_2 12 rfl rfl)
theorem dX0_shift_59 : decode cX0_shift 59 = .ok (.ireturn, 1) := dk_172 (dk_at dksX0_shift_2 14 rfl rfl)
theorem q96 : (Jvm.Cond.initialized "HatsDecide") ∈ lw_all := lw_g (lw_at lw_m1 1 rfl) rfl
theorem q139 : (Jvm.Cond.instantiable "HatsDecide" (40 : Nat)) ∈ lw_all := lw_g (lw_at lw_m1 44 rfl) rfl
theorem q141 : (Jvm.Cond.instanceMethod ({ cls := "HatsDecide", name := "<init>", desc := "()V" } : Jvm.MethodName)) ∈ lw_all := lw_g (lw_at lw_m1 46 rfl) rfl
theorem q142 : (Jvm.Cond.code ({ cls := "HatsDecide", name := "<init>", desc := "()V" } : Jvm.MethodName) prog_1_method_3_code (2 : Nat) (Option.none : Option Jvm.ClassFile.FieldType)) ∈ lw_all := lw_g (lw_at lw_m1 47 rfl) rfl
theorem q143 : (Jvm.Cond.methodLink "HatsDecide" (5 : Nat) ({ cls := "java/lang/Object", name := "<init>", desc := "()V" } : Jvm.MethodName)) ∈ lw_all := lw_g (lw_at lw_m1 48 rfl) rfl
theorem q146 : (Jvm.Cond.classLink "HatsDecide" (21 : Nat) "HatsDecide$Hat") ∈ lw_all := lw_g (lw_at lw_m1 51 rfl) rfl
theorem q148 : (Jvm.Cond.classLink "HatsDecide" (27 : Nat) "HatsDecide$Time") ∈ lw_all := lw_g (lw_at lw_m1 53 rfl) rfl
theorem q150 : (Jvm.Cond.methodLinkNest "HatsDecide" (29 : Nat) ({ cls := "HatsDecide$Time", name := "<init>", desc := "()V" } : Jvm.MethodName) "HatsDecide") ∈ lw_tbl := lw_at lw_m1 55 rfl
theorem q155 : (Jvm.Cond.fieldLinkNest "HatsDecide" (137 : Nat) "HatsDecide$Time" "on" "[B" "HatsDecide") ∈ lw_tbl := lw_at lw_m1 60 rfl
theorem q157 : (Jvm.Cond.fieldLinkNest "HatsDecide" (169 : Nat) "HatsDecide$Time" "used" "[I" "HatsDecide") ∈ lw_tbl := lw_at lw_m1 62 rfl
theorem q159 : (Jvm.Cond.fieldLinkNest "HatsDecide" (126 : Nat) "HatsDecide$Time" "heads" "I" "HatsDecide") ∈ lw_tbl := lw_at lw_m1 64 rfl
theorem q161 : (Jvm.Cond.fieldLinkNest "HatsDecide" (190 : Nat) "HatsDecide$Time" "day" "I" "HatsDecide") ∈ lw_tbl := lw_at lw_m1 66 rfl
theorem q173 : (Jvm.Cond.classLink "HatsDecide" (44 : Nat) "HatsDecide$Town") ∈ lw_all := lw_g (lw_at lw_m1 78 rfl) rfl
theorem q175 : (Jvm.Cond.methodLinkNest "HatsDecide" (46 : Nat) ({ cls := "HatsDecide$Town", name := "<init>", desc := "()V" } : Jvm.MethodName) "HatsDecide") ∈ lw_tbl := lw_at lw_m1 80 rfl
theorem q209 : (Jvm.Cond.fieldLinkNest "HatsDecide" (250 : Nat) "HatsDecide$Town" "works" "[I" "HatsDecide") ∈ lw_tbl := lw_at lw_m1 114 rfl
theorem q213 : (Jvm.Cond.fieldLinkNest "HatsDecide" (247 : Nat) "HatsDecide$Town" "moth" "I" "HatsDecide") ∈ lw_tbl := lw_at lw_m1 118 rfl
theorem q223 : (Jvm.Cond.classLink "HatsDecide" (51 : Nat) "HatsDecide$Look") ∈ lw_all := lw_g (lw_at lw_m1 128 rfl) rfl
theorem q225 : (Jvm.Cond.methodLinkNest "HatsDecide" (53 : Nat) ({ cls := "HatsDecide$Look", name := "<init>", desc := "()V" } : Jvm.MethodName) "HatsDecide") ∈ lw_tbl := lw_at lw_m1 130 rfl
theorem q230 : (Jvm.Cond.fieldLinkNest "HatsDecide" (172 : Nat) "HatsDecide$Look" "hat" "I" "HatsDecide") ∈ lw_tbl := lw_at lw_m1 135 rfl
theorem q232 : (Jvm.Cond.fieldLinkNest "HatsDecide" (175 : Nat) "HatsDecide$Look" "head" "I" "HatsDecide") ∈ lw_tbl := lw_at lw_m1 137 rfl
theorem q234 : (Jvm.Cond.fieldLinkNest "HatsDecide" (182 : Nat) "HatsDecide$Look" "kind" "I" "HatsDecide") ∈ lw_tbl := lw_at lw_m1 139 rfl
theorem q236 : (Jvm.Cond.fieldLinkNest "HatsDecide" (187 : Nat) "HatsDecide$Look" "trade" "I" "HatsDecide") ∈ lw_tbl := lw_at lw_m1 141 rfl
theorem q238 : (Jvm.Cond.fieldLinkNest "HatsDecide" (188 : Nat) "HatsDecide$Look" "used" "I" "HatsDecide") ∈ lw_tbl := lw_at lw_m1 143 rfl
theorem q240 : (Jvm.Cond.fieldLinkNest "HatsDecide" (193 : Nat) "HatsDecide$Look" "day" "I" "HatsDecide") ∈ lw_tbl := lw_at lw_m1 145 rfl
theorem q254 : (Jvm.Cond.classLink "HatsDecide" (58 : Nat) "HatsDecide$Trace") ∈ lw_all := lw_g (lw_at lw_m1 159 rfl) rfl
theorem q256 : (Jvm.Cond.methodLinkNest "HatsDecide" (60 : Nat) ({ cls := "HatsDecide$Trace", name := "<init>", desc := "()V" } : Jvm.MethodName) "HatsDecide") ∈ lw_tbl := lw_at lw_m1 161 rfl
theorem q261 : (Jvm.Cond.fieldLinkNest "HatsDecide" (385 : Nat) "HatsDecide$Trace" "bodies" "[I" "HatsDecide") ∈ lw_tbl := lw_at lw_m1 166 rfl
theorem q263 : (Jvm.Cond.fieldLinkNest "HatsDecide" (373 : Nat) "HatsDecide$Trace" "count" "I" "HatsDecide") ∈ lw_tbl := lw_at lw_m1 168 rfl
theorem q269 : (Jvm.Cond.classLink "HatsDecide" (77 : Nat) "HatsDecide$Tape") ∈ lw_all := lw_g (lw_at lw_m1 174 rfl) rfl
theorem q272 : (Jvm.Cond.methodLinkNest "HatsDecide" (125 : Nat) ({ cls := "HatsDecide$Tape", name := "<init>", desc := "()V" } : Jvm.MethodName) "HatsDecide") ∈ lw_tbl := lw_at lw_m1 177 rfl
theorem q277 : (Jvm.Cond.fieldLinkNest "HatsDecide" (351 : Nat) "HatsDecide$Tape" "row" "Ljava/lang/Object;" "HatsDecide") ∈ lw_tbl := lw_at lw_m1 182 rfl
theorem q281 : (Jvm.Cond.fieldLink "HatsDecide" (11 : Nat) "HatsDecide" "sizes" "[I") ∈ lw_all := lw_g (lw_at lw_m1 186 rfl) rfl
theorem q282 : (Jvm.Cond.fieldLink "HatsDecide" (15 : Nat) "HatsDecide" "owns" "[I") ∈ lw_all := lw_g (lw_at lw_m1 187 rfl) rfl
theorem q284 : (Jvm.Cond.fieldLink "HatsDecide" (18 : Nat) "HatsDecide" "skills" "[I") ∈ lw_all := lw_g (lw_at lw_m1 189 rfl) rfl
theorem q285 : (Jvm.Cond.fieldLink "HatsDecide" (23 : Nat) "HatsDecide" "hats" "[LHatsDecide$Hat;") ∈ lw_all := lw_g (lw_at lw_m1 190 rfl) rfl
theorem q286 : (Jvm.Cond.fieldLink "HatsDecide" (134 : Nat) "HatsDecide" "many" "I") ∈ lw_all := lw_g (lw_at lw_m1 191 rfl) rfl
theorem q287 : (Jvm.Cond.fieldLink "HatsDecide" (30 : Nat) "HatsDecide" "now" "LHatsDecide$Time;") ∈ lw_all := lw_g (lw_at lw_m1 192 rfl) rfl
theorem q288 : (Jvm.Cond.fieldLink "HatsDecide" (34 : Nat) "HatsDecide" "tried" "LHatsDecide$Time;") ∈ lw_all := lw_g (lw_at lw_m1 193 rfl) rfl
theorem q289 : (Jvm.Cond.fieldLink "HatsDecide" (37 : Nat) "HatsDecide" "done" "[I") ∈ lw_all := lw_g (lw_at lw_m1 194 rfl) rfl
theorem q290 : (Jvm.Cond.fieldLink "HatsDecide" (40 : Nat) "HatsDecide" "text" "[B") ∈ lw_all := lw_g (lw_at lw_m1 195 rfl) rfl
theorem q291 : (Jvm.Cond.fieldLink "HatsDecide" (228 : Nat) "HatsDecide" "texted" "I") ∈ lw_all := lw_g (lw_at lw_m1 196 rfl) rfl
theorem q292 : (Jvm.Cond.fieldLink "HatsDecide" (231 : Nat) "HatsDecide" "townMany" "I") ∈ lw_all := lw_g (lw_at lw_m1 197 rfl) rfl
theorem q294 : (Jvm.Cond.fieldLink "HatsDecide" (47 : Nat) "HatsDecide" "town" "LHatsDecide$Town;") ∈ lw_all := lw_g (lw_at lw_m1 199 rfl) rfl
theorem q295 : (Jvm.Cond.fieldLink "HatsDecide" (54 : Nat) "HatsDecide" "look" "LHatsDecide$Look;") ∈ lw_all := lw_g (lw_at lw_m1 200 rfl) rfl
theorem q296 : (Jvm.Cond.fieldLink "HatsDecide" (61 : Nat) "HatsDecide" "trace" "LHatsDecide$Trace;") ∈ lw_all := lw_g (lw_at lw_m1 201 rfl) rfl
theorem q304 : (Jvm.Cond.fieldLink "HatsDecide" (65 : Nat) "HatsDecide" "seenHats" "[I") ∈ lw_all := lw_g (lw_at lw_m1 209 rfl) rfl
theorem q305 : (Jvm.Cond.fieldLink "HatsDecide" (68 : Nat) "HatsDecide" "seenDeeds" "[I") ∈ lw_all := lw_g (lw_at lw_m1 210 rfl) rfl
theorem q306 : (Jvm.Cond.fieldLink "HatsDecide" (71 : Nat) "HatsDecide" "bookHats" "[I") ∈ lw_all := lw_g (lw_at lw_m1 211 rfl) rfl
theorem q307 : (Jvm.Cond.fieldLink "HatsDecide" (74 : Nat) "HatsDecide" "bookHeads" "[I") ∈ lw_all := lw_g (lw_at lw_m1 212 rfl) rfl
theorem q308 : (Jvm.Cond.fieldLink "HatsDecide" (315 : Nat) "HatsDecide" "seenMany" "I") ∈ lw_all := lw_g (lw_at lw_m1 213 rfl) rfl
theorem q309 : (Jvm.Cond.fieldLink "HatsDecide" (341 : Nat) "HatsDecide" "bookMany" "I") ∈ lw_all := lw_g (lw_at lw_m1 214 rfl) rfl
theorem q310 : (Jvm.Cond.fieldLink "HatsDecide" (79 : Nat) "HatsDecide" "tapes" "[LHatsDecide$Tape;") ∈ lw_all := lw_g (lw_at lw_m1 215 rfl) rfl
theorem q311 : (Jvm.Cond.fieldLink "HatsDecide" (83 : Nat) "HatsDecide" "deeds" "[I") ∈ lw_all := lw_g (lw_at lw_m1 216 rfl) rfl
theorem q312 : (Jvm.Cond.fieldLink "HatsDecide" (86 : Nat) "HatsDecide" "way" "[B") ∈ lw_all := lw_g (lw_at lw_m1 217 rfl) rfl
theorem q313 : (Jvm.Cond.fieldLink "HatsDecide" (89 : Nat) "HatsDecide" "bestWay" "[B") ∈ lw_all := lw_g (lw_at lw_m1 218 rfl) rfl
theorem q314 : (Jvm.Cond.fieldLink "HatsDecide" (283 : Nat) "HatsDecide" "mostDone" "I") ∈ lw_all := lw_g (lw_at lw_m1 219 rfl) rfl
theorem q315 : (Jvm.Cond.fieldLink "HatsDecide" (92 : Nat) "HatsDecide" "imageNow" "LHatsDecide$Time;") ∈ lw_all := lw_g (lw_at lw_m1 220 rfl) rfl
theorem q316 : (Jvm.Cond.fieldLink "HatsDecide" (95 : Nat) "HatsDecide" "imageHats" "[LHatsDecide$Hat;") ∈ lw_all := lw_g (lw_at lw_m1 221 rfl) rfl
theorem q317 : (Jvm.Cond.fieldLink "HatsDecide" (98 : Nat) "HatsDecide" "imageRows" "[B") ∈ lw_all := lw_g (lw_at lw_m1 222 rfl) rfl
theorem q318 : (Jvm.Cond.fieldLink "HatsDecide" (101 : Nat) "HatsDecide" "imageSizes" "[I") ∈ lw_all := lw_g (lw_at lw_m1 223 rfl) rfl
theorem q319 : (Jvm.Cond.fieldLink "HatsDecide" (104 : Nat) "HatsDecide" "imageOwns" "[I") ∈ lw_all := lw_g (lw_at lw_m1 224 rfl) rfl
theorem q320 : (Jvm.Cond.fieldLink "HatsDecide" (107 : Nat) "HatsDecide" "imageSkills" "[I") ∈ lw_all := lw_g (lw_at lw_m1 225 rfl) rfl
theorem q321 : (Jvm.Cond.fieldLink "HatsDecide" (110 : Nat) "HatsDecide" "imageDone" "[I") ∈ lw_all := lw_g (lw_at lw_m1 226 rfl) rfl
theorem q322 : (Jvm.Cond.fieldLink "HatsDecide" (113 : Nat) "HatsDecide" "imageSeenHats" "[I") ∈ lw_all := lw_g (lw_at lw_m1 227 rfl) rfl
theorem q323 : (Jvm.Cond.fieldLink "HatsDecide" (116 : Nat) "HatsDecide" "imageSeenDeeds" "[I") ∈ lw_all := lw_g (lw_at lw_m1 228 rfl) rfl
theorem q324 : (Jvm.Cond.fieldLink "HatsDecide" (119 : Nat) "HatsDecide" "imageBookHats" "[I") ∈ lw_all := lw_g (lw_at lw_m1 229 rfl) rfl
theorem q325 : (Jvm.Cond.fieldLink "HatsDecide" (122 : Nat) "HatsDecide" "imageBookHeads" "[I") ∈ lw_all := lw_g (lw_at lw_m1 230 rfl) rfl
theorem q326 : (Jvm.Cond.fieldLink "HatsDecide" (361 : Nat) "HatsDecide" "imageMany" "I") ∈ lw_all := lw_g (lw_at lw_m1 231 rfl) rfl
theorem q327 : (Jvm.Cond.fieldLink "HatsDecide" (364 : Nat) "HatsDecide" "imageSeen" "I") ∈ lw_all := lw_g (lw_at lw_m1 232 rfl) rfl
theorem q328 : (Jvm.Cond.fieldLink "HatsDecide" (367 : Nat) "HatsDecide" "imageBooked" "I") ∈ lw_all := lw_g (lw_at lw_m1 233 rfl) rfl
theorem q329 : (Jvm.Cond.fieldLink "HatsDecide" (370 : Nat) "HatsDecide" "imageTown" "LHatsDecide$Town;") ∈ lw_all := lw_g (lw_at lw_m1 234 rfl) rfl
theorem q330 : (Jvm.Cond.laysFinal "HatsDecide" "HatsDecide" "sizes" "[I") ∈ lw_all := lw_g (lw_at lw_m1 235 rfl) rfl
theorem q331 : (Jvm.Cond.soleField "HatsDecide" "sizes") ∈ lw_all := lw_g (lw_at lw_m1 236 rfl) rfl
theorem q332 : (Jvm.Cond.laysFinal "HatsDecide" "HatsDecide" "owns" "[I") ∈ lw_all := lw_g (lw_at lw_m1 237 rfl) rfl
theorem q333 : (Jvm.Cond.soleField "HatsDecide" "owns") ∈ lw_all := lw_g (lw_at lw_m1 238 rfl) rfl
theorem q334 : (Jvm.Cond.laysFinal "HatsDecide" "HatsDecide" "skills" "[I") ∈ lw_all := lw_g (lw_at lw_m1 239 rfl) rfl
theorem q335 : (Jvm.Cond.soleField "HatsDecide" "skills") ∈ lw_all := lw_g (lw_at lw_m2 0 rfl) rfl
theorem q336 : (Jvm.Cond.laysFinal "HatsDecide" "HatsDecide" "hats" "[LHatsDecide$Hat;") ∈ lw_all := lw_g (lw_at lw_m2 1 rfl) rfl
theorem q337 : (Jvm.Cond.soleField "HatsDecide" "hats") ∈ lw_all := lw_g (lw_at lw_m2 2 rfl) rfl
theorem q338 : (Jvm.Cond.lays "HatsDecide" "HatsDecide" "many" "I") ∈ lw_all := lw_g (lw_at lw_m2 3 rfl) rfl
theorem q339 : (Jvm.Cond.soleField "HatsDecide" "many") ∈ lw_all := lw_g (lw_at lw_m2 4 rfl) rfl
theorem q340 : (Jvm.Cond.laysFinal "HatsDecide" "HatsDecide" "now" "LHatsDecide$Time;") ∈ lw_all := lw_g (lw_at lw_m2 5 rfl) rfl
theorem q341 : (Jvm.Cond.soleField "HatsDecide" "now") ∈ lw_all := lw_g (lw_at lw_m2 6 rfl) rfl
theorem q342 : (Jvm.Cond.laysFinal "HatsDecide" "HatsDecide" "tried" "LHatsDecide$Time;") ∈ lw_all := lw_g (lw_at lw_m2 7 rfl) rfl
theorem q343 : (Jvm.Cond.soleField "HatsDecide" "tried") ∈ lw_all := lw_g (lw_at lw_m2 8 rfl) rfl
theorem q344 : (Jvm.Cond.laysFinal "HatsDecide" "HatsDecide" "done" "[I") ∈ lw_all := lw_g (lw_at lw_m2 9 rfl) rfl
theorem q345 : (Jvm.Cond.soleField "HatsDecide" "done") ∈ lw_all := lw_g (lw_at lw_m2 10 rfl) rfl
theorem q346 : (Jvm.Cond.laysFinal "HatsDecide" "HatsDecide" "text" "[B") ∈ lw_all := lw_g (lw_at lw_m2 11 rfl) rfl
theorem q347 : (Jvm.Cond.soleField "HatsDecide" "text") ∈ lw_all := lw_g (lw_at lw_m2 12 rfl) rfl
theorem q348 : (Jvm.Cond.lays "HatsDecide" "HatsDecide" "texted" "I") ∈ lw_all := lw_g (lw_at lw_m2 13 rfl) rfl
theorem q349 : (Jvm.Cond.soleField "HatsDecide" "texted") ∈ lw_all := lw_g (lw_at lw_m2 14 rfl) rfl
theorem q350 : (Jvm.Cond.lays "HatsDecide" "HatsDecide" "townMany" "I") ∈ lw_all := lw_g (lw_at lw_m2 15 rfl) rfl
theorem q351 : (Jvm.Cond.soleField "HatsDecide" "townMany") ∈ lw_all := lw_g (lw_at lw_m2 16 rfl) rfl
theorem q352 : (Jvm.Cond.lays "HatsDecide" "HatsDecide" "town" "LHatsDecide$Town;") ∈ lw_all := lw_g (lw_at lw_m2 17 rfl) rfl
theorem q353 : (Jvm.Cond.soleField "HatsDecide" "town") ∈ lw_all := lw_g (lw_at lw_m2 18 rfl) rfl
theorem q354 : (Jvm.Cond.laysFinal "HatsDecide" "HatsDecide" "look" "LHatsDecide$Look;") ∈ lw_all := lw_g (lw_at lw_m2 19 rfl) rfl
theorem q355 : (Jvm.Cond.soleField "HatsDecide" "look") ∈ lw_all := lw_g (lw_at lw_m2 20 rfl) rfl
theorem q356 : (Jvm.Cond.laysFinal "HatsDecide" "HatsDecide" "trace" "LHatsDecide$Trace;") ∈ lw_all := lw_g (lw_at lw_m2 21 rfl) rfl
theorem q357 : (Jvm.Cond.soleField "HatsDecide" "trace") ∈ lw_all := lw_g (lw_at lw_m2 22 rfl) rfl
theorem q358 : (Jvm.Cond.laysFinal "HatsDecide" "HatsDecide" "seenHats" "[I") ∈ lw_all := lw_g (lw_at lw_m2 23 rfl) rfl
theorem q359 : (Jvm.Cond.soleField "HatsDecide" "seenHats") ∈ lw_all := lw_g (lw_at lw_m2 24 rfl) rfl
theorem q360 : (Jvm.Cond.laysFinal "HatsDecide" "HatsDecide" "seenDeeds" "[I") ∈ lw_all := lw_g (lw_at lw_m2 25 rfl) rfl
theorem q361 : (Jvm.Cond.soleField "HatsDecide" "seenDeeds") ∈ lw_all := lw_g (lw_at lw_m2 26 rfl) rfl
theorem q362 : (Jvm.Cond.laysFinal "HatsDecide" "HatsDecide" "bookHats" "[I") ∈ lw_all := lw_g (lw_at lw_m2 27 rfl) rfl
theorem q363 : (Jvm.Cond.soleField "HatsDecide" "bookHats") ∈ lw_all := lw_g (lw_at lw_m2 28 rfl) rfl
theorem q364 : (Jvm.Cond.laysFinal "HatsDecide" "HatsDecide" "bookHeads" "[I") ∈ lw_all := lw_g (lw_at lw_m2 29 rfl) rfl
theorem q365 : (Jvm.Cond.soleField "HatsDecide" "bookHeads") ∈ lw_all := lw_g (lw_at lw_m2 30 rfl) rfl
theorem q366 : (Jvm.Cond.lays "HatsDecide" "HatsDecide" "seenMany" "I") ∈ lw_all := lw_g (lw_at lw_m2 31 rfl) rfl
theorem q367 : (Jvm.Cond.soleField "HatsDecide" "seenMany") ∈ lw_all := lw_g (lw_at lw_m2 32 rfl) rfl
theorem q368 : (Jvm.Cond.lays "HatsDecide" "HatsDecide" "bookMany" "I") ∈ lw_all := lw_g (lw_at lw_m2 33 rfl) rfl
theorem q369 : (Jvm.Cond.soleField "HatsDecide" "bookMany") ∈ lw_all := lw_g (lw_at lw_m2 34 rfl) rfl
theorem q370 : (Jvm.Cond.laysFinal "HatsDecide" "HatsDecide" "tapes" "[LHatsDecide$Tape;") ∈ lw_all := lw_g (lw_at lw_m2 35 rfl) rfl
theorem q371 : (Jvm.Cond.soleField "HatsDecide" "tapes") ∈ lw_all := lw_g (lw_at lw_m2 36 rfl) rfl
theorem q372 : (Jvm.Cond.laysFinal "HatsDecide" "HatsDecide" "deeds" "[I") ∈ lw_all := lw_g (lw_at lw_m2 37 rfl) rfl
theorem q373 : (Jvm.Cond.soleField "HatsDecide" "deeds") ∈ lw_all := lw_g (lw_at lw_m2 38 rfl) rfl
theorem q374 : (Jvm.Cond.laysFinal "HatsDecide" "HatsDecide" "way" "[B") ∈ lw_all := lw_g (lw_at lw_m2 39 rfl) rfl
theorem q375 : (Jvm.Cond.soleField "HatsDecide" "way") ∈ lw_all := lw_g (lw_at lw_m2 40 rfl) rfl
theorem q376 : (Jvm.Cond.laysFinal "HatsDecide" "HatsDecide" "bestWay" "[B") ∈ lw_all := lw_g (lw_at lw_m2 41 rfl) rfl
theorem q377 : (Jvm.Cond.soleField "HatsDecide" "bestWay") ∈ lw_all := lw_g (lw_at lw_m2 42 rfl) rfl
theorem q378 : (Jvm.Cond.lays "HatsDecide" "HatsDecide" "mostDone" "I") ∈ lw_all := lw_g (lw_at lw_m2 43 rfl) rfl
theorem q379 : (Jvm.Cond.soleField "HatsDecide" "mostDone") ∈ lw_all := lw_g (lw_at lw_m2 44 rfl) rfl
theorem q380 : (Jvm.Cond.laysFinal "HatsDecide" "HatsDecide" "imageNow" "LHatsDecide$Time;") ∈ lw_all := lw_g (lw_at lw_m2 45 rfl) rfl
theorem q381 : (Jvm.Cond.soleField "HatsDecide" "imageNow") ∈ lw_all := lw_g (lw_at lw_m2 46 rfl) rfl
theorem q382 : (Jvm.Cond.laysFinal "HatsDecide" "HatsDecide" "imageHats" "[LHatsDecide$Hat;") ∈ lw_all := lw_g (lw_at lw_m2 47 rfl) rfl
theorem q383 : (Jvm.Cond.soleField "HatsDecide" "imageHats") ∈ lw_all := lw_g (lw_at lw_m2 48 rfl) rfl
theorem q384 : (Jvm.Cond.laysFinal "HatsDecide" "HatsDecide" "imageRows" "[B") ∈ lw_all := lw_g (lw_at lw_m2 49 rfl) rfl
theorem q385 : (Jvm.Cond.soleField "HatsDecide" "imageRows") ∈ lw_all := lw_g (lw_at lw_m2 50 rfl) rfl
theorem q386 : (Jvm.Cond.laysFinal "HatsDecide" "HatsDecide" "imageSizes" "[I") ∈ lw_all := lw_g (lw_at lw_m2 51 rfl) rfl
theorem q387 : (Jvm.Cond.soleField "HatsDecide" "imageSizes") ∈ lw_all := lw_g (lw_at lw_m2 52 rfl) rfl
theorem q388 : (Jvm.Cond.laysFinal "HatsDecide" "HatsDecide" "imageOwns" "[I") ∈ lw_all := lw_g (lw_at lw_m2 53 rfl) rfl
theorem q389 : (Jvm.Cond.soleField "HatsDecide" "imageOwns") ∈ lw_all := lw_g (lw_at lw_m2 54 rfl) rfl
theorem q390 : (Jvm.Cond.laysFinal "HatsDecide" "HatsDecide" "imageSkills" "[I") ∈ lw_all := lw_g (lw_at lw_m2 55 rfl) rfl
theorem q391 : (Jvm.Cond.soleField "HatsDecide" "imageSkills") ∈ lw_all := lw_g (lw_at lw_m2 56 rfl) rfl
theorem q392 : (Jvm.Cond.laysFinal "HatsDecide" "HatsDecide" "imageDone" "[I") ∈ lw_all := lw_g (lw_at lw_m2 57 rfl) rfl
theorem q393 : (Jvm.Cond.soleField "HatsDecide" "imageDone") ∈ lw_all := lw_g (lw_at lw_m2 58 rfl) rfl
theorem q394 : (Jvm.Cond.laysFinal "HatsDecide" "HatsDecide" "imageSeenHats" "[I") ∈ lw_all := lw_g (lw_at lw_m2 59 rfl) rfl
theorem q395 : (Jvm.Cond.soleField "HatsDecide" "imageSeenHats") ∈ lw_all := lw_g (lw_at lw_m2 60 rfl) rfl
theorem q396 : (Jvm.Cond.laysFinal "HatsDecide" "HatsDecide" "imageSeenDeeds" "[I") ∈ lw_all := lw_g (lw_at lw_m2 61 rfl) rfl
theorem q397 : (Jvm.Cond.soleField "HatsDecide" "imageSeenDeeds") ∈ lw_all := lw_g (lw_at lw_m2 62 rfl) rfl
theorem q398 : (Jvm.Cond.laysFinal "HatsDecide" "HatsDecide" "imageBookHats" "[I") ∈ lw_all := lw_g (lw_at lw_m2 63 rfl) rfl
theorem q399 : (Jvm.Cond.soleField "HatsDecide" "imageBookHats") ∈ lw_all := lw_g (lw_at lw_m2 64 rfl) rfl
theorem q400 : (Jvm.Cond.laysFinal "HatsDecide" "HatsDecide" "imageBookHeads" "[I") ∈ lw_all := lw_g (lw_at lw_m2 65 rfl) rfl
theorem q401 : (Jvm.Cond.soleField "HatsDecide" "imageBookHeads") ∈ lw_all := lw_g (lw_at lw_m2 66 rfl) rfl
theorem q402 : (Jvm.Cond.lays "HatsDecide" "HatsDecide" "imageMany" "I") ∈ lw_all := lw_g (lw_at lw_m2 67 rfl) rfl
theorem q403 : (Jvm.Cond.soleField "HatsDecide" "imageMany") ∈ lw_all := lw_g (lw_at lw_m2 68 rfl) rfl
theorem q404 : (Jvm.Cond.lays "HatsDecide" "HatsDecide" "imageSeen" "I") ∈ lw_all := lw_g (lw_at lw_m2 69 rfl) rfl
theorem q405 : (Jvm.Cond.soleField "HatsDecide" "imageSeen") ∈ lw_all := lw_g (lw_at lw_m2 70 rfl) rfl
theorem q406 : (Jvm.Cond.lays "HatsDecide" "HatsDecide" "imageBooked" "I") ∈ lw_all := lw_g (lw_at lw_m2 71 rfl) rfl
theorem q407 : (Jvm.Cond.soleField "HatsDecide" "imageBooked") ∈ lw_all := lw_g (lw_at lw_m2 72 rfl) rfl
theorem q408 : (Jvm.Cond.lays "HatsDecide" "HatsDecide" "imageTown" "LHatsDecide$Town;") ∈ lw_all := lw_g (lw_at lw_m2 73 rfl) rfl
theorem q409 : (Jvm.Cond.soleField "HatsDecide" "imageTown") ∈ lw_all := lw_g (lw_at lw_m2 74 rfl) rfl
theorem q410 : (Jvm.Cond.superclass "HatsDecide" "java/lang/Object") ∈ lw_all := lw_g (lw_at lw_m2 75 rfl) rfl
theorem q412 : (Jvm.Cond.instanceMethod ({ cls := "HatsDecide", name := "head", desc := "(I)I" } : Jvm.MethodName)) ∈ lw_all := lw_g (lw_at lw_m2 77 rfl) rfl
theorem q413 : (Jvm.Cond.selects "HatsDecide" ({ cls := "HatsDecide", name := "head", desc := "(I)I" } : Jvm.MethodName) ({ cls := "HatsDecide", name := "head", desc := "(I)I" } : Jvm.MethodName)) ∈ lw_all := lw_g (lw_at lw_m2 78 rfl) rfl
theorem q414 : (Jvm.Cond.code ({ cls := "HatsDecide", name := "head", desc := "(I)I" } : Jvm.MethodName) prog_1_method_7_code (2 : Nat) (Option.some Jvm.ClassFile.FieldType.int)) ∈ lw_all := lw_g (lw_at lw_m2 79 rfl) rfl
theorem q415 : (Jvm.Cond.methodLink "HatsDecide" (130 : Nat) ({ cls := "HatsDecide", name := "in", desc := "(III)Z" } : Jvm.MethodName)) ∈ lw_all := lw_g (lw_at lw_m2 80 rfl) rfl
theorem q416 : (Jvm.Cond.static ({ cls := "HatsDecide", name := "in", desc := "(III)Z" } : Jvm.MethodName)) ∈ lw_all := lw_g (lw_at lw_m2 81 rfl) rfl
theorem q417 : (Jvm.Cond.code ({ cls := "HatsDecide", name := "in", desc := "(III)Z" } : Jvm.MethodName) prog_1_method_1_code (3 : Nat) (Option.some Jvm.ClassFile.FieldType.boolean)) ∈ lw_all := lw_g (lw_at lw_m2 82 rfl) rfl
theorem q419 : (Jvm.Cond.instanceMethod ({ cls := "HatsDecide", name := "hat", desc := "(IIIII)I" } : Jvm.MethodName)) ∈ lw_all := lw_g (lw_at lw_m2 84 rfl) rfl
theorem q420 : (Jvm.Cond.selects "HatsDecide" ({ cls := "HatsDecide", name := "hat", desc := "(IIIII)I" } : Jvm.MethodName) ({ cls := "HatsDecide", name := "hat", desc := "(IIIII)I" } : Jvm.MethodName)) ∈ lw_all := lw_g (lw_at lw_m2 85 rfl) rfl
theorem q421 : (Jvm.Cond.code ({ cls := "HatsDecide", name := "hat", desc := "(IIIII)I" } : Jvm.MethodName) prog_1_method_9_code (6 : Nat) (Option.some Jvm.ClassFile.FieldType.int)) ∈ lw_all := lw_g (lw_at lw_m2 86 rfl) rfl
theorem q422 : (Jvm.Cond.methodLink "HatsDecide" (161 : Nat) ({ cls := "HatsDecide", name := "isTrade", desc := "(I)Z" } : Jvm.MethodName)) ∈ lw_all := lw_g (lw_at lw_m2 87 rfl) rfl
theorem q423 : (Jvm.Cond.static ({ cls := "HatsDecide", name := "isTrade", desc := "(I)Z" } : Jvm.MethodName)) ∈ lw_all := lw_g (lw_at lw_m2 88 rfl) rfl
theorem q424 : (Jvm.Cond.code ({ cls := "HatsDecide", name := "isTrade", desc := "(I)Z" } : Jvm.MethodName) prog_1_method_6_code (1 : Nat) (Option.some Jvm.ClassFile.FieldType.boolean)) ∈ lw_all := lw_g (lw_at lw_m2 89 rfl) rfl
theorem q425 : (Jvm.Cond.methodLink "HatsDecide" (165 : Nat) ({ cls := "HatsDecide", name := "hatOf", desc := "(IIII)LHatsDecide$Hat;" } : Jvm.MethodName)) ∈ lw_all := lw_g (lw_at lw_m2 90 rfl) rfl
theorem q426 : (Jvm.Cond.privateMethod ({ cls := "HatsDecide", name := "hatOf", desc := "(IIII)LHatsDecide$Hat;" } : Jvm.MethodName)) ∈ lw_tbl := lw_at lw_m2 91 rfl
theorem q427 : (Jvm.Cond.instanceMethod ({ cls := "HatsDecide", name := "hatOf", desc := "(IIII)LHatsDecide$Hat;" } : Jvm.MethodName)) ∈ lw_all := lw_g (lw_at lw_m2 92 rfl) rfl
theorem q428 : (Jvm.Cond.code ({ cls := "HatsDecide", name := "hatOf", desc := "(IIII)LHatsDecide$Hat;" } : Jvm.MethodName) prog_1_method_8_code (5 : Nat) (Option.some (Jvm.ClassFile.FieldType.object "HatsDecide$Hat"))) ∈ lw_all := lw_g (lw_at lw_m2 93 rfl) rfl
theorem q429 : (Jvm.Cond.classLink "HatsDecide" (140 : Nat) "HatsDecide$Tight") ∈ lw_all := lw_g (lw_at lw_m2 94 rfl) rfl
theorem q431 : (Jvm.Cond.methodLink "HatsDecide" (142 : Nat) ({ cls := "HatsDecide$Tight", name := "<init>", desc := "(LHatsDecide;IIII)V" } : Jvm.MethodName)) ∈ lw_all := lw_g (lw_at lw_m2 96 rfl) rfl
theorem q449 : (Jvm.Cond.fieldLink "HatsDecide" (205 : Nat) "HatsDecide$Hat" "v" "I") ∈ lw_all := lw_g (lw_at lw_m2 114 rfl) rfl
theorem q455 : (Jvm.Cond.fieldLink "HatsDecide" (208 : Nat) "HatsDecide$Hat" "size" "I") ∈ lw_all := lw_g (lw_at lw_m2 120 rfl) rfl
theorem q457 : (Jvm.Cond.fieldLink "HatsDecide" (184 : Nat) "HatsDecide$Hat" "trade" "I") ∈ lw_all := lw_g (lw_at lw_m2 122 rfl) rfl
theorem q472 : (Jvm.Cond.classLink "HatsDecide" (145 : Nat) "HatsDecide$Worn") ∈ lw_all := lw_g (lw_at lw_m2 137 rfl) rfl
theorem q474 : (Jvm.Cond.methodLink "HatsDecide" (147 : Nat) ({ cls := "HatsDecide$Worn", name := "<init>", desc := "(LHatsDecide;IIII)V" } : Jvm.MethodName)) ∈ lw_all := lw_g (lw_at lw_m2 139 rfl) rfl
theorem q487 : (Jvm.Cond.classLink "HatsDecide" (148 : Nat) "HatsDecide$Crown") ∈ lw_all := lw_g (lw_at lw_m2 152 rfl) rfl
theorem q489 : (Jvm.Cond.methodLink "HatsDecide" (150 : Nat) ({ cls := "HatsDecide$Crown", name := "<init>", desc := "(LHatsDecide;IIII)V" } : Jvm.MethodName)) ∈ lw_all := lw_g (lw_at lw_m2 154 rfl) rfl
theorem q502 : (Jvm.Cond.classLink "HatsDecide" (151 : Nat) "HatsDecide$Stiff") ∈ lw_all := lw_g (lw_at lw_m2 167 rfl) rfl
theorem q504 : (Jvm.Cond.methodLink "HatsDecide" (153 : Nat) ({ cls := "HatsDecide$Stiff", name := "<init>", desc := "(LHatsDecide;IIII)V" } : Jvm.MethodName)) ∈ lw_all := lw_g (lw_at lw_m2 169 rfl) rfl
theorem q518 : (Jvm.Cond.classLink "HatsDecide" (154 : Nat) "HatsDecide$Frayed") ∈ lw_all := lw_g (lw_at lw_m2 183 rfl) rfl
theorem q520 : (Jvm.Cond.methodLink "HatsDecide" (156 : Nat) ({ cls := "HatsDecide$Frayed", name := "<init>", desc := "(LHatsDecide;IIII)V" } : Jvm.MethodName)) ∈ lw_all := lw_g (lw_at lw_m2 185 rfl) rfl
theorem q534 : (Jvm.Cond.classLink "HatsDecide" (157 : Nat) "HatsDecide$Told") ∈ lw_all := lw_g (lw_at lw_m2 199 rfl) rfl
theorem q536 : (Jvm.Cond.methodLink "HatsDecide" (159 : Nat) ({ cls := "HatsDecide$Told", name := "<init>", desc := "(LHatsDecide;IIII)V" } : Jvm.MethodName)) ∈ lw_all := lw_g (lw_at lw_m2 201 rfl) rfl
theorem q541 : (Jvm.Cond.fieldLink "HatsDecide" (225 : Nat) "HatsDecide$Told" "row" "[B") ∈ lw_all := lw_g (lw_at lw_m2 206 rfl) rfl
theorem q555 : (Jvm.Cond.methodLink "HatsDecide" (160 : Nat) ({ cls := "HatsDecide$Hat", name := "<init>", desc := "(LHatsDecide;IIII)V" } : Jvm.MethodName)) ∈ lw_all := lw_g (lw_at lw_m2 220 rfl) rfl
theorem q563 : (Jvm.Cond.instanceMethod ({ cls := "HatsDecide", name := "of", desc := "(II)I" } : Jvm.MethodName)) ∈ lw_all := lw_g (lw_at lw_m2 228 rfl) rfl
theorem q564 : (Jvm.Cond.selects "HatsDecide" ({ cls := "HatsDecide", name := "of", desc := "(II)I" } : Jvm.MethodName) ({ cls := "HatsDecide", name := "of", desc := "(II)I" } : Jvm.MethodName)) ∈ lw_all := lw_g (lw_at lw_m2 229 rfl) rfl
theorem q565 : (Jvm.Cond.code ({ cls := "HatsDecide", name := "of", desc := "(II)I" } : Jvm.MethodName) prog_1_method_11_code (3 : Nat) (Option.some Jvm.ClassFile.FieldType.int)) ∈ lw_all := lw_g (lw_at lw_m2 230 rfl) rfl
theorem q566 : (Jvm.Cond.methodLink "HatsDecide" (202 : Nat) ({ cls := "HatsDecide", name := "isHat", desc := "(I)Z" } : Jvm.MethodName)) ∈ lw_all := lw_g (lw_at lw_m2 231 rfl) rfl
theorem q567 : (Jvm.Cond.privateMethod ({ cls := "HatsDecide", name := "isHat", desc := "(I)Z" } : Jvm.MethodName)) ∈ lw_tbl := lw_at lw_m2 232 rfl
theorem q568 : (Jvm.Cond.instanceMethod ({ cls := "HatsDecide", name := "isHat", desc := "(I)Z" } : Jvm.MethodName)) ∈ lw_all := lw_g (lw_at lw_m2 233 rfl) rfl
theorem q569 : (Jvm.Cond.code ({ cls := "HatsDecide", name := "isHat", desc := "(I)Z" } : Jvm.MethodName) prog_1_method_5_code (2 : Nat) (Option.some Jvm.ClassFile.FieldType.boolean)) ∈ lw_all := lw_g (lw_at lw_m2 234 rfl) rfl
theorem q570 : (Jvm.Cond.methodLink "HatsDecide" (178 : Nat) ({ cls := "HatsDecide$Hat", name := "kind", desc := "()I" } : Jvm.MethodName)) ∈ lw_all := lw_g (lw_at lw_m2 235 rfl) rfl
theorem q593 : (Jvm.Cond.methodLink "HatsDecide" (211 : Nat) ({ cls := "HatsDecide$Time", name := "headOf", desc := "(I)I" } : Jvm.MethodName)) ∈ lw_all := lw_g (lw_at lw_m3 18 rfl) rfl
theorem q597 : (Jvm.Cond.methodLink "HatsDecide" (215 : Nat) ({ cls := "HatsDecide", name := "orNone", desc := "(I)I" } : Jvm.MethodName)) ∈ lw_all := lw_g (lw_at lw_m3 22 rfl) rfl
theorem q598 : (Jvm.Cond.static ({ cls := "HatsDecide", name := "orNone", desc := "(I)I" } : Jvm.MethodName)) ∈ lw_all := lw_g (lw_at lw_m3 23 rfl) rfl
theorem q599 : (Jvm.Cond.code ({ cls := "HatsDecide", name := "orNone", desc := "(I)I" } : Jvm.MethodName) prog_1_method_2_code (1 : Nat) (Option.some Jvm.ClassFile.FieldType.int)) ∈ lw_all := lw_g (lw_at lw_m3 24 rfl) rfl
theorem q600 : (Jvm.Cond.methodLink "HatsDecide" (218 : Nat) ({ cls := "HatsDecide", name := "isHead", desc := "(I)Z" } : Jvm.MethodName)) ∈ lw_all := lw_g (lw_at lw_m3 25 rfl) rfl
theorem q601 : (Jvm.Cond.privateMethod ({ cls := "HatsDecide", name := "isHead", desc := "(I)Z" } : Jvm.MethodName)) ∈ lw_tbl := lw_at lw_m3 26 rfl
theorem q602 : (Jvm.Cond.instanceMethod ({ cls := "HatsDecide", name := "isHead", desc := "(I)Z" } : Jvm.MethodName)) ∈ lw_all := lw_g (lw_at lw_m3 27 rfl) rfl
theorem q603 : (Jvm.Cond.code ({ cls := "HatsDecide", name := "isHead", desc := "(I)Z" } : Jvm.MethodName) prog_1_method_4_code (2 : Nat) (Option.some Jvm.ClassFile.FieldType.boolean)) ∈ lw_all := lw_g (lw_at lw_m3 28 rfl) rfl
theorem q604 : (Jvm.Cond.methodLink "HatsDecide" (221 : Nat) ({ cls := "HatsDecide", name := "deedOf", desc := "(LHatsDecide$Time;II)I" } : Jvm.MethodName)) ∈ lw_all := lw_g (lw_at lw_m3 29 rfl) rfl
theorem q605 : (Jvm.Cond.privateMethod ({ cls := "HatsDecide", name := "deedOf", desc := "(LHatsDecide$Time;II)I" } : Jvm.MethodName)) ∈ lw_tbl := lw_at lw_m3 30 rfl
theorem q606 : (Jvm.Cond.instanceMethod ({ cls := "HatsDecide", name := "deedOf", desc := "(LHatsDecide$Time;II)I" } : Jvm.MethodName)) ∈ lw_all := lw_g (lw_at lw_m3 31 rfl) rfl
theorem q607 : (Jvm.Cond.code ({ cls := "HatsDecide", name := "deedOf", desc := "(LHatsDecide$Time;II)I" } : Jvm.MethodName) prog_1_method_10_code (5 : Nat) (Option.some Jvm.ClassFile.FieldType.int)) ∈ lw_all := lw_g (lw_at lw_m3 32 rfl) rfl
theorem q608 : (Jvm.Cond.methodLink "HatsDecide" (194 : Nat) ({ cls := "HatsDecide$Town", name := "fits", desc := "(LHatsDecide$Look;)I" } : Jvm.MethodName)) ∈ lw_all := lw_g (lw_at lw_m3 33 rfl) rfl
theorem q652 : (Jvm.Cond.methodLink "HatsDecide" (198 : Nat) ({ cls := "HatsDecide$Hat", name := "deed", desc := "(IIII)I" } : Jvm.MethodName)) ∈ lw_all := lw_g (lw_at lw_m3 77 rfl) rfl
theorem q691 : (Jvm.Cond.instanceMethod ({ cls := "HatsDecide", name := "at", desc := "(II)I" } : Jvm.MethodName)) ∈ lw_all := lw_g (lw_at lw_m3 116 rfl) rfl
theorem q692 : (Jvm.Cond.selects "HatsDecide" ({ cls := "HatsDecide", name := "at", desc := "(II)I" } : Jvm.MethodName) ({ cls := "HatsDecide", name := "at", desc := "(II)I" } : Jvm.MethodName)) ∈ lw_all := lw_g (lw_at lw_m3 117 rfl) rfl
theorem q693 : (Jvm.Cond.code ({ cls := "HatsDecide", name := "at", desc := "(II)I" } : Jvm.MethodName) prog_1_method_12_code (3 : Nat) (Option.some Jvm.ClassFile.FieldType.int)) ∈ lw_all := lw_g (lw_at lw_m3 118 rfl) rfl
theorem q695 : (Jvm.Cond.instanceMethod ({ cls := "HatsDecide", name := "row", desc := "(III)I" } : Jvm.MethodName)) ∈ lw_all := lw_g (lw_at lw_m3 120 rfl) rfl
theorem q696 : (Jvm.Cond.selects "HatsDecide" ({ cls := "HatsDecide", name := "row", desc := "(III)I" } : Jvm.MethodName) ({ cls := "HatsDecide", name := "row", desc := "(III)I" } : Jvm.MethodName)) ∈ lw_all := lw_g (lw_at lw_m3 121 rfl) rfl
theorem q697 : (Jvm.Cond.code ({ cls := "HatsDecide", name := "row", desc := "(III)I" } : Jvm.MethodName) prog_1_method_13_code (6 : Nat) (Option.some Jvm.ClassFile.FieldType.int)) ∈ lw_all := lw_g (lw_at lw_m3 122 rfl) rfl
theorem q699 : (Jvm.Cond.instanceMethod ({ cls := "HatsDecide", name := "put", desc := "(II)I" } : Jvm.MethodName)) ∈ lw_all := lw_g (lw_at lw_m3 124 rfl) rfl
theorem q700 : (Jvm.Cond.selects "HatsDecide" ({ cls := "HatsDecide", name := "put", desc := "(II)I" } : Jvm.MethodName) ({ cls := "HatsDecide", name := "put", desc := "(II)I" } : Jvm.MethodName)) ∈ lw_all := lw_g (lw_at lw_m3 125 rfl) rfl
theorem q701 : (Jvm.Cond.code ({ cls := "HatsDecide", name := "put", desc := "(II)I" } : Jvm.MethodName) prog_1_method_14_code (4 : Nat) (Option.some Jvm.ClassFile.FieldType.int)) ∈ lw_all := lw_g (lw_at lw_m3 126 rfl) rfl
theorem q703 : (Jvm.Cond.instanceMethod ({ cls := "HatsDecide", name := "own", desc := "(II)I" } : Jvm.MethodName)) ∈ lw_all := lw_g (lw_at lw_m3 128 rfl) rfl
theorem q704 : (Jvm.Cond.selects "HatsDecide" ({ cls := "HatsDecide", name := "own", desc := "(II)I" } : Jvm.MethodName) ({ cls := "HatsDecide", name := "own", desc := "(II)I" } : Jvm.MethodName)) ∈ lw_all := lw_g (lw_at lw_m3 129 rfl) rfl
theorem q705 : (Jvm.Cond.code ({ cls := "HatsDecide", name := "own", desc := "(II)I" } : Jvm.MethodName) prog_1_method_15_code (4 : Nat) (Option.some Jvm.ClassFile.FieldType.int)) ∈ lw_all := lw_g (lw_at lw_m3 130 rfl) rfl
theorem q707 : (Jvm.Cond.instanceMethod ({ cls := "HatsDecide", name := "skill", desc := "(II)I" } : Jvm.MethodName)) ∈ lw_all := lw_g (lw_at lw_m3 132 rfl) rfl
theorem q708 : (Jvm.Cond.selects "HatsDecide" ({ cls := "HatsDecide", name := "skill", desc := "(II)I" } : Jvm.MethodName) ({ cls := "HatsDecide", name := "skill", desc := "(II)I" } : Jvm.MethodName)) ∈ lw_all := lw_g (lw_at lw_m3 133 rfl) rfl
theorem q709 : (Jvm.Cond.code ({ cls := "HatsDecide", name := "skill", desc := "(II)I" } : Jvm.MethodName) prog_1_method_16_code (4 : Nat) (Option.some Jvm.ClassFile.FieldType.int)) ∈ lw_all := lw_g (lw_at lw_m3 134 rfl) rfl
theorem q711 : (Jvm.Cond.instanceMethod ({ cls := "HatsDecide", name := "feed", desc := "(I)I" } : Jvm.MethodName)) ∈ lw_all := lw_g (lw_at lw_m3 136 rfl) rfl
theorem q712 : (Jvm.Cond.selects "HatsDecide" ({ cls := "HatsDecide", name := "feed", desc := "(I)I" } : Jvm.MethodName) ({ cls := "HatsDecide", name := "feed", desc := "(I)I" } : Jvm.MethodName)) ∈ lw_all := lw_g (lw_at lw_m3 137 rfl) rfl
theorem q713 : (Jvm.Cond.code ({ cls := "HatsDecide", name := "feed", desc := "(I)I" } : Jvm.MethodName) prog_1_method_17_code (2 : Nat) (Option.some Jvm.ClassFile.FieldType.int)) ∈ lw_all := lw_g (lw_at lw_m3 138 rfl) rfl
theorem q715 : (Jvm.Cond.instanceMethod ({ cls := "HatsDecide", name := "town", desc := "()I" } : Jvm.MethodName)) ∈ lw_all := lw_g (lw_at lw_m3 140 rfl) rfl
theorem q716 : (Jvm.Cond.selects "HatsDecide" ({ cls := "HatsDecide", name := "town", desc := "()I" } : Jvm.MethodName) ({ cls := "HatsDecide", name := "town", desc := "()I" } : Jvm.MethodName)) ∈ lw_all := lw_g (lw_at lw_m3 141 rfl) rfl
theorem q717 : (Jvm.Cond.codeWith ({ cls := "HatsDecide", name := "town", desc := "()I" } : Jvm.MethodName) prog_1_method_18_code (3 : Nat) (Option.some Jvm.ClassFile.FieldType.int) [((22 : Nat), (52 : Nat), (53 : Nat), (242 : Nat))]) ∈ lw_all := lw_g (lw_at lw_m3 142 rfl) rfl
theorem q718 : (Jvm.Cond.classLink "HatsDecide" (242 : Nat) "HatsDecide$Off") ∈ lw_all := lw_g (lw_at lw_m3 143 rfl) rfl
theorem q719 : (Jvm.Cond.classLink "HatsDecide" (234 : Nat) "HatsDecide$Reader") ∈ lw_all := lw_g (lw_at lw_m3 144 rfl) rfl
theorem q721 : (Jvm.Cond.methodLink "HatsDecide" (236 : Nat) ({ cls := "HatsDecide$Reader", name := "<init>", desc := "([BI)V" } : Jvm.MethodName)) ∈ lw_all := lw_g (lw_at lw_m3 146 rfl) rfl
theorem q743 : (Jvm.Cond.methodLink "HatsDecide" (239 : Nat) ({ cls := "HatsDecide$Reader", name := "town", desc := "()LHatsDecide$Town;" } : Jvm.MethodName)) ∈ lw_all := lw_g (lw_at lw_m3 168 rfl) rfl
theorem q886 : (Jvm.Cond.fieldLinkNest "HatsDecide" (244 : Nat) "HatsDecide$Off" "place" "I" "HatsDecide") ∈ lw_tbl := lw_at lw_m4 71 rfl
theorem q1000 : (Jvm.Cond.selects "HatsDecide" ({ cls := "java/lang/Object", name := "getClass", desc := "()Ljava/lang/Class;" } : Jvm.MethodName) ({ cls := "java/lang/Object", name := "getClass", desc := "()Ljava/lang/Class;" } : Jvm.MethodName)) ∈ lw_all := lw_g (lw_at lw_m4 185 rfl) rfl
theorem q1062 : (Jvm.Cond.instanceMethod ({ cls := "HatsDecide", name := "told", desc := "(I)I" } : Jvm.MethodName)) ∈ lw_all := lw_g (lw_at lw_m5 7 rfl) rfl
theorem q1063 : (Jvm.Cond.selects "HatsDecide" ({ cls := "HatsDecide", name := "told", desc := "(I)I" } : Jvm.MethodName) ({ cls := "HatsDecide", name := "told", desc := "(I)I" } : Jvm.MethodName)) ∈ lw_all := lw_g (lw_at lw_m5 8 rfl) rfl
theorem q1064 : (Jvm.Cond.code ({ cls := "HatsDecide", name := "told", desc := "(I)I" } : Jvm.MethodName) prog_1_method_19_code (2 : Nat) (Option.some Jvm.ClassFile.FieldType.int)) ∈ lw_all := lw_g (lw_at lw_m5 9 rfl) rfl
theorem q1066 : (Jvm.Cond.instanceMethod ({ cls := "HatsDecide", name := "day", desc := "()I" } : Jvm.MethodName)) ∈ lw_all := lw_g (lw_at lw_m5 11 rfl) rfl
theorem q1067 : (Jvm.Cond.selects "HatsDecide" ({ cls := "HatsDecide", name := "day", desc := "()I" } : Jvm.MethodName) ({ cls := "HatsDecide", name := "day", desc := "()I" } : Jvm.MethodName)) ∈ lw_all := lw_g (lw_at lw_m5 12 rfl) rfl
theorem q1068 : (Jvm.Cond.code ({ cls := "HatsDecide", name := "day", desc := "()I" } : Jvm.MethodName) prog_1_method_21_code (3 : Nat) (Option.some Jvm.ClassFile.FieldType.int)) ∈ lw_all := lw_g (lw_at lw_m5 13 rfl) rfl
theorem q1069 : (Jvm.Cond.methodLink "HatsDecide" (253 : Nat) ({ cls := "HatsDecide", name := "todayOf", desc := "(LHatsDecide$Time;I)I" } : Jvm.MethodName)) ∈ lw_all := lw_g (lw_at lw_m5 14 rfl) rfl
theorem q1070 : (Jvm.Cond.privateMethod ({ cls := "HatsDecide", name := "todayOf", desc := "(LHatsDecide$Time;I)I" } : Jvm.MethodName)) ∈ lw_tbl := lw_at lw_m5 15 rfl
theorem q1071 : (Jvm.Cond.instanceMethod ({ cls := "HatsDecide", name := "todayOf", desc := "(LHatsDecide$Time;I)I" } : Jvm.MethodName)) ∈ lw_all := lw_g (lw_at lw_m5 16 rfl) rfl
theorem q1072 : (Jvm.Cond.code ({ cls := "HatsDecide", name := "todayOf", desc := "(LHatsDecide$Time;I)I" } : Jvm.MethodName) prog_1_method_20_code (6 : Nat) (Option.some Jvm.ClassFile.FieldType.int)) ∈ lw_all := lw_g (lw_at lw_m5 17 rfl) rfl
theorem q1073 : (Jvm.Cond.constant "HatsDecide" (257 : Nat) (999999 : Int32)) ∈ lw_all := lw_g (lw_at lw_m5 18 rfl) rfl
theorem q1074 : (Jvm.Cond.methodLink "HatsDecide" (258 : Nat) ({ cls := "java/lang/Math", name := "min", desc := "(II)I" } : Jvm.MethodName)) ∈ lw_all := lw_g (lw_at lw_m5 19 rfl) rfl
theorem q1075 : (Jvm.Cond.methodLink "HatsDecide" (264 : Nat) ({ cls := "HatsDecide$Time", name := "wears", desc := "()V" } : Jvm.MethodName)) ∈ lw_all := lw_g (lw_at lw_m5 20 rfl) rfl
theorem q1080 : (Jvm.Cond.instanceMethod ({ cls := "HatsDecide", name := "gust", desc := "(I)I" } : Jvm.MethodName)) ∈ lw_all := lw_g (lw_at lw_m5 25 rfl) rfl
theorem q1081 : (Jvm.Cond.selects "HatsDecide" ({ cls := "HatsDecide", name := "gust", desc := "(I)I" } : Jvm.MethodName) ({ cls := "HatsDecide", name := "gust", desc := "(I)I" } : Jvm.MethodName)) ∈ lw_all := lw_g (lw_at lw_m5 26 rfl) rfl
theorem q1082 : (Jvm.Cond.code ({ cls := "HatsDecide", name := "gust", desc := "(I)I" } : Jvm.MethodName) prog_1_method_22_code (4 : Nat) (Option.some Jvm.ClassFile.FieldType.int)) ∈ lw_all := lw_g (lw_at lw_m5 27 rfl) rfl
theorem q1083 : (Jvm.Cond.methodLink "HatsDecide" (267 : Nat) ({ cls := "HatsDecide$Time", name := "gusts", desc := "(I)V" } : Jvm.MethodName)) ∈ lw_all := lw_g (lw_at lw_m5 28 rfl) rfl
theorem q1095 : (Jvm.Cond.instanceMethod ({ cls := "HatsDecide", name := "change", desc := "(II)I" } : Jvm.MethodName)) ∈ lw_all := lw_g (lw_at lw_m5 40 rfl) rfl
theorem q1096 : (Jvm.Cond.selects "HatsDecide" ({ cls := "HatsDecide", name := "change", desc := "(II)I" } : Jvm.MethodName) ({ cls := "HatsDecide", name := "change", desc := "(II)I" } : Jvm.MethodName)) ∈ lw_all := lw_g (lw_at lw_m5 41 rfl) rfl
theorem q1097 : (Jvm.Cond.code ({ cls := "HatsDecide", name := "change", desc := "(II)I" } : Jvm.MethodName) prog_1_method_23_code (3 : Nat) (Option.some Jvm.ClassFile.FieldType.int)) ∈ lw_all := lw_g (lw_at lw_m5 42 rfl) rfl
theorem q1098 : (Jvm.Cond.methodLink "HatsDecide" (271 : Nat) ({ cls := "HatsDecide$Time", name := "changes", desc := "(II)V" } : Jvm.MethodName)) ∈ lw_all := lw_g (lw_at lw_m5 43 rfl) rfl
theorem q1103 : (Jvm.Cond.instanceMethod ({ cls := "HatsDecide", name := "today", desc := "(I)I" } : Jvm.MethodName)) ∈ lw_all := lw_g (lw_at lw_m5 48 rfl) rfl
theorem q1104 : (Jvm.Cond.selects "HatsDecide" ({ cls := "HatsDecide", name := "today", desc := "(I)I" } : Jvm.MethodName) ({ cls := "HatsDecide", name := "today", desc := "(I)I" } : Jvm.MethodName)) ∈ lw_all := lw_g (lw_at lw_m5 49 rfl) rfl
theorem q1105 : (Jvm.Cond.code ({ cls := "HatsDecide", name := "today", desc := "(I)I" } : Jvm.MethodName) prog_1_method_24_code (2 : Nat) (Option.some Jvm.ClassFile.FieldType.int)) ∈ lw_all := lw_g (lw_at lw_m5 50 rfl) rfl
theorem q1107 : (Jvm.Cond.instanceMethod ({ cls := "HatsDecide", name := "enough", desc := "()I" } : Jvm.MethodName)) ∈ lw_all := lw_g (lw_at lw_m5 52 rfl) rfl
theorem q1108 : (Jvm.Cond.selects "HatsDecide" ({ cls := "HatsDecide", name := "enough", desc := "()I" } : Jvm.MethodName) ({ cls := "HatsDecide", name := "enough", desc := "()I" } : Jvm.MethodName)) ∈ lw_all := lw_g (lw_at lw_m5 53 rfl) rfl
theorem q1109 : (Jvm.Cond.code ({ cls := "HatsDecide", name := "enough", desc := "()I" } : Jvm.MethodName) prog_1_method_26_code (3 : Nat) (Option.some Jvm.ClassFile.FieldType.int)) ∈ lw_all := lw_g (lw_at lw_m5 54 rfl) rfl
theorem q1110 : (Jvm.Cond.methodLink "HatsDecide" (275 : Nat) ({ cls := "HatsDecide", name := "isEnough", desc := "(LHatsDecide$Time;I)Z" } : Jvm.MethodName)) ∈ lw_all := lw_g (lw_at lw_m5 55 rfl) rfl
theorem q1111 : (Jvm.Cond.privateMethod ({ cls := "HatsDecide", name := "isEnough", desc := "(LHatsDecide$Time;I)Z" } : Jvm.MethodName)) ∈ lw_tbl := lw_at lw_m5 56 rfl
theorem q1112 : (Jvm.Cond.instanceMethod ({ cls := "HatsDecide", name := "isEnough", desc := "(LHatsDecide$Time;I)Z" } : Jvm.MethodName)) ∈ lw_all := lw_g (lw_at lw_m5 57 rfl) rfl
theorem q1113 : (Jvm.Cond.code ({ cls := "HatsDecide", name := "isEnough", desc := "(LHatsDecide$Time;I)Z" } : Jvm.MethodName) prog_1_method_25_code (3 : Nat) (Option.some Jvm.ClassFile.FieldType.boolean)) ∈ lw_all := lw_g (lw_at lw_m5 58 rfl) rfl
theorem q1115 : (Jvm.Cond.instanceMethod ({ cls := "HatsDecide", name := "best", desc := "(I)I" } : Jvm.MethodName)) ∈ lw_all := lw_g (lw_at lw_m5 60 rfl) rfl
theorem q1116 : (Jvm.Cond.selects "HatsDecide" ({ cls := "HatsDecide", name := "best", desc := "(I)I" } : Jvm.MethodName) ({ cls := "HatsDecide", name := "best", desc := "(I)I" } : Jvm.MethodName)) ∈ lw_all := lw_g (lw_at lw_m5 61 rfl) rfl
theorem q1117 : (Jvm.Cond.code ({ cls := "HatsDecide", name := "best", desc := "(I)I" } : Jvm.MethodName) prog_1_method_27_code (6 : Nat) (Option.some Jvm.ClassFile.FieldType.int)) ∈ lw_all := lw_g (lw_at lw_m5 62 rfl) rfl
theorem q1119 : (Jvm.Cond.instanceMethod ({ cls := "HatsDecide", name := "on", desc := "(II)I" } : Jvm.MethodName)) ∈ lw_all := lw_g (lw_at lw_m5 64 rfl) rfl
theorem q1120 : (Jvm.Cond.selects "HatsDecide" ({ cls := "HatsDecide", name := "on", desc := "(II)I" } : Jvm.MethodName) ({ cls := "HatsDecide", name := "on", desc := "(II)I" } : Jvm.MethodName)) ∈ lw_all := lw_g (lw_at lw_m5 65 rfl) rfl
theorem q1121 : (Jvm.Cond.code ({ cls := "HatsDecide", name := "on", desc := "(II)I" } : Jvm.MethodName) prog_1_method_28_code (5 : Nat) (Option.some Jvm.ClassFile.FieldType.int)) ∈ lw_all := lw_g (lw_at lw_m5 66 rfl) rfl
theorem q1122 : (Jvm.Cond.methodLink "HatsDecide" (279 : Nat) ({ cls := "HatsDecide$Time", name := "takes", desc := "(LHatsDecide$Time;)V" } : Jvm.MethodName)) ∈ lw_all := lw_g (lw_at lw_m5 67 rfl) rfl
theorem q1128 : (Jvm.Cond.instanceMethod ({ cls := "HatsDecide", name := "lasts", desc := "(I)I" } : Jvm.MethodName)) ∈ lw_all := lw_g (lw_at lw_m5 73 rfl) rfl
theorem q1129 : (Jvm.Cond.selects "HatsDecide" ({ cls := "HatsDecide", name := "lasts", desc := "(I)I" } : Jvm.MethodName) ({ cls := "HatsDecide", name := "lasts", desc := "(I)I" } : Jvm.MethodName)) ∈ lw_all := lw_g (lw_at lw_m5 74 rfl) rfl
theorem q1130 : (Jvm.Cond.code ({ cls := "HatsDecide", name := "lasts", desc := "(I)I" } : Jvm.MethodName) prog_1_method_29_code (3 : Nat) (Option.some Jvm.ClassFile.FieldType.int)) ∈ lw_all := lw_g (lw_at lw_m5 75 rfl) rfl
theorem q1132 : (Jvm.Cond.instanceMethod ({ cls := "HatsDecide", name := "by", desc := "(I)I" } : Jvm.MethodName)) ∈ lw_all := lw_g (lw_at lw_m5 77 rfl) rfl
theorem q1133 : (Jvm.Cond.selects "HatsDecide" ({ cls := "HatsDecide", name := "by", desc := "(I)I" } : Jvm.MethodName) ({ cls := "HatsDecide", name := "by", desc := "(I)I" } : Jvm.MethodName)) ∈ lw_all := lw_g (lw_at lw_m5 78 rfl) rfl
theorem q1134 : (Jvm.Cond.code ({ cls := "HatsDecide", name := "by", desc := "(I)I" } : Jvm.MethodName) prog_1_method_32_code (2 : Nat) (Option.some Jvm.ClassFile.FieldType.int)) ∈ lw_all := lw_g (lw_at lw_m5 79 rfl) rfl
theorem q1135 : (Jvm.Cond.methodLink "HatsDecide" (296 : Nat) ({ cls := "HatsDecide", name := "looksForDeeds", desc := "()V" } : Jvm.MethodName)) ∈ lw_all := lw_g (lw_at lw_m5 80 rfl) rfl
theorem q1136 : (Jvm.Cond.privateMethod ({ cls := "HatsDecide", name := "looksForDeeds", desc := "()V" } : Jvm.MethodName)) ∈ lw_tbl := lw_at lw_m5 81 rfl
theorem q1137 : (Jvm.Cond.instanceMethod ({ cls := "HatsDecide", name := "looksForDeeds", desc := "()V" } : Jvm.MethodName)) ∈ lw_all := lw_g (lw_at lw_m5 82 rfl) rfl
theorem q1138 : (Jvm.Cond.code ({ cls := "HatsDecide", name := "looksForDeeds", desc := "()V" } : Jvm.MethodName) prog_1_method_30_code (3 : Nat) (Option.none : Option Jvm.ClassFile.FieldType)) ∈ lw_all := lw_g (lw_at lw_m5 83 rfl) rfl
theorem q1139 : (Jvm.Cond.methodLink "HatsDecide" (292 : Nat) ({ cls := "HatsDecide", name := "waysFrom", desc := "(IIII)V" } : Jvm.MethodName)) ∈ lw_all := lw_g (lw_at lw_m5 84 rfl) rfl
theorem q1140 : (Jvm.Cond.privateMethod ({ cls := "HatsDecide", name := "waysFrom", desc := "(IIII)V" } : Jvm.MethodName)) ∈ lw_tbl := lw_at lw_m5 85 rfl
theorem q1141 : (Jvm.Cond.instanceMethod ({ cls := "HatsDecide", name := "waysFrom", desc := "(IIII)V" } : Jvm.MethodName)) ∈ lw_all := lw_g (lw_at lw_m5 86 rfl) rfl
theorem q1142 : (Jvm.Cond.code ({ cls := "HatsDecide", name := "waysFrom", desc := "(IIII)V" } : Jvm.MethodName) prog_1_method_31_code (6 : Nat) (Option.none : Option Jvm.ClassFile.FieldType)) ∈ lw_all := lw_g (lw_at lw_m5 87 rfl) rfl
theorem q1143 : (Jvm.Cond.methodLink "HatsDecide" (286 : Nat) ({ cls := "java/lang/System", name := "arraycopy", desc := "(Ljava/lang/Object;ILjava/lang/Object;II)V" } : Jvm.MethodName)) ∈ lw_all := lw_g (lw_at lw_m5 88 rfl) rfl
theorem q1145 : (Jvm.Cond.instanceMethod ({ cls := "HatsDecide", name := "can", desc := "()I" } : Jvm.MethodName)) ∈ lw_all := lw_g (lw_at lw_m5 90 rfl) rfl
theorem q1146 : (Jvm.Cond.selects "HatsDecide" ({ cls := "HatsDecide", name := "can", desc := "()I" } : Jvm.MethodName) ({ cls := "HatsDecide", name := "can", desc := "()I" } : Jvm.MethodName)) ∈ lw_all := lw_g (lw_at lw_m5 91 rfl) rfl
theorem q1147 : (Jvm.Cond.code ({ cls := "HatsDecide", name := "can", desc := "()I" } : Jvm.MethodName) prog_1_method_34_code (3 : Nat) (Option.some Jvm.ClassFile.FieldType.int)) ∈ lw_all := lw_g (lw_at lw_m5 92 rfl) rfl
theorem q1148 : (Jvm.Cond.methodLink "HatsDecide" (299 : Nat) ({ cls := "HatsDecide", name := "mostFrom", desc := "(III)I" } : Jvm.MethodName)) ∈ lw_all := lw_g (lw_at lw_m5 93 rfl) rfl
theorem q1149 : (Jvm.Cond.privateMethod ({ cls := "HatsDecide", name := "mostFrom", desc := "(III)I" } : Jvm.MethodName)) ∈ lw_tbl := lw_at lw_m5 94 rfl
theorem q1150 : (Jvm.Cond.instanceMethod ({ cls := "HatsDecide", name := "mostFrom", desc := "(III)I" } : Jvm.MethodName)) ∈ lw_all := lw_g (lw_at lw_m5 95 rfl) rfl
theorem q1151 : (Jvm.Cond.code ({ cls := "HatsDecide", name := "mostFrom", desc := "(III)I" } : Jvm.MethodName) prog_1_method_33_code (6 : Nat) (Option.some Jvm.ClassFile.FieldType.int)) ∈ lw_all := lw_g (lw_at lw_m5 96 rfl) rfl
theorem q1152 : (Jvm.Cond.methodLink "HatsDecide" (303 : Nat) ({ cls := "java/lang/Math", name := "max", desc := "(II)I" } : Jvm.MethodName)) ∈ lw_all := lw_g (lw_at lw_m5 97 rfl) rfl
theorem q1154 : (Jvm.Cond.instanceMethod ({ cls := "HatsDecide", name := "back", desc := "()I" } : Jvm.MethodName)) ∈ lw_all := lw_g (lw_at lw_m5 99 rfl) rfl
theorem q1155 : (Jvm.Cond.selects "HatsDecide" ({ cls := "HatsDecide", name := "back", desc := "()I" } : Jvm.MethodName) ({ cls := "HatsDecide", name := "back", desc := "()I" } : Jvm.MethodName)) ∈ lw_all := lw_g (lw_at lw_m5 100 rfl) rfl
theorem q1156 : (Jvm.Cond.code ({ cls := "HatsDecide", name := "back", desc := "()I" } : Jvm.MethodName) prog_1_method_37_code (4 : Nat) (Option.some Jvm.ClassFile.FieldType.int)) ∈ lw_all := lw_g (lw_at lw_m5 101 rfl) rfl
theorem q1157 : (Jvm.Cond.methodLink "HatsDecide" (306 : Nat) ({ cls := "HatsDecide", name := "goalOf", desc := "(I)I" } : Jvm.MethodName)) ∈ lw_all := lw_g (lw_at lw_m5 102 rfl) rfl
theorem q1158 : (Jvm.Cond.privateMethod ({ cls := "HatsDecide", name := "goalOf", desc := "(I)I" } : Jvm.MethodName)) ∈ lw_tbl := lw_at lw_m5 103 rfl
theorem q1159 : (Jvm.Cond.instanceMethod ({ cls := "HatsDecide", name := "goalOf", desc := "(I)I" } : Jvm.MethodName)) ∈ lw_all := lw_g (lw_at lw_m5 104 rfl) rfl
theorem q1160 : (Jvm.Cond.code ({ cls := "HatsDecide", name := "goalOf", desc := "(I)I" } : Jvm.MethodName) prog_1_method_35_code (4 : Nat) (Option.some Jvm.ClassFile.FieldType.int)) ∈ lw_all := lw_g (lw_at lw_m5 105 rfl) rfl
theorem q1161 : (Jvm.Cond.methodLink "HatsDecide" (309 : Nat) ({ cls := "HatsDecide", name := "isRing", desc := "(I)Z" } : Jvm.MethodName)) ∈ lw_all := lw_g (lw_at lw_m5 106 rfl) rfl
theorem q1162 : (Jvm.Cond.privateMethod ({ cls := "HatsDecide", name := "isRing", desc := "(I)Z" } : Jvm.MethodName)) ∈ lw_tbl := lw_at lw_m5 107 rfl
theorem q1163 : (Jvm.Cond.instanceMethod ({ cls := "HatsDecide", name := "isRing", desc := "(I)Z" } : Jvm.MethodName)) ∈ lw_all := lw_g (lw_at lw_m5 108 rfl) rfl
theorem q1164 : (Jvm.Cond.code ({ cls := "HatsDecide", name := "isRing", desc := "(I)Z" } : Jvm.MethodName) prog_1_method_36_code (3 : Nat) (Option.some Jvm.ClassFile.FieldType.boolean)) ∈ lw_all := lw_g (lw_at lw_m5 109 rfl) rfl
theorem q1166 : (Jvm.Cond.instanceMethod ({ cls := "HatsDecide", name := "gusted", desc := "(I)I" } : Jvm.MethodName)) ∈ lw_all := lw_g (lw_at lw_m5 111 rfl) rfl
theorem q1167 : (Jvm.Cond.selects "HatsDecide" ({ cls := "HatsDecide", name := "gusted", desc := "(I)I" } : Jvm.MethodName) ({ cls := "HatsDecide", name := "gusted", desc := "(I)I" } : Jvm.MethodName)) ∈ lw_all := lw_g (lw_at lw_m5 112 rfl) rfl
theorem q1168 : (Jvm.Cond.code ({ cls := "HatsDecide", name := "gusted", desc := "(I)I" } : Jvm.MethodName) prog_1_method_39_code (2 : Nat) (Option.some Jvm.ClassFile.FieldType.int)) ∈ lw_all := lw_g (lw_at lw_m5 113 rfl) rfl
theorem q1169 : (Jvm.Cond.methodLink "HatsDecide" (312 : Nat) ({ cls := "HatsDecide", name := "gustedBy", desc := "(II)I" } : Jvm.MethodName)) ∈ lw_all := lw_g (lw_at lw_m5 114 rfl) rfl
theorem q1170 : (Jvm.Cond.privateMethod ({ cls := "HatsDecide", name := "gustedBy", desc := "(II)I" } : Jvm.MethodName)) ∈ lw_tbl := lw_at lw_m5 115 rfl
theorem q1171 : (Jvm.Cond.instanceMethod ({ cls := "HatsDecide", name := "gustedBy", desc := "(II)I" } : Jvm.MethodName)) ∈ lw_all := lw_g (lw_at lw_m5 116 rfl) rfl
theorem q1172 : (Jvm.Cond.code ({ cls := "HatsDecide", name := "gustedBy", desc := "(II)I" } : Jvm.MethodName) prog_1_method_38_code (3 : Nat) (Option.some Jvm.ClassFile.FieldType.int)) ∈ lw_all := lw_g (lw_at lw_m5 117 rfl) rfl
theorem q1174 : (Jvm.Cond.instanceMethod ({ cls := "HatsDecide", name := "lucky", desc := "()I" } : Jvm.MethodName)) ∈ lw_all := lw_g (lw_at lw_m5 119 rfl) rfl
theorem q1175 : (Jvm.Cond.selects "HatsDecide" ({ cls := "HatsDecide", name := "lucky", desc := "()I" } : Jvm.MethodName) ({ cls := "HatsDecide", name := "lucky", desc := "()I" } : Jvm.MethodName)) ∈ lw_all := lw_g (lw_at lw_m5 120 rfl) rfl
theorem q1176 : (Jvm.Cond.code ({ cls := "HatsDecide", name := "lucky", desc := "()I" } : Jvm.MethodName) prog_1_method_40_code (5 : Nat) (Option.some Jvm.ClassFile.FieldType.int)) ∈ lw_all := lw_g (lw_at lw_m5 121 rfl) rfl
theorem q1178 : (Jvm.Cond.instanceMethod ({ cls := "HatsDecide", name := "swap", desc := "()I" } : Jvm.MethodName)) ∈ lw_all := lw_g (lw_at lw_m5 123 rfl) rfl
theorem q1179 : (Jvm.Cond.selects "HatsDecide" ({ cls := "HatsDecide", name := "swap", desc := "()I" } : Jvm.MethodName) ({ cls := "HatsDecide", name := "swap", desc := "()I" } : Jvm.MethodName)) ∈ lw_all := lw_g (lw_at lw_m5 124 rfl) rfl
theorem q1180 : (Jvm.Cond.code ({ cls := "HatsDecide", name := "swap", desc := "()I" } : Jvm.MethodName) prog_1_method_41_code (6 : Nat) (Option.some Jvm.ClassFile.FieldType.int)) ∈ lw_all := lw_g (lw_at lw_m5 125 rfl) rfl
theorem q1182 : (Jvm.Cond.instanceMethod ({ cls := "HatsDecide", name := "quarrel", desc := "(III)I" } : Jvm.MethodName)) ∈ lw_all := lw_g (lw_at lw_m5 127 rfl) rfl
theorem q1183 : (Jvm.Cond.selects "HatsDecide" ({ cls := "HatsDecide", name := "quarrel", desc := "(III)I" } : Jvm.MethodName) ({ cls := "HatsDecide", name := "quarrel", desc := "(III)I" } : Jvm.MethodName)) ∈ lw_all := lw_g (lw_at lw_m5 128 rfl) rfl
theorem q1184 : (Jvm.Cond.code ({ cls := "HatsDecide", name := "quarrel", desc := "(III)I" } : Jvm.MethodName) prog_1_method_42_code (4 : Nat) (Option.some Jvm.ClassFile.FieldType.int)) ∈ lw_all := lw_g (lw_at lw_m5 129 rfl) rfl
theorem q1186 : (Jvm.Cond.instanceMethod ({ cls := "HatsDecide", name := "how", desc := "(I)I" } : Jvm.MethodName)) ∈ lw_all := lw_g (lw_at lw_m5 131 rfl) rfl
theorem q1187 : (Jvm.Cond.selects "HatsDecide" ({ cls := "HatsDecide", name := "how", desc := "(I)I" } : Jvm.MethodName) ({ cls := "HatsDecide", name := "how", desc := "(I)I" } : Jvm.MethodName)) ∈ lw_all := lw_g (lw_at lw_m5 132 rfl) rfl
theorem q1188 : (Jvm.Cond.code ({ cls := "HatsDecide", name := "how", desc := "(I)I" } : Jvm.MethodName) prog_1_method_43_code (5 : Nat) (Option.some Jvm.ClassFile.FieldType.int)) ∈ lw_all := lw_g (lw_at lw_m5 133 rfl) rfl
theorem q1190 : (Jvm.Cond.instanceMethod ({ cls := "HatsDecide", name := "see", desc := "(II)I" } : Jvm.MethodName)) ∈ lw_all := lw_g (lw_at lw_m5 135 rfl) rfl
theorem q1191 : (Jvm.Cond.selects "HatsDecide" ({ cls := "HatsDecide", name := "see", desc := "(II)I" } : Jvm.MethodName) ({ cls := "HatsDecide", name := "see", desc := "(II)I" } : Jvm.MethodName)) ∈ lw_all := lw_g (lw_at lw_m5 136 rfl) rfl
theorem q1192 : (Jvm.Cond.code ({ cls := "HatsDecide", name := "see", desc := "(II)I" } : Jvm.MethodName) prog_1_method_44_code (3 : Nat) (Option.some Jvm.ClassFile.FieldType.int)) ∈ lw_all := lw_g (lw_at lw_m5 137 rfl) rfl
theorem q1194 : (Jvm.Cond.instanceMethod ({ cls := "HatsDecide", name := "wore", desc := "(I)I" } : Jvm.MethodName)) ∈ lw_all := lw_g (lw_at lw_m5 139 rfl) rfl
theorem q1195 : (Jvm.Cond.selects "HatsDecide" ({ cls := "HatsDecide", name := "wore", desc := "(I)I" } : Jvm.MethodName) ({ cls := "HatsDecide", name := "wore", desc := "(I)I" } : Jvm.MethodName)) ∈ lw_all := lw_g (lw_at lw_m5 140 rfl) rfl
theorem q1196 : (Jvm.Cond.code ({ cls := "HatsDecide", name := "wore", desc := "(I)I" } : Jvm.MethodName) prog_1_method_47_code (2 : Nat) (Option.some Jvm.ClassFile.FieldType.int)) ∈ lw_all := lw_g (lw_at lw_m5 141 rfl) rfl
theorem q1197 : (Jvm.Cond.methodLink "HatsDecide" (322 : Nat) ({ cls := "HatsDecide", name := "woreOf", desc := "(I)I" } : Jvm.MethodName)) ∈ lw_all := lw_g (lw_at lw_m5 142 rfl) rfl
theorem q1198 : (Jvm.Cond.privateMethod ({ cls := "HatsDecide", name := "woreOf", desc := "(I)I" } : Jvm.MethodName)) ∈ lw_tbl := lw_at lw_m5 143 rfl
theorem q1199 : (Jvm.Cond.instanceMethod ({ cls := "HatsDecide", name := "woreOf", desc := "(I)I" } : Jvm.MethodName)) ∈ lw_all := lw_g (lw_at lw_m5 144 rfl) rfl
theorem q1200 : (Jvm.Cond.code ({ cls := "HatsDecide", name := "woreOf", desc := "(I)I" } : Jvm.MethodName) prog_1_method_46_code (4 : Nat) (Option.some Jvm.ClassFile.FieldType.int)) ∈ lw_all := lw_g (lw_at lw_m5 145 rfl) rfl
theorem q1201 : (Jvm.Cond.methodLink "HatsDecide" (318 : Nat) ({ cls := "HatsDecide", name := "isAsSeen", desc := "(II)Z" } : Jvm.MethodName)) ∈ lw_all := lw_g (lw_at lw_m5 146 rfl) rfl
theorem q1202 : (Jvm.Cond.privateMethod ({ cls := "HatsDecide", name := "isAsSeen", desc := "(II)Z" } : Jvm.MethodName)) ∈ lw_tbl := lw_at lw_m5 147 rfl
theorem q1203 : (Jvm.Cond.instanceMethod ({ cls := "HatsDecide", name := "isAsSeen", desc := "(II)Z" } : Jvm.MethodName)) ∈ lw_all := lw_g (lw_at lw_m5 148 rfl) rfl
theorem q1204 : (Jvm.Cond.code ({ cls := "HatsDecide", name := "isAsSeen", desc := "(II)Z" } : Jvm.MethodName) prog_1_method_45_code (4 : Nat) (Option.some Jvm.ClassFile.FieldType.boolean)) ∈ lw_all := lw_g (lw_at lw_m5 149 rfl) rfl
theorem q1206 : (Jvm.Cond.instanceMethod ({ cls := "HatsDecide", name := "who", desc := "()I" } : Jvm.MethodName)) ∈ lw_all := lw_g (lw_at lw_m5 151 rfl) rfl
theorem q1207 : (Jvm.Cond.selects "HatsDecide" ({ cls := "HatsDecide", name := "who", desc := "()I" } : Jvm.MethodName) ({ cls := "HatsDecide", name := "who", desc := "()I" } : Jvm.MethodName)) ∈ lw_all := lw_g (lw_at lw_m5 152 rfl) rfl
theorem q1208 : (Jvm.Cond.code ({ cls := "HatsDecide", name := "who", desc := "()I" } : Jvm.MethodName) prog_1_method_50_code (1 : Nat) (Option.some Jvm.ClassFile.FieldType.int)) ∈ lw_all := lw_g (lw_at lw_m5 153 rfl) rfl
theorem q1209 : (Jvm.Cond.methodLink "HatsDecide" (328 : Nat) ({ cls := "HatsDecide", name := "waysSeen", desc := "(II)I" } : Jvm.MethodName)) ∈ lw_all := lw_g (lw_at lw_m5 154 rfl) rfl
theorem q1210 : (Jvm.Cond.privateMethod ({ cls := "HatsDecide", name := "waysSeen", desc := "(II)I" } : Jvm.MethodName)) ∈ lw_tbl := lw_at lw_m5 155 rfl
theorem q1211 : (Jvm.Cond.instanceMethod ({ cls := "HatsDecide", name := "waysSeen", desc := "(II)I" } : Jvm.MethodName)) ∈ lw_all := lw_g (lw_at lw_m5 156 rfl) rfl
theorem q1212 : (Jvm.Cond.code ({ cls := "HatsDecide", name := "waysSeen", desc := "(II)I" } : Jvm.MethodName) prog_1_method_49_code (6 : Nat) (Option.some Jvm.ClassFile.FieldType.int)) ∈ lw_all := lw_g (lw_at lw_m5 157 rfl) rfl
theorem q1213 : (Jvm.Cond.methodLink "HatsDecide" (325 : Nat) ({ cls := "HatsDecide", name := "isSeen", desc := "(I)Z" } : Jvm.MethodName)) ∈ lw_all := lw_g (lw_at lw_m5 158 rfl) rfl
theorem q1214 : (Jvm.Cond.privateMethod ({ cls := "HatsDecide", name := "isSeen", desc := "(I)Z" } : Jvm.MethodName)) ∈ lw_tbl := lw_at lw_m5 159 rfl
theorem q1215 : (Jvm.Cond.instanceMethod ({ cls := "HatsDecide", name := "isSeen", desc := "(I)Z" } : Jvm.MethodName)) ∈ lw_all := lw_g (lw_at lw_m5 160 rfl) rfl
theorem q1216 : (Jvm.Cond.code ({ cls := "HatsDecide", name := "isSeen", desc := "(I)Z" } : Jvm.MethodName) prog_1_method_48_code (3 : Nat) (Option.some Jvm.ClassFile.FieldType.boolean)) ∈ lw_all := lw_g (lw_at lw_m5 161 rfl) rfl
theorem q1218 : (Jvm.Cond.instanceMethod ({ cls := "HatsDecide", name := "odds", desc := "(II)J" } : Jvm.MethodName)) ∈ lw_all := lw_g (lw_at lw_m5 163 rfl) rfl
theorem q1219 : (Jvm.Cond.selects "HatsDecide" ({ cls := "HatsDecide", name := "odds", desc := "(II)J" } : Jvm.MethodName) ({ cls := "HatsDecide", name := "odds", desc := "(II)J" } : Jvm.MethodName)) ∈ lw_all := lw_g (lw_at lw_m5 164 rfl) rfl
theorem q1220 : (Jvm.Cond.code ({ cls := "HatsDecide", name := "odds", desc := "(II)J" } : Jvm.MethodName) prog_1_method_53_code (6 : Nat) (Option.some Jvm.ClassFile.FieldType.long)) ∈ lw_all := lw_g (lw_at lw_m5 165 rfl) rfl
theorem q1221 : (Jvm.Cond.constantLong "HatsDecide" (335 : Nat) (-9223372036854775808 : Int64)) ∈ lw_all := lw_g (lw_at lw_m5 166 rfl) rfl
theorem q1222 : (Jvm.Cond.methodLink "HatsDecide" (337 : Nat) ({ cls := "HatsDecide", name := "lowest", desc := "(JJI)J" } : Jvm.MethodName)) ∈ lw_all := lw_g (lw_at lw_m5 167 rfl) rfl
theorem q1223 : (Jvm.Cond.static ({ cls := "HatsDecide", name := "lowest", desc := "(JJI)J" } : Jvm.MethodName)) ∈ lw_all := lw_g (lw_at lw_m5 168 rfl) rfl
theorem q1224 : (Jvm.Cond.code ({ cls := "HatsDecide", name := "lowest", desc := "(JJI)J" } : Jvm.MethodName) prog_1_method_52_code (5 : Nat) (Option.some Jvm.ClassFile.FieldType.long)) ∈ lw_all := lw_g (lw_at lw_m5 169 rfl) rfl
theorem q1225 : (Jvm.Cond.methodLink "HatsDecide" (331 : Nat) ({ cls := "HatsDecide", name := "divisor", desc := "(JJ)J" } : Jvm.MethodName)) ∈ lw_all := lw_g (lw_at lw_m5 170 rfl) rfl
theorem q1226 : (Jvm.Cond.static ({ cls := "HatsDecide", name := "divisor", desc := "(JJ)J" } : Jvm.MethodName)) ∈ lw_all := lw_g (lw_at lw_m5 171 rfl) rfl
theorem q1227 : (Jvm.Cond.code ({ cls := "HatsDecide", name := "divisor", desc := "(JJ)J" } : Jvm.MethodName) prog_1_method_51_code (8 : Nat) (Option.some Jvm.ClassFile.FieldType.long)) ∈ lw_all := lw_g (lw_at lw_m5 172 rfl) rfl
theorem q1229 : (Jvm.Cond.instanceMethod ({ cls := "HatsDecide", name := "mean", desc := "(II)J" } : Jvm.MethodName)) ∈ lw_all := lw_g (lw_at lw_m5 174 rfl) rfl
theorem q1230 : (Jvm.Cond.selects "HatsDecide" ({ cls := "HatsDecide", name := "mean", desc := "(II)J" } : Jvm.MethodName) ({ cls := "HatsDecide", name := "mean", desc := "(II)J" } : Jvm.MethodName)) ∈ lw_all := lw_g (lw_at lw_m5 175 rfl) rfl
theorem q1231 : (Jvm.Cond.code ({ cls := "HatsDecide", name := "mean", desc := "(II)J" } : Jvm.MethodName) prog_1_method_54_code (6 : Nat) (Option.some Jvm.ClassFile.FieldType.long)) ∈ lw_all := lw_g (lw_at lw_m5 176 rfl) rfl
theorem q1233 : (Jvm.Cond.instanceMethod ({ cls := "HatsDecide", name := "book", desc := "(II)I" } : Jvm.MethodName)) ∈ lw_all := lw_g (lw_at lw_m5 178 rfl) rfl
theorem q1234 : (Jvm.Cond.selects "HatsDecide" ({ cls := "HatsDecide", name := "book", desc := "(II)I" } : Jvm.MethodName) ({ cls := "HatsDecide", name := "book", desc := "(II)I" } : Jvm.MethodName)) ∈ lw_all := lw_g (lw_at lw_m5 179 rfl) rfl
theorem q1235 : (Jvm.Cond.code ({ cls := "HatsDecide", name := "book", desc := "(II)I" } : Jvm.MethodName) prog_1_method_55_code (3 : Nat) (Option.some Jvm.ClassFile.FieldType.int)) ∈ lw_all := lw_g (lw_at lw_m5 180 rfl) rfl
theorem q1237 : (Jvm.Cond.instanceMethod ({ cls := "HatsDecide", name := "looked", desc := "()I" } : Jvm.MethodName)) ∈ lw_all := lw_g (lw_at lw_m5 182 rfl) rfl
theorem q1238 : (Jvm.Cond.selects "HatsDecide" ({ cls := "HatsDecide", name := "looked", desc := "()I" } : Jvm.MethodName) ({ cls := "HatsDecide", name := "looked", desc := "()I" } : Jvm.MethodName)) ∈ lw_all := lw_g (lw_at lw_m5 183 rfl) rfl
theorem q1239 : (Jvm.Cond.code ({ cls := "HatsDecide", name := "looked", desc := "()I" } : Jvm.MethodName) prog_1_method_56_code (2 : Nat) (Option.some Jvm.ClassFile.FieldType.int)) ∈ lw_all := lw_g (lw_at lw_m5 184 rfl) rfl
theorem q1241 : (Jvm.Cond.instanceMethod ({ cls := "HatsDecide", name := "judge", desc := "(II)I" } : Jvm.MethodName)) ∈ lw_all := lw_g (lw_at lw_m5 186 rfl) rfl
theorem q1242 : (Jvm.Cond.selects "HatsDecide" ({ cls := "HatsDecide", name := "judge", desc := "(II)I" } : Jvm.MethodName) ({ cls := "HatsDecide", name := "judge", desc := "(II)I" } : Jvm.MethodName)) ∈ lw_all := lw_g (lw_at lw_m5 187 rfl) rfl
theorem q1243 : (Jvm.Cond.codeWith ({ cls := "HatsDecide", name := "judge", desc := "(II)I" } : Jvm.MethodName) prog_1_method_58_code (4 : Nat) (Option.some Jvm.ClassFile.FieldType.int) [((9 : Nat), (26 : Nat), (27 : Nat), (359 : Nat))]) ∈ lw_all := lw_g (lw_at lw_m5 188 rfl) rfl
theorem q1244 : (Jvm.Cond.classLink "HatsDecide" (359 : Nat) "java/lang/ClassCastException") ∈ lw_all := lw_g (lw_at lw_m5 189 rfl) rfl
theorem q1271 : (Jvm.Cond.methodLink "HatsDecide" (348 : Nat) ({ cls := "HatsDecide", name := "isTape", desc := "(I)Z" } : Jvm.MethodName)) ∈ lw_all := lw_g (lw_at lw_m5 216 rfl) rfl
theorem q1272 : (Jvm.Cond.static ({ cls := "HatsDecide", name := "isTape", desc := "(I)Z" } : Jvm.MethodName)) ∈ lw_all := lw_g (lw_at lw_m5 217 rfl) rfl
theorem q1273 : (Jvm.Cond.code ({ cls := "HatsDecide", name := "isTape", desc := "(I)Z" } : Jvm.MethodName) prog_1_method_67_code (1 : Nat) (Option.some Jvm.ClassFile.FieldType.boolean)) ∈ lw_all := lw_g (lw_at lw_m5 218 rfl) rfl
theorem q1274 : (Jvm.Cond.classLink "HatsDecide" (354 : Nat) "[B") ∈ lw_all := lw_g (lw_at lw_m5 219 rfl) rfl
theorem q1275 : (Jvm.Cond.methodLink "HatsDecide" (355 : Nat) ({ cls := "HatsDecide", name := "firstOther", desc := "([BI)I" } : Jvm.MethodName)) ∈ lw_all := lw_g (lw_at lw_m5 220 rfl) rfl
theorem q1276 : (Jvm.Cond.privateMethod ({ cls := "HatsDecide", name := "firstOther", desc := "([BI)I" } : Jvm.MethodName)) ∈ lw_tbl := lw_at lw_m5 221 rfl
theorem q1277 : (Jvm.Cond.instanceMethod ({ cls := "HatsDecide", name := "firstOther", desc := "([BI)I" } : Jvm.MethodName)) ∈ lw_all := lw_g (lw_at lw_m5 222 rfl) rfl
theorem q1278 : (Jvm.Cond.codeWith ({ cls := "HatsDecide", name := "firstOther", desc := "([BI)I" } : Jvm.MethodName) prog_1_method_57_code (6 : Nat) (Option.some Jvm.ClassFile.FieldType.int) [((2 : Nat), (64 : Nat), (74 : Nat), (346 : Nat)), ((65 : Nat), (73 : Nat), (74 : Nat), (346 : Nat)), ((2 : Nat), (64 : Nat), (81 : Nat), (242 : Nat)), ((65 : Nat), (73 : Nat), (81 : Nat), (242 : Nat))]) ∈ lw_all := lw_g (lw_at lw_m5 223 rfl) rfl
theorem q1279 : (Jvm.Cond.classLink "HatsDecide" (346 : Nat) "java/lang/NullPointerException") ∈ lw_all := lw_g (lw_at lw_m5 224 rfl) rfl
theorem q1298 : (Jvm.Cond.methodLink "HatsDecide" (344 : Nat) ({ cls := "HatsDecide$Off", name := "<init>", desc := "(I)V" } : Jvm.MethodName)) ∈ lw_all := lw_g (lw_at lw_m6 3 rfl) rfl
theorem q1300 : (Jvm.Cond.instanceMethod ({ cls := "HatsDecide", name := "image", desc := "()I" } : Jvm.MethodName)) ∈ lw_all := lw_g (lw_at lw_m6 5 rfl) rfl
theorem q1301 : (Jvm.Cond.selects "HatsDecide" ({ cls := "HatsDecide", name := "image", desc := "()I" } : Jvm.MethodName) ({ cls := "HatsDecide", name := "image", desc := "()I" } : Jvm.MethodName)) ∈ lw_all := lw_g (lw_at lw_m6 6 rfl) rfl
theorem q1302 : (Jvm.Cond.code ({ cls := "HatsDecide", name := "image", desc := "()I" } : Jvm.MethodName) prog_1_method_59_code (2 : Nat) (Option.some Jvm.ClassFile.FieldType.int)) ∈ lw_all := lw_g (lw_at lw_m6 7 rfl) rfl
theorem q1304 : (Jvm.Cond.instanceMethod ({ cls := "HatsDecide", name := "undo", desc := "()I" } : Jvm.MethodName)) ∈ lw_all := lw_g (lw_at lw_m6 9 rfl) rfl
theorem q1305 : (Jvm.Cond.selects "HatsDecide" ({ cls := "HatsDecide", name := "undo", desc := "()I" } : Jvm.MethodName) ({ cls := "HatsDecide", name := "undo", desc := "()I" } : Jvm.MethodName)) ∈ lw_all := lw_g (lw_at lw_m6 10 rfl) rfl
theorem q1306 : (Jvm.Cond.code ({ cls := "HatsDecide", name := "undo", desc := "()I" } : Jvm.MethodName) prog_1_method_60_code (2 : Nat) (Option.some Jvm.ClassFile.FieldType.int)) ∈ lw_all := lw_g (lw_at lw_m6 11 rfl) rfl
theorem q1308 : (Jvm.Cond.instanceMethod ({ cls := "HatsDecide", name := "act", desc := "(III)I" } : Jvm.MethodName)) ∈ lw_all := lw_g (lw_at lw_m6 13 rfl) rfl
theorem q1309 : (Jvm.Cond.selects "HatsDecide" ({ cls := "HatsDecide", name := "act", desc := "(III)I" } : Jvm.MethodName) ({ cls := "HatsDecide", name := "act", desc := "(III)I" } : Jvm.MethodName)) ∈ lw_all := lw_g (lw_at lw_m6 14 rfl) rfl
theorem q1310 : (Jvm.Cond.code ({ cls := "HatsDecide", name := "act", desc := "(III)I" } : Jvm.MethodName) prog_1_method_61_code (5 : Nat) (Option.some Jvm.ClassFile.FieldType.int)) ∈ lw_all := lw_g (lw_at lw_m6 15 rfl) rfl
theorem q1311 : (Jvm.Cond.methodLink "HatsDecide" (376 : Nat) ({ cls := "HatsDecide$Hat", name := "sits", desc := "(I)I" } : Jvm.MethodName)) ∈ lw_all := lw_g (lw_at lw_m6 16 rfl) rfl
theorem q1341 : (Jvm.Cond.methodLink "HatsDecide" (379 : Nat) ({ cls := "HatsDecide$Hat", name := "does", desc := "(I)I" } : Jvm.MethodName)) ∈ lw_all := lw_g (lw_at lw_m6 46 rfl) rfl
theorem q1365 : (Jvm.Cond.methodLink "HatsDecide" (382 : Nat) ({ cls := "HatsDecide$Hat", name := "tells", desc := "(I)I" } : Jvm.MethodName)) ∈ lw_all := lw_g (lw_at lw_m6 70 rfl) rfl
theorem q1391 : (Jvm.Cond.instanceMethod ({ cls := "HatsDecide", name := "trace", desc := "(I)I" } : Jvm.MethodName)) ∈ lw_all := lw_g (lw_at lw_m6 96 rfl) rfl
theorem q1392 : (Jvm.Cond.selects "HatsDecide" ({ cls := "HatsDecide", name := "trace", desc := "(I)I" } : Jvm.MethodName) ({ cls := "HatsDecide", name := "trace", desc := "(I)I" } : Jvm.MethodName)) ∈ lw_all := lw_g (lw_at lw_m6 97 rfl) rfl
theorem q1393 : (Jvm.Cond.code ({ cls := "HatsDecide", name := "trace", desc := "(I)I" } : Jvm.MethodName) prog_1_method_62_code (2 : Nat) (Option.some Jvm.ClassFile.FieldType.int)) ∈ lw_all := lw_g (lw_at lw_m6 98 rfl) rfl
theorem q1395 : (Jvm.Cond.instanceMethod ({ cls := "HatsDecide", name := "taken", desc := "(II)I" } : Jvm.MethodName)) ∈ lw_all := lw_g (lw_at lw_m6 100 rfl) rfl
theorem q1396 : (Jvm.Cond.selects "HatsDecide" ({ cls := "HatsDecide", name := "taken", desc := "(II)I" } : Jvm.MethodName) ({ cls := "HatsDecide", name := "taken", desc := "(II)I" } : Jvm.MethodName)) ∈ lw_all := lw_g (lw_at lw_m6 101 rfl) rfl
theorem q1397 : (Jvm.Cond.codeWith ({ cls := "HatsDecide", name := "taken", desc := "(II)I" } : Jvm.MethodName) prog_1_method_64_code (4 : Nat) (Option.some Jvm.ClassFile.FieldType.int) [((13 : Nat), (38 : Nat), (39 : Nat), (346 : Nat)), ((13 : Nat), (38 : Nat), (43 : Nat), (359 : Nat))]) ∈ lw_all := lw_g (lw_at lw_m6 102 rfl) rfl
theorem q1398 : (Jvm.Cond.methodLink "HatsDecide" (388 : Nat) ({ cls := "HatsDecide", name := "takenFor", desc := "(LHatsDecide$Tells;I)LHatsDecide$Hat;" } : Jvm.MethodName)) ∈ lw_all := lw_g (lw_at lw_m6 103 rfl) rfl
theorem q1399 : (Jvm.Cond.static ({ cls := "HatsDecide", name := "takenFor", desc := "(LHatsDecide$Tells;I)LHatsDecide$Hat;" } : Jvm.MethodName)) ∈ lw_all := lw_g (lw_at lw_m6 104 rfl) rfl
theorem q1400 : (Jvm.Cond.code ({ cls := "HatsDecide", name := "takenFor", desc := "(LHatsDecide$Tells;I)LHatsDecide$Hat;" } : Jvm.MethodName) prog_1_method_63_code (2 : Nat) (Option.some (Jvm.ClassFile.FieldType.object "HatsDecide$Hat"))) ∈ lw_all := lw_g (lw_at lw_m6 105 rfl) rfl
theorem q1402 : (Jvm.Cond.instanceMethod ({ cls := "HatsDecide", name := "count", desc := "(I)I" } : Jvm.MethodName)) ∈ lw_all := lw_g (lw_at lw_m6 107 rfl) rfl
theorem q1403 : (Jvm.Cond.selects "HatsDecide" ({ cls := "HatsDecide", name := "count", desc := "(I)I" } : Jvm.MethodName) ({ cls := "HatsDecide", name := "count", desc := "(I)I" } : Jvm.MethodName)) ∈ lw_all := lw_g (lw_at lw_m6 108 rfl) rfl
theorem q1404 : (Jvm.Cond.code ({ cls := "HatsDecide", name := "count", desc := "(I)I" } : Jvm.MethodName) prog_1_method_65_code (2 : Nat) (Option.some Jvm.ClassFile.FieldType.int)) ∈ lw_all := lw_g (lw_at lw_m6 109 rfl) rfl
theorem q1406 : (Jvm.Cond.instanceMethod ({ cls := "HatsDecide", name := "tape", desc := "(III)I" } : Jvm.MethodName)) ∈ lw_all := lw_g (lw_at lw_m6 111 rfl) rfl
theorem q1407 : (Jvm.Cond.selects "HatsDecide" ({ cls := "HatsDecide", name := "tape", desc := "(III)I" } : Jvm.MethodName) ({ cls := "HatsDecide", name := "tape", desc := "(III)I" } : Jvm.MethodName)) ∈ lw_all := lw_g (lw_at lw_m6 112 rfl) rfl
theorem q1408 : (Jvm.Cond.codeWith ({ cls := "HatsDecide", name := "tape", desc := "(III)I" } : Jvm.MethodName) prog_1_method_68_code (5 : Nat) (Option.some Jvm.ClassFile.FieldType.int) [((32 : Nat), (56 : Nat), (57 : Nat), (396 : Nat))]) ∈ lw_all := lw_g (lw_at lw_m6 113 rfl) rfl
theorem q1409 : (Jvm.Cond.classLink "HatsDecide" (396 : Nat) "java/lang/NegativeArraySizeException") ∈ lw_all := lw_g (lw_at lw_m6 114 rfl) rfl
theorem q1423 : (Jvm.Cond.methodLink "HatsDecide" (392 : Nat) ({ cls := "HatsDecide", name := "rowOf", desc := "(II)Ljava/lang/Object;" } : Jvm.MethodName)) ∈ lw_all := lw_g (lw_at lw_m6 128 rfl) rfl
theorem q1424 : (Jvm.Cond.static ({ cls := "HatsDecide", name := "rowOf", desc := "(II)Ljava/lang/Object;" } : Jvm.MethodName)) ∈ lw_all := lw_g (lw_at lw_m6 129 rfl) rfl
theorem q1425 : (Jvm.Cond.code ({ cls := "HatsDecide", name := "rowOf", desc := "(II)Ljava/lang/Object;" } : Jvm.MethodName) prog_1_method_66_code (2 : Nat) (Option.some (Jvm.ClassFile.FieldType.object "java/lang/Object"))) ∈ lw_all := lw_g (lw_at lw_m6 130 rfl) rfl
theorem q1430 : (Jvm.Cond.instanceMethod ({ cls := "HatsDecide", name := "item", desc := "(IIJ)I" } : Jvm.MethodName)) ∈ lw_all := lw_g (lw_at lw_m6 135 rfl) rfl
theorem q1431 : (Jvm.Cond.selects "HatsDecide" ({ cls := "HatsDecide", name := "item", desc := "(IIJ)I" } : Jvm.MethodName) ({ cls := "HatsDecide", name := "item", desc := "(IIJ)I" } : Jvm.MethodName)) ∈ lw_all := lw_g (lw_at lw_m6 136 rfl) rfl
theorem q1432 : (Jvm.Cond.codeWith ({ cls := "HatsDecide", name := "item", desc := "(IIJ)I" } : Jvm.MethodName) prog_1_method_69_code (11 : Nat) (Option.some Jvm.ClassFile.FieldType.int) [((17 : Nat), (23 : Nat), (26 : Nat), (242 : Nat))]) ∈ lw_all := lw_g (lw_at lw_m6 137 rfl) rfl
theorem q1433 : (Jvm.Cond.methodLinkNest "HatsDecide" (398 : Nat) ({ cls := "HatsDecide$Tape", name := "has", desc := "(I)V" } : Jvm.MethodName) "HatsDecide") ∈ lw_tbl := lw_at lw_m6 138 rfl
theorem q1449 : (Jvm.Cond.classLink "HatsDecide" (401 : Nat) "[S") ∈ lw_all := lw_g (lw_at lw_m6 154 rfl) rfl
theorem q1450 : (Jvm.Cond.classLink "HatsDecide" (403 : Nat) "[I") ∈ lw_all := lw_g (lw_at lw_m6 155 rfl) rfl
theorem q1451 : (Jvm.Cond.classLink "HatsDecide" (404 : Nat) "[J") ∈ lw_all := lw_g (lw_at lw_m6 156 rfl) rfl
theorem q1452 : (Jvm.Cond.classLink "HatsDecide" (406 : Nat) "[Z") ∈ lw_all := lw_g (lw_at lw_m6 157 rfl) rfl
theorem q1454 : (Jvm.Cond.instanceMethod ({ cls := "HatsDecide", name := "read", desc := "(II)J" } : Jvm.MethodName)) ∈ lw_all := lw_g (lw_at lw_m6 159 rfl) rfl
theorem q1455 : (Jvm.Cond.selects "HatsDecide" ({ cls := "HatsDecide", name := "read", desc := "(II)J" } : Jvm.MethodName) ({ cls := "HatsDecide", name := "read", desc := "(II)J" } : Jvm.MethodName)) ∈ lw_all := lw_g (lw_at lw_m6 160 rfl) rfl
theorem q1456 : (Jvm.Cond.code ({ cls := "HatsDecide", name := "read", desc := "(II)J" } : Jvm.MethodName) prog_1_method_70_code (6 : Nat) (Option.some Jvm.ClassFile.FieldType.long)) ∈ lw_all := lw_g (lw_at lw_m6 161 rfl) rfl
theorem q1457 : (Jvm.Cond.methodLinkNest "HatsDecide" (408 : Nat) ({ cls := "HatsDecide$Tape", name := "size", desc := "()I" } : Jvm.MethodName) "HatsDecide") ∈ lw_tbl := lw_at lw_m6 162 rfl
theorem q1459 : (Jvm.Cond.instanceMethod ({ cls := "HatsDecide", name := "shift", desc := "(IIIII)I" } : Jvm.MethodName)) ∈ lw_all := lw_g (lw_at lw_m6 164 rfl) rfl
theorem q1460 : (Jvm.Cond.selects "HatsDecide" ({ cls := "HatsDecide", name := "shift", desc := "(IIIII)I" } : Jvm.MethodName) ({ cls := "HatsDecide", name := "shift", desc := "(IIIII)I" } : Jvm.MethodName)) ∈ lw_all := lw_g (lw_at lw_m6 165 rfl) rfl
theorem q1461 : (Jvm.Cond.codeWith ({ cls := "HatsDecide", name := "shift", desc := "(IIIII)I" } : Jvm.MethodName) prog_1_method_71_code (7 : Nat) (Option.some Jvm.ClassFile.FieldType.int) [((16 : Nat), (44 : Nat), (45 : Nat), (346 : Nat)), ((16 : Nat), (44 : Nat), (50 : Nat), (410 : Nat)), ((16 : Nat), (44 : Nat), (55 : Nat), (412 : Nat))]) ∈ lw_all := lw_g (lw_at lw_m6 166 rfl) rfl
theorem q1462 : (Jvm.Cond.classLink "HatsDecide" (410 : Nat) "java/lang/ArrayStoreException") ∈ lw_all := lw_g (lw_at lw_m6 167 rfl) rfl
theorem q1476 : (Jvm.Cond.classLink "HatsDecide" (412 : Nat) "java/lang/IndexOutOfBoundsException") ∈ lw_all := lw_g (lw_at lw_m6 181 rfl) rfl
theorem q2176 : (Jvm.Cond.castable "HatsDecide" "java/lang/Object") ∈ lw_tbl := lw_at lw_m9 161 rfl
theorem in_X0 : ∀ w ∈ wsX00, w ∈ lw_all := lw_in wsX00 [330, 332, 334, 336, 338, 340, 342, 344, 346, 348, 350, 352, 354, 356, 358, 360, 362, 364, 366, 368, 370, 372, 374, 376, 378, 380, 382, 384, 386, 388, 390, 392, 394, 396, 398, 400, 402, 404, 406, 408] (by decide +kernel) (by decide +kernel)
