/-! LockRailModel -/
set_option maxRecDepth 100000
def RX6 : String := "LockRailModel"
def TX6 : u_T := fun k => match k with
  | 0 => ("LockRailModel", "thrown", "I", false)
  | 1 => ("LockRailModel", "width", "[I", true)
  | 2 => ("LockRailModel", "many", "[I", true)
  | 3 => ("LockRailModel", "cells", "[J", true)
  | 4 => ("LockRailModel", "moved", "[J", true)
  | 5 => ("LockRailModel", "tape", "[B", true)
  | 6 => ("LockRailModel", "taped", "I", false)
  | 7 => ("LockRailModel", "at", "I", false)
  | 8 => ("LockRailModel", "token", "I", false)
  | 9 => ("LockRailModel", "place", "I", false)
  | 10 => ("LockRailModel", "value", "I", false)
  | 11 => ("LockRailModel", "word", "J", false)
  | 12 => ("LockRailModel", "bad", "I", false)
  | 13 => ("LockRailModel", "badPlace", "I", false)
  | 14 => ("LockRailModel", "fault", "I", false)
  | 15 => ("LockRailModel", "faultPlace", "I", false)
  | 16 => ("LockRailModel", "lines", "[I", true)
  | 17 => ("LockRailModel", "places", "[I", true)
  | 18 => ("LockRailModel", "nights", "[I", true)
  | 19 => ("LockRailModel", "lamps", "[I", true)
  | 20 => ("LockRailModel", "lamp", "[I", true)
  | 21 => ("LockRailModel", "locks", "[I", true)
  | 22 => ("LockRailModel", "lock", "[I", true)
  | 23 => ("LockRailModel", "bikes", "[I", true)
  | 24 => ("LockRailModel", "bike", "[I", true)
  | 25 => ("LockRailModel", "thieves", "[I", true)
  | 26 => ("LockRailModel", "thief", "[I", true)
  | 27 => ("LockRailModel", "set", "[I", true)
  | 28 => ("LockRailModel", "once", "[Z", true)
  | 29 => ("LockRailModel", "year", "[I", true)
  | 30 => ("LockRailModel", "isKept", "[Z", true)
  | 31 => ("LockRailModel", "moreAt", "I", false)
  | 32 => ("LockRailModel", "moreBright", "I", false)
  | 33 => ("LockRailModel", "troubles", "[I", true)
  | 34 => ("LockRailModel", "nets", "[I", true)
  | 35 => ("LockRailModel", "there", "I", false)
  | 36 => ("LockRailModel", "parts", "[J", true)
  | 37 => ("LockRailModel", "come", "[J", true)
  | 38 => ("LockRailModel", "hasOf", "[J", true)
  | 39 => ("LockRailModel", "leastCost", "J", false)
  | 40 => ("LockRailModel", "aside", "[I", true)
  | 41 => ("LockRailModel", "isSettled", "Z", false)
  | 42 => ("LockRailModel", "grows", "[J", true)
  | 43 => ("LockRailModel", "lessLost", "[J", true)
  | 44 => ("LockRailModel", "states", "[J", true)
  | 45 => ("LockRailModel", "coming", "[J", true)
  | 46 => ("LockRailModel", "byCaught", "[J", true)
  | 47 => ("LockRailModel", "baitLoss", "J", false)
  | 48 => ("LockRailModel", "leastCovered", "J", false)
  | 49 => ("LockRailModel", "drawn", "[I", true)
  | _ => ("LockRailModel", "x", "J", false)
def tyX6 : Nat → FieldType := fun k => match k with
  | 0 => .int
  | 1 => .array .int
  | 2 => .array .int
  | 3 => .array .long
  | 4 => .array .long
  | 5 => .array .byte
  | 6 => .int
  | 7 => .int
  | 8 => .int
  | 9 => .int
  | 10 => .int
  | 11 => .long
  | 12 => .int
  | 13 => .int
  | 14 => .int
  | 15 => .int
  | 16 => .array .int
  | 17 => .array .int
  | 18 => .array .int
  | 19 => .array .int
  | 20 => .array .int
  | 21 => .array .int
  | 22 => .array .int
  | 23 => .array .int
  | 24 => .array .int
  | 25 => .array .int
  | 26 => .array .int
  | 27 => .array .int
  | 28 => .array .boolean
  | 29 => .array .int
  | 30 => .array .boolean
  | 31 => .int
  | 32 => .int
  | 33 => .array .int
  | 34 => .array .int
  | 35 => .int
  | 36 => .array .long
  | 37 => .array .long
  | 38 => .array .long
  | 39 => .long
  | 40 => .array .int
  | 41 => .boolean
  | 42 => .array .long
  | 43 => .array .long
  | 44 => .array .long
  | 45 => .array .long
  | 46 => .array .long
  | 47 => .long
  | 48 => .long
  | 49 => .array .int
  | _ => .long
abbrev wsX60 : List Cond := u_ws RX6 TX6 51
set_option maxRecDepth 100000 in
theorem nmX6 : ∀ a, a < 51 → ∀ b, b < 51 → a ≠ b → (TX6 a).2.1 ≠ (TX6 b).2.1 := by decide +kernel
set_option maxRecDepth 100000 in
theorem tyX6_ok : ∀ k, k < 51 → parseFieldDescriptor (TX6 k).2.2.1 = some (tyX6 k) := by decide +kernel
abbrev cX6_init : ByteArray := prog_20_method_1_code
def yX6_init : MethodName := ⟨RX6, "<init>", "()V"⟩
def dkwX6_init_11 : List UInt8 := [181, 0, 111, 3, 60, 27, 7, 162, 0, 16, 42, 180, 0, 7, 27, 2, 79, 132, 1, 1, 167, 255, 241, 177]
abbrev dktX6_init_11 : List UInt8 := dkwX6_init_11 ++ []
def dkwX6_init_10 : List UInt8 := [181, 0, 102, 42, 18, 101, 188, 11, 181, 0, 105, 42, 16, 64, 188, 11, 181, 0, 108, 42, 16, 16, 188, 10]
abbrev dktX6_init_10 : List UInt8 := dkwX6_init_10 ++ dktX6_init_11
def dkwX6_init_9 : List UInt8 := [181, 0, 92, 42, 16, 10, 188, 11, 181, 0, 95, 42, 16, 10, 188, 11, 181, 0, 98, 42, 18, 101, 188, 11]
abbrev dktX6_init_9 : List UInt8 := dkwX6_init_9 ++ dktX6_init_10
def dkwX6_init_8 : List UInt8 := [42, 17, 4, 0, 188, 11, 181, 0, 86, 42, 16, 60, 188, 11, 181, 0, 89, 42, 16, 10, 188, 10]
abbrev dktX6_init_8 : List UInt8 := dkwX6_init_8 ++ dktX6_init_9
def dkwX6_init_7 : List UInt8 := [16, 66, 188, 10, 181, 0, 77, 42, 16, 66, 188, 10, 181, 0, 80, 42, 17, 4, 0, 188, 11, 181, 0, 83]
abbrev dktX6_init_7 : List UInt8 := dkwX6_init_7 ++ dktX6_init_8
def dkwX6_init_6 : List UInt8 := [16, 10, 188, 4, 181, 0, 67, 42, 16, 85, 188, 10, 181, 0, 71, 42, 6, 188, 4, 181, 0, 74, 42]
abbrev dktX6_init_6 : List UInt8 := dkwX6_init_6 ++ dktX6_init_7
def dkwX6_init_5 : List UInt8 := [8, 188, 10, 181, 0, 58, 42, 17, 0, 150, 188, 10, 181, 0, 61, 42, 16, 35, 188, 10, 181, 0, 64, 42]
abbrev dktX6_init_5 : List UInt8 := dkwX6_init_5 ++ dktX6_init_6
def dkwX6_init_4 : List UInt8 := [16, 100, 188, 10, 181, 0, 49, 42, 8, 188, 10, 181, 0, 52, 42, 17, 0, 250, 188, 10, 181, 0, 55, 42]
abbrev dktX6_init_4 : List UInt8 := dkwX6_init_4 ++ dktX6_init_5
def dkwX6_init_3 : List UInt8 := [42, 8, 188, 10, 181, 0, 40, 42, 16, 40, 188, 10, 181, 0, 43, 42, 8, 188, 10, 181, 0, 46, 42]
abbrev dktX6_init_3 : List UInt8 := dkwX6_init_3 ++ dktX6_init_4
def dkwX6_init_2 : List UInt8 := [181, 0, 27, 42, 8, 188, 10, 181, 0, 31, 42, 8, 188, 10, 181, 0, 34, 42, 8, 188, 10, 181, 0, 37]
abbrev dktX6_init_2 : List UInt8 := dkwX6_init_2 ++ dktX6_init_3
def dkwX6_init_1 : List UInt8 := [181, 0, 16, 42, 16, 60, 188, 11, 181, 0, 20, 42, 17, 6, 64, 188, 8, 181, 0, 23, 42, 2]
abbrev dktX6_init_1 : List UInt8 := dkwX6_init_1 ++ dktX6_init_2
def dkwX6_init_0 : List UInt8 := [42, 183, 0, 1, 42, 7, 188, 10, 181, 0, 7, 42, 7, 188, 10, 181, 0, 13, 42, 17, 0, 240, 188, 11]
abbrev dktX6_init_0 : List UInt8 := dkwX6_init_0 ++ dktX6_init_1
theorem dksX6_init_0 : cX6_init.data.toList.drop 0 = dktX6_init_0 := by decide +kernel
theorem dksX6_init_1 : cX6_init.data.toList.drop 24 = dktX6_init_1 := dk_seg dksX6_init_0 24 rfl rfl
theorem dksX6_init_2 : cX6_init.data.toList.drop 46 = dktX6_init_2 := dk_seg dksX6_init_1 22 rfl rfl
theorem dksX6_init_3 : cX6_init.data.toList.drop 70 = dktX6_init_3 := dk_seg dksX6_init_2 24 rfl rfl
theorem dksX6_init_4 : cX6_init.data.toList.drop 93 = dktX6_init_4 := dk_seg dksX6_init_3 23 rfl rfl
theorem dksX6_init_5 : cX6_init.data.toList.drop 117 = dktX6_init_5 := dk_seg dksX6_init_4 24 rfl rfl
theorem dksX6_init_6 : cX6_init.data.toList.drop 141 = dktX6_init_6 := dk_seg dksX6_init_5 24 rfl rfl
theorem dksX6_init_7 : cX6_init.data.toList.drop 164 = dktX6_init_7 := dk_seg dksX6_init_6 23 rfl rfl
theorem dksX6_init_8 : cX6_init.data.toList.drop 188 = dktX6_init_8 := dk_seg dksX6_init_7 24 rfl rfl
theorem dksX6_init_9 : cX6_init.data.toList.drop 210 = dktX6_init_9 := dk_seg dksX6_init_8 22 rfl rfl
theorem dksX6_init_10 : cX6_init.data.toList.drop 234 = dktX6_init_10 := dk_seg dksX6_init_9 24 rfl rfl
theorem dksX6_init_11 : cX6_init.data.toList.drop 258 = dktX6_init_11 := dk_seg dksX6_init_10 24 rfl rfl
theorem dX6_init_0 : decode cX6_init 0 = .ok (.aload_n 0, 1) := dk_42 (dk_at dksX6_init_0 0 rfl rfl)
theorem dX6_init_1 : decode cX6_init 1 = .ok (.invokespecial 1, 3) := dk_183 0 1 (dk_at dksX6_init_0 1 rfl rfl)
theorem dX6_init_4 : decode cX6_init 4 = .ok (.aload_n 0, 1) := dk_42 (dk_at dksX6_init_0 4 rfl rfl)
theorem dX6_init_5 : decode cX6_init 5 = .ok (.iconst 4, 1) := dk_7 (dk_at dksX6_init_0 5 rfl rfl)
theorem dX6_init_6 : decode cX6_init 6 = .ok (.newarray .int, 2) := dk_188_10 (dk_at dksX6_init_0 6 rfl rfl)
theorem dX6_init_8 : decode cX6_init 8 = .ok (.putfield 7, 3) := dk_181 0 7 (dk_at dksX6_init_0 8 rfl rfl)
theorem dX6_init_11 : decode cX6_init 11 = .ok (.aload_n 0, 1) := dk_42 (dk_at dksX6_init_0 11 rfl rfl)
theorem dX6_init_12 : decode cX6_init 12 = .ok (.iconst 4, 1) := dk_7 (dk_at dksX6_init_0 12 rfl rfl)
theorem dX6_init_13 : decode cX6_init 13 = .ok (.newarray .int, 2) := dk_188_10 (dk_at dksX6_init_0 13 rfl rfl)
theorem dX6_init_15 : decode cX6_init 15 = .ok (.putfield 13, 3) := dk_181 0 13 (dk_at dksX6_init_0 15 rfl rfl)
theorem dX6_init_18 : decode cX6_init 18 = .ok (.aload_n 0, 1) := dk_42 (dk_at dksX6_init_0 18 rfl rfl)
theorem dX6_init_19 : decode cX6_init 19 = .ok (.sipush 240, 3) := dk_17 0 240 (dk_at dksX6_init_0 19 rfl rfl)
theorem dX6_init_22 : decode cX6_init 22 = .ok (.newarray .long, 2) := dk_188_11 (dk_at dksX6_init_0 22 rfl rfl)
theorem dX6_init_24 : decode cX6_init 24 = .ok (.putfield 16, 3) := dk_181 0 16 (dk_at dksX6_init_1 0 rfl rfl)
theorem dX6_init_27 : decode cX6_init 27 = .ok (.aload_n 0, 1) := dk_42 (dk_at dksX6_init_1 3 rfl rfl)
theorem dX6_init_28 : decode cX6_init 28 = .ok (.bipush 60, 2) := dk_16 60 (dk_at dksX6_init_1 4 rfl rfl)
theorem dX6_init_30 : decode cX6_init 30 = .ok (.newarray .long, 2) := dk_188_11 (dk_at dksX6_init_1 6 rfl rfl)
theorem dX6_init_32 : decode cX6_init 32 = .ok (.putfield 20, 3) := dk_181 0 20 (dk_at dksX6_init_1 8 rfl rfl)
theorem dX6_init_35 : decode cX6_init 35 = .ok (.aload_n 0, 1) := dk_42 (dk_at dksX6_init_1 11 rfl rfl)
theorem dX6_init_36 : decode cX6_init 36 = .ok (.sipush 1600, 3) := dk_17 6 64 (dk_at dksX6_init_1 12 rfl rfl)
theorem dX6_init_39 : decode cX6_init 39 = .ok (.newarray .byte, 2) := dk_188_8 (dk_at dksX6_init_1 15 rfl rfl)
theorem dX6_init_41 : decode cX6_init 41 = .ok (.putfield 23, 3) := dk_181 0 23 (dk_at dksX6_init_1 17 rfl rfl)
theorem dX6_init_44 : decode cX6_init 44 = .ok (.aload_n 0, 1) := dk_42 (dk_at dksX6_init_1 20 rfl rfl)
theorem dX6_init_45 : decode cX6_init 45 = .ok (.iconst (-1), 1) := dk_2 (dk_at dksX6_init_1 21 rfl rfl)
theorem dX6_init_46 : decode cX6_init 46 = .ok (.putfield 27, 3) := dk_181 0 27 (dk_at dksX6_init_2 0 rfl rfl)
theorem dX6_init_49 : decode cX6_init 49 = .ok (.aload_n 0, 1) := dk_42 (dk_at dksX6_init_2 3 rfl rfl)
theorem dX6_init_50 : decode cX6_init 50 = .ok (.iconst 5, 1) := dk_8 (dk_at dksX6_init_2 4 rfl rfl)
theorem dX6_init_51 : decode cX6_init 51 = .ok (.newarray .int, 2) := dk_188_10 (dk_at dksX6_init_2 5 rfl rfl)
theorem dX6_init_53 : decode cX6_init 53 = .ok (.putfield 31, 3) := dk_181 0 31 (dk_at dksX6_init_2 7 rfl rfl)
theorem dX6_init_56 : decode cX6_init 56 = .ok (.aload_n 0, 1) := dk_42 (dk_at dksX6_init_2 10 rfl rfl)
theorem dX6_init_57 : decode cX6_init 57 = .ok (.iconst 5, 1) := dk_8 (dk_at dksX6_init_2 11 rfl rfl)
theorem dX6_init_58 : decode cX6_init 58 = .ok (.newarray .int, 2) := dk_188_10 (dk_at dksX6_init_2 12 rfl rfl)
theorem dX6_init_60 : decode cX6_init 60 = .ok (.putfield 34, 3) := dk_181 0 34 (dk_at dksX6_init_2 14 rfl rfl)
theorem dX6_init_63 : decode cX6_init 63 = .ok (.aload_n 0, 1) := dk_42 (dk_at dksX6_init_2 17 rfl rfl)
theorem dX6_init_64 : decode cX6_init 64 = .ok (.iconst 5, 1) := dk_8 (dk_at dksX6_init_2 18 rfl rfl)
theorem dX6_init_65 : decode cX6_init 65 = .ok (.newarray .int, 2) := dk_188_10 (dk_at dksX6_init_2 19 rfl rfl)
theorem dX6_init_67 : decode cX6_init 67 = .ok (.putfield 37, 3) := dk_181 0 37 (dk_at dksX6_init_2 21 rfl rfl)
theorem dX6_init_70 : decode cX6_init 70 = .ok (.aload_n 0, 1) := dk_42 (dk_at dksX6_init_3 0 rfl rfl)
theorem dX6_init_71 : decode cX6_init 71 = .ok (.iconst 5, 1) := dk_8 (dk_at dksX6_init_3 1 rfl rfl)
theorem dX6_init_72 : decode cX6_init 72 = .ok (.newarray .int, 2) := dk_188_10 (dk_at dksX6_init_3 2 rfl rfl)
theorem dX6_init_74 : decode cX6_init 74 = .ok (.putfield 40, 3) := dk_181 0 40 (dk_at dksX6_init_3 4 rfl rfl)
theorem dX6_init_77 : decode cX6_init 77 = .ok (.aload_n 0, 1) := dk_42 (dk_at dksX6_init_3 7 rfl rfl)
theorem dX6_init_78 : decode cX6_init 78 = .ok (.bipush 40, 2) := dk_16 40 (dk_at dksX6_init_3 8 rfl rfl)
theorem dX6_init_80 : decode cX6_init 80 = .ok (.newarray .int, 2) := dk_188_10 (dk_at dksX6_init_3 10 rfl rfl)
theorem dX6_init_82 : decode cX6_init 82 = .ok (.putfield 43, 3) := dk_181 0 43 (dk_at dksX6_init_3 12 rfl rfl)
theorem dX6_init_85 : decode cX6_init 85 = .ok (.aload_n 0, 1) := dk_42 (dk_at dksX6_init_3 15 rfl rfl)
theorem dX6_init_86 : decode cX6_init 86 = .ok (.iconst 5, 1) := dk_8 (dk_at dksX6_init_3 16 rfl rfl)
theorem dX6_init_87 : decode cX6_init 87 = .ok (.newarray .int, 2) := dk_188_10 (dk_at dksX6_init_3 17 rfl rfl)
theorem dX6_init_89 : decode cX6_init 89 = .ok (.putfield 46, 3) := dk_181 0 46 (dk_at dksX6_init_3 19 rfl rfl)
theorem dX6_init_92 : decode cX6_init 92 = .ok (.aload_n 0, 1) := dk_42 (dk_at dksX6_init_3 22 rfl rfl)
theorem dX6_init_93 : decode cX6_init 93 = .ok (.bipush 100, 2) := dk_16 100 (dk_at dksX6_init_4 0 rfl rfl)
theorem dX6_init_95 : decode cX6_init 95 = .ok (.newarray .int, 2) := dk_188_10 (dk_at dksX6_init_4 2 rfl rfl)
theorem dX6_init_97 : decode cX6_init 97 = .ok (.putfield 49, 3) := dk_181 0 49 (dk_at dksX6_init_4 4 rfl rfl)
theorem dX6_init_100 : decode cX6_init 100 = .ok (.aload_n 0, 1) := dk_42 (dk_at dksX6_init_4 7 rfl rfl)
theorem dX6_init_101 : decode cX6_init 101 = .ok (.iconst 5, 1) := dk_8 (dk_at dksX6_init_4 8 rfl rfl)
theorem dX6_init_102 : decode cX6_init 102 = .ok (.newarray .int, 2) := dk_188_10 (dk_at dksX6_init_4 9 rfl rfl)
theorem dX6_init_104 : decode cX6_init 104 = .ok (.putfield 52, 3) := dk_181 0 52 (dk_at dksX6_init_4 11 rfl rfl)
theorem dX6_init_107 : decode cX6_init 107 = .ok (.aload_n 0, 1) := dk_42 (dk_at dksX6_init_4 14 rfl rfl)
theorem dX6_init_108 : decode cX6_init 108 = .ok (.sipush 250, 3) := dk_17 0 250 (dk_at dksX6_init_4 15 rfl rfl)
theorem dX6_init_111 : decode cX6_init 111 = .ok (.newarray .int, 2) := dk_188_10 (dk_at dksX6_init_4 18 rfl rfl)
theorem dX6_init_113 : decode cX6_init 113 = .ok (.putfield 55, 3) := dk_181 0 55 (dk_at dksX6_init_4 20 rfl rfl)
theorem dX6_init_116 : decode cX6_init 116 = .ok (.aload_n 0, 1) := dk_42 (dk_at dksX6_init_4 23 rfl rfl)
theorem dX6_init_117 : decode cX6_init 117 = .ok (.iconst 5, 1) := dk_8 (dk_at dksX6_init_5 0 rfl rfl)
theorem dX6_init_118 : decode cX6_init 118 = .ok (.newarray .int, 2) := dk_188_10 (dk_at dksX6_init_5 1 rfl rfl)
theorem dX6_init_120 : decode cX6_init 120 = .ok (.putfield 58, 3) := dk_181 0 58 (dk_at dksX6_init_5 3 rfl rfl)
theorem dX6_init_123 : decode cX6_init 123 = .ok (.aload_n 0, 1) := dk_42 (dk_at dksX6_init_5 6 rfl rfl)
theorem dX6_init_124 : decode cX6_init 124 = .ok (.sipush 150, 3) := dk_17 0 150 (dk_at dksX6_init_5 7 rfl rfl)
theorem dX6_init_127 : decode cX6_init 127 = .ok (.newarray .int, 2) := dk_188_10 (dk_at dksX6_init_5 10 rfl rfl)
theorem dX6_init_129 : decode cX6_init 129 = .ok (.putfield 61, 3) := dk_181 0 61 (dk_at dksX6_init_5 12 rfl rfl)
theorem dX6_init_132 : decode cX6_init 132 = .ok (.aload_n 0, 1) := dk_42 (dk_at dksX6_init_5 15 rfl rfl)
theorem dX6_init_133 : decode cX6_init 133 = .ok (.bipush 35, 2) := dk_16 35 (dk_at dksX6_init_5 16 rfl rfl)
theorem dX6_init_135 : decode cX6_init 135 = .ok (.newarray .int, 2) := dk_188_10 (dk_at dksX6_init_5 18 rfl rfl)
theorem dX6_init_137 : decode cX6_init 137 = .ok (.putfield 64, 3) := dk_181 0 64 (dk_at dksX6_init_5 20 rfl rfl)
theorem dX6_init_140 : decode cX6_init 140 = .ok (.aload_n 0, 1) := dk_42 (dk_at dksX6_init_5 23 rfl rfl)
theorem dX6_init_141 : decode cX6_init 141 = .ok (.bipush 10, 2) := dk_16 10 (dk_at dksX6_init_6 0 rfl rfl)
theorem dX6_init_143 : decode cX6_init 143 = .ok (.newarray .boolean, 2) := dk_188_4 (dk_at dksX6_init_6 2 rfl rfl)
theorem dX6_init_145 : decode cX6_init 145 = .ok (.putfield 67, 3) := dk_181 0 67 (dk_at dksX6_init_6 4 rfl rfl)
theorem dX6_init_148 : decode cX6_init 148 = .ok (.aload_n 0, 1) := dk_42 (dk_at dksX6_init_6 7 rfl rfl)
theorem dX6_init_149 : decode cX6_init 149 = .ok (.bipush 85, 2) := dk_16 85 (dk_at dksX6_init_6 8 rfl rfl)
theorem dX6_init_151 : decode cX6_init 151 = .ok (.newarray .int, 2) := dk_188_10 (dk_at dksX6_init_6 10 rfl rfl)
theorem dX6_init_153 : decode cX6_init 153 = .ok (.putfield 71, 3) := dk_181 0 71 (dk_at dksX6_init_6 12 rfl rfl)
theorem dX6_init_156 : decode cX6_init 156 = .ok (.aload_n 0, 1) := dk_42 (dk_at dksX6_init_6 15 rfl rfl)
theorem dX6_init_157 : decode cX6_init 157 = .ok (.iconst 3, 1) := dk_6 (dk_at dksX6_init_6 16 rfl rfl)
theorem dX6_init_158 : decode cX6_init 158 = .ok (.newarray .boolean, 2) := dk_188_4 (dk_at dksX6_init_6 17 rfl rfl)
theorem dX6_init_160 : decode cX6_init 160 = .ok (.putfield 74, 3) := dk_181 0 74 (dk_at dksX6_init_6 19 rfl rfl)
theorem dX6_init_163 : decode cX6_init 163 = .ok (.aload_n 0, 1) := dk_42 (dk_at dksX6_init_6 22 rfl rfl)
theorem dX6_init_164 : decode cX6_init 164 = .ok (.bipush 66, 2) := dk_16 66 (dk_at dksX6_init_7 0 rfl rfl)
theorem dX6_init_166 : decode cX6_init 166 = .ok (.newarray .int, 2) := dk_188_10 (dk_at dksX6_init_7 2 rfl rfl)
theorem dX6_init_168 : decode cX6_init 168 = .ok (.putfield 77, 3) := dk_181 0 77 (dk_at dksX6_init_7 4 rfl rfl)
theorem dX6_init_171 : decode cX6_init 171 = .ok (.aload_n 0, 1) := dk_42 (dk_at dksX6_init_7 7 rfl rfl)
theorem dX6_init_172 : decode cX6_init 172 = .ok (.bipush 66, 2) := dk_16 66 (dk_at dksX6_init_7 8 rfl rfl)
theorem dX6_init_174 : decode cX6_init 174 = .ok (.newarray .int, 2) := dk_188_10 (dk_at dksX6_init_7 10 rfl rfl)
theorem dX6_init_176 : decode cX6_init 176 = .ok (.putfield 80, 3) := dk_181 0 80 (dk_at dksX6_init_7 12 rfl rfl)
theorem dX6_init_179 : decode cX6_init 179 = .ok (.aload_n 0, 1) := dk_42 (dk_at dksX6_init_7 15 rfl rfl)
theorem dX6_init_180 : decode cX6_init 180 = .ok (.sipush 1024, 3) := dk_17 4 0 (dk_at dksX6_init_7 16 rfl rfl)
theorem dX6_init_183 : decode cX6_init 183 = .ok (.newarray .long, 2) := dk_188_11 (dk_at dksX6_init_7 19 rfl rfl)
theorem dX6_init_185 : decode cX6_init 185 = .ok (.putfield 83, 3) := dk_181 0 83 (dk_at dksX6_init_7 21 rfl rfl)
theorem dX6_init_188 : decode cX6_init 188 = .ok (.aload_n 0, 1) := dk_42 (dk_at dksX6_init_8 0 rfl rfl)
theorem dX6_init_189 : decode cX6_init 189 = .ok (.sipush 1024, 3) := dk_17 4 0 (dk_at dksX6_init_8 1 rfl rfl)
theorem dX6_init_192 : decode cX6_init 192 = .ok (.newarray .long, 2) := dk_188_11 (dk_at dksX6_init_8 4 rfl rfl)
theorem dX6_init_194 : decode cX6_init 194 = .ok (.putfield 86, 3) := dk_181 0 86 (dk_at dksX6_init_8 6 rfl rfl)
theorem dX6_init_197 : decode cX6_init 197 = .ok (.aload_n 0, 1) := dk_42 (dk_at dksX6_init_8 9 rfl rfl)
theorem dX6_init_198 : decode cX6_init 198 = .ok (.bipush 60, 2) := dk_16 60 (dk_at dksX6_init_8 10 rfl rfl)
theorem dX6_init_200 : decode cX6_init 200 = .ok (.newarray .long, 2) := dk_188_11 (dk_at dksX6_init_8 12 rfl rfl)
theorem dX6_init_202 : decode cX6_init 202 = .ok (.putfield 89, 3) := dk_181 0 89 (dk_at dksX6_init_8 14 rfl rfl)
theorem dX6_init_205 : decode cX6_init 205 = .ok (.aload_n 0, 1) := dk_42 (dk_at dksX6_init_8 17 rfl rfl)
theorem dX6_init_206 : decode cX6_init 206 = .ok (.bipush 10, 2) := dk_16 10 (dk_at dksX6_init_8 18 rfl rfl)
theorem dX6_init_208 : decode cX6_init 208 = .ok (.newarray .int, 2) := dk_188_10 (dk_at dksX6_init_8 20 rfl rfl)
theorem dX6_init_210 : decode cX6_init 210 = .ok (.putfield 92, 3) := dk_181 0 92 (dk_at dksX6_init_9 0 rfl rfl)
theorem dX6_init_213 : decode cX6_init 213 = .ok (.aload_n 0, 1) := dk_42 (dk_at dksX6_init_9 3 rfl rfl)
theorem dX6_init_214 : decode cX6_init 214 = .ok (.bipush 10, 2) := dk_16 10 (dk_at dksX6_init_9 4 rfl rfl)
theorem dX6_init_216 : decode cX6_init 216 = .ok (.newarray .long, 2) := dk_188_11 (dk_at dksX6_init_9 6 rfl rfl)
theorem dX6_init_218 : decode cX6_init 218 = .ok (.putfield 95, 3) := dk_181 0 95 (dk_at dksX6_init_9 8 rfl rfl)
theorem dX6_init_221 : decode cX6_init 221 = .ok (.aload_n 0, 1) := dk_42 (dk_at dksX6_init_9 11 rfl rfl)
theorem dX6_init_222 : decode cX6_init 222 = .ok (.bipush 10, 2) := dk_16 10 (dk_at dksX6_init_9 12 rfl rfl)
theorem dX6_init_224 : decode cX6_init 224 = .ok (.newarray .long, 2) := dk_188_11 (dk_at dksX6_init_9 14 rfl rfl)
theorem dX6_init_226 : decode cX6_init 226 = .ok (.putfield 98, 3) := dk_181 0 98 (dk_at dksX6_init_9 16 rfl rfl)
theorem dX6_init_229 : decode cX6_init 229 = .ok (.aload_n 0, 1) := dk_42 (dk_at dksX6_init_9 19 rfl rfl)
theorem dX6_init_230 : decode cX6_init 230 = .ok (.ldc 101, 2) := dk_18 101 (dk_at dksX6_init_9 20 rfl rfl)
theorem dX6_init_232 : decode cX6_init 232 = .ok (.newarray .long, 2) := dk_188_11 (dk_at dksX6_init_9 22 rfl rfl)
theorem dX6_init_234 : decode cX6_init 234 = .ok (.putfield 102, 3) := dk_181 0 102 (dk_at dksX6_init_10 0 rfl rfl)
theorem dX6_init_237 : decode cX6_init 237 = .ok (.aload_n 0, 1) := dk_42 (dk_at dksX6_init_10 3 rfl rfl)
theorem dX6_init_238 : decode cX6_init 238 = .ok (.ldc 101, 2) := dk_18 101 (dk_at dksX6_init_10 4 rfl rfl)
theorem dX6_init_240 : decode cX6_init 240 = .ok (.newarray .long, 2) := dk_188_11 (dk_at dksX6_init_10 6 rfl rfl)
theorem dX6_init_242 : decode cX6_init 242 = .ok (.putfield 105, 3) := dk_181 0 105 (dk_at dksX6_init_10 8 rfl rfl)
theorem dX6_init_245 : decode cX6_init 245 = .ok (.aload_n 0, 1) := dk_42 (dk_at dksX6_init_10 11 rfl rfl)
theorem dX6_init_246 : decode cX6_init 246 = .ok (.bipush 64, 2) := dk_16 64 (dk_at dksX6_init_10 12 rfl rfl)
theorem dX6_init_248 : decode cX6_init 248 = .ok (.newarray .long, 2) := dk_188_11 (dk_at dksX6_init_10 14 rfl rfl)
theorem dX6_init_250 : decode cX6_init 250 = .ok (.putfield 108, 3) := dk_181 0 108 (dk_at dksX6_init_10 16 rfl rfl)
theorem dX6_init_253 : decode cX6_init 253 = .ok (.aload_n 0, 1) := dk_42 (dk_at dksX6_init_10 19 rfl rfl)
theorem dX6_init_254 : decode cX6_init 254 = .ok (.bipush 16, 2) := dk_16 16 (dk_at dksX6_init_10 20 rfl rfl)
theorem dX6_init_256 : decode cX6_init 256 = .ok (.newarray .int, 2) := dk_188_10 (dk_at dksX6_init_10 22 rfl rfl)
theorem dX6_init_258 : decode cX6_init 258 = .ok (.putfield 111, 3) := dk_181 0 111 (dk_at dksX6_init_11 0 rfl rfl)
theorem dX6_init_261 : decode cX6_init 261 = .ok (.iconst 0, 1) := dk_3 (dk_at dksX6_init_11 3 rfl rfl)
theorem dX6_init_262 : decode cX6_init 262 = .ok (.istore_n 1, 1) := dk_60 (dk_at dksX6_init_11 4 rfl rfl)
theorem dX6_init_263 : decode cX6_init 263 = .ok (.iload_n 1, 1) := dk_27 (dk_at dksX6_init_11 5 rfl rfl)
theorem dX6_init_264 : decode cX6_init 264 = .ok (.iconst 4, 1) := dk_7 (dk_at dksX6_init_11 6 rfl rfl)
theorem dX6_init_265 : decode cX6_init 265 = .ok (.if_icmp .ge 16, 3) := dk_162 0 16 (dk_at dksX6_init_11 7 rfl rfl)
theorem dX6_init_268 : decode cX6_init 268 = .ok (.aload_n 0, 1) := dk_42 (dk_at dksX6_init_11 10 rfl rfl)
theorem dX6_init_269 : decode cX6_init 269 = .ok (.getfield 7, 3) := dk_180 0 7 (dk_at dksX6_init_11 11 rfl rfl)
theorem dX6_init_272 : decode cX6_init 272 = .ok (.iload_n 1, 1) := dk_27 (dk_at dksX6_init_11 14 rfl rfl)
theorem dX6_init_273 : decode cX6_init 273 = .ok (.iconst (-1), 1) := dk_2 (dk_at dksX6_init_11 15 rfl rfl)
theorem dX6_init_274 : decode cX6_init 274 = .ok (.iastore, 1) := dk_79 (dk_at dksX6_init_11 16 rfl rfl)
theorem dX6_init_275 : decode cX6_init 275 = .ok (.iinc 1 1, 3) := dk_132 1 1 (dk_at dksX6_init_11 17 rfl rfl)
theorem dX6_init_278 : decode cX6_init 278 = .ok (.goto (-15), 3) := dk_167 255 241 (dk_at dksX6_init_11 20 rfl rfl)
theorem dX6_init_281 : decode cX6_init 281 = .ok (.return_, 1) := dk_177 (dk_at dksX6_init_11 23 rfl rfl)
abbrev cX6_row : ByteArray := prog_20_method_5_code
def yX6_row : MethodName := ⟨RX6, "row", "(III)I"⟩
def dkwX6_row_3 : List UInt8 := [21, 4, 96, 9, 80, 132, 4, 1, 167, 255, 234, 3, 172]
abbrev dktX6_row_3 : List UInt8 := dkwX6_row_3 ++ []
def dkwX6_row_2 : List UInt8 := [180, 0, 13, 27, 29, 79, 3, 54, 4, 21, 4, 29, 162, 0, 22, 42, 180, 0, 16, 16, 60, 27, 104]
abbrev dktX6_row_2 : List UInt8 := dkwX6_row_2 ++ dktX6_row_3
def dkwX6_row_1 : List UInt8 := [29, 16, 60, 164, 0, 6, 16, 254, 172, 29, 156, 0, 6, 16, 253, 172, 42, 180, 0, 7, 27, 28, 79, 42]
abbrev dktX6_row_1 : List UInt8 := dkwX6_row_1 ++ dktX6_row_2
def dkwX6_row_0 : List UInt8 := [42, 3, 181, 0, 114, 27, 184, 0, 123, 153, 0, 21, 28, 133, 9, 20, 0, 117, 184, 0, 119, 153, 0, 9]
abbrev dktX6_row_0 : List UInt8 := dkwX6_row_0 ++ dktX6_row_1
theorem dksX6_row_0 : cX6_row.data.toList.drop 0 = dktX6_row_0 := by decide +kernel
theorem dksX6_row_1 : cX6_row.data.toList.drop 24 = dktX6_row_1 := dk_seg dksX6_row_0 24 rfl rfl
theorem dksX6_row_2 : cX6_row.data.toList.drop 48 = dktX6_row_2 := dk_seg dksX6_row_1 24 rfl rfl
theorem dksX6_row_3 : cX6_row.data.toList.drop 71 = dktX6_row_3 := dk_seg dksX6_row_2 23 rfl rfl
theorem dX6_row_0 : decode cX6_row 0 = .ok (.aload_n 0, 1) := dk_42 (dk_at dksX6_row_0 0 rfl rfl)
theorem dX6_row_1 : decode cX6_row 1 = .ok (.iconst 0, 1) := dk_3 (dk_at dksX6_row_0 1 rfl rfl)
theorem dX6_row_2 : decode cX6_row 2 = .ok (.putfield 114, 3) := dk_181 0 114 (dk_at dksX6_row_0 2 rfl rfl)
theorem dX6_row_5 : decode cX6_row 5 = .ok (.iload_n 1, 1) := dk_27 (dk_at dksX6_row_0 5 rfl rfl)
theorem dX6_row_6 : decode cX6_row 6 = .ok (.invokestatic 123, 3) := dk_184 0 123 (dk_at dksX6_row_0 6 rfl rfl)
theorem dX6_row_9 : decode cX6_row 9 = .ok (.ifCond .eq 21, 3) := dk_153 0 21 (dk_at dksX6_row_0 9 rfl rfl)
theorem dX6_row_12 : decode cX6_row 12 = .ok (.iload_n 2, 1) := dk_28 (dk_at dksX6_row_0 12 rfl rfl)
theorem dX6_row_13 : decode cX6_row 13 = .ok (.i2l, 1) := dk_133 (dk_at dksX6_row_0 13 rfl rfl)
theorem dX6_row_14 : decode cX6_row 14 = .ok (.lconst 0, 1) := dk_9 (dk_at dksX6_row_0 14 rfl rfl)
theorem dX6_row_15 : decode cX6_row 15 = .ok (.ldc2_w 117, 3) := dk_20 0 117 (dk_at dksX6_row_0 15 rfl rfl)
theorem dX6_row_18 : decode cX6_row 18 = .ok (.invokestatic 119, 3) := dk_184 0 119 (dk_at dksX6_row_0 18 rfl rfl)
theorem dX6_row_21 : decode cX6_row 21 = .ok (.ifCond .eq 9, 3) := dk_153 0 9 (dk_at dksX6_row_0 21 rfl rfl)
theorem dX6_row_24 : decode cX6_row 24 = .ok (.iload_n 3, 1) := dk_29 (dk_at dksX6_row_1 0 rfl rfl)
theorem dX6_row_25 : decode cX6_row 25 = .ok (.bipush 60, 2) := dk_16 60 (dk_at dksX6_row_1 1 rfl rfl)
theorem dX6_row_27 : decode cX6_row 27 = .ok (.if_icmp .le 6, 3) := dk_164 0 6 (dk_at dksX6_row_1 3 rfl rfl)
theorem dX6_row_30 : decode cX6_row 30 = .ok (.bipush (-2), 2) := dk_16 254 (dk_at dksX6_row_1 6 rfl rfl)
theorem dX6_row_32 : decode cX6_row 32 = .ok (.ireturn, 1) := dk_172 (dk_at dksX6_row_1 8 rfl rfl)
theorem dX6_row_33 : decode cX6_row 33 = .ok (.iload_n 3, 1) := dk_29 (dk_at dksX6_row_1 9 rfl rfl)
theorem dX6_row_34 : decode cX6_row 34 = .ok (.ifCond .ge 6, 3) := dk_156 0 6 (dk_at dksX6_row_1 10 rfl rfl)
theorem dX6_row_37 : decode cX6_row 37 = .ok (.bipush (-3), 2) := dk_16 253 (dk_at dksX6_row_1 13 rfl rfl)
theorem dX6_row_39 : decode cX6_row 39 = .ok (.ireturn, 1) := dk_172 (dk_at dksX6_row_1 15 rfl rfl)
theorem dX6_row_40 : decode cX6_row 40 = .ok (.aload_n 0, 1) := dk_42 (dk_at dksX6_row_1 16 rfl rfl)
theorem dX6_row_41 : decode cX6_row 41 = .ok (.getfield 7, 3) := dk_180 0 7 (dk_at dksX6_row_1 17 rfl rfl)
theorem dX6_row_44 : decode cX6_row 44 = .ok (.iload_n 1, 1) := dk_27 (dk_at dksX6_row_1 20 rfl rfl)
theorem dX6_row_45 : decode cX6_row 45 = .ok (.iload_n 2, 1) := dk_28 (dk_at dksX6_row_1 21 rfl rfl)
theorem dX6_row_46 : decode cX6_row 46 = .ok (.iastore, 1) := dk_79 (dk_at dksX6_row_1 22 rfl rfl)
theorem dX6_row_47 : decode cX6_row 47 = .ok (.aload_n 0, 1) := dk_42 (dk_at dksX6_row_1 23 rfl rfl)
theorem dX6_row_48 : decode cX6_row 48 = .ok (.getfield 13, 3) := dk_180 0 13 (dk_at dksX6_row_2 0 rfl rfl)
theorem dX6_row_51 : decode cX6_row 51 = .ok (.iload_n 1, 1) := dk_27 (dk_at dksX6_row_2 3 rfl rfl)
theorem dX6_row_52 : decode cX6_row 52 = .ok (.iload_n 3, 1) := dk_29 (dk_at dksX6_row_2 4 rfl rfl)
theorem dX6_row_53 : decode cX6_row 53 = .ok (.iastore, 1) := dk_79 (dk_at dksX6_row_2 5 rfl rfl)
theorem dX6_row_54 : decode cX6_row 54 = .ok (.iconst 0, 1) := dk_3 (dk_at dksX6_row_2 6 rfl rfl)
theorem dX6_row_55 : decode cX6_row 55 = .ok (.istore 4, 2) := dk_54 4 (dk_at dksX6_row_2 7 rfl rfl)
theorem dX6_row_57 : decode cX6_row 57 = .ok (.iload 4, 2) := dk_21 4 (dk_at dksX6_row_2 9 rfl rfl)
theorem dX6_row_59 : decode cX6_row 59 = .ok (.iload_n 3, 1) := dk_29 (dk_at dksX6_row_2 11 rfl rfl)
theorem dX6_row_60 : decode cX6_row 60 = .ok (.if_icmp .ge 22, 3) := dk_162 0 22 (dk_at dksX6_row_2 12 rfl rfl)
theorem dX6_row_63 : decode cX6_row 63 = .ok (.aload_n 0, 1) := dk_42 (dk_at dksX6_row_2 15 rfl rfl)
theorem dX6_row_64 : decode cX6_row 64 = .ok (.getfield 16, 3) := dk_180 0 16 (dk_at dksX6_row_2 16 rfl rfl)
theorem dX6_row_67 : decode cX6_row 67 = .ok (.bipush 60, 2) := dk_16 60 (dk_at dksX6_row_2 19 rfl rfl)
theorem dX6_row_69 : decode cX6_row 69 = .ok (.iload_n 1, 1) := dk_27 (dk_at dksX6_row_2 21 rfl rfl)
theorem dX6_row_70 : decode cX6_row 70 = .ok (.imul, 1) := dk_104 (dk_at dksX6_row_2 22 rfl rfl)
theorem dX6_row_71 : decode cX6_row 71 = .ok (.iload 4, 2) := dk_21 4 (dk_at dksX6_row_3 0 rfl rfl)
theorem dX6_row_73 : decode cX6_row 73 = .ok (.iadd, 1) := dk_96 (dk_at dksX6_row_3 2 rfl rfl)
theorem dX6_row_74 : decode cX6_row 74 = .ok (.lconst 0, 1) := dk_9 (dk_at dksX6_row_3 3 rfl rfl)
theorem dX6_row_75 : decode cX6_row 75 = .ok (.lastore, 1) := dk_80 (dk_at dksX6_row_3 4 rfl rfl)
theorem dX6_row_76 : decode cX6_row 76 = .ok (.iinc 4 1, 3) := dk_132 4 1 (dk_at dksX6_row_3 5 rfl rfl)
theorem dX6_row_79 : decode cX6_row 79 = .ok (.goto (-22), 3) := dk_167 255 234 (dk_at dksX6_row_3 8 rfl rfl)
theorem dX6_row_82 : decode cX6_row 82 = .ok (.iconst 0, 1) := dk_3 (dk_at dksX6_row_3 11 rfl rfl)
theorem dX6_row_83 : decode cX6_row 83 = .ok (.ireturn, 1) := dk_172 (dk_at dksX6_row_3 12 rfl rfl)
abbrev cX6_isSlot : ByteArray := prog_20_method_4_code
def yX6_isSlot : MethodName := ⟨RX6, "isSlot", "(I)Z"⟩
def dkwX6_isSlot_0 : List UInt8 := [26, 133, 9, 20, 0, 117, 184, 0, 119, 172]
abbrev dktX6_isSlot_0 : List UInt8 := dkwX6_isSlot_0 ++ []
theorem dksX6_isSlot_0 : cX6_isSlot.data.toList.drop 0 = dktX6_isSlot_0 := by decide +kernel
theorem dX6_isSlot_0 : decode cX6_isSlot 0 = .ok (.iload_n 0, 1) := dk_26 (dk_at dksX6_isSlot_0 0 rfl rfl)
theorem dX6_isSlot_1 : decode cX6_isSlot 1 = .ok (.i2l, 1) := dk_133 (dk_at dksX6_isSlot_0 1 rfl rfl)
theorem dX6_isSlot_2 : decode cX6_isSlot 2 = .ok (.lconst 0, 1) := dk_9 (dk_at dksX6_isSlot_0 2 rfl rfl)
theorem dX6_isSlot_3 : decode cX6_isSlot 3 = .ok (.ldc2_w 117, 3) := dk_20 0 117 (dk_at dksX6_isSlot_0 3 rfl rfl)
theorem dX6_isSlot_6 : decode cX6_isSlot 6 = .ok (.invokestatic 119, 3) := dk_184 0 119 (dk_at dksX6_isSlot_0 6 rfl rfl)
theorem dX6_isSlot_9 : decode cX6_isSlot 9 = .ok (.ireturn, 1) := dk_172 (dk_at dksX6_isSlot_0 9 rfl rfl)
abbrev cX6_in : ByteArray := prog_20_method_3_code
def yX6_in : MethodName := ⟨RX6, "in", "(JJJ)Z"⟩
def dkwX6_in_0 : List UInt8 := [30, 32, 148, 155, 0, 14, 30, 22, 4, 148, 157, 0, 7, 4, 167, 0, 4, 3, 172]
abbrev dktX6_in_0 : List UInt8 := dkwX6_in_0 ++ []
theorem dksX6_in_0 : cX6_in.data.toList.drop 0 = dktX6_in_0 := by decide +kernel
theorem dX6_in_0 : decode cX6_in 0 = .ok (.lload_n 0, 1) := dk_30 (dk_at dksX6_in_0 0 rfl rfl)
theorem dX6_in_1 : decode cX6_in 1 = .ok (.lload_n 2, 1) := dk_32 (dk_at dksX6_in_0 1 rfl rfl)
theorem dX6_in_2 : decode cX6_in 2 = .ok (.lcmp, 1) := dk_148 (dk_at dksX6_in_0 2 rfl rfl)
theorem dX6_in_3 : decode cX6_in 3 = .ok (.ifCond .lt 14, 3) := dk_155 0 14 (dk_at dksX6_in_0 3 rfl rfl)
theorem dX6_in_6 : decode cX6_in 6 = .ok (.lload_n 0, 1) := dk_30 (dk_at dksX6_in_0 6 rfl rfl)
theorem dX6_in_7 : decode cX6_in 7 = .ok (.lload 4, 2) := dk_22 4 (dk_at dksX6_in_0 7 rfl rfl)
theorem dX6_in_9 : decode cX6_in 9 = .ok (.lcmp, 1) := dk_148 (dk_at dksX6_in_0 9 rfl rfl)
theorem dX6_in_10 : decode cX6_in 10 = .ok (.ifCond .gt 7, 3) := dk_157 0 7 (dk_at dksX6_in_0 10 rfl rfl)
theorem dX6_in_13 : decode cX6_in 13 = .ok (.iconst 1, 1) := dk_4 (dk_at dksX6_in_0 13 rfl rfl)
theorem dX6_in_14 : decode cX6_in 14 = .ok (.goto 4, 3) := dk_167 0 4 (dk_at dksX6_in_0 14 rfl rfl)
theorem dX6_in_17 : decode cX6_in 17 = .ok (.iconst 0, 1) := dk_3 (dk_at dksX6_in_0 17 rfl rfl)
theorem dX6_in_18 : decode cX6_in 18 = .ok (.ireturn, 1) := dk_172 (dk_at dksX6_in_0 18 rfl rfl)
abbrev cX6_write : ByteArray := prog_20_method_7_code
def yX6_write : MethodName := ⟨RX6, "write", "(IIJ)I"⟩
def dkwX6_write_3 : List UInt8 := [3, 172]
abbrev dktX6_write_3 : List UInt8 := dkwX6_write_3 ++ []
def dkwX6_write_2 : List UInt8 := [16, 249, 172, 42, 180, 0, 16, 16, 60, 27, 104, 28, 96, 33, 42, 180, 0, 7, 27, 46, 184, 0, 127, 80]
abbrev dktX6_write_2 : List UInt8 := dkwX6_write_2 ++ dktX6_write_3
def dkwX6_write_1 : List UInt8 := [160, 0, 6, 16, 250, 172, 28, 133, 9, 42, 180, 0, 13, 27, 46, 4, 100, 133, 184, 0, 119, 154, 0, 6]
abbrev dktX6_write_1 : List UInt8 := dkwX6_write_1 ++ dktX6_write_2
def dkwX6_write_0 : List UInt8 := [42, 3, 181, 0, 114, 27, 184, 0, 123, 154, 0, 6, 16, 254, 172, 42, 180, 0, 7, 27, 46, 2]
abbrev dktX6_write_0 : List UInt8 := dkwX6_write_0 ++ dktX6_write_1
theorem dksX6_write_0 : cX6_write.data.toList.drop 0 = dktX6_write_0 := by decide +kernel
theorem dksX6_write_1 : cX6_write.data.toList.drop 22 = dktX6_write_1 := dk_seg dksX6_write_0 22 rfl rfl
theorem dksX6_write_2 : cX6_write.data.toList.drop 46 = dktX6_write_2 := dk_seg dksX6_write_1 24 rfl rfl
theorem dksX6_write_3 : cX6_write.data.toList.drop 70 = dktX6_write_3 := dk_seg dksX6_write_2 24 rfl rfl
theorem dX6_write_0 : decode cX6_write 0 = .ok (.aload_n 0, 1) := dk_42 (dk_at dksX6_write_0 0 rfl rfl)
theorem dX6_write_1 : decode cX6_write 1 = .ok (.iconst 0, 1) := dk_3 (dk_at dksX6_write_0 1 rfl rfl)
theorem dX6_write_2 : decode cX6_write 2 = .ok (.putfield 114, 3) := dk_181 0 114 (dk_at dksX6_write_0 2 rfl rfl)
theorem dX6_write_5 : decode cX6_write 5 = .ok (.iload_n 1, 1) := dk_27 (dk_at dksX6_write_0 5 rfl rfl)
theorem dX6_write_6 : decode cX6_write 6 = .ok (.invokestatic 123, 3) := dk_184 0 123 (dk_at dksX6_write_0 6 rfl rfl)
theorem dX6_write_9 : decode cX6_write 9 = .ok (.ifCond .ne 6, 3) := dk_154 0 6 (dk_at dksX6_write_0 9 rfl rfl)
theorem dX6_write_12 : decode cX6_write 12 = .ok (.bipush (-2), 2) := dk_16 254 (dk_at dksX6_write_0 12 rfl rfl)
theorem dX6_write_14 : decode cX6_write 14 = .ok (.ireturn, 1) := dk_172 (dk_at dksX6_write_0 14 rfl rfl)
theorem dX6_write_15 : decode cX6_write 15 = .ok (.aload_n 0, 1) := dk_42 (dk_at dksX6_write_0 15 rfl rfl)
theorem dX6_write_16 : decode cX6_write 16 = .ok (.getfield 7, 3) := dk_180 0 7 (dk_at dksX6_write_0 16 rfl rfl)
theorem dX6_write_19 : decode cX6_write 19 = .ok (.iload_n 1, 1) := dk_27 (dk_at dksX6_write_0 19 rfl rfl)
theorem dX6_write_20 : decode cX6_write 20 = .ok (.iaload, 1) := dk_46 (dk_at dksX6_write_0 20 rfl rfl)
theorem dX6_write_21 : decode cX6_write 21 = .ok (.iconst (-1), 1) := dk_2 (dk_at dksX6_write_0 21 rfl rfl)
theorem dX6_write_22 : decode cX6_write 22 = .ok (.if_icmp .ne 6, 3) := dk_160 0 6 (dk_at dksX6_write_1 0 rfl rfl)
theorem dX6_write_25 : decode cX6_write 25 = .ok (.bipush (-6), 2) := dk_16 250 (dk_at dksX6_write_1 3 rfl rfl)
theorem dX6_write_27 : decode cX6_write 27 = .ok (.ireturn, 1) := dk_172 (dk_at dksX6_write_1 5 rfl rfl)
theorem dX6_write_28 : decode cX6_write 28 = .ok (.iload_n 2, 1) := dk_28 (dk_at dksX6_write_1 6 rfl rfl)
theorem dX6_write_29 : decode cX6_write 29 = .ok (.i2l, 1) := dk_133 (dk_at dksX6_write_1 7 rfl rfl)
theorem dX6_write_30 : decode cX6_write 30 = .ok (.lconst 0, 1) := dk_9 (dk_at dksX6_write_1 8 rfl rfl)
theorem dX6_write_31 : decode cX6_write 31 = .ok (.aload_n 0, 1) := dk_42 (dk_at dksX6_write_1 9 rfl rfl)
theorem dX6_write_32 : decode cX6_write 32 = .ok (.getfield 13, 3) := dk_180 0 13 (dk_at dksX6_write_1 10 rfl rfl)
theorem dX6_write_35 : decode cX6_write 35 = .ok (.iload_n 1, 1) := dk_27 (dk_at dksX6_write_1 13 rfl rfl)
theorem dX6_write_36 : decode cX6_write 36 = .ok (.iaload, 1) := dk_46 (dk_at dksX6_write_1 14 rfl rfl)
theorem dX6_write_37 : decode cX6_write 37 = .ok (.iconst 1, 1) := dk_4 (dk_at dksX6_write_1 15 rfl rfl)
theorem dX6_write_38 : decode cX6_write 38 = .ok (.isub, 1) := dk_100 (dk_at dksX6_write_1 16 rfl rfl)
theorem dX6_write_39 : decode cX6_write 39 = .ok (.i2l, 1) := dk_133 (dk_at dksX6_write_1 17 rfl rfl)
theorem dX6_write_40 : decode cX6_write 40 = .ok (.invokestatic 119, 3) := dk_184 0 119 (dk_at dksX6_write_1 18 rfl rfl)
theorem dX6_write_43 : decode cX6_write 43 = .ok (.ifCond .ne 6, 3) := dk_154 0 6 (dk_at dksX6_write_1 21 rfl rfl)
theorem dX6_write_46 : decode cX6_write 46 = .ok (.bipush (-7), 2) := dk_16 249 (dk_at dksX6_write_2 0 rfl rfl)
theorem dX6_write_48 : decode cX6_write 48 = .ok (.ireturn, 1) := dk_172 (dk_at dksX6_write_2 2 rfl rfl)
theorem dX6_write_49 : decode cX6_write 49 = .ok (.aload_n 0, 1) := dk_42 (dk_at dksX6_write_2 3 rfl rfl)
theorem dX6_write_50 : decode cX6_write 50 = .ok (.getfield 16, 3) := dk_180 0 16 (dk_at dksX6_write_2 4 rfl rfl)
theorem dX6_write_53 : decode cX6_write 53 = .ok (.bipush 60, 2) := dk_16 60 (dk_at dksX6_write_2 7 rfl rfl)
theorem dX6_write_55 : decode cX6_write 55 = .ok (.iload_n 1, 1) := dk_27 (dk_at dksX6_write_2 9 rfl rfl)
theorem dX6_write_56 : decode cX6_write 56 = .ok (.imul, 1) := dk_104 (dk_at dksX6_write_2 10 rfl rfl)
theorem dX6_write_57 : decode cX6_write 57 = .ok (.iload_n 2, 1) := dk_28 (dk_at dksX6_write_2 11 rfl rfl)
theorem dX6_write_58 : decode cX6_write 58 = .ok (.iadd, 1) := dk_96 (dk_at dksX6_write_2 12 rfl rfl)
theorem dX6_write_59 : decode cX6_write 59 = .ok (.lload_n 3, 1) := dk_33 (dk_at dksX6_write_2 13 rfl rfl)
theorem dX6_write_60 : decode cX6_write 60 = .ok (.aload_n 0, 1) := dk_42 (dk_at dksX6_write_2 14 rfl rfl)
theorem dX6_write_61 : decode cX6_write 61 = .ok (.getfield 7, 3) := dk_180 0 7 (dk_at dksX6_write_2 15 rfl rfl)
theorem dX6_write_64 : decode cX6_write 64 = .ok (.iload_n 1, 1) := dk_27 (dk_at dksX6_write_2 18 rfl rfl)
theorem dX6_write_65 : decode cX6_write 65 = .ok (.iaload, 1) := dk_46 (dk_at dksX6_write_2 19 rfl rfl)
theorem dX6_write_66 : decode cX6_write 66 = .ok (.invokestatic 127, 3) := dk_184 0 127 (dk_at dksX6_write_2 20 rfl rfl)
theorem dX6_write_69 : decode cX6_write 69 = .ok (.lastore, 1) := dk_80 (dk_at dksX6_write_2 23 rfl rfl)
theorem dX6_write_70 : decode cX6_write 70 = .ok (.iconst 0, 1) := dk_3 (dk_at dksX6_write_3 0 rfl rfl)
theorem dX6_write_71 : decode cX6_write 71 = .ok (.ireturn, 1) := dk_172 (dk_at dksX6_write_3 1 rfl rfl)
abbrev cX6_cut : ByteArray := prog_20_method_6_code
def yX6_cut : MethodName := ⟨RX6, "cut", "(JI)J"⟩
def dkwX6_cut_1 : List UInt8 := [5, 160, 0, 9, 30, 136, 133, 167, 0, 4, 30, 173]
abbrev dktX6_cut_1 : List UInt8 := dkwX6_cut_1 ++ []
def dkwX6_cut_0 : List UInt8 := [28, 154, 0, 10, 30, 136, 145, 133, 167, 0, 27, 28, 4, 160, 0, 10, 30, 136, 147, 133, 167, 0, 15, 28]
abbrev dktX6_cut_0 : List UInt8 := dkwX6_cut_0 ++ dktX6_cut_1
theorem dksX6_cut_0 : cX6_cut.data.toList.drop 0 = dktX6_cut_0 := by decide +kernel
theorem dksX6_cut_1 : cX6_cut.data.toList.drop 24 = dktX6_cut_1 := dk_seg dksX6_cut_0 24 rfl rfl
theorem dX6_cut_0 : decode cX6_cut 0 = .ok (.iload_n 2, 1) := dk_28 (dk_at dksX6_cut_0 0 rfl rfl)
theorem dX6_cut_1 : decode cX6_cut 1 = .ok (.ifCond .ne 10, 3) := dk_154 0 10 (dk_at dksX6_cut_0 1 rfl rfl)
theorem dX6_cut_4 : decode cX6_cut 4 = .ok (.lload_n 0, 1) := dk_30 (dk_at dksX6_cut_0 4 rfl rfl)
theorem dX6_cut_5 : decode cX6_cut 5 = .ok (.l2i, 1) := dk_136 (dk_at dksX6_cut_0 5 rfl rfl)
theorem dX6_cut_6 : decode cX6_cut 6 = .ok (.i2b, 1) := dk_145 (dk_at dksX6_cut_0 6 rfl rfl)
theorem dX6_cut_7 : decode cX6_cut 7 = .ok (.i2l, 1) := dk_133 (dk_at dksX6_cut_0 7 rfl rfl)
theorem dX6_cut_8 : decode cX6_cut 8 = .ok (.goto 27, 3) := dk_167 0 27 (dk_at dksX6_cut_0 8 rfl rfl)
theorem dX6_cut_11 : decode cX6_cut 11 = .ok (.iload_n 2, 1) := dk_28 (dk_at dksX6_cut_0 11 rfl rfl)
theorem dX6_cut_12 : decode cX6_cut 12 = .ok (.iconst 1, 1) := dk_4 (dk_at dksX6_cut_0 12 rfl rfl)
theorem dX6_cut_13 : decode cX6_cut 13 = .ok (.if_icmp .ne 10, 3) := dk_160 0 10 (dk_at dksX6_cut_0 13 rfl rfl)
theorem dX6_cut_16 : decode cX6_cut 16 = .ok (.lload_n 0, 1) := dk_30 (dk_at dksX6_cut_0 16 rfl rfl)
theorem dX6_cut_17 : decode cX6_cut 17 = .ok (.l2i, 1) := dk_136 (dk_at dksX6_cut_0 17 rfl rfl)
theorem dX6_cut_18 : decode cX6_cut 18 = .ok (.i2s, 1) := dk_147 (dk_at dksX6_cut_0 18 rfl rfl)
theorem dX6_cut_19 : decode cX6_cut 19 = .ok (.i2l, 1) := dk_133 (dk_at dksX6_cut_0 19 rfl rfl)
theorem dX6_cut_20 : decode cX6_cut 20 = .ok (.goto 15, 3) := dk_167 0 15 (dk_at dksX6_cut_0 20 rfl rfl)
theorem dX6_cut_23 : decode cX6_cut 23 = .ok (.iload_n 2, 1) := dk_28 (dk_at dksX6_cut_0 23 rfl rfl)
theorem dX6_cut_24 : decode cX6_cut 24 = .ok (.iconst 2, 1) := dk_5 (dk_at dksX6_cut_1 0 rfl rfl)
theorem dX6_cut_25 : decode cX6_cut 25 = .ok (.if_icmp .ne 9, 3) := dk_160 0 9 (dk_at dksX6_cut_1 1 rfl rfl)
theorem dX6_cut_28 : decode cX6_cut 28 = .ok (.lload_n 0, 1) := dk_30 (dk_at dksX6_cut_1 4 rfl rfl)
theorem dX6_cut_29 : decode cX6_cut 29 = .ok (.l2i, 1) := dk_136 (dk_at dksX6_cut_1 5 rfl rfl)
theorem dX6_cut_30 : decode cX6_cut 30 = .ok (.i2l, 1) := dk_133 (dk_at dksX6_cut_1 6 rfl rfl)
theorem dX6_cut_31 : decode cX6_cut 31 = .ok (.goto 4, 3) := dk_167 0 4 (dk_at dksX6_cut_1 7 rfl rfl)
theorem dX6_cut_34 : decode cX6_cut 34 = .ok (.lload_n 0, 1) := dk_30 (dk_at dksX6_cut_1 10 rfl rfl)
theorem dX6_cut_35 : decode cX6_cut 35 = .ok (.lreturn, 1) := dk_173 (dk_at dksX6_cut_1 11 rfl rfl)
abbrev cX6_paste : ByteArray := prog_20_method_8_code
def yX6_paste : MethodName := ⟨RX6, "paste", "(IIIII)I"⟩
def dkwX6_paste_8 : List UInt8 := [167, 255, 224, 3, 172]
abbrev dktX6_paste_8 : List UInt8 := dkwX6_paste_8 ++ []
def dkwX6_paste_7 : List UInt8 := [180, 0, 16, 16, 60, 29, 104, 21, 4, 96, 21, 6, 96, 42, 180, 0, 20, 21, 6, 47, 80, 132, 6, 1]
abbrev dktX6_paste_7 : List UInt8 := dkwX6_paste_7 ++ dktX6_paste_8
def dkwX6_paste_6 : List UInt8 := [28, 96, 21, 6, 96, 47, 80, 132, 6, 1, 167, 255, 225, 3, 54, 6, 21, 6, 21, 5, 162, 0, 31, 42]
abbrev dktX6_paste_6 : List UInt8 := dkwX6_paste_6 ++ dktX6_paste_7
def dkwX6_paste_5 : List UInt8 := [3, 54, 6, 21, 6, 21, 5, 162, 0, 30, 42, 180, 0, 20, 21, 6, 42, 180, 0, 16, 16, 60, 27, 104]
abbrev dktX6_paste_5 : List UInt8 := dkwX6_paste_5 ++ dktX6_paste_6
def dkwX6_paste_4 : List UInt8 := [157, 0, 21, 21, 4, 133, 21, 5, 133, 97, 42, 180, 0, 13, 29, 46, 133, 148, 158, 0, 6, 16, 249, 172]
abbrev dktX6_paste_4 : List UInt8 := dkwX6_paste_4 ++ dktX6_paste_5
def dkwX6_paste_3 : List UInt8 := [155, 0, 43, 21, 5, 155, 0, 38, 28, 133, 21, 5, 133, 97, 42, 180, 0, 13, 27, 46, 133, 148]
abbrev dktX6_paste_3 : List UInt8 := dkwX6_paste_3 ++ dktX6_paste_4
def dkwX6_paste_2 : List UInt8 := [180, 0, 7, 27, 46, 42, 180, 0, 7, 29, 46, 159, 0, 6, 16, 248, 172, 28, 155, 0, 48, 21, 4]
abbrev dktX6_paste_2 : List UInt8 := dkwX6_paste_2 ++ dktX6_paste_3
def dkwX6_paste_1 : List UInt8 := [180, 0, 7, 27, 46, 2, 159, 0, 13, 42, 180, 0, 7, 29, 46, 2, 160, 0, 6, 16, 250, 172, 42]
abbrev dktX6_paste_1 : List UInt8 := dkwX6_paste_1 ++ dktX6_paste_2
def dkwX6_paste_0 : List UInt8 := [42, 3, 181, 0, 114, 27, 184, 0, 123, 153, 0, 10, 29, 184, 0, 123, 154, 0, 6, 16, 254, 172, 42]
abbrev dktX6_paste_0 : List UInt8 := dkwX6_paste_0 ++ dktX6_paste_1
theorem dksX6_paste_0 : cX6_paste.data.toList.drop 0 = dktX6_paste_0 := by decide +kernel
theorem dksX6_paste_1 : cX6_paste.data.toList.drop 23 = dktX6_paste_1 := dk_seg dksX6_paste_0 23 rfl rfl
theorem dksX6_paste_2 : cX6_paste.data.toList.drop 46 = dktX6_paste_2 := dk_seg dksX6_paste_1 23 rfl rfl
theorem dksX6_paste_3 : cX6_paste.data.toList.drop 69 = dktX6_paste_3 := dk_seg dksX6_paste_2 23 rfl rfl
theorem dksX6_paste_4 : cX6_paste.data.toList.drop 91 = dktX6_paste_4 := dk_seg dksX6_paste_3 22 rfl rfl
theorem dksX6_paste_5 : cX6_paste.data.toList.drop 115 = dktX6_paste_5 := dk_seg dksX6_paste_4 24 rfl rfl
theorem dksX6_paste_6 : cX6_paste.data.toList.drop 139 = dktX6_paste_6 := dk_seg dksX6_paste_5 24 rfl rfl
theorem dksX6_paste_7 : cX6_paste.data.toList.drop 163 = dktX6_paste_7 := dk_seg dksX6_paste_6 24 rfl rfl
theorem dksX6_paste_8 : cX6_paste.data.toList.drop 187 = dktX6_paste_8 := dk_seg dksX6_paste_7 24 rfl rfl
theorem dX6_paste_0 : decode cX6_paste 0 = .ok (.aload_n 0, 1) := dk_42 (dk_at dksX6_paste_0 0 rfl rfl)
theorem dX6_paste_1 : decode cX6_paste 1 = .ok (.iconst 0, 1) := dk_3 (dk_at dksX6_paste_0 1 rfl rfl)
theorem dX6_paste_2 : decode cX6_paste 2 = .ok (.putfield 114, 3) := dk_181 0 114 (dk_at dksX6_paste_0 2 rfl rfl)
theorem dX6_paste_5 : decode cX6_paste 5 = .ok (.iload_n 1, 1) := dk_27 (dk_at dksX6_paste_0 5 rfl rfl)
theorem dX6_paste_6 : decode cX6_paste 6 = .ok (.invokestatic 123, 3) := dk_184 0 123 (dk_at dksX6_paste_0 6 rfl rfl)
theorem dX6_paste_9 : decode cX6_paste 9 = .ok (.ifCond .eq 10, 3) := dk_153 0 10 (dk_at dksX6_paste_0 9 rfl rfl)
theorem dX6_paste_12 : decode cX6_paste 12 = .ok (.iload_n 3, 1) := dk_29 (dk_at dksX6_paste_0 12 rfl rfl)
theorem dX6_paste_13 : decode cX6_paste 13 = .ok (.invokestatic 123, 3) := dk_184 0 123 (dk_at dksX6_paste_0 13 rfl rfl)
theorem dX6_paste_16 : decode cX6_paste 16 = .ok (.ifCond .ne 6, 3) := dk_154 0 6 (dk_at dksX6_paste_0 16 rfl rfl)
theorem dX6_paste_19 : decode cX6_paste 19 = .ok (.bipush (-2), 2) := dk_16 254 (dk_at dksX6_paste_0 19 rfl rfl)
theorem dX6_paste_21 : decode cX6_paste 21 = .ok (.ireturn, 1) := dk_172 (dk_at dksX6_paste_0 21 rfl rfl)
theorem dX6_paste_22 : decode cX6_paste 22 = .ok (.aload_n 0, 1) := dk_42 (dk_at dksX6_paste_0 22 rfl rfl)
theorem dX6_paste_23 : decode cX6_paste 23 = .ok (.getfield 7, 3) := dk_180 0 7 (dk_at dksX6_paste_1 0 rfl rfl)
theorem dX6_paste_26 : decode cX6_paste 26 = .ok (.iload_n 1, 1) := dk_27 (dk_at dksX6_paste_1 3 rfl rfl)
theorem dX6_paste_27 : decode cX6_paste 27 = .ok (.iaload, 1) := dk_46 (dk_at dksX6_paste_1 4 rfl rfl)
theorem dX6_paste_28 : decode cX6_paste 28 = .ok (.iconst (-1), 1) := dk_2 (dk_at dksX6_paste_1 5 rfl rfl)
theorem dX6_paste_29 : decode cX6_paste 29 = .ok (.if_icmp .eq 13, 3) := dk_159 0 13 (dk_at dksX6_paste_1 6 rfl rfl)
theorem dX6_paste_32 : decode cX6_paste 32 = .ok (.aload_n 0, 1) := dk_42 (dk_at dksX6_paste_1 9 rfl rfl)
theorem dX6_paste_33 : decode cX6_paste 33 = .ok (.getfield 7, 3) := dk_180 0 7 (dk_at dksX6_paste_1 10 rfl rfl)
theorem dX6_paste_36 : decode cX6_paste 36 = .ok (.iload_n 3, 1) := dk_29 (dk_at dksX6_paste_1 13 rfl rfl)
theorem dX6_paste_37 : decode cX6_paste 37 = .ok (.iaload, 1) := dk_46 (dk_at dksX6_paste_1 14 rfl rfl)
theorem dX6_paste_38 : decode cX6_paste 38 = .ok (.iconst (-1), 1) := dk_2 (dk_at dksX6_paste_1 15 rfl rfl)
theorem dX6_paste_39 : decode cX6_paste 39 = .ok (.if_icmp .ne 6, 3) := dk_160 0 6 (dk_at dksX6_paste_1 16 rfl rfl)
theorem dX6_paste_42 : decode cX6_paste 42 = .ok (.bipush (-6), 2) := dk_16 250 (dk_at dksX6_paste_1 19 rfl rfl)
theorem dX6_paste_44 : decode cX6_paste 44 = .ok (.ireturn, 1) := dk_172 (dk_at dksX6_paste_1 21 rfl rfl)
theorem dX6_paste_45 : decode cX6_paste 45 = .ok (.aload_n 0, 1) := dk_42 (dk_at dksX6_paste_1 22 rfl rfl)
theorem dX6_paste_46 : decode cX6_paste 46 = .ok (.getfield 7, 3) := dk_180 0 7 (dk_at dksX6_paste_2 0 rfl rfl)
theorem dX6_paste_49 : decode cX6_paste 49 = .ok (.iload_n 1, 1) := dk_27 (dk_at dksX6_paste_2 3 rfl rfl)
theorem dX6_paste_50 : decode cX6_paste 50 = .ok (.iaload, 1) := dk_46 (dk_at dksX6_paste_2 4 rfl rfl)
theorem dX6_paste_51 : decode cX6_paste 51 = .ok (.aload_n 0, 1) := dk_42 (dk_at dksX6_paste_2 5 rfl rfl)
theorem dX6_paste_52 : decode cX6_paste 52 = .ok (.getfield 7, 3) := dk_180 0 7 (dk_at dksX6_paste_2 6 rfl rfl)
theorem dX6_paste_55 : decode cX6_paste 55 = .ok (.iload_n 3, 1) := dk_29 (dk_at dksX6_paste_2 9 rfl rfl)
theorem dX6_paste_56 : decode cX6_paste 56 = .ok (.iaload, 1) := dk_46 (dk_at dksX6_paste_2 10 rfl rfl)
theorem dX6_paste_57 : decode cX6_paste 57 = .ok (.if_icmp .eq 6, 3) := dk_159 0 6 (dk_at dksX6_paste_2 11 rfl rfl)
theorem dX6_paste_60 : decode cX6_paste 60 = .ok (.bipush (-8), 2) := dk_16 248 (dk_at dksX6_paste_2 14 rfl rfl)
theorem dX6_paste_62 : decode cX6_paste 62 = .ok (.ireturn, 1) := dk_172 (dk_at dksX6_paste_2 16 rfl rfl)
theorem dX6_paste_63 : decode cX6_paste 63 = .ok (.iload_n 2, 1) := dk_28 (dk_at dksX6_paste_2 17 rfl rfl)
theorem dX6_paste_64 : decode cX6_paste 64 = .ok (.ifCond .lt 48, 3) := dk_155 0 48 (dk_at dksX6_paste_2 18 rfl rfl)
theorem dX6_paste_67 : decode cX6_paste 67 = .ok (.iload 4, 2) := dk_21 4 (dk_at dksX6_paste_2 21 rfl rfl)
theorem dX6_paste_69 : decode cX6_paste 69 = .ok (.ifCond .lt 43, 3) := dk_155 0 43 (dk_at dksX6_paste_3 0 rfl rfl)
theorem dX6_paste_72 : decode cX6_paste 72 = .ok (.iload 5, 2) := dk_21 5 (dk_at dksX6_paste_3 3 rfl rfl)
theorem dX6_paste_74 : decode cX6_paste 74 = .ok (.ifCond .lt 38, 3) := dk_155 0 38 (dk_at dksX6_paste_3 5 rfl rfl)
theorem dX6_paste_77 : decode cX6_paste 77 = .ok (.iload_n 2, 1) := dk_28 (dk_at dksX6_paste_3 8 rfl rfl)
theorem dX6_paste_78 : decode cX6_paste 78 = .ok (.i2l, 1) := dk_133 (dk_at dksX6_paste_3 9 rfl rfl)
theorem dX6_paste_79 : decode cX6_paste 79 = .ok (.iload 5, 2) := dk_21 5 (dk_at dksX6_paste_3 10 rfl rfl)
theorem dX6_paste_81 : decode cX6_paste 81 = .ok (.i2l, 1) := dk_133 (dk_at dksX6_paste_3 12 rfl rfl)
theorem dX6_paste_82 : decode cX6_paste 82 = .ok (.ladd, 1) := dk_97 (dk_at dksX6_paste_3 13 rfl rfl)
theorem dX6_paste_83 : decode cX6_paste 83 = .ok (.aload_n 0, 1) := dk_42 (dk_at dksX6_paste_3 14 rfl rfl)
theorem dX6_paste_84 : decode cX6_paste 84 = .ok (.getfield 13, 3) := dk_180 0 13 (dk_at dksX6_paste_3 15 rfl rfl)
theorem dX6_paste_87 : decode cX6_paste 87 = .ok (.iload_n 1, 1) := dk_27 (dk_at dksX6_paste_3 18 rfl rfl)
theorem dX6_paste_88 : decode cX6_paste 88 = .ok (.iaload, 1) := dk_46 (dk_at dksX6_paste_3 19 rfl rfl)
theorem dX6_paste_89 : decode cX6_paste 89 = .ok (.i2l, 1) := dk_133 (dk_at dksX6_paste_3 20 rfl rfl)
theorem dX6_paste_90 : decode cX6_paste 90 = .ok (.lcmp, 1) := dk_148 (dk_at dksX6_paste_3 21 rfl rfl)
theorem dX6_paste_91 : decode cX6_paste 91 = .ok (.ifCond .gt 21, 3) := dk_157 0 21 (dk_at dksX6_paste_4 0 rfl rfl)
theorem dX6_paste_94 : decode cX6_paste 94 = .ok (.iload 4, 2) := dk_21 4 (dk_at dksX6_paste_4 3 rfl rfl)
theorem dX6_paste_96 : decode cX6_paste 96 = .ok (.i2l, 1) := dk_133 (dk_at dksX6_paste_4 5 rfl rfl)
theorem dX6_paste_97 : decode cX6_paste 97 = .ok (.iload 5, 2) := dk_21 5 (dk_at dksX6_paste_4 6 rfl rfl)
theorem dX6_paste_99 : decode cX6_paste 99 = .ok (.i2l, 1) := dk_133 (dk_at dksX6_paste_4 8 rfl rfl)
theorem dX6_paste_100 : decode cX6_paste 100 = .ok (.ladd, 1) := dk_97 (dk_at dksX6_paste_4 9 rfl rfl)
theorem dX6_paste_101 : decode cX6_paste 101 = .ok (.aload_n 0, 1) := dk_42 (dk_at dksX6_paste_4 10 rfl rfl)
theorem dX6_paste_102 : decode cX6_paste 102 = .ok (.getfield 13, 3) := dk_180 0 13 (dk_at dksX6_paste_4 11 rfl rfl)
theorem dX6_paste_105 : decode cX6_paste 105 = .ok (.iload_n 3, 1) := dk_29 (dk_at dksX6_paste_4 14 rfl rfl)
theorem dX6_paste_106 : decode cX6_paste 106 = .ok (.iaload, 1) := dk_46 (dk_at dksX6_paste_4 15 rfl rfl)
theorem dX6_paste_107 : decode cX6_paste 107 = .ok (.i2l, 1) := dk_133 (dk_at dksX6_paste_4 16 rfl rfl)
theorem dX6_paste_108 : decode cX6_paste 108 = .ok (.lcmp, 1) := dk_148 (dk_at dksX6_paste_4 17 rfl rfl)
theorem dX6_paste_109 : decode cX6_paste 109 = .ok (.ifCond .le 6, 3) := dk_158 0 6 (dk_at dksX6_paste_4 18 rfl rfl)
theorem dX6_paste_112 : decode cX6_paste 112 = .ok (.bipush (-7), 2) := dk_16 249 (dk_at dksX6_paste_4 21 rfl rfl)
theorem dX6_paste_114 : decode cX6_paste 114 = .ok (.ireturn, 1) := dk_172 (dk_at dksX6_paste_4 23 rfl rfl)
theorem dX6_paste_115 : decode cX6_paste 115 = .ok (.iconst 0, 1) := dk_3 (dk_at dksX6_paste_5 0 rfl rfl)
theorem dX6_paste_116 : decode cX6_paste 116 = .ok (.istore 6, 2) := dk_54 6 (dk_at dksX6_paste_5 1 rfl rfl)
theorem dX6_paste_118 : decode cX6_paste 118 = .ok (.iload 6, 2) := dk_21 6 (dk_at dksX6_paste_5 3 rfl rfl)
theorem dX6_paste_120 : decode cX6_paste 120 = .ok (.iload 5, 2) := dk_21 5 (dk_at dksX6_paste_5 5 rfl rfl)
theorem dX6_paste_122 : decode cX6_paste 122 = .ok (.if_icmp .ge 30, 3) := dk_162 0 30 (dk_at dksX6_paste_5 7 rfl rfl)
theorem dX6_paste_125 : decode cX6_paste 125 = .ok (.aload_n 0, 1) := dk_42 (dk_at dksX6_paste_5 10 rfl rfl)
theorem dX6_paste_126 : decode cX6_paste 126 = .ok (.getfield 20, 3) := dk_180 0 20 (dk_at dksX6_paste_5 11 rfl rfl)
theorem dX6_paste_129 : decode cX6_paste 129 = .ok (.iload 6, 2) := dk_21 6 (dk_at dksX6_paste_5 14 rfl rfl)
theorem dX6_paste_131 : decode cX6_paste 131 = .ok (.aload_n 0, 1) := dk_42 (dk_at dksX6_paste_5 16 rfl rfl)
theorem dX6_paste_132 : decode cX6_paste 132 = .ok (.getfield 16, 3) := dk_180 0 16 (dk_at dksX6_paste_5 17 rfl rfl)
theorem dX6_paste_135 : decode cX6_paste 135 = .ok (.bipush 60, 2) := dk_16 60 (dk_at dksX6_paste_5 20 rfl rfl)
theorem dX6_paste_137 : decode cX6_paste 137 = .ok (.iload_n 1, 1) := dk_27 (dk_at dksX6_paste_5 22 rfl rfl)
theorem dX6_paste_138 : decode cX6_paste 138 = .ok (.imul, 1) := dk_104 (dk_at dksX6_paste_5 23 rfl rfl)
theorem dX6_paste_139 : decode cX6_paste 139 = .ok (.iload_n 2, 1) := dk_28 (dk_at dksX6_paste_6 0 rfl rfl)
theorem dX6_paste_140 : decode cX6_paste 140 = .ok (.iadd, 1) := dk_96 (dk_at dksX6_paste_6 1 rfl rfl)
theorem dX6_paste_141 : decode cX6_paste 141 = .ok (.iload 6, 2) := dk_21 6 (dk_at dksX6_paste_6 2 rfl rfl)
theorem dX6_paste_143 : decode cX6_paste 143 = .ok (.iadd, 1) := dk_96 (dk_at dksX6_paste_6 4 rfl rfl)
theorem dX6_paste_144 : decode cX6_paste 144 = .ok (.laload, 1) := dk_47 (dk_at dksX6_paste_6 5 rfl rfl)
theorem dX6_paste_145 : decode cX6_paste 145 = .ok (.lastore, 1) := dk_80 (dk_at dksX6_paste_6 6 rfl rfl)
theorem dX6_paste_146 : decode cX6_paste 146 = .ok (.iinc 6 1, 3) := dk_132 6 1 (dk_at dksX6_paste_6 7 rfl rfl)
theorem dX6_paste_149 : decode cX6_paste 149 = .ok (.goto (-31), 3) := dk_167 255 225 (dk_at dksX6_paste_6 10 rfl rfl)
theorem dX6_paste_152 : decode cX6_paste 152 = .ok (.iconst 0, 1) := dk_3 (dk_at dksX6_paste_6 13 rfl rfl)
theorem dX6_paste_153 : decode cX6_paste 153 = .ok (.istore 6, 2) := dk_54 6 (dk_at dksX6_paste_6 14 rfl rfl)
theorem dX6_paste_155 : decode cX6_paste 155 = .ok (.iload 6, 2) := dk_21 6 (dk_at dksX6_paste_6 16 rfl rfl)
theorem dX6_paste_157 : decode cX6_paste 157 = .ok (.iload 5, 2) := dk_21 5 (dk_at dksX6_paste_6 18 rfl rfl)
theorem dX6_paste_159 : decode cX6_paste 159 = .ok (.if_icmp .ge 31, 3) := dk_162 0 31 (dk_at dksX6_paste_6 20 rfl rfl)
theorem dX6_paste_162 : decode cX6_paste 162 = .ok (.aload_n 0, 1) := dk_42 (dk_at dksX6_paste_6 23 rfl rfl)
theorem dX6_paste_163 : decode cX6_paste 163 = .ok (.getfield 16, 3) := dk_180 0 16 (dk_at dksX6_paste_7 0 rfl rfl)
theorem dX6_paste_166 : decode cX6_paste 166 = .ok (.bipush 60, 2) := dk_16 60 (dk_at dksX6_paste_7 3 rfl rfl)
theorem dX6_paste_168 : decode cX6_paste 168 = .ok (.iload_n 3, 1) := dk_29 (dk_at dksX6_paste_7 5 rfl rfl)
theorem dX6_paste_169 : decode cX6_paste 169 = .ok (.imul, 1) := dk_104 (dk_at dksX6_paste_7 6 rfl rfl)
theorem dX6_paste_170 : decode cX6_paste 170 = .ok (.iload 4, 2) := dk_21 4 (dk_at dksX6_paste_7 7 rfl rfl)
theorem dX6_paste_172 : decode cX6_paste 172 = .ok (.iadd, 1) := dk_96 (dk_at dksX6_paste_7 9 rfl rfl)
theorem dX6_paste_173 : decode cX6_paste 173 = .ok (.iload 6, 2) := dk_21 6 (dk_at dksX6_paste_7 10 rfl rfl)
theorem dX6_paste_175 : decode cX6_paste 175 = .ok (.iadd, 1) := dk_96 (dk_at dksX6_paste_7 12 rfl rfl)
theorem dX6_paste_176 : decode cX6_paste 176 = .ok (.aload_n 0, 1) := dk_42 (dk_at dksX6_paste_7 13 rfl rfl)
theorem dX6_paste_177 : decode cX6_paste 177 = .ok (.getfield 20, 3) := dk_180 0 20 (dk_at dksX6_paste_7 14 rfl rfl)
theorem dX6_paste_180 : decode cX6_paste 180 = .ok (.iload 6, 2) := dk_21 6 (dk_at dksX6_paste_7 17 rfl rfl)
theorem dX6_paste_182 : decode cX6_paste 182 = .ok (.laload, 1) := dk_47 (dk_at dksX6_paste_7 19 rfl rfl)
theorem dX6_paste_183 : decode cX6_paste 183 = .ok (.lastore, 1) := dk_80 (dk_at dksX6_paste_7 20 rfl rfl)
theorem dX6_paste_184 : decode cX6_paste 184 = .ok (.iinc 6 1, 3) := dk_132 6 1 (dk_at dksX6_paste_7 21 rfl rfl)
theorem dX6_paste_187 : decode cX6_paste 187 = .ok (.goto (-32), 3) := dk_167 255 224 (dk_at dksX6_paste_8 0 rfl rfl)
theorem dX6_paste_190 : decode cX6_paste 190 = .ok (.iconst 0, 1) := dk_3 (dk_at dksX6_paste_8 3 rfl rfl)
theorem dX6_paste_191 : decode cX6_paste 191 = .ok (.ireturn, 1) := dk_172 (dk_at dksX6_paste_8 4 rfl rfl)
abbrev cX6_feed : ByteArray := prog_20_method_9_code
def yX6_feed : MethodName := ⟨RX6, "feed", "(IIIII)I"⟩
def dkwX6_feed_2 : List UInt8 := [182, 0, 134, 42, 180, 0, 131, 172]
abbrev dktX6_feed_2 : List UInt8 := dkwX6_feed_2 ++ []
def dkwX6_feed_1 : List UInt8 := [182, 0, 134, 42, 28, 182, 0, 134, 42, 29, 182, 0, 134, 42, 21, 4, 182, 0, 134, 42, 21, 5]
abbrev dktX6_feed_1 : List UInt8 := dkwX6_feed_1 ++ dktX6_feed_2
def dkwX6_feed_0 : List UInt8 := [42, 3, 181, 0, 114, 42, 180, 0, 131, 16, 20, 96, 17, 6, 64, 164, 0, 5, 2, 172, 42, 27]
abbrev dktX6_feed_0 : List UInt8 := dkwX6_feed_0 ++ dktX6_feed_1
theorem dksX6_feed_0 : cX6_feed.data.toList.drop 0 = dktX6_feed_0 := by decide +kernel
theorem dksX6_feed_1 : cX6_feed.data.toList.drop 22 = dktX6_feed_1 := dk_seg dksX6_feed_0 22 rfl rfl
theorem dksX6_feed_2 : cX6_feed.data.toList.drop 44 = dktX6_feed_2 := dk_seg dksX6_feed_1 22 rfl rfl
theorem dX6_feed_0 : decode cX6_feed 0 = .ok (.aload_n 0, 1) := dk_42 (dk_at dksX6_feed_0 0 rfl rfl)
theorem dX6_feed_1 : decode cX6_feed 1 = .ok (.iconst 0, 1) := dk_3 (dk_at dksX6_feed_0 1 rfl rfl)
theorem dX6_feed_2 : decode cX6_feed 2 = .ok (.putfield 114, 3) := dk_181 0 114 (dk_at dksX6_feed_0 2 rfl rfl)
theorem dX6_feed_5 : decode cX6_feed 5 = .ok (.aload_n 0, 1) := dk_42 (dk_at dksX6_feed_0 5 rfl rfl)
theorem dX6_feed_6 : decode cX6_feed 6 = .ok (.getfield 131, 3) := dk_180 0 131 (dk_at dksX6_feed_0 6 rfl rfl)
theorem dX6_feed_9 : decode cX6_feed 9 = .ok (.bipush 20, 2) := dk_16 20 (dk_at dksX6_feed_0 9 rfl rfl)
theorem dX6_feed_11 : decode cX6_feed 11 = .ok (.iadd, 1) := dk_96 (dk_at dksX6_feed_0 11 rfl rfl)
theorem dX6_feed_12 : decode cX6_feed 12 = .ok (.sipush 1600, 3) := dk_17 6 64 (dk_at dksX6_feed_0 12 rfl rfl)
theorem dX6_feed_15 : decode cX6_feed 15 = .ok (.if_icmp .le 5, 3) := dk_164 0 5 (dk_at dksX6_feed_0 15 rfl rfl)
theorem dX6_feed_18 : decode cX6_feed 18 = .ok (.iconst (-1), 1) := dk_2 (dk_at dksX6_feed_0 18 rfl rfl)
theorem dX6_feed_19 : decode cX6_feed 19 = .ok (.ireturn, 1) := dk_172 (dk_at dksX6_feed_0 19 rfl rfl)
theorem dX6_feed_20 : decode cX6_feed 20 = .ok (.aload_n 0, 1) := dk_42 (dk_at dksX6_feed_0 20 rfl rfl)
theorem dX6_feed_21 : decode cX6_feed 21 = .ok (.iload_n 1, 1) := dk_27 (dk_at dksX6_feed_0 21 rfl rfl)
theorem dX6_feed_22 : decode cX6_feed 22 = .ok (.invokevirtual 134, 3) := dk_182 0 134 (dk_at dksX6_feed_1 0 rfl rfl)
theorem dX6_feed_25 : decode cX6_feed 25 = .ok (.aload_n 0, 1) := dk_42 (dk_at dksX6_feed_1 3 rfl rfl)
theorem dX6_feed_26 : decode cX6_feed 26 = .ok (.iload_n 2, 1) := dk_28 (dk_at dksX6_feed_1 4 rfl rfl)
theorem dX6_feed_27 : decode cX6_feed 27 = .ok (.invokevirtual 134, 3) := dk_182 0 134 (dk_at dksX6_feed_1 5 rfl rfl)
theorem dX6_feed_30 : decode cX6_feed 30 = .ok (.aload_n 0, 1) := dk_42 (dk_at dksX6_feed_1 8 rfl rfl)
theorem dX6_feed_31 : decode cX6_feed 31 = .ok (.iload_n 3, 1) := dk_29 (dk_at dksX6_feed_1 9 rfl rfl)
theorem dX6_feed_32 : decode cX6_feed 32 = .ok (.invokevirtual 134, 3) := dk_182 0 134 (dk_at dksX6_feed_1 10 rfl rfl)
theorem dX6_feed_35 : decode cX6_feed 35 = .ok (.aload_n 0, 1) := dk_42 (dk_at dksX6_feed_1 13 rfl rfl)
theorem dX6_feed_36 : decode cX6_feed 36 = .ok (.iload 4, 2) := dk_21 4 (dk_at dksX6_feed_1 14 rfl rfl)
theorem dX6_feed_38 : decode cX6_feed 38 = .ok (.invokevirtual 134, 3) := dk_182 0 134 (dk_at dksX6_feed_1 16 rfl rfl)
theorem dX6_feed_41 : decode cX6_feed 41 = .ok (.aload_n 0, 1) := dk_42 (dk_at dksX6_feed_1 19 rfl rfl)
theorem dX6_feed_42 : decode cX6_feed 42 = .ok (.iload 5, 2) := dk_21 5 (dk_at dksX6_feed_1 20 rfl rfl)
theorem dX6_feed_44 : decode cX6_feed 44 = .ok (.invokevirtual 134, 3) := dk_182 0 134 (dk_at dksX6_feed_2 0 rfl rfl)
theorem dX6_feed_47 : decode cX6_feed 47 = .ok (.aload_n 0, 1) := dk_42 (dk_at dksX6_feed_2 3 rfl rfl)
theorem dX6_feed_48 : decode cX6_feed 48 = .ok (.getfield 131, 3) := dk_180 0 131 (dk_at dksX6_feed_2 4 rfl rfl)
theorem dX6_feed_51 : decode cX6_feed 51 = .ok (.ireturn, 1) := dk_172 (dk_at dksX6_feed_2 7 rfl rfl)
abbrev cX6_four : ByteArray := prog_20_method_10_code
def yX6_four : MethodName := ⟨RX6, "four", "(I)V"⟩
def dkwX6_four_1 : List UInt8 := [180, 0, 131, 4, 96, 181, 0, 131, 132, 2, 248, 167, 255, 226, 177]
abbrev dktX6_four_1 : List UInt8 := dkwX6_four_1 ++ []
def dkwX6_four_0 : List UInt8 := [16, 24, 61, 28, 155, 0, 32, 42, 180, 0, 23, 42, 180, 0, 131, 27, 28, 122, 145, 84, 42, 89]
abbrev dktX6_four_0 : List UInt8 := dkwX6_four_0 ++ dktX6_four_1
theorem dksX6_four_0 : cX6_four.data.toList.drop 0 = dktX6_four_0 := by decide +kernel
theorem dksX6_four_1 : cX6_four.data.toList.drop 22 = dktX6_four_1 := dk_seg dksX6_four_0 22 rfl rfl
theorem dX6_four_0 : decode cX6_four 0 = .ok (.bipush 24, 2) := dk_16 24 (dk_at dksX6_four_0 0 rfl rfl)
theorem dX6_four_2 : decode cX6_four 2 = .ok (.istore_n 2, 1) := dk_61 (dk_at dksX6_four_0 2 rfl rfl)
theorem dX6_four_3 : decode cX6_four 3 = .ok (.iload_n 2, 1) := dk_28 (dk_at dksX6_four_0 3 rfl rfl)
theorem dX6_four_4 : decode cX6_four 4 = .ok (.ifCond .lt 32, 3) := dk_155 0 32 (dk_at dksX6_four_0 4 rfl rfl)
theorem dX6_four_7 : decode cX6_four 7 = .ok (.aload_n 0, 1) := dk_42 (dk_at dksX6_four_0 7 rfl rfl)
theorem dX6_four_8 : decode cX6_four 8 = .ok (.getfield 23, 3) := dk_180 0 23 (dk_at dksX6_four_0 8 rfl rfl)
theorem dX6_four_11 : decode cX6_four 11 = .ok (.aload_n 0, 1) := dk_42 (dk_at dksX6_four_0 11 rfl rfl)
theorem dX6_four_12 : decode cX6_four 12 = .ok (.getfield 131, 3) := dk_180 0 131 (dk_at dksX6_four_0 12 rfl rfl)
theorem dX6_four_15 : decode cX6_four 15 = .ok (.iload_n 1, 1) := dk_27 (dk_at dksX6_four_0 15 rfl rfl)
theorem dX6_four_16 : decode cX6_four 16 = .ok (.iload_n 2, 1) := dk_28 (dk_at dksX6_four_0 16 rfl rfl)
theorem dX6_four_17 : decode cX6_four 17 = .ok (.ishr, 1) := dk_122 (dk_at dksX6_four_0 17 rfl rfl)
theorem dX6_four_18 : decode cX6_four 18 = .ok (.i2b, 1) := dk_145 (dk_at dksX6_four_0 18 rfl rfl)
theorem dX6_four_19 : decode cX6_four 19 = .ok (.bastore, 1) := dk_84 (dk_at dksX6_four_0 19 rfl rfl)
theorem dX6_four_20 : decode cX6_four 20 = .ok (.aload_n 0, 1) := dk_42 (dk_at dksX6_four_0 20 rfl rfl)
theorem dX6_four_21 : decode cX6_four 21 = .ok (.dup, 1) := dk_89 (dk_at dksX6_four_0 21 rfl rfl)
theorem dX6_four_22 : decode cX6_four 22 = .ok (.getfield 131, 3) := dk_180 0 131 (dk_at dksX6_four_1 0 rfl rfl)
theorem dX6_four_25 : decode cX6_four 25 = .ok (.iconst 1, 1) := dk_4 (dk_at dksX6_four_1 3 rfl rfl)
theorem dX6_four_26 : decode cX6_four 26 = .ok (.iadd, 1) := dk_96 (dk_at dksX6_four_1 4 rfl rfl)
theorem dX6_four_27 : decode cX6_four 27 = .ok (.putfield 131, 3) := dk_181 0 131 (dk_at dksX6_four_1 5 rfl rfl)
theorem dX6_four_30 : decode cX6_four 30 = .ok (.iinc 2 (-8), 3) := dk_132 2 248 (dk_at dksX6_four_1 8 rfl rfl)
theorem dX6_four_33 : decode cX6_four 33 = .ok (.goto (-30), 3) := dk_167 255 226 (dk_at dksX6_four_1 11 rfl rfl)
theorem dX6_four_36 : decode cX6_four 36 = .ok (.return_, 1) := dk_177 (dk_at dksX6_four_1 14 rfl rfl)
abbrev cX6_end : ByteArray := prog_20_method_11_code
def yX6_end : MethodName := ⟨RX6, "end", "(I)I"⟩
def dkwX6_end_1 : List UInt8 := [181, 0, 131, 27, 172]
abbrev dktX6_end_1 : List UInt8 := dkwX6_end_1 ++ []
def dkwX6_end_0 : List UInt8 := [42, 3, 181, 0, 114, 27, 133, 9, 42, 180, 0, 131, 133, 184, 0, 119, 154, 0, 5, 2, 172, 42, 27]
abbrev dktX6_end_0 : List UInt8 := dkwX6_end_0 ++ dktX6_end_1
theorem dksX6_end_0 : cX6_end.data.toList.drop 0 = dktX6_end_0 := by decide +kernel
theorem dksX6_end_1 : cX6_end.data.toList.drop 23 = dktX6_end_1 := dk_seg dksX6_end_0 23 rfl rfl
theorem dX6_end_0 : decode cX6_end 0 = .ok (.aload_n 0, 1) := dk_42 (dk_at dksX6_end_0 0 rfl rfl)
theorem dX6_end_1 : decode cX6_end 1 = .ok (.iconst 0, 1) := dk_3 (dk_at dksX6_end_0 1 rfl rfl)
theorem dX6_end_2 : decode cX6_end 2 = .ok (.putfield 114, 3) := dk_181 0 114 (dk_at dksX6_end_0 2 rfl rfl)
theorem dX6_end_5 : decode cX6_end 5 = .ok (.iload_n 1, 1) := dk_27 (dk_at dksX6_end_0 5 rfl rfl)
theorem dX6_end_6 : decode cX6_end 6 = .ok (.i2l, 1) := dk_133 (dk_at dksX6_end_0 6 rfl rfl)
theorem dX6_end_7 : decode cX6_end 7 = .ok (.lconst 0, 1) := dk_9 (dk_at dksX6_end_0 7 rfl rfl)
theorem dX6_end_8 : decode cX6_end 8 = .ok (.aload_n 0, 1) := dk_42 (dk_at dksX6_end_0 8 rfl rfl)
theorem dX6_end_9 : decode cX6_end 9 = .ok (.getfield 131, 3) := dk_180 0 131 (dk_at dksX6_end_0 9 rfl rfl)
theorem dX6_end_12 : decode cX6_end 12 = .ok (.i2l, 1) := dk_133 (dk_at dksX6_end_0 12 rfl rfl)
theorem dX6_end_13 : decode cX6_end 13 = .ok (.invokestatic 119, 3) := dk_184 0 119 (dk_at dksX6_end_0 13 rfl rfl)
theorem dX6_end_16 : decode cX6_end 16 = .ok (.ifCond .ne 5, 3) := dk_154 0 5 (dk_at dksX6_end_0 16 rfl rfl)
theorem dX6_end_19 : decode cX6_end 19 = .ok (.iconst (-1), 1) := dk_2 (dk_at dksX6_end_0 19 rfl rfl)
theorem dX6_end_20 : decode cX6_end 20 = .ok (.ireturn, 1) := dk_172 (dk_at dksX6_end_0 20 rfl rfl)
theorem dX6_end_21 : decode cX6_end 21 = .ok (.aload_n 0, 1) := dk_42 (dk_at dksX6_end_0 21 rfl rfl)
theorem dX6_end_22 : decode cX6_end 22 = .ok (.iload_n 1, 1) := dk_27 (dk_at dksX6_end_0 22 rfl rfl)
theorem dX6_end_23 : decode cX6_end 23 = .ok (.putfield 131, 3) := dk_181 0 131 (dk_at dksX6_end_1 0 rfl rfl)
theorem dX6_end_26 : decode cX6_end 26 = .ok (.iload_n 1, 1) := dk_27 (dk_at dksX6_end_1 3 rfl rfl)
theorem dX6_end_27 : decode cX6_end 27 = .ok (.ireturn, 1) := dk_172 (dk_at dksX6_end_1 4 rfl rfl)
abbrev cX6_fault : ByteArray := prog_20_method_24_code
def yX6_fault : MethodName := ⟨RX6, "fault", "(I)I"⟩
def dkwX6_fault_1 : List UInt8 := [180, 0, 27, 167, 0, 4, 2, 172]
abbrev dktX6_fault_1 : List UInt8 := dkwX6_fault_1 ++ []
def dkwX6_fault_0 : List UInt8 := [42, 3, 181, 0, 114, 27, 154, 0, 10, 42, 180, 0, 193, 167, 0, 16, 27, 4, 160, 0, 10, 42]
abbrev dktX6_fault_0 : List UInt8 := dkwX6_fault_0 ++ dktX6_fault_1
theorem dksX6_fault_0 : cX6_fault.data.toList.drop 0 = dktX6_fault_0 := by decide +kernel
theorem dksX6_fault_1 : cX6_fault.data.toList.drop 22 = dktX6_fault_1 := dk_seg dksX6_fault_0 22 rfl rfl
theorem dX6_fault_0 : decode cX6_fault 0 = .ok (.aload_n 0, 1) := dk_42 (dk_at dksX6_fault_0 0 rfl rfl)
theorem dX6_fault_1 : decode cX6_fault 1 = .ok (.iconst 0, 1) := dk_3 (dk_at dksX6_fault_0 1 rfl rfl)
theorem dX6_fault_2 : decode cX6_fault 2 = .ok (.putfield 114, 3) := dk_181 0 114 (dk_at dksX6_fault_0 2 rfl rfl)
theorem dX6_fault_5 : decode cX6_fault 5 = .ok (.iload_n 1, 1) := dk_27 (dk_at dksX6_fault_0 5 rfl rfl)
theorem dX6_fault_6 : decode cX6_fault 6 = .ok (.ifCond .ne 10, 3) := dk_154 0 10 (dk_at dksX6_fault_0 6 rfl rfl)
theorem dX6_fault_9 : decode cX6_fault 9 = .ok (.aload_n 0, 1) := dk_42 (dk_at dksX6_fault_0 9 rfl rfl)
theorem dX6_fault_10 : decode cX6_fault 10 = .ok (.getfield 193, 3) := dk_180 0 193 (dk_at dksX6_fault_0 10 rfl rfl)
theorem dX6_fault_13 : decode cX6_fault 13 = .ok (.goto 16, 3) := dk_167 0 16 (dk_at dksX6_fault_0 13 rfl rfl)
theorem dX6_fault_16 : decode cX6_fault 16 = .ok (.iload_n 1, 1) := dk_27 (dk_at dksX6_fault_0 16 rfl rfl)
theorem dX6_fault_17 : decode cX6_fault 17 = .ok (.iconst 1, 1) := dk_4 (dk_at dksX6_fault_0 17 rfl rfl)
theorem dX6_fault_18 : decode cX6_fault 18 = .ok (.if_icmp .ne 10, 3) := dk_160 0 10 (dk_at dksX6_fault_0 18 rfl rfl)
theorem dX6_fault_21 : decode cX6_fault 21 = .ok (.aload_n 0, 1) := dk_42 (dk_at dksX6_fault_0 21 rfl rfl)
theorem dX6_fault_22 : decode cX6_fault 22 = .ok (.getfield 27, 3) := dk_180 0 27 (dk_at dksX6_fault_1 0 rfl rfl)
theorem dX6_fault_25 : decode cX6_fault 25 = .ok (.goto 4, 3) := dk_167 0 4 (dk_at dksX6_fault_1 3 rfl rfl)
theorem dX6_fault_28 : decode cX6_fault 28 = .ok (.iconst (-1), 1) := dk_2 (dk_at dksX6_fault_1 6 rfl rfl)
theorem dX6_fault_29 : decode cX6_fault 29 = .ok (.ireturn, 1) := dk_172 (dk_at dksX6_fault_1 7 rfl rfl)
abbrev cX6_rail : ByteArray := prog_20_method_34_code
def yX6_rail : MethodName := ⟨RX6, "rail", "()I"⟩
def dkwX6_rail_4 : List UInt8 := [46, 172]
abbrev dktX6_rail_4 : List UInt8 := dkwX6_rail_4 ++ []
def dkwX6_rail_3 : List UInt8 := [182, 1, 32, 42, 180, 0, 166, 153, 0, 6, 16, 252, 172, 42, 7, 3, 182, 1, 35, 42, 180, 0, 31, 3]
abbrev dktX6_rail_3 : List UInt8 := dkwX6_rail_3 ++ dktX6_rail_4
def dkwX6_rail_2 : List UInt8 := [182, 1, 19, 153, 0, 7, 42, 182, 1, 29, 42, 180, 0, 31, 7, 92, 46, 4, 96, 79, 167, 255, 201, 42]
abbrev dktX6_rail_2 : List UInt8 := dkwX6_rail_2 ++ dktX6_rail_3
def dkwX6_rail_1 : List UInt8 := [153, 0, 47, 42, 180, 0, 31, 7, 46, 154, 0, 10, 42, 182, 1, 23, 167, 0, 7, 42, 182, 1, 26, 42]
abbrev dktX6_rail_1 : List UInt8 := dkwX6_rail_1 ++ dktX6_rail_2
def dkwX6_rail_0 : List UInt8 := [42, 3, 181, 0, 114, 42, 182, 1, 13, 42, 182, 1, 16, 42, 182, 1, 19, 153, 0, 54, 42, 180, 0, 155]
abbrev dktX6_rail_0 : List UInt8 := dkwX6_rail_0 ++ dktX6_rail_1
theorem dksX6_rail_0 : cX6_rail.data.toList.drop 0 = dktX6_rail_0 := by decide +kernel
theorem dksX6_rail_1 : cX6_rail.data.toList.drop 24 = dktX6_rail_1 := dk_seg dksX6_rail_0 24 rfl rfl
theorem dksX6_rail_2 : cX6_rail.data.toList.drop 48 = dktX6_rail_2 := dk_seg dksX6_rail_1 24 rfl rfl
theorem dksX6_rail_3 : cX6_rail.data.toList.drop 72 = dktX6_rail_3 := dk_seg dksX6_rail_2 24 rfl rfl
theorem dksX6_rail_4 : cX6_rail.data.toList.drop 96 = dktX6_rail_4 := dk_seg dksX6_rail_3 24 rfl rfl
theorem dX6_rail_0 : decode cX6_rail 0 = .ok (.aload_n 0, 1) := dk_42 (dk_at dksX6_rail_0 0 rfl rfl)
theorem dX6_rail_1 : decode cX6_rail 1 = .ok (.iconst 0, 1) := dk_3 (dk_at dksX6_rail_0 1 rfl rfl)
theorem dX6_rail_2 : decode cX6_rail 2 = .ok (.putfield 114, 3) := dk_181 0 114 (dk_at dksX6_rail_0 2 rfl rfl)
theorem dX6_rail_5 : decode cX6_rail 5 = .ok (.aload_n 0, 1) := dk_42 (dk_at dksX6_rail_0 5 rfl rfl)
theorem dX6_rail_6 : decode cX6_rail 6 = .ok (.invokevirtual 269, 3) := dk_182 1 13 (dk_at dksX6_rail_0 6 rfl rfl)
theorem dX6_rail_9 : decode cX6_rail 9 = .ok (.aload_n 0, 1) := dk_42 (dk_at dksX6_rail_0 9 rfl rfl)
theorem dX6_rail_10 : decode cX6_rail 10 = .ok (.invokevirtual 272, 3) := dk_182 1 16 (dk_at dksX6_rail_0 10 rfl rfl)
theorem dX6_rail_13 : decode cX6_rail 13 = .ok (.aload_n 0, 1) := dk_42 (dk_at dksX6_rail_0 13 rfl rfl)
theorem dX6_rail_14 : decode cX6_rail 14 = .ok (.invokevirtual 275, 3) := dk_182 1 19 (dk_at dksX6_rail_0 14 rfl rfl)
theorem dX6_rail_17 : decode cX6_rail 17 = .ok (.ifCond .eq 54, 3) := dk_153 0 54 (dk_at dksX6_rail_0 17 rfl rfl)
theorem dX6_rail_20 : decode cX6_rail 20 = .ok (.aload_n 0, 1) := dk_42 (dk_at dksX6_rail_0 20 rfl rfl)
theorem dX6_rail_21 : decode cX6_rail 21 = .ok (.getfield 155, 3) := dk_180 0 155 (dk_at dksX6_rail_0 21 rfl rfl)
theorem dX6_rail_24 : decode cX6_rail 24 = .ok (.ifCond .eq 47, 3) := dk_153 0 47 (dk_at dksX6_rail_1 0 rfl rfl)
theorem dX6_rail_27 : decode cX6_rail 27 = .ok (.aload_n 0, 1) := dk_42 (dk_at dksX6_rail_1 3 rfl rfl)
theorem dX6_rail_28 : decode cX6_rail 28 = .ok (.getfield 31, 3) := dk_180 0 31 (dk_at dksX6_rail_1 4 rfl rfl)
theorem dX6_rail_31 : decode cX6_rail 31 = .ok (.iconst 4, 1) := dk_7 (dk_at dksX6_rail_1 7 rfl rfl)
theorem dX6_rail_32 : decode cX6_rail 32 = .ok (.iaload, 1) := dk_46 (dk_at dksX6_rail_1 8 rfl rfl)
theorem dX6_rail_33 : decode cX6_rail 33 = .ok (.ifCond .ne 10, 3) := dk_154 0 10 (dk_at dksX6_rail_1 9 rfl rfl)
theorem dX6_rail_36 : decode cX6_rail 36 = .ok (.aload_n 0, 1) := dk_42 (dk_at dksX6_rail_1 12 rfl rfl)
theorem dX6_rail_37 : decode cX6_rail 37 = .ok (.invokevirtual 279, 3) := dk_182 1 23 (dk_at dksX6_rail_1 13 rfl rfl)
theorem dX6_rail_40 : decode cX6_rail 40 = .ok (.goto 7, 3) := dk_167 0 7 (dk_at dksX6_rail_1 16 rfl rfl)
theorem dX6_rail_43 : decode cX6_rail 43 = .ok (.aload_n 0, 1) := dk_42 (dk_at dksX6_rail_1 19 rfl rfl)
theorem dX6_rail_44 : decode cX6_rail 44 = .ok (.invokevirtual 282, 3) := dk_182 1 26 (dk_at dksX6_rail_1 20 rfl rfl)
theorem dX6_rail_47 : decode cX6_rail 47 = .ok (.aload_n 0, 1) := dk_42 (dk_at dksX6_rail_1 23 rfl rfl)
theorem dX6_rail_48 : decode cX6_rail 48 = .ok (.invokevirtual 275, 3) := dk_182 1 19 (dk_at dksX6_rail_2 0 rfl rfl)
theorem dX6_rail_51 : decode cX6_rail 51 = .ok (.ifCond .eq 7, 3) := dk_153 0 7 (dk_at dksX6_rail_2 3 rfl rfl)
theorem dX6_rail_54 : decode cX6_rail 54 = .ok (.aload_n 0, 1) := dk_42 (dk_at dksX6_rail_2 6 rfl rfl)
theorem dX6_rail_55 : decode cX6_rail 55 = .ok (.invokevirtual 285, 3) := dk_182 1 29 (dk_at dksX6_rail_2 7 rfl rfl)
theorem dX6_rail_58 : decode cX6_rail 58 = .ok (.aload_n 0, 1) := dk_42 (dk_at dksX6_rail_2 10 rfl rfl)
theorem dX6_rail_59 : decode cX6_rail 59 = .ok (.getfield 31, 3) := dk_180 0 31 (dk_at dksX6_rail_2 11 rfl rfl)
theorem dX6_rail_62 : decode cX6_rail 62 = .ok (.iconst 4, 1) := dk_7 (dk_at dksX6_rail_2 14 rfl rfl)
theorem dX6_rail_63 : decode cX6_rail 63 = .ok (.dup2, 1) := dk_92 (dk_at dksX6_rail_2 15 rfl rfl)
theorem dX6_rail_64 : decode cX6_rail 64 = .ok (.iaload, 1) := dk_46 (dk_at dksX6_rail_2 16 rfl rfl)
theorem dX6_rail_65 : decode cX6_rail 65 = .ok (.iconst 1, 1) := dk_4 (dk_at dksX6_rail_2 17 rfl rfl)
theorem dX6_rail_66 : decode cX6_rail 66 = .ok (.iadd, 1) := dk_96 (dk_at dksX6_rail_2 18 rfl rfl)
theorem dX6_rail_67 : decode cX6_rail 67 = .ok (.iastore, 1) := dk_79 (dk_at dksX6_rail_2 19 rfl rfl)
theorem dX6_rail_68 : decode cX6_rail 68 = .ok (.goto (-55), 3) := dk_167 255 201 (dk_at dksX6_rail_2 20 rfl rfl)
theorem dX6_rail_71 : decode cX6_rail 71 = .ok (.aload_n 0, 1) := dk_42 (dk_at dksX6_rail_2 23 rfl rfl)
theorem dX6_rail_72 : decode cX6_rail 72 = .ok (.invokevirtual 288, 3) := dk_182 1 32 (dk_at dksX6_rail_3 0 rfl rfl)
theorem dX6_rail_75 : decode cX6_rail 75 = .ok (.aload_n 0, 1) := dk_42 (dk_at dksX6_rail_3 3 rfl rfl)
theorem dX6_rail_76 : decode cX6_rail 76 = .ok (.getfield 166, 3) := dk_180 0 166 (dk_at dksX6_rail_3 4 rfl rfl)
theorem dX6_rail_79 : decode cX6_rail 79 = .ok (.ifCond .eq 6, 3) := dk_153 0 6 (dk_at dksX6_rail_3 7 rfl rfl)
theorem dX6_rail_82 : decode cX6_rail 82 = .ok (.bipush (-4), 2) := dk_16 252 (dk_at dksX6_rail_3 10 rfl rfl)
theorem dX6_rail_84 : decode cX6_rail 84 = .ok (.ireturn, 1) := dk_172 (dk_at dksX6_rail_3 12 rfl rfl)
theorem dX6_rail_85 : decode cX6_rail 85 = .ok (.aload_n 0, 1) := dk_42 (dk_at dksX6_rail_3 13 rfl rfl)
theorem dX6_rail_86 : decode cX6_rail 86 = .ok (.iconst 4, 1) := dk_7 (dk_at dksX6_rail_3 14 rfl rfl)
theorem dX6_rail_87 : decode cX6_rail 87 = .ok (.iconst 0, 1) := dk_3 (dk_at dksX6_rail_3 15 rfl rfl)
theorem dX6_rail_88 : decode cX6_rail 88 = .ok (.invokevirtual 291, 3) := dk_182 1 35 (dk_at dksX6_rail_3 16 rfl rfl)
theorem dX6_rail_91 : decode cX6_rail 91 = .ok (.aload_n 0, 1) := dk_42 (dk_at dksX6_rail_3 19 rfl rfl)
theorem dX6_rail_92 : decode cX6_rail 92 = .ok (.getfield 31, 3) := dk_180 0 31 (dk_at dksX6_rail_3 20 rfl rfl)
theorem dX6_rail_95 : decode cX6_rail 95 = .ok (.iconst 0, 1) := dk_3 (dk_at dksX6_rail_3 23 rfl rfl)
theorem dX6_rail_96 : decode cX6_rail 96 = .ok (.iaload, 1) := dk_46 (dk_at dksX6_rail_4 0 rfl rfl)
theorem dX6_rail_97 : decode cX6_rail 97 = .ok (.ireturn, 1) := dk_172 (dk_at dksX6_rail_4 1 rfl rfl)
abbrev cX6_clears : ByteArray := prog_20_method_33_code
def yX6_clears : MethodName := ⟨RX6, "clears", "()V"⟩
def dkwX6_clears_5 : List UInt8 := [167, 255, 237, 177]
abbrev dktX6_clears_5 : List UInt8 := dkwX6_clears_5 ++ []
def dkwX6_clears_4 : List UInt8 := [167, 255, 238, 3, 60, 27, 16, 17, 162, 0, 19, 42, 180, 0, 71, 16, 68, 27, 96, 3, 79, 132, 1, 1]
abbrev dktX6_clears_4 : List UInt8 := dkwX6_clears_4 ++ dktX6_clears_5
def dkwX6_clears_3 : List UInt8 := [167, 255, 237, 3, 60, 27, 5, 162, 0, 19, 42, 180, 0, 67, 16, 8, 27, 96, 3, 84, 132, 1, 1]
abbrev dktX6_clears_3 : List UInt8 := dkwX6_clears_3 ++ dktX6_clears_4
def dkwX6_clears_2 : List UInt8 := [7, 3, 79, 3, 60, 27, 16, 7, 162, 0, 19, 42, 180, 0, 64, 16, 28, 27, 96, 3, 79, 132, 1, 1]
abbrev dktX6_clears_2 : List UInt8 := dkwX6_clears_2 ++ dktX6_clears_3
def dkwX6_clears_1 : List UInt8 := [180, 0, 40, 7, 3, 79, 42, 180, 0, 46, 7, 3, 79, 42, 180, 0, 52, 7, 3, 79, 42, 180, 0, 58]
abbrev dktX6_clears_1 : List UInt8 := dkwX6_clears_1 ++ dktX6_clears_2
def dkwX6_clears_0 : List UInt8 := [42, 180, 0, 31, 7, 3, 79, 42, 180, 0, 34, 7, 3, 79, 42, 180, 0, 37, 7, 3, 79, 42]
abbrev dktX6_clears_0 : List UInt8 := dkwX6_clears_0 ++ dktX6_clears_1
theorem dksX6_clears_0 : cX6_clears.data.toList.drop 0 = dktX6_clears_0 := by decide +kernel
theorem dksX6_clears_1 : cX6_clears.data.toList.drop 22 = dktX6_clears_1 := dk_seg dksX6_clears_0 22 rfl rfl
theorem dksX6_clears_2 : cX6_clears.data.toList.drop 46 = dktX6_clears_2 := dk_seg dksX6_clears_1 24 rfl rfl
theorem dksX6_clears_3 : cX6_clears.data.toList.drop 70 = dktX6_clears_3 := dk_seg dksX6_clears_2 24 rfl rfl
theorem dksX6_clears_4 : cX6_clears.data.toList.drop 93 = dktX6_clears_4 := dk_seg dksX6_clears_3 23 rfl rfl
theorem dksX6_clears_5 : cX6_clears.data.toList.drop 117 = dktX6_clears_5 := dk_seg dksX6_clears_4 24 rfl rfl
theorem dX6_clears_0 : decode cX6_clears 0 = .ok (.aload_n 0, 1) := dk_42 (dk_at dksX6_clears_0 0 rfl rfl)
theorem dX6_clears_1 : decode cX6_clears 1 = .ok (.getfield 31, 3) := dk_180 0 31 (dk_at dksX6_clears_0 1 rfl rfl)
theorem dX6_clears_4 : decode cX6_clears 4 = .ok (.iconst 4, 1) := dk_7 (dk_at dksX6_clears_0 4 rfl rfl)
theorem dX6_clears_5 : decode cX6_clears 5 = .ok (.iconst 0, 1) := dk_3 (dk_at dksX6_clears_0 5 rfl rfl)
theorem dX6_clears_6 : decode cX6_clears 6 = .ok (.iastore, 1) := dk_79 (dk_at dksX6_clears_0 6 rfl rfl)
theorem dX6_clears_7 : decode cX6_clears 7 = .ok (.aload_n 0, 1) := dk_42 (dk_at dksX6_clears_0 7 rfl rfl)
theorem dX6_clears_8 : decode cX6_clears 8 = .ok (.getfield 34, 3) := dk_180 0 34 (dk_at dksX6_clears_0 8 rfl rfl)
theorem dX6_clears_11 : decode cX6_clears 11 = .ok (.iconst 4, 1) := dk_7 (dk_at dksX6_clears_0 11 rfl rfl)
theorem dX6_clears_12 : decode cX6_clears 12 = .ok (.iconst 0, 1) := dk_3 (dk_at dksX6_clears_0 12 rfl rfl)
theorem dX6_clears_13 : decode cX6_clears 13 = .ok (.iastore, 1) := dk_79 (dk_at dksX6_clears_0 13 rfl rfl)
theorem dX6_clears_14 : decode cX6_clears 14 = .ok (.aload_n 0, 1) := dk_42 (dk_at dksX6_clears_0 14 rfl rfl)
theorem dX6_clears_15 : decode cX6_clears 15 = .ok (.getfield 37, 3) := dk_180 0 37 (dk_at dksX6_clears_0 15 rfl rfl)
theorem dX6_clears_18 : decode cX6_clears 18 = .ok (.iconst 4, 1) := dk_7 (dk_at dksX6_clears_0 18 rfl rfl)
theorem dX6_clears_19 : decode cX6_clears 19 = .ok (.iconst 0, 1) := dk_3 (dk_at dksX6_clears_0 19 rfl rfl)
theorem dX6_clears_20 : decode cX6_clears 20 = .ok (.iastore, 1) := dk_79 (dk_at dksX6_clears_0 20 rfl rfl)
theorem dX6_clears_21 : decode cX6_clears 21 = .ok (.aload_n 0, 1) := dk_42 (dk_at dksX6_clears_0 21 rfl rfl)
theorem dX6_clears_22 : decode cX6_clears 22 = .ok (.getfield 40, 3) := dk_180 0 40 (dk_at dksX6_clears_1 0 rfl rfl)
theorem dX6_clears_25 : decode cX6_clears 25 = .ok (.iconst 4, 1) := dk_7 (dk_at dksX6_clears_1 3 rfl rfl)
theorem dX6_clears_26 : decode cX6_clears 26 = .ok (.iconst 0, 1) := dk_3 (dk_at dksX6_clears_1 4 rfl rfl)
theorem dX6_clears_27 : decode cX6_clears 27 = .ok (.iastore, 1) := dk_79 (dk_at dksX6_clears_1 5 rfl rfl)
theorem dX6_clears_28 : decode cX6_clears 28 = .ok (.aload_n 0, 1) := dk_42 (dk_at dksX6_clears_1 6 rfl rfl)
theorem dX6_clears_29 : decode cX6_clears 29 = .ok (.getfield 46, 3) := dk_180 0 46 (dk_at dksX6_clears_1 7 rfl rfl)
theorem dX6_clears_32 : decode cX6_clears 32 = .ok (.iconst 4, 1) := dk_7 (dk_at dksX6_clears_1 10 rfl rfl)
theorem dX6_clears_33 : decode cX6_clears 33 = .ok (.iconst 0, 1) := dk_3 (dk_at dksX6_clears_1 11 rfl rfl)
theorem dX6_clears_34 : decode cX6_clears 34 = .ok (.iastore, 1) := dk_79 (dk_at dksX6_clears_1 12 rfl rfl)
theorem dX6_clears_35 : decode cX6_clears 35 = .ok (.aload_n 0, 1) := dk_42 (dk_at dksX6_clears_1 13 rfl rfl)
theorem dX6_clears_36 : decode cX6_clears 36 = .ok (.getfield 52, 3) := dk_180 0 52 (dk_at dksX6_clears_1 14 rfl rfl)
theorem dX6_clears_39 : decode cX6_clears 39 = .ok (.iconst 4, 1) := dk_7 (dk_at dksX6_clears_1 17 rfl rfl)
theorem dX6_clears_40 : decode cX6_clears 40 = .ok (.iconst 0, 1) := dk_3 (dk_at dksX6_clears_1 18 rfl rfl)
theorem dX6_clears_41 : decode cX6_clears 41 = .ok (.iastore, 1) := dk_79 (dk_at dksX6_clears_1 19 rfl rfl)
theorem dX6_clears_42 : decode cX6_clears 42 = .ok (.aload_n 0, 1) := dk_42 (dk_at dksX6_clears_1 20 rfl rfl)
theorem dX6_clears_43 : decode cX6_clears 43 = .ok (.getfield 58, 3) := dk_180 0 58 (dk_at dksX6_clears_1 21 rfl rfl)
theorem dX6_clears_46 : decode cX6_clears 46 = .ok (.iconst 4, 1) := dk_7 (dk_at dksX6_clears_2 0 rfl rfl)
theorem dX6_clears_47 : decode cX6_clears 47 = .ok (.iconst 0, 1) := dk_3 (dk_at dksX6_clears_2 1 rfl rfl)
theorem dX6_clears_48 : decode cX6_clears 48 = .ok (.iastore, 1) := dk_79 (dk_at dksX6_clears_2 2 rfl rfl)
theorem dX6_clears_49 : decode cX6_clears 49 = .ok (.iconst 0, 1) := dk_3 (dk_at dksX6_clears_2 3 rfl rfl)
theorem dX6_clears_50 : decode cX6_clears 50 = .ok (.istore_n 1, 1) := dk_60 (dk_at dksX6_clears_2 4 rfl rfl)
theorem dX6_clears_51 : decode cX6_clears 51 = .ok (.iload_n 1, 1) := dk_27 (dk_at dksX6_clears_2 5 rfl rfl)
theorem dX6_clears_52 : decode cX6_clears 52 = .ok (.bipush 7, 2) := dk_16 7 (dk_at dksX6_clears_2 6 rfl rfl)
theorem dX6_clears_54 : decode cX6_clears 54 = .ok (.if_icmp .ge 19, 3) := dk_162 0 19 (dk_at dksX6_clears_2 8 rfl rfl)
theorem dX6_clears_57 : decode cX6_clears 57 = .ok (.aload_n 0, 1) := dk_42 (dk_at dksX6_clears_2 11 rfl rfl)
theorem dX6_clears_58 : decode cX6_clears 58 = .ok (.getfield 64, 3) := dk_180 0 64 (dk_at dksX6_clears_2 12 rfl rfl)
theorem dX6_clears_61 : decode cX6_clears 61 = .ok (.bipush 28, 2) := dk_16 28 (dk_at dksX6_clears_2 15 rfl rfl)
theorem dX6_clears_63 : decode cX6_clears 63 = .ok (.iload_n 1, 1) := dk_27 (dk_at dksX6_clears_2 17 rfl rfl)
theorem dX6_clears_64 : decode cX6_clears 64 = .ok (.iadd, 1) := dk_96 (dk_at dksX6_clears_2 18 rfl rfl)
theorem dX6_clears_65 : decode cX6_clears 65 = .ok (.iconst 0, 1) := dk_3 (dk_at dksX6_clears_2 19 rfl rfl)
theorem dX6_clears_66 : decode cX6_clears 66 = .ok (.iastore, 1) := dk_79 (dk_at dksX6_clears_2 20 rfl rfl)
theorem dX6_clears_67 : decode cX6_clears 67 = .ok (.iinc 1 1, 3) := dk_132 1 1 (dk_at dksX6_clears_2 21 rfl rfl)
theorem dX6_clears_70 : decode cX6_clears 70 = .ok (.goto (-19), 3) := dk_167 255 237 (dk_at dksX6_clears_3 0 rfl rfl)
theorem dX6_clears_73 : decode cX6_clears 73 = .ok (.iconst 0, 1) := dk_3 (dk_at dksX6_clears_3 3 rfl rfl)
theorem dX6_clears_74 : decode cX6_clears 74 = .ok (.istore_n 1, 1) := dk_60 (dk_at dksX6_clears_3 4 rfl rfl)
theorem dX6_clears_75 : decode cX6_clears 75 = .ok (.iload_n 1, 1) := dk_27 (dk_at dksX6_clears_3 5 rfl rfl)
theorem dX6_clears_76 : decode cX6_clears 76 = .ok (.iconst 2, 1) := dk_5 (dk_at dksX6_clears_3 6 rfl rfl)
theorem dX6_clears_77 : decode cX6_clears 77 = .ok (.if_icmp .ge 19, 3) := dk_162 0 19 (dk_at dksX6_clears_3 7 rfl rfl)
theorem dX6_clears_80 : decode cX6_clears 80 = .ok (.aload_n 0, 1) := dk_42 (dk_at dksX6_clears_3 10 rfl rfl)
theorem dX6_clears_81 : decode cX6_clears 81 = .ok (.getfield 67, 3) := dk_180 0 67 (dk_at dksX6_clears_3 11 rfl rfl)
theorem dX6_clears_84 : decode cX6_clears 84 = .ok (.bipush 8, 2) := dk_16 8 (dk_at dksX6_clears_3 14 rfl rfl)
theorem dX6_clears_86 : decode cX6_clears 86 = .ok (.iload_n 1, 1) := dk_27 (dk_at dksX6_clears_3 16 rfl rfl)
theorem dX6_clears_87 : decode cX6_clears 87 = .ok (.iadd, 1) := dk_96 (dk_at dksX6_clears_3 17 rfl rfl)
theorem dX6_clears_88 : decode cX6_clears 88 = .ok (.iconst 0, 1) := dk_3 (dk_at dksX6_clears_3 18 rfl rfl)
theorem dX6_clears_89 : decode cX6_clears 89 = .ok (.bastore, 1) := dk_84 (dk_at dksX6_clears_3 19 rfl rfl)
theorem dX6_clears_90 : decode cX6_clears 90 = .ok (.iinc 1 1, 3) := dk_132 1 1 (dk_at dksX6_clears_3 20 rfl rfl)
theorem dX6_clears_93 : decode cX6_clears 93 = .ok (.goto (-18), 3) := dk_167 255 238 (dk_at dksX6_clears_4 0 rfl rfl)
theorem dX6_clears_96 : decode cX6_clears 96 = .ok (.iconst 0, 1) := dk_3 (dk_at dksX6_clears_4 3 rfl rfl)
theorem dX6_clears_97 : decode cX6_clears 97 = .ok (.istore_n 1, 1) := dk_60 (dk_at dksX6_clears_4 4 rfl rfl)
theorem dX6_clears_98 : decode cX6_clears 98 = .ok (.iload_n 1, 1) := dk_27 (dk_at dksX6_clears_4 5 rfl rfl)
theorem dX6_clears_99 : decode cX6_clears 99 = .ok (.bipush 17, 2) := dk_16 17 (dk_at dksX6_clears_4 6 rfl rfl)
theorem dX6_clears_101 : decode cX6_clears 101 = .ok (.if_icmp .ge 19, 3) := dk_162 0 19 (dk_at dksX6_clears_4 8 rfl rfl)
theorem dX6_clears_104 : decode cX6_clears 104 = .ok (.aload_n 0, 1) := dk_42 (dk_at dksX6_clears_4 11 rfl rfl)
theorem dX6_clears_105 : decode cX6_clears 105 = .ok (.getfield 71, 3) := dk_180 0 71 (dk_at dksX6_clears_4 12 rfl rfl)
theorem dX6_clears_108 : decode cX6_clears 108 = .ok (.bipush 68, 2) := dk_16 68 (dk_at dksX6_clears_4 15 rfl rfl)
theorem dX6_clears_110 : decode cX6_clears 110 = .ok (.iload_n 1, 1) := dk_27 (dk_at dksX6_clears_4 17 rfl rfl)
theorem dX6_clears_111 : decode cX6_clears 111 = .ok (.iadd, 1) := dk_96 (dk_at dksX6_clears_4 18 rfl rfl)
theorem dX6_clears_112 : decode cX6_clears 112 = .ok (.iconst 0, 1) := dk_3 (dk_at dksX6_clears_4 19 rfl rfl)
theorem dX6_clears_113 : decode cX6_clears 113 = .ok (.iastore, 1) := dk_79 (dk_at dksX6_clears_4 20 rfl rfl)
theorem dX6_clears_114 : decode cX6_clears 114 = .ok (.iinc 1 1, 3) := dk_132 1 1 (dk_at dksX6_clears_4 21 rfl rfl)
theorem dX6_clears_117 : decode cX6_clears 117 = .ok (.goto (-19), 3) := dk_167 255 237 (dk_at dksX6_clears_5 0 rfl rfl)
theorem dX6_clears_120 : decode cX6_clears 120 = .ok (.return_, 1) := dk_177 (dk_at dksX6_clears_5 3 rfl rfl)
abbrev cX6_begins : ByteArray := prog_20_method_22_code
def yX6_begins : MethodName := ⟨RX6, "begins", "()V"⟩
def dkwX6_begins_0 : List UInt8 := [42, 3, 181, 0, 166, 42, 2, 181, 0, 169, 42, 3, 181, 0, 138, 42, 182, 0, 176, 177]
abbrev dktX6_begins_0 : List UInt8 := dkwX6_begins_0 ++ []
theorem dksX6_begins_0 : cX6_begins.data.toList.drop 0 = dktX6_begins_0 := by decide +kernel
theorem dX6_begins_0 : decode cX6_begins 0 = .ok (.aload_n 0, 1) := dk_42 (dk_at dksX6_begins_0 0 rfl rfl)
theorem dX6_begins_1 : decode cX6_begins 1 = .ok (.iconst 0, 1) := dk_3 (dk_at dksX6_begins_0 1 rfl rfl)
theorem dX6_begins_2 : decode cX6_begins 2 = .ok (.putfield 166, 3) := dk_181 0 166 (dk_at dksX6_begins_0 2 rfl rfl)
theorem dX6_begins_5 : decode cX6_begins 5 = .ok (.aload_n 0, 1) := dk_42 (dk_at dksX6_begins_0 5 rfl rfl)
theorem dX6_begins_6 : decode cX6_begins 6 = .ok (.iconst (-1), 1) := dk_2 (dk_at dksX6_begins_0 6 rfl rfl)
theorem dX6_begins_7 : decode cX6_begins 7 = .ok (.putfield 169, 3) := dk_181 0 169 (dk_at dksX6_begins_0 7 rfl rfl)
theorem dX6_begins_10 : decode cX6_begins 10 = .ok (.aload_n 0, 1) := dk_42 (dk_at dksX6_begins_0 10 rfl rfl)
theorem dX6_begins_11 : decode cX6_begins 11 = .ok (.iconst 0, 1) := dk_3 (dk_at dksX6_begins_0 11 rfl rfl)
theorem dX6_begins_12 : decode cX6_begins 12 = .ok (.putfield 138, 3) := dk_181 0 138 (dk_at dksX6_begins_0 12 rfl rfl)
theorem dX6_begins_15 : decode cX6_begins 15 = .ok (.aload_n 0, 1) := dk_42 (dk_at dksX6_begins_0 15 rfl rfl)
theorem dX6_begins_16 : decode cX6_begins 16 = .ok (.invokevirtual 176, 3) := dk_182 0 176 (dk_at dksX6_begins_0 16 rfl rfl)
theorem dX6_begins_19 : decode cX6_begins 19 = .ok (.return_, 1) := dk_177 (dk_at dksX6_begins_0 19 rfl rfl)
abbrev cX6_next : ByteArray := prog_20_method_13_code
def yX6_next : MethodName := ⟨RX6, "next", "()V"⟩
def dkwX6_next_13 : List UInt8 := [181, 0, 138, 177]
abbrev dktX6_next_13 : List UInt8 := dkwX6_next_13 ++ []
def dkwX6_next_12 : List UInt8 := [180, 0, 138, 51, 16, 59, 160, 0, 7, 6, 167, 0, 4, 7, 181, 0, 155, 42, 89, 180, 0, 138, 4, 96]
abbrev dktX6_next_12 : List UInt8 := dkwX6_next_12 ++ dktX6_next_13
def dkwX6_next_11 : List UInt8 := [181, 0, 148, 42, 89, 180, 0, 138, 4, 96, 181, 0, 138, 167, 255, 193, 42, 42, 180, 0, 23, 42]
abbrev dktX6_next_11 : List UInt8 := dkwX6_next_11 ++ dktX6_next_12
def dkwX6_next_10 : List UInt8 := [167, 0, 23, 16, 10, 42, 180, 0, 148, 104, 42, 180, 0, 23, 42, 180, 0, 138, 51, 96, 16, 48, 100]
abbrev dktX6_next_10 : List UInt8 := dkwX6_next_10 ++ dktX6_next_11
def dkwX6_next_9 : List UInt8 := [16, 48, 16, 57, 182, 0, 141, 153, 0, 87, 42, 42, 180, 0, 148, 18, 164, 164, 0, 8, 18, 165]
abbrev dktX6_next_9 : List UInt8 := dkwX6_next_9 ++ dktX6_next_10
def dkwX6_next_8 : List UInt8 := [180, 0, 138, 16, 48, 16, 57, 182, 0, 141, 153, 0, 74, 42, 5, 181, 0, 155, 42, 42, 180, 0, 138]
abbrev dktX6_next_8 : List UInt8 := dkwX6_next_8 ++ dktX6_next_9
def dkwX6_next_7 : List UInt8 := [181, 0, 151, 42, 89, 180, 0, 138, 4, 96, 181, 0, 138, 132, 1, 1, 167, 255, 176, 167, 0, 122, 42, 42]
abbrev dktX6_next_7 : List UInt8 := dkwX6_next_7 ++ dktX6_next_8
def dkwX6_next_6 : List UInt8 := [180, 0, 138, 51, 133, 97, 20, 0, 162, 101, 181, 0, 151, 27, 16, 11, 164, 0, 10, 42, 20, 0, 158]
abbrev dktX6_next_6 : List UInt8 := dkwX6_next_6 ++ dktX6_next_7
def dkwX6_next_5 : List UInt8 := [16, 11, 164, 0, 9, 20, 0, 158, 167, 0, 26, 20, 0, 160, 42, 180, 0, 151, 105, 42, 180, 0, 23, 42]
abbrev dktX6_next_5 : List UInt8 := dkwX6_next_5 ++ dktX6_next_6
def dkwX6_next_4 : List UInt8 := [4, 181, 0, 155, 3, 60, 42, 42, 180, 0, 138, 16, 97, 16, 122, 182, 0, 141, 153, 0, 71, 42, 27]
abbrev dktX6_next_4 : List UInt8 := dkwX6_next_4 ++ dktX6_next_5
def dkwX6_next_3 : List UInt8 := [42, 3, 181, 0, 155, 167, 0, 230, 42, 42, 180, 0, 138, 16, 97, 16, 122, 182, 0, 141, 153, 0, 96, 42]
abbrev dktX6_next_3 : List UInt8 := dkwX6_next_3 ++ dktX6_next_4
def dkwX6_next_2 : List UInt8 := [181, 0, 145, 42, 3, 181, 0, 148, 42, 9, 181, 0, 151, 42, 180, 0, 138, 42, 180, 0, 131, 160, 0, 11]
abbrev dktX6_next_2 : List UInt8 := dkwX6_next_2 ++ dktX6_next_3
def dkwX6_next_1 : List UInt8 := [182, 0, 141, 153, 0, 16, 42, 89, 180, 0, 138, 4, 96, 181, 0, 138, 167, 255, 216, 42, 42, 180, 0, 138]
abbrev dktX6_next_1 : List UInt8 := dkwX6_next_1 ++ dktX6_next_2
def dkwX6_next_0 : List UInt8 := [42, 42, 180, 0, 138, 16, 32, 16, 32, 182, 0, 141, 154, 0, 18, 42, 42, 180, 0, 138, 16, 10, 16, 10]
abbrev dktX6_next_0 : List UInt8 := dkwX6_next_0 ++ dktX6_next_1
theorem dksX6_next_0 : cX6_next.data.toList.drop 0 = dktX6_next_0 := by decide +kernel
theorem dksX6_next_1 : cX6_next.data.toList.drop 24 = dktX6_next_1 := dk_seg dksX6_next_0 24 rfl rfl
theorem dksX6_next_2 : cX6_next.data.toList.drop 48 = dktX6_next_2 := dk_seg dksX6_next_1 24 rfl rfl
theorem dksX6_next_3 : cX6_next.data.toList.drop 72 = dktX6_next_3 := dk_seg dksX6_next_2 24 rfl rfl
theorem dksX6_next_4 : cX6_next.data.toList.drop 96 = dktX6_next_4 := dk_seg dksX6_next_3 24 rfl rfl
theorem dksX6_next_5 : cX6_next.data.toList.drop 119 = dktX6_next_5 := dk_seg dksX6_next_4 23 rfl rfl
theorem dksX6_next_6 : cX6_next.data.toList.drop 143 = dktX6_next_6 := dk_seg dksX6_next_5 24 rfl rfl
theorem dksX6_next_7 : cX6_next.data.toList.drop 166 = dktX6_next_7 := dk_seg dksX6_next_6 23 rfl rfl
theorem dksX6_next_8 : cX6_next.data.toList.drop 190 = dktX6_next_8 := dk_seg dksX6_next_7 24 rfl rfl
theorem dksX6_next_9 : cX6_next.data.toList.drop 213 = dktX6_next_9 := dk_seg dksX6_next_8 23 rfl rfl
theorem dksX6_next_10 : cX6_next.data.toList.drop 235 = dktX6_next_10 := dk_seg dksX6_next_9 22 rfl rfl
theorem dksX6_next_11 : cX6_next.data.toList.drop 258 = dktX6_next_11 := dk_seg dksX6_next_10 23 rfl rfl
theorem dksX6_next_12 : cX6_next.data.toList.drop 280 = dktX6_next_12 := dk_seg dksX6_next_11 22 rfl rfl
theorem dksX6_next_13 : cX6_next.data.toList.drop 304 = dktX6_next_13 := dk_seg dksX6_next_12 24 rfl rfl
theorem dX6_next_0 : decode cX6_next 0 = .ok (.aload_n 0, 1) := dk_42 (dk_at dksX6_next_0 0 rfl rfl)
theorem dX6_next_1 : decode cX6_next 1 = .ok (.aload_n 0, 1) := dk_42 (dk_at dksX6_next_0 1 rfl rfl)
theorem dX6_next_2 : decode cX6_next 2 = .ok (.getfield 138, 3) := dk_180 0 138 (dk_at dksX6_next_0 2 rfl rfl)
theorem dX6_next_5 : decode cX6_next 5 = .ok (.bipush 32, 2) := dk_16 32 (dk_at dksX6_next_0 5 rfl rfl)
theorem dX6_next_7 : decode cX6_next 7 = .ok (.bipush 32, 2) := dk_16 32 (dk_at dksX6_next_0 7 rfl rfl)
theorem dX6_next_9 : decode cX6_next 9 = .ok (.invokevirtual 141, 3) := dk_182 0 141 (dk_at dksX6_next_0 9 rfl rfl)
theorem dX6_next_12 : decode cX6_next 12 = .ok (.ifCond .ne 18, 3) := dk_154 0 18 (dk_at dksX6_next_0 12 rfl rfl)
theorem dX6_next_15 : decode cX6_next 15 = .ok (.aload_n 0, 1) := dk_42 (dk_at dksX6_next_0 15 rfl rfl)
theorem dX6_next_16 : decode cX6_next 16 = .ok (.aload_n 0, 1) := dk_42 (dk_at dksX6_next_0 16 rfl rfl)
theorem dX6_next_17 : decode cX6_next 17 = .ok (.getfield 138, 3) := dk_180 0 138 (dk_at dksX6_next_0 17 rfl rfl)
theorem dX6_next_20 : decode cX6_next 20 = .ok (.bipush 10, 2) := dk_16 10 (dk_at dksX6_next_0 20 rfl rfl)
theorem dX6_next_22 : decode cX6_next 22 = .ok (.bipush 10, 2) := dk_16 10 (dk_at dksX6_next_0 22 rfl rfl)
theorem dX6_next_24 : decode cX6_next 24 = .ok (.invokevirtual 141, 3) := dk_182 0 141 (dk_at dksX6_next_1 0 rfl rfl)
theorem dX6_next_27 : decode cX6_next 27 = .ok (.ifCond .eq 16, 3) := dk_153 0 16 (dk_at dksX6_next_1 3 rfl rfl)
theorem dX6_next_30 : decode cX6_next 30 = .ok (.aload_n 0, 1) := dk_42 (dk_at dksX6_next_1 6 rfl rfl)
theorem dX6_next_31 : decode cX6_next 31 = .ok (.dup, 1) := dk_89 (dk_at dksX6_next_1 7 rfl rfl)
theorem dX6_next_32 : decode cX6_next 32 = .ok (.getfield 138, 3) := dk_180 0 138 (dk_at dksX6_next_1 8 rfl rfl)
theorem dX6_next_35 : decode cX6_next 35 = .ok (.iconst 1, 1) := dk_4 (dk_at dksX6_next_1 11 rfl rfl)
theorem dX6_next_36 : decode cX6_next 36 = .ok (.iadd, 1) := dk_96 (dk_at dksX6_next_1 12 rfl rfl)
theorem dX6_next_37 : decode cX6_next 37 = .ok (.putfield 138, 3) := dk_181 0 138 (dk_at dksX6_next_1 13 rfl rfl)
theorem dX6_next_40 : decode cX6_next 40 = .ok (.goto (-40), 3) := dk_167 255 216 (dk_at dksX6_next_1 16 rfl rfl)
theorem dX6_next_43 : decode cX6_next 43 = .ok (.aload_n 0, 1) := dk_42 (dk_at dksX6_next_1 19 rfl rfl)
theorem dX6_next_44 : decode cX6_next 44 = .ok (.aload_n 0, 1) := dk_42 (dk_at dksX6_next_1 20 rfl rfl)
theorem dX6_next_45 : decode cX6_next 45 = .ok (.getfield 138, 3) := dk_180 0 138 (dk_at dksX6_next_1 21 rfl rfl)
theorem dX6_next_48 : decode cX6_next 48 = .ok (.putfield 145, 3) := dk_181 0 145 (dk_at dksX6_next_2 0 rfl rfl)
theorem dX6_next_51 : decode cX6_next 51 = .ok (.aload_n 0, 1) := dk_42 (dk_at dksX6_next_2 3 rfl rfl)
theorem dX6_next_52 : decode cX6_next 52 = .ok (.iconst 0, 1) := dk_3 (dk_at dksX6_next_2 4 rfl rfl)
theorem dX6_next_53 : decode cX6_next 53 = .ok (.putfield 148, 3) := dk_181 0 148 (dk_at dksX6_next_2 5 rfl rfl)
theorem dX6_next_56 : decode cX6_next 56 = .ok (.aload_n 0, 1) := dk_42 (dk_at dksX6_next_2 8 rfl rfl)
theorem dX6_next_57 : decode cX6_next 57 = .ok (.lconst 0, 1) := dk_9 (dk_at dksX6_next_2 9 rfl rfl)
theorem dX6_next_58 : decode cX6_next 58 = .ok (.putfield 151, 3) := dk_181 0 151 (dk_at dksX6_next_2 10 rfl rfl)
theorem dX6_next_61 : decode cX6_next 61 = .ok (.aload_n 0, 1) := dk_42 (dk_at dksX6_next_2 13 rfl rfl)
theorem dX6_next_62 : decode cX6_next 62 = .ok (.getfield 138, 3) := dk_180 0 138 (dk_at dksX6_next_2 14 rfl rfl)
theorem dX6_next_65 : decode cX6_next 65 = .ok (.aload_n 0, 1) := dk_42 (dk_at dksX6_next_2 17 rfl rfl)
theorem dX6_next_66 : decode cX6_next 66 = .ok (.getfield 131, 3) := dk_180 0 131 (dk_at dksX6_next_2 18 rfl rfl)
theorem dX6_next_69 : decode cX6_next 69 = .ok (.if_icmp .ne 11, 3) := dk_160 0 11 (dk_at dksX6_next_2 21 rfl rfl)
theorem dX6_next_72 : decode cX6_next 72 = .ok (.aload_n 0, 1) := dk_42 (dk_at dksX6_next_3 0 rfl rfl)
theorem dX6_next_73 : decode cX6_next 73 = .ok (.iconst 0, 1) := dk_3 (dk_at dksX6_next_3 1 rfl rfl)
theorem dX6_next_74 : decode cX6_next 74 = .ok (.putfield 155, 3) := dk_181 0 155 (dk_at dksX6_next_3 2 rfl rfl)
theorem dX6_next_77 : decode cX6_next 77 = .ok (.goto 230, 3) := dk_167 0 230 (dk_at dksX6_next_3 5 rfl rfl)
theorem dX6_next_80 : decode cX6_next 80 = .ok (.aload_n 0, 1) := dk_42 (dk_at dksX6_next_3 8 rfl rfl)
theorem dX6_next_81 : decode cX6_next 81 = .ok (.aload_n 0, 1) := dk_42 (dk_at dksX6_next_3 9 rfl rfl)
theorem dX6_next_82 : decode cX6_next 82 = .ok (.getfield 138, 3) := dk_180 0 138 (dk_at dksX6_next_3 10 rfl rfl)
theorem dX6_next_85 : decode cX6_next 85 = .ok (.bipush 97, 2) := dk_16 97 (dk_at dksX6_next_3 13 rfl rfl)
theorem dX6_next_87 : decode cX6_next 87 = .ok (.bipush 122, 2) := dk_16 122 (dk_at dksX6_next_3 15 rfl rfl)
theorem dX6_next_89 : decode cX6_next 89 = .ok (.invokevirtual 141, 3) := dk_182 0 141 (dk_at dksX6_next_3 17 rfl rfl)
theorem dX6_next_92 : decode cX6_next 92 = .ok (.ifCond .eq 96, 3) := dk_153 0 96 (dk_at dksX6_next_3 20 rfl rfl)
theorem dX6_next_95 : decode cX6_next 95 = .ok (.aload_n 0, 1) := dk_42 (dk_at dksX6_next_3 23 rfl rfl)
theorem dX6_next_96 : decode cX6_next 96 = .ok (.iconst 1, 1) := dk_4 (dk_at dksX6_next_4 0 rfl rfl)
theorem dX6_next_97 : decode cX6_next 97 = .ok (.putfield 155, 3) := dk_181 0 155 (dk_at dksX6_next_4 1 rfl rfl)
theorem dX6_next_100 : decode cX6_next 100 = .ok (.iconst 0, 1) := dk_3 (dk_at dksX6_next_4 4 rfl rfl)
theorem dX6_next_101 : decode cX6_next 101 = .ok (.istore_n 1, 1) := dk_60 (dk_at dksX6_next_4 5 rfl rfl)
theorem dX6_next_102 : decode cX6_next 102 = .ok (.aload_n 0, 1) := dk_42 (dk_at dksX6_next_4 6 rfl rfl)
theorem dX6_next_103 : decode cX6_next 103 = .ok (.aload_n 0, 1) := dk_42 (dk_at dksX6_next_4 7 rfl rfl)
theorem dX6_next_104 : decode cX6_next 104 = .ok (.getfield 138, 3) := dk_180 0 138 (dk_at dksX6_next_4 8 rfl rfl)
theorem dX6_next_107 : decode cX6_next 107 = .ok (.bipush 97, 2) := dk_16 97 (dk_at dksX6_next_4 11 rfl rfl)
theorem dX6_next_109 : decode cX6_next 109 = .ok (.bipush 122, 2) := dk_16 122 (dk_at dksX6_next_4 13 rfl rfl)
theorem dX6_next_111 : decode cX6_next 111 = .ok (.invokevirtual 141, 3) := dk_182 0 141 (dk_at dksX6_next_4 15 rfl rfl)
theorem dX6_next_114 : decode cX6_next 114 = .ok (.ifCond .eq 71, 3) := dk_153 0 71 (dk_at dksX6_next_4 18 rfl rfl)
theorem dX6_next_117 : decode cX6_next 117 = .ok (.aload_n 0, 1) := dk_42 (dk_at dksX6_next_4 21 rfl rfl)
theorem dX6_next_118 : decode cX6_next 118 = .ok (.iload_n 1, 1) := dk_27 (dk_at dksX6_next_4 22 rfl rfl)
theorem dX6_next_119 : decode cX6_next 119 = .ok (.bipush 11, 2) := dk_16 11 (dk_at dksX6_next_5 0 rfl rfl)
theorem dX6_next_121 : decode cX6_next 121 = .ok (.if_icmp .le 9, 3) := dk_164 0 9 (dk_at dksX6_next_5 2 rfl rfl)
theorem dX6_next_124 : decode cX6_next 124 = .ok (.ldc2_w 158, 3) := dk_20 0 158 (dk_at dksX6_next_5 5 rfl rfl)
theorem dX6_next_127 : decode cX6_next 127 = .ok (.goto 26, 3) := dk_167 0 26 (dk_at dksX6_next_5 8 rfl rfl)
theorem dX6_next_130 : decode cX6_next 130 = .ok (.ldc2_w 160, 3) := dk_20 0 160 (dk_at dksX6_next_5 11 rfl rfl)
theorem dX6_next_133 : decode cX6_next 133 = .ok (.aload_n 0, 1) := dk_42 (dk_at dksX6_next_5 14 rfl rfl)
theorem dX6_next_134 : decode cX6_next 134 = .ok (.getfield 151, 3) := dk_180 0 151 (dk_at dksX6_next_5 15 rfl rfl)
theorem dX6_next_137 : decode cX6_next 137 = .ok (.lmul, 1) := dk_105 (dk_at dksX6_next_5 18 rfl rfl)
theorem dX6_next_138 : decode cX6_next 138 = .ok (.aload_n 0, 1) := dk_42 (dk_at dksX6_next_5 19 rfl rfl)
theorem dX6_next_139 : decode cX6_next 139 = .ok (.getfield 23, 3) := dk_180 0 23 (dk_at dksX6_next_5 20 rfl rfl)
theorem dX6_next_142 : decode cX6_next 142 = .ok (.aload_n 0, 1) := dk_42 (dk_at dksX6_next_5 23 rfl rfl)
theorem dX6_next_143 : decode cX6_next 143 = .ok (.getfield 138, 3) := dk_180 0 138 (dk_at dksX6_next_6 0 rfl rfl)
theorem dX6_next_146 : decode cX6_next 146 = .ok (.baload, 1) := dk_51 (dk_at dksX6_next_6 3 rfl rfl)
theorem dX6_next_147 : decode cX6_next 147 = .ok (.i2l, 1) := dk_133 (dk_at dksX6_next_6 4 rfl rfl)
theorem dX6_next_148 : decode cX6_next 148 = .ok (.ladd, 1) := dk_97 (dk_at dksX6_next_6 5 rfl rfl)
theorem dX6_next_149 : decode cX6_next 149 = .ok (.ldc2_w 162, 3) := dk_20 0 162 (dk_at dksX6_next_6 6 rfl rfl)
theorem dX6_next_152 : decode cX6_next 152 = .ok (.lsub, 1) := dk_101 (dk_at dksX6_next_6 9 rfl rfl)
theorem dX6_next_153 : decode cX6_next 153 = .ok (.putfield 151, 3) := dk_181 0 151 (dk_at dksX6_next_6 10 rfl rfl)
theorem dX6_next_156 : decode cX6_next 156 = .ok (.iload_n 1, 1) := dk_27 (dk_at dksX6_next_6 13 rfl rfl)
theorem dX6_next_157 : decode cX6_next 157 = .ok (.bipush 11, 2) := dk_16 11 (dk_at dksX6_next_6 14 rfl rfl)
theorem dX6_next_159 : decode cX6_next 159 = .ok (.if_icmp .le 10, 3) := dk_164 0 10 (dk_at dksX6_next_6 16 rfl rfl)
theorem dX6_next_162 : decode cX6_next 162 = .ok (.aload_n 0, 1) := dk_42 (dk_at dksX6_next_6 19 rfl rfl)
theorem dX6_next_163 : decode cX6_next 163 = .ok (.ldc2_w 158, 3) := dk_20 0 158 (dk_at dksX6_next_6 20 rfl rfl)
theorem dX6_next_166 : decode cX6_next 166 = .ok (.putfield 151, 3) := dk_181 0 151 (dk_at dksX6_next_7 0 rfl rfl)
theorem dX6_next_169 : decode cX6_next 169 = .ok (.aload_n 0, 1) := dk_42 (dk_at dksX6_next_7 3 rfl rfl)
theorem dX6_next_170 : decode cX6_next 170 = .ok (.dup, 1) := dk_89 (dk_at dksX6_next_7 4 rfl rfl)
theorem dX6_next_171 : decode cX6_next 171 = .ok (.getfield 138, 3) := dk_180 0 138 (dk_at dksX6_next_7 5 rfl rfl)
theorem dX6_next_174 : decode cX6_next 174 = .ok (.iconst 1, 1) := dk_4 (dk_at dksX6_next_7 8 rfl rfl)
theorem dX6_next_175 : decode cX6_next 175 = .ok (.iadd, 1) := dk_96 (dk_at dksX6_next_7 9 rfl rfl)
theorem dX6_next_176 : decode cX6_next 176 = .ok (.putfield 138, 3) := dk_181 0 138 (dk_at dksX6_next_7 10 rfl rfl)
theorem dX6_next_179 : decode cX6_next 179 = .ok (.iinc 1 1, 3) := dk_132 1 1 (dk_at dksX6_next_7 13 rfl rfl)
theorem dX6_next_182 : decode cX6_next 182 = .ok (.goto (-80), 3) := dk_167 255 176 (dk_at dksX6_next_7 16 rfl rfl)
theorem dX6_next_185 : decode cX6_next 185 = .ok (.goto 122, 3) := dk_167 0 122 (dk_at dksX6_next_7 19 rfl rfl)
theorem dX6_next_188 : decode cX6_next 188 = .ok (.aload_n 0, 1) := dk_42 (dk_at dksX6_next_7 22 rfl rfl)
theorem dX6_next_189 : decode cX6_next 189 = .ok (.aload_n 0, 1) := dk_42 (dk_at dksX6_next_7 23 rfl rfl)
theorem dX6_next_190 : decode cX6_next 190 = .ok (.getfield 138, 3) := dk_180 0 138 (dk_at dksX6_next_8 0 rfl rfl)
theorem dX6_next_193 : decode cX6_next 193 = .ok (.bipush 48, 2) := dk_16 48 (dk_at dksX6_next_8 3 rfl rfl)
theorem dX6_next_195 : decode cX6_next 195 = .ok (.bipush 57, 2) := dk_16 57 (dk_at dksX6_next_8 5 rfl rfl)
theorem dX6_next_197 : decode cX6_next 197 = .ok (.invokevirtual 141, 3) := dk_182 0 141 (dk_at dksX6_next_8 7 rfl rfl)
theorem dX6_next_200 : decode cX6_next 200 = .ok (.ifCond .eq 74, 3) := dk_153 0 74 (dk_at dksX6_next_8 10 rfl rfl)
theorem dX6_next_203 : decode cX6_next 203 = .ok (.aload_n 0, 1) := dk_42 (dk_at dksX6_next_8 13 rfl rfl)
theorem dX6_next_204 : decode cX6_next 204 = .ok (.iconst 2, 1) := dk_5 (dk_at dksX6_next_8 14 rfl rfl)
theorem dX6_next_205 : decode cX6_next 205 = .ok (.putfield 155, 3) := dk_181 0 155 (dk_at dksX6_next_8 15 rfl rfl)
theorem dX6_next_208 : decode cX6_next 208 = .ok (.aload_n 0, 1) := dk_42 (dk_at dksX6_next_8 18 rfl rfl)
theorem dX6_next_209 : decode cX6_next 209 = .ok (.aload_n 0, 1) := dk_42 (dk_at dksX6_next_8 19 rfl rfl)
theorem dX6_next_210 : decode cX6_next 210 = .ok (.getfield 138, 3) := dk_180 0 138 (dk_at dksX6_next_8 20 rfl rfl)
theorem dX6_next_213 : decode cX6_next 213 = .ok (.bipush 48, 2) := dk_16 48 (dk_at dksX6_next_9 0 rfl rfl)
theorem dX6_next_215 : decode cX6_next 215 = .ok (.bipush 57, 2) := dk_16 57 (dk_at dksX6_next_9 2 rfl rfl)
theorem dX6_next_217 : decode cX6_next 217 = .ok (.invokevirtual 141, 3) := dk_182 0 141 (dk_at dksX6_next_9 4 rfl rfl)
theorem dX6_next_220 : decode cX6_next 220 = .ok (.ifCond .eq 87, 3) := dk_153 0 87 (dk_at dksX6_next_9 7 rfl rfl)
theorem dX6_next_223 : decode cX6_next 223 = .ok (.aload_n 0, 1) := dk_42 (dk_at dksX6_next_9 10 rfl rfl)
theorem dX6_next_224 : decode cX6_next 224 = .ok (.aload_n 0, 1) := dk_42 (dk_at dksX6_next_9 11 rfl rfl)
theorem dX6_next_225 : decode cX6_next 225 = .ok (.getfield 148, 3) := dk_180 0 148 (dk_at dksX6_next_9 12 rfl rfl)
theorem dX6_next_228 : decode cX6_next 228 = .ok (.ldc 164, 2) := dk_18 164 (dk_at dksX6_next_9 15 rfl rfl)
theorem dX6_next_230 : decode cX6_next 230 = .ok (.if_icmp .le 8, 3) := dk_164 0 8 (dk_at dksX6_next_9 17 rfl rfl)
theorem dX6_next_233 : decode cX6_next 233 = .ok (.ldc 165, 2) := dk_18 165 (dk_at dksX6_next_9 20 rfl rfl)
theorem dX6_next_235 : decode cX6_next 235 = .ok (.goto 23, 3) := dk_167 0 23 (dk_at dksX6_next_10 0 rfl rfl)
theorem dX6_next_238 : decode cX6_next 238 = .ok (.bipush 10, 2) := dk_16 10 (dk_at dksX6_next_10 3 rfl rfl)
theorem dX6_next_240 : decode cX6_next 240 = .ok (.aload_n 0, 1) := dk_42 (dk_at dksX6_next_10 5 rfl rfl)
theorem dX6_next_241 : decode cX6_next 241 = .ok (.getfield 148, 3) := dk_180 0 148 (dk_at dksX6_next_10 6 rfl rfl)
theorem dX6_next_244 : decode cX6_next 244 = .ok (.imul, 1) := dk_104 (dk_at dksX6_next_10 9 rfl rfl)
theorem dX6_next_245 : decode cX6_next 245 = .ok (.aload_n 0, 1) := dk_42 (dk_at dksX6_next_10 10 rfl rfl)
theorem dX6_next_246 : decode cX6_next 246 = .ok (.getfield 23, 3) := dk_180 0 23 (dk_at dksX6_next_10 11 rfl rfl)
theorem dX6_next_249 : decode cX6_next 249 = .ok (.aload_n 0, 1) := dk_42 (dk_at dksX6_next_10 14 rfl rfl)
theorem dX6_next_250 : decode cX6_next 250 = .ok (.getfield 138, 3) := dk_180 0 138 (dk_at dksX6_next_10 15 rfl rfl)
theorem dX6_next_253 : decode cX6_next 253 = .ok (.baload, 1) := dk_51 (dk_at dksX6_next_10 18 rfl rfl)
theorem dX6_next_254 : decode cX6_next 254 = .ok (.iadd, 1) := dk_96 (dk_at dksX6_next_10 19 rfl rfl)
theorem dX6_next_255 : decode cX6_next 255 = .ok (.bipush 48, 2) := dk_16 48 (dk_at dksX6_next_10 20 rfl rfl)
theorem dX6_next_257 : decode cX6_next 257 = .ok (.isub, 1) := dk_100 (dk_at dksX6_next_10 22 rfl rfl)
theorem dX6_next_258 : decode cX6_next 258 = .ok (.putfield 148, 3) := dk_181 0 148 (dk_at dksX6_next_11 0 rfl rfl)
theorem dX6_next_261 : decode cX6_next 261 = .ok (.aload_n 0, 1) := dk_42 (dk_at dksX6_next_11 3 rfl rfl)
theorem dX6_next_262 : decode cX6_next 262 = .ok (.dup, 1) := dk_89 (dk_at dksX6_next_11 4 rfl rfl)
theorem dX6_next_263 : decode cX6_next 263 = .ok (.getfield 138, 3) := dk_180 0 138 (dk_at dksX6_next_11 5 rfl rfl)
theorem dX6_next_266 : decode cX6_next 266 = .ok (.iconst 1, 1) := dk_4 (dk_at dksX6_next_11 8 rfl rfl)
theorem dX6_next_267 : decode cX6_next 267 = .ok (.iadd, 1) := dk_96 (dk_at dksX6_next_11 9 rfl rfl)
theorem dX6_next_268 : decode cX6_next 268 = .ok (.putfield 138, 3) := dk_181 0 138 (dk_at dksX6_next_11 10 rfl rfl)
theorem dX6_next_271 : decode cX6_next 271 = .ok (.goto (-63), 3) := dk_167 255 193 (dk_at dksX6_next_11 13 rfl rfl)
theorem dX6_next_274 : decode cX6_next 274 = .ok (.aload_n 0, 1) := dk_42 (dk_at dksX6_next_11 16 rfl rfl)
theorem dX6_next_275 : decode cX6_next 275 = .ok (.aload_n 0, 1) := dk_42 (dk_at dksX6_next_11 17 rfl rfl)
theorem dX6_next_276 : decode cX6_next 276 = .ok (.getfield 23, 3) := dk_180 0 23 (dk_at dksX6_next_11 18 rfl rfl)
theorem dX6_next_279 : decode cX6_next 279 = .ok (.aload_n 0, 1) := dk_42 (dk_at dksX6_next_11 21 rfl rfl)
theorem dX6_next_280 : decode cX6_next 280 = .ok (.getfield 138, 3) := dk_180 0 138 (dk_at dksX6_next_12 0 rfl rfl)
theorem dX6_next_283 : decode cX6_next 283 = .ok (.baload, 1) := dk_51 (dk_at dksX6_next_12 3 rfl rfl)
theorem dX6_next_284 : decode cX6_next 284 = .ok (.bipush 59, 2) := dk_16 59 (dk_at dksX6_next_12 4 rfl rfl)
theorem dX6_next_286 : decode cX6_next 286 = .ok (.if_icmp .ne 7, 3) := dk_160 0 7 (dk_at dksX6_next_12 6 rfl rfl)
theorem dX6_next_289 : decode cX6_next 289 = .ok (.iconst 3, 1) := dk_6 (dk_at dksX6_next_12 9 rfl rfl)
theorem dX6_next_290 : decode cX6_next 290 = .ok (.goto 4, 3) := dk_167 0 4 (dk_at dksX6_next_12 10 rfl rfl)
theorem dX6_next_293 : decode cX6_next 293 = .ok (.iconst 4, 1) := dk_7 (dk_at dksX6_next_12 13 rfl rfl)
theorem dX6_next_294 : decode cX6_next 294 = .ok (.putfield 155, 3) := dk_181 0 155 (dk_at dksX6_next_12 14 rfl rfl)
theorem dX6_next_297 : decode cX6_next 297 = .ok (.aload_n 0, 1) := dk_42 (dk_at dksX6_next_12 17 rfl rfl)
theorem dX6_next_298 : decode cX6_next 298 = .ok (.dup, 1) := dk_89 (dk_at dksX6_next_12 18 rfl rfl)
theorem dX6_next_299 : decode cX6_next 299 = .ok (.getfield 138, 3) := dk_180 0 138 (dk_at dksX6_next_12 19 rfl rfl)
theorem dX6_next_302 : decode cX6_next 302 = .ok (.iconst 1, 1) := dk_4 (dk_at dksX6_next_12 22 rfl rfl)
theorem dX6_next_303 : decode cX6_next 303 = .ok (.iadd, 1) := dk_96 (dk_at dksX6_next_12 23 rfl rfl)
theorem dX6_next_304 : decode cX6_next 304 = .ok (.putfield 138, 3) := dk_181 0 138 (dk_at dksX6_next_13 0 rfl rfl)
theorem dX6_next_307 : decode cX6_next 307 = .ok (.return_, 1) := dk_177 (dk_at dksX6_next_13 3 rfl rfl)
abbrev cX6_isByte : ByteArray := prog_20_method_12_code
def yX6_isByte : MethodName := ⟨RX6, "isByte", "(III)Z"⟩
def dkwX6_isByte_1 : List UInt8 := [29, 163, 0, 7, 4, 167, 0, 4, 3, 172]
abbrev dktX6_isByte_1 : List UInt8 := dkwX6_isByte_1 ++ []
def dkwX6_isByte_0 : List UInt8 := [27, 42, 180, 0, 131, 162, 0, 27, 42, 180, 0, 23, 27, 51, 28, 161, 0, 17, 42, 180, 0, 23, 27, 51]
abbrev dktX6_isByte_0 : List UInt8 := dkwX6_isByte_0 ++ dktX6_isByte_1
theorem dksX6_isByte_0 : cX6_isByte.data.toList.drop 0 = dktX6_isByte_0 := by decide +kernel
theorem dksX6_isByte_1 : cX6_isByte.data.toList.drop 24 = dktX6_isByte_1 := dk_seg dksX6_isByte_0 24 rfl rfl
theorem dX6_isByte_0 : decode cX6_isByte 0 = .ok (.iload_n 1, 1) := dk_27 (dk_at dksX6_isByte_0 0 rfl rfl)
theorem dX6_isByte_1 : decode cX6_isByte 1 = .ok (.aload_n 0, 1) := dk_42 (dk_at dksX6_isByte_0 1 rfl rfl)
theorem dX6_isByte_2 : decode cX6_isByte 2 = .ok (.getfield 131, 3) := dk_180 0 131 (dk_at dksX6_isByte_0 2 rfl rfl)
theorem dX6_isByte_5 : decode cX6_isByte 5 = .ok (.if_icmp .ge 27, 3) := dk_162 0 27 (dk_at dksX6_isByte_0 5 rfl rfl)
theorem dX6_isByte_8 : decode cX6_isByte 8 = .ok (.aload_n 0, 1) := dk_42 (dk_at dksX6_isByte_0 8 rfl rfl)
theorem dX6_isByte_9 : decode cX6_isByte 9 = .ok (.getfield 23, 3) := dk_180 0 23 (dk_at dksX6_isByte_0 9 rfl rfl)
theorem dX6_isByte_12 : decode cX6_isByte 12 = .ok (.iload_n 1, 1) := dk_27 (dk_at dksX6_isByte_0 12 rfl rfl)
theorem dX6_isByte_13 : decode cX6_isByte 13 = .ok (.baload, 1) := dk_51 (dk_at dksX6_isByte_0 13 rfl rfl)
theorem dX6_isByte_14 : decode cX6_isByte 14 = .ok (.iload_n 2, 1) := dk_28 (dk_at dksX6_isByte_0 14 rfl rfl)
theorem dX6_isByte_15 : decode cX6_isByte 15 = .ok (.if_icmp .lt 17, 3) := dk_161 0 17 (dk_at dksX6_isByte_0 15 rfl rfl)
theorem dX6_isByte_18 : decode cX6_isByte 18 = .ok (.aload_n 0, 1) := dk_42 (dk_at dksX6_isByte_0 18 rfl rfl)
theorem dX6_isByte_19 : decode cX6_isByte 19 = .ok (.getfield 23, 3) := dk_180 0 23 (dk_at dksX6_isByte_0 19 rfl rfl)
theorem dX6_isByte_22 : decode cX6_isByte 22 = .ok (.iload_n 1, 1) := dk_27 (dk_at dksX6_isByte_0 22 rfl rfl)
theorem dX6_isByte_23 : decode cX6_isByte 23 = .ok (.baload, 1) := dk_51 (dk_at dksX6_isByte_0 23 rfl rfl)
theorem dX6_isByte_24 : decode cX6_isByte 24 = .ok (.iload_n 3, 1) := dk_29 (dk_at dksX6_isByte_1 0 rfl rfl)
theorem dX6_isByte_25 : decode cX6_isByte 25 = .ok (.if_icmp .gt 7, 3) := dk_163 0 7 (dk_at dksX6_isByte_1 1 rfl rfl)
theorem dX6_isByte_28 : decode cX6_isByte 28 = .ok (.iconst 1, 1) := dk_4 (dk_at dksX6_isByte_1 4 rfl rfl)
theorem dX6_isByte_29 : decode cX6_isByte 29 = .ok (.goto 4, 3) := dk_167 0 4 (dk_at dksX6_isByte_1 5 rfl rfl)
theorem dX6_isByte_32 : decode cX6_isByte 32 = .ok (.iconst 0, 1) := dk_3 (dk_at dksX6_isByte_1 8 rfl rfl)
theorem dX6_isByte_33 : decode cX6_isByte 33 = .ok (.ireturn, 1) := dk_172 (dk_at dksX6_isByte_1 9 rfl rfl)
abbrev cX6_isGood : ByteArray := prog_20_method_14_code
def yX6_isGood : MethodName := ⟨RX6, "isGood", "()Z"⟩
def dkwX6_isGood_0 : List UInt8 := [42, 180, 0, 166, 154, 0, 7, 4, 167, 0, 4, 3, 172]
abbrev dktX6_isGood_0 : List UInt8 := dkwX6_isGood_0 ++ []
theorem dksX6_isGood_0 : cX6_isGood.data.toList.drop 0 = dktX6_isGood_0 := by decide +kernel
theorem dX6_isGood_0 : decode cX6_isGood 0 = .ok (.aload_n 0, 1) := dk_42 (dk_at dksX6_isGood_0 0 rfl rfl)
theorem dX6_isGood_1 : decode cX6_isGood 1 = .ok (.getfield 166, 3) := dk_180 0 166 (dk_at dksX6_isGood_0 1 rfl rfl)
theorem dX6_isGood_4 : decode cX6_isGood 4 = .ok (.ifCond .ne 7, 3) := dk_154 0 7 (dk_at dksX6_isGood_0 4 rfl rfl)
theorem dX6_isGood_7 : decode cX6_isGood 7 = .ok (.iconst 1, 1) := dk_4 (dk_at dksX6_isGood_0 7 rfl rfl)
theorem dX6_isGood_8 : decode cX6_isGood 8 = .ok (.goto 4, 3) := dk_167 0 4 (dk_at dksX6_isGood_0 8 rfl rfl)
theorem dX6_isGood_11 : decode cX6_isGood 11 = .ok (.iconst 0, 1) := dk_3 (dk_at dksX6_isGood_0 11 rfl rfl)
theorem dX6_isGood_12 : decode cX6_isGood 12 = .ok (.ireturn, 1) := dk_172 (dk_at dksX6_isGood_0 12 rfl rfl)
abbrev cX6_railLine : ByteArray := prog_20_method_32_code
def yX6_railLine : MethodName := ⟨RX6, "railLine", "()V"⟩
def dkwX6_railLine_1 : List UInt8 := [180, 0, 37, 7, 42, 20, 1, 11, 4, 16, 60, 182, 0, 198, 79, 177]
abbrev dktX6_railLine_1 : List UInt8 := dkwX6_railLine_1 ++ []
def dkwX6_railLine_0 : List UInt8 := [42, 20, 1, 7, 182, 0, 185, 42, 180, 0, 34, 7, 42, 20, 1, 9, 4, 16, 20, 182, 0, 198, 79, 42]
abbrev dktX6_railLine_0 : List UInt8 := dkwX6_railLine_0 ++ dktX6_railLine_1
theorem dksX6_railLine_0 : cX6_railLine.data.toList.drop 0 = dktX6_railLine_0 := by decide +kernel
theorem dksX6_railLine_1 : cX6_railLine.data.toList.drop 24 = dktX6_railLine_1 := dk_seg dksX6_railLine_0 24 rfl rfl
theorem dX6_railLine_0 : decode cX6_railLine 0 = .ok (.aload_n 0, 1) := dk_42 (dk_at dksX6_railLine_0 0 rfl rfl)
theorem dX6_railLine_1 : decode cX6_railLine 1 = .ok (.ldc2_w 263, 3) := dk_20 1 7 (dk_at dksX6_railLine_0 1 rfl rfl)
theorem dX6_railLine_4 : decode cX6_railLine 4 = .ok (.invokevirtual 185, 3) := dk_182 0 185 (dk_at dksX6_railLine_0 4 rfl rfl)
theorem dX6_railLine_7 : decode cX6_railLine 7 = .ok (.aload_n 0, 1) := dk_42 (dk_at dksX6_railLine_0 7 rfl rfl)
theorem dX6_railLine_8 : decode cX6_railLine 8 = .ok (.getfield 34, 3) := dk_180 0 34 (dk_at dksX6_railLine_0 8 rfl rfl)
theorem dX6_railLine_11 : decode cX6_railLine 11 = .ok (.iconst 4, 1) := dk_7 (dk_at dksX6_railLine_0 11 rfl rfl)
theorem dX6_railLine_12 : decode cX6_railLine 12 = .ok (.aload_n 0, 1) := dk_42 (dk_at dksX6_railLine_0 12 rfl rfl)
theorem dX6_railLine_13 : decode cX6_railLine 13 = .ok (.ldc2_w 265, 3) := dk_20 1 9 (dk_at dksX6_railLine_0 13 rfl rfl)
theorem dX6_railLine_16 : decode cX6_railLine 16 = .ok (.iconst 1, 1) := dk_4 (dk_at dksX6_railLine_0 16 rfl rfl)
theorem dX6_railLine_17 : decode cX6_railLine 17 = .ok (.bipush 20, 2) := dk_16 20 (dk_at dksX6_railLine_0 17 rfl rfl)
theorem dX6_railLine_19 : decode cX6_railLine 19 = .ok (.invokevirtual 198, 3) := dk_182 0 198 (dk_at dksX6_railLine_0 19 rfl rfl)
theorem dX6_railLine_22 : decode cX6_railLine 22 = .ok (.iastore, 1) := dk_79 (dk_at dksX6_railLine_0 22 rfl rfl)
theorem dX6_railLine_23 : decode cX6_railLine 23 = .ok (.aload_n 0, 1) := dk_42 (dk_at dksX6_railLine_0 23 rfl rfl)
theorem dX6_railLine_24 : decode cX6_railLine 24 = .ok (.getfield 37, 3) := dk_180 0 37 (dk_at dksX6_railLine_1 0 rfl rfl)
theorem dX6_railLine_27 : decode cX6_railLine 27 = .ok (.iconst 4, 1) := dk_7 (dk_at dksX6_railLine_1 3 rfl rfl)
theorem dX6_railLine_28 : decode cX6_railLine 28 = .ok (.aload_n 0, 1) := dk_42 (dk_at dksX6_railLine_1 4 rfl rfl)
theorem dX6_railLine_29 : decode cX6_railLine 29 = .ok (.ldc2_w 267, 3) := dk_20 1 11 (dk_at dksX6_railLine_1 5 rfl rfl)
theorem dX6_railLine_32 : decode cX6_railLine 32 = .ok (.iconst 1, 1) := dk_4 (dk_at dksX6_railLine_1 8 rfl rfl)
theorem dX6_railLine_33 : decode cX6_railLine 33 = .ok (.bipush 60, 2) := dk_16 60 (dk_at dksX6_railLine_1 9 rfl rfl)
theorem dX6_railLine_35 : decode cX6_railLine 35 = .ok (.invokevirtual 198, 3) := dk_182 0 198 (dk_at dksX6_railLine_1 11 rfl rfl)
theorem dX6_railLine_38 : decode cX6_railLine 38 = .ok (.iastore, 1) := dk_79 (dk_at dksX6_railLine_1 14 rfl rfl)
theorem dX6_railLine_39 : decode cX6_railLine 39 = .ok (.return_, 1) := dk_177 (dk_at dksX6_railLine_1 15 rfl rfl)
abbrev cX6_asks : ByteArray := prog_20_method_18_code
def yX6_asks : MethodName := ⟨RX6, "asks", "(J)V"⟩
def dkwX6_asks_0 : List UInt8 := [42, 31, 182, 0, 179, 154, 0, 8, 42, 4, 182, 0, 182, 177]
abbrev dktX6_asks_0 : List UInt8 := dkwX6_asks_0 ++ []
theorem dksX6_asks_0 : cX6_asks.data.toList.drop 0 = dktX6_asks_0 := by decide +kernel
theorem dX6_asks_0 : decode cX6_asks 0 = .ok (.aload_n 0, 1) := dk_42 (dk_at dksX6_asks_0 0 rfl rfl)
theorem dX6_asks_1 : decode cX6_asks 1 = .ok (.lload_n 1, 1) := dk_31 (dk_at dksX6_asks_0 1 rfl rfl)
theorem dX6_asks_2 : decode cX6_asks 2 = .ok (.invokevirtual 179, 3) := dk_182 0 179 (dk_at dksX6_asks_0 2 rfl rfl)
theorem dX6_asks_5 : decode cX6_asks 5 = .ok (.ifCond .ne 8, 3) := dk_154 0 8 (dk_at dksX6_asks_0 5 rfl rfl)
theorem dX6_asks_8 : decode cX6_asks 8 = .ok (.aload_n 0, 1) := dk_42 (dk_at dksX6_asks_0 8 rfl rfl)
theorem dX6_asks_9 : decode cX6_asks 9 = .ok (.iconst 1, 1) := dk_4 (dk_at dksX6_asks_0 9 rfl rfl)
theorem dX6_asks_10 : decode cX6_asks 10 = .ok (.invokevirtual 182, 3) := dk_182 0 182 (dk_at dksX6_asks_0 10 rfl rfl)
theorem dX6_asks_13 : decode cX6_asks 13 = .ok (.return_, 1) := dk_177 (dk_at dksX6_asks_0 13 rfl rfl)
abbrev cX6_takes : ByteArray := prog_20_method_17_code
def yX6_takes : MethodName := ⟨RX6, "takes", "(J)Z"⟩
def dkwX6_takes_0 : List UInt8 := [42, 31, 182, 0, 172, 154, 0, 5, 3, 172, 42, 182, 0, 176, 4, 172]
abbrev dktX6_takes_0 : List UInt8 := dkwX6_takes_0 ++ []
theorem dksX6_takes_0 : cX6_takes.data.toList.drop 0 = dktX6_takes_0 := by decide +kernel
theorem dX6_takes_0 : decode cX6_takes 0 = .ok (.aload_n 0, 1) := dk_42 (dk_at dksX6_takes_0 0 rfl rfl)
theorem dX6_takes_1 : decode cX6_takes 1 = .ok (.lload_n 1, 1) := dk_31 (dk_at dksX6_takes_0 1 rfl rfl)
theorem dX6_takes_2 : decode cX6_takes 2 = .ok (.invokevirtual 172, 3) := dk_182 0 172 (dk_at dksX6_takes_0 2 rfl rfl)
theorem dX6_takes_5 : decode cX6_takes 5 = .ok (.ifCond .ne 5, 3) := dk_154 0 5 (dk_at dksX6_takes_0 5 rfl rfl)
theorem dX6_takes_8 : decode cX6_takes 8 = .ok (.iconst 0, 1) := dk_3 (dk_at dksX6_takes_0 8 rfl rfl)
theorem dX6_takes_9 : decode cX6_takes 9 = .ok (.ireturn, 1) := dk_172 (dk_at dksX6_takes_0 9 rfl rfl)
theorem dX6_takes_10 : decode cX6_takes 10 = .ok (.aload_n 0, 1) := dk_42 (dk_at dksX6_takes_0 10 rfl rfl)
theorem dX6_takes_11 : decode cX6_takes 11 = .ok (.invokevirtual 176, 3) := dk_182 0 176 (dk_at dksX6_takes_0 11 rfl rfl)
theorem dX6_takes_14 : decode cX6_takes 14 = .ok (.iconst 1, 1) := dk_4 (dk_at dksX6_takes_0 14 rfl rfl)
theorem dX6_takes_15 : decode cX6_takes 15 = .ok (.ireturn, 1) := dk_172 (dk_at dksX6_takes_0 15 rfl rfl)
abbrev cX6_is : ByteArray := prog_20_method_16_code
def yX6_is : MethodName := ⟨RX6, "is", "(J)Z"⟩
def dkwX6_is_1 : List UInt8 := [4, 167, 0, 4, 3, 172]
abbrev dktX6_is_1 : List UInt8 := dkwX6_is_1 ++ []
def dkwX6_is_0 : List UInt8 := [42, 180, 0, 166, 154, 0, 24, 42, 180, 0, 155, 4, 160, 0, 16, 42, 180, 0, 151, 31, 148, 154, 0, 7]
abbrev dktX6_is_0 : List UInt8 := dkwX6_is_0 ++ dktX6_is_1
theorem dksX6_is_0 : cX6_is.data.toList.drop 0 = dktX6_is_0 := by decide +kernel
theorem dksX6_is_1 : cX6_is.data.toList.drop 24 = dktX6_is_1 := dk_seg dksX6_is_0 24 rfl rfl
theorem dX6_is_0 : decode cX6_is 0 = .ok (.aload_n 0, 1) := dk_42 (dk_at dksX6_is_0 0 rfl rfl)
theorem dX6_is_1 : decode cX6_is 1 = .ok (.getfield 166, 3) := dk_180 0 166 (dk_at dksX6_is_0 1 rfl rfl)
theorem dX6_is_4 : decode cX6_is 4 = .ok (.ifCond .ne 24, 3) := dk_154 0 24 (dk_at dksX6_is_0 4 rfl rfl)
theorem dX6_is_7 : decode cX6_is 7 = .ok (.aload_n 0, 1) := dk_42 (dk_at dksX6_is_0 7 rfl rfl)
theorem dX6_is_8 : decode cX6_is 8 = .ok (.getfield 155, 3) := dk_180 0 155 (dk_at dksX6_is_0 8 rfl rfl)
theorem dX6_is_11 : decode cX6_is 11 = .ok (.iconst 1, 1) := dk_4 (dk_at dksX6_is_0 11 rfl rfl)
theorem dX6_is_12 : decode cX6_is 12 = .ok (.if_icmp .ne 16, 3) := dk_160 0 16 (dk_at dksX6_is_0 12 rfl rfl)
theorem dX6_is_15 : decode cX6_is 15 = .ok (.aload_n 0, 1) := dk_42 (dk_at dksX6_is_0 15 rfl rfl)
theorem dX6_is_16 : decode cX6_is 16 = .ok (.getfield 151, 3) := dk_180 0 151 (dk_at dksX6_is_0 16 rfl rfl)
theorem dX6_is_19 : decode cX6_is 19 = .ok (.lload_n 1, 1) := dk_31 (dk_at dksX6_is_0 19 rfl rfl)
theorem dX6_is_20 : decode cX6_is 20 = .ok (.lcmp, 1) := dk_148 (dk_at dksX6_is_0 20 rfl rfl)
theorem dX6_is_21 : decode cX6_is 21 = .ok (.ifCond .ne 7, 3) := dk_154 0 7 (dk_at dksX6_is_0 21 rfl rfl)
theorem dX6_is_24 : decode cX6_is 24 = .ok (.iconst 1, 1) := dk_4 (dk_at dksX6_is_1 0 rfl rfl)
theorem dX6_is_25 : decode cX6_is 25 = .ok (.goto 4, 3) := dk_167 0 4 (dk_at dksX6_is_1 1 rfl rfl)
theorem dX6_is_28 : decode cX6_is 28 = .ok (.iconst 0, 1) := dk_3 (dk_at dksX6_is_1 4 rfl rfl)
theorem dX6_is_29 : decode cX6_is 29 = .ok (.ireturn, 1) := dk_172 (dk_at dksX6_is_1 5 rfl rfl)
abbrev cX6_fails : ByteArray := prog_20_method_15_code
def yX6_fails : MethodName := ⟨RX6, "fails", "(I)V"⟩
def dkwX6_fails_0 : List UInt8 := [42, 180, 0, 166, 153, 0, 4, 177, 42, 27, 181, 0, 166, 42, 42, 180, 0, 145, 181, 0, 169, 177]
abbrev dktX6_fails_0 : List UInt8 := dkwX6_fails_0 ++ []
theorem dksX6_fails_0 : cX6_fails.data.toList.drop 0 = dktX6_fails_0 := by decide +kernel
theorem dX6_fails_0 : decode cX6_fails 0 = .ok (.aload_n 0, 1) := dk_42 (dk_at dksX6_fails_0 0 rfl rfl)
theorem dX6_fails_1 : decode cX6_fails 1 = .ok (.getfield 166, 3) := dk_180 0 166 (dk_at dksX6_fails_0 1 rfl rfl)
theorem dX6_fails_4 : decode cX6_fails 4 = .ok (.ifCond .eq 4, 3) := dk_153 0 4 (dk_at dksX6_fails_0 4 rfl rfl)
theorem dX6_fails_7 : decode cX6_fails 7 = .ok (.return_, 1) := dk_177 (dk_at dksX6_fails_0 7 rfl rfl)
theorem dX6_fails_8 : decode cX6_fails 8 = .ok (.aload_n 0, 1) := dk_42 (dk_at dksX6_fails_0 8 rfl rfl)
theorem dX6_fails_9 : decode cX6_fails 9 = .ok (.iload_n 1, 1) := dk_27 (dk_at dksX6_fails_0 9 rfl rfl)
theorem dX6_fails_10 : decode cX6_fails 10 = .ok (.putfield 166, 3) := dk_181 0 166 (dk_at dksX6_fails_0 10 rfl rfl)
theorem dX6_fails_13 : decode cX6_fails 13 = .ok (.aload_n 0, 1) := dk_42 (dk_at dksX6_fails_0 13 rfl rfl)
theorem dX6_fails_14 : decode cX6_fails 14 = .ok (.aload_n 0, 1) := dk_42 (dk_at dksX6_fails_0 14 rfl rfl)
theorem dX6_fails_15 : decode cX6_fails 15 = .ok (.getfield 145, 3) := dk_180 0 145 (dk_at dksX6_fails_0 15 rfl rfl)
theorem dX6_fails_18 : decode cX6_fails 18 = .ok (.putfield 169, 3) := dk_181 0 169 (dk_at dksX6_fails_0 18 rfl rfl)
theorem dX6_fails_21 : decode cX6_fails 21 = .ok (.return_, 1) := dk_177 (dk_at dksX6_fails_0 21 rfl rfl)
abbrev cX6_number : ByteArray := prog_20_method_20_code
def yX6_number : MethodName := ⟨RX6, "number", "(JII)I"⟩
def dkwX6_number_0 : List UInt8 := [42, 31, 182, 0, 185, 42, 29, 21, 4, 182, 0, 189, 172]
abbrev dktX6_number_0 : List UInt8 := dkwX6_number_0 ++ []
theorem dksX6_number_0 : cX6_number.data.toList.drop 0 = dktX6_number_0 := by decide +kernel
theorem dX6_number_0 : decode cX6_number 0 = .ok (.aload_n 0, 1) := dk_42 (dk_at dksX6_number_0 0 rfl rfl)
theorem dX6_number_1 : decode cX6_number 1 = .ok (.lload_n 1, 1) := dk_31 (dk_at dksX6_number_0 1 rfl rfl)
theorem dX6_number_2 : decode cX6_number 2 = .ok (.invokevirtual 185, 3) := dk_182 0 185 (dk_at dksX6_number_0 2 rfl rfl)
theorem dX6_number_5 : decode cX6_number 5 = .ok (.aload_n 0, 1) := dk_42 (dk_at dksX6_number_0 5 rfl rfl)
theorem dX6_number_6 : decode cX6_number 6 = .ok (.iload_n 3, 1) := dk_29 (dk_at dksX6_number_0 6 rfl rfl)
theorem dX6_number_7 : decode cX6_number 7 = .ok (.iload 4, 2) := dk_21 4 (dk_at dksX6_number_0 7 rfl rfl)
theorem dX6_number_9 : decode cX6_number 9 = .ok (.invokevirtual 189, 3) := dk_182 0 189 (dk_at dksX6_number_0 9 rfl rfl)
theorem dX6_number_12 : decode cX6_number 12 = .ok (.ireturn, 1) := dk_172 (dk_at dksX6_number_0 12 rfl rfl)
abbrev cX6_number_2 : ByteArray := prog_20_method_19_code
def yX6_number_2 : MethodName := ⟨RX6, "number", "(II)I"⟩
def dkwX6_number_2_2 : List UInt8 := [180, 0, 148, 62, 42, 182, 0, 176, 29, 172]
abbrev dktX6_number_2_2 : List UInt8 := dkwX6_number_2_2 ++ []
def dkwX6_number_2_1 : List UInt8 := [42, 180, 0, 148, 133, 27, 133, 28, 133, 184, 0, 119, 154, 0, 10, 42, 5, 182, 0, 182, 27, 172, 42]
abbrev dktX6_number_2_1 : List UInt8 := dkwX6_number_2_1 ++ dktX6_number_2_2
def dkwX6_number_2_0 : List UInt8 := [42, 180, 0, 166, 153, 0, 5, 27, 172, 42, 180, 0, 155, 5, 159, 0, 10, 42, 4, 182, 0, 182, 27, 172]
abbrev dktX6_number_2_0 : List UInt8 := dkwX6_number_2_0 ++ dktX6_number_2_1
theorem dksX6_number_2_0 : cX6_number_2.data.toList.drop 0 = dktX6_number_2_0 := by decide +kernel
theorem dksX6_number_2_1 : cX6_number_2.data.toList.drop 24 = dktX6_number_2_1 := dk_seg dksX6_number_2_0 24 rfl rfl
theorem dksX6_number_2_2 : cX6_number_2.data.toList.drop 47 = dktX6_number_2_2 := dk_seg dksX6_number_2_1 23 rfl rfl
theorem dX6_number_2_0 : decode cX6_number_2 0 = .ok (.aload_n 0, 1) := dk_42 (dk_at dksX6_number_2_0 0 rfl rfl)
theorem dX6_number_2_1 : decode cX6_number_2 1 = .ok (.getfield 166, 3) := dk_180 0 166 (dk_at dksX6_number_2_0 1 rfl rfl)
theorem dX6_number_2_4 : decode cX6_number_2 4 = .ok (.ifCond .eq 5, 3) := dk_153 0 5 (dk_at dksX6_number_2_0 4 rfl rfl)
theorem dX6_number_2_7 : decode cX6_number_2 7 = .ok (.iload_n 1, 1) := dk_27 (dk_at dksX6_number_2_0 7 rfl rfl)
theorem dX6_number_2_8 : decode cX6_number_2 8 = .ok (.ireturn, 1) := dk_172 (dk_at dksX6_number_2_0 8 rfl rfl)
theorem dX6_number_2_9 : decode cX6_number_2 9 = .ok (.aload_n 0, 1) := dk_42 (dk_at dksX6_number_2_0 9 rfl rfl)
theorem dX6_number_2_10 : decode cX6_number_2 10 = .ok (.getfield 155, 3) := dk_180 0 155 (dk_at dksX6_number_2_0 10 rfl rfl)
theorem dX6_number_2_13 : decode cX6_number_2 13 = .ok (.iconst 2, 1) := dk_5 (dk_at dksX6_number_2_0 13 rfl rfl)
theorem dX6_number_2_14 : decode cX6_number_2 14 = .ok (.if_icmp .eq 10, 3) := dk_159 0 10 (dk_at dksX6_number_2_0 14 rfl rfl)
theorem dX6_number_2_17 : decode cX6_number_2 17 = .ok (.aload_n 0, 1) := dk_42 (dk_at dksX6_number_2_0 17 rfl rfl)
theorem dX6_number_2_18 : decode cX6_number_2 18 = .ok (.iconst 1, 1) := dk_4 (dk_at dksX6_number_2_0 18 rfl rfl)
theorem dX6_number_2_19 : decode cX6_number_2 19 = .ok (.invokevirtual 182, 3) := dk_182 0 182 (dk_at dksX6_number_2_0 19 rfl rfl)
theorem dX6_number_2_22 : decode cX6_number_2 22 = .ok (.iload_n 1, 1) := dk_27 (dk_at dksX6_number_2_0 22 rfl rfl)
theorem dX6_number_2_23 : decode cX6_number_2 23 = .ok (.ireturn, 1) := dk_172 (dk_at dksX6_number_2_0 23 rfl rfl)
theorem dX6_number_2_24 : decode cX6_number_2 24 = .ok (.aload_n 0, 1) := dk_42 (dk_at dksX6_number_2_1 0 rfl rfl)
theorem dX6_number_2_25 : decode cX6_number_2 25 = .ok (.getfield 148, 3) := dk_180 0 148 (dk_at dksX6_number_2_1 1 rfl rfl)
theorem dX6_number_2_28 : decode cX6_number_2 28 = .ok (.i2l, 1) := dk_133 (dk_at dksX6_number_2_1 4 rfl rfl)
theorem dX6_number_2_29 : decode cX6_number_2 29 = .ok (.iload_n 1, 1) := dk_27 (dk_at dksX6_number_2_1 5 rfl rfl)
theorem dX6_number_2_30 : decode cX6_number_2 30 = .ok (.i2l, 1) := dk_133 (dk_at dksX6_number_2_1 6 rfl rfl)
theorem dX6_number_2_31 : decode cX6_number_2 31 = .ok (.iload_n 2, 1) := dk_28 (dk_at dksX6_number_2_1 7 rfl rfl)
theorem dX6_number_2_32 : decode cX6_number_2 32 = .ok (.i2l, 1) := dk_133 (dk_at dksX6_number_2_1 8 rfl rfl)
theorem dX6_number_2_33 : decode cX6_number_2 33 = .ok (.invokestatic 119, 3) := dk_184 0 119 (dk_at dksX6_number_2_1 9 rfl rfl)
theorem dX6_number_2_36 : decode cX6_number_2 36 = .ok (.ifCond .ne 10, 3) := dk_154 0 10 (dk_at dksX6_number_2_1 12 rfl rfl)
theorem dX6_number_2_39 : decode cX6_number_2 39 = .ok (.aload_n 0, 1) := dk_42 (dk_at dksX6_number_2_1 15 rfl rfl)
theorem dX6_number_2_40 : decode cX6_number_2 40 = .ok (.iconst 2, 1) := dk_5 (dk_at dksX6_number_2_1 16 rfl rfl)
theorem dX6_number_2_41 : decode cX6_number_2 41 = .ok (.invokevirtual 182, 3) := dk_182 0 182 (dk_at dksX6_number_2_1 17 rfl rfl)
theorem dX6_number_2_44 : decode cX6_number_2 44 = .ok (.iload_n 1, 1) := dk_27 (dk_at dksX6_number_2_1 20 rfl rfl)
theorem dX6_number_2_45 : decode cX6_number_2 45 = .ok (.ireturn, 1) := dk_172 (dk_at dksX6_number_2_1 21 rfl rfl)
theorem dX6_number_2_46 : decode cX6_number_2 46 = .ok (.aload_n 0, 1) := dk_42 (dk_at dksX6_number_2_1 22 rfl rfl)
theorem dX6_number_2_47 : decode cX6_number_2 47 = .ok (.getfield 148, 3) := dk_180 0 148 (dk_at dksX6_number_2_2 0 rfl rfl)
theorem dX6_number_2_50 : decode cX6_number_2 50 = .ok (.istore_n 3, 1) := dk_62 (dk_at dksX6_number_2_2 3 rfl rfl)
theorem dX6_number_2_51 : decode cX6_number_2 51 = .ok (.aload_n 0, 1) := dk_42 (dk_at dksX6_number_2_2 4 rfl rfl)
theorem dX6_number_2_52 : decode cX6_number_2 52 = .ok (.invokevirtual 176, 3) := dk_182 0 176 (dk_at dksX6_number_2_2 5 rfl rfl)
theorem dX6_number_2_55 : decode cX6_number_2 55 = .ok (.iload_n 3, 1) := dk_29 (dk_at dksX6_number_2_2 8 rfl rfl)
theorem dX6_number_2_56 : decode cX6_number_2 56 = .ok (.ireturn, 1) := dk_172 (dk_at dksX6_number_2_2 9 rfl rfl)
abbrev cX6_line : ByteArray := prog_20_method_31_code
def yX6_line : MethodName := ⟨RX6, "line", "()V"⟩
def dkwX6_line_8 : List UInt8 := [182, 1, 4, 177]
abbrev dktX6_line_8 : List UInt8 := dkwX6_line_8 ++ []
def dkwX6_line_7 : List UInt8 := [42, 182, 0, 251, 167, 0, 21, 42, 182, 0, 254, 167, 0, 14, 42, 182, 1, 1, 167, 0, 7, 42]
abbrev dktX6_line_7 : List UInt8 := dkwX6_line_7 ++ dktX6_line_8
def dkwX6_line_6 : List UInt8 := [170, 0, 0, 0, 46, 0, 0, 0, 0, 0, 0, 0, 2, 0, 0, 0, 25, 0, 0, 0, 32, 0, 0, 0, 39]
abbrev dktX6_line_6 : List UInt8 := dkwX6_line_6 ++ dktX6_line_7
def dkwX6_line_5 : List UInt8 := [6, 182, 0, 182, 42, 180, 0, 166, 153, 0, 4, 177, 42, 182, 0, 176, 28]
abbrev dktX6_line_5 : List UInt8 := dkwX6_line_5 ++ dktX6_line_6
def dkwX6_line_4 : List UInt8 := [167, 0, 4, 2, 61, 28, 2, 160, 0, 8, 42, 4, 182, 0, 182, 42, 28, 182, 0, 248, 153, 0, 8, 42]
abbrev dktX6_line_4 : List UInt8 := dkwX6_line_4 ++ dktX6_line_5
def dkwX6_line_3 : List UInt8 := [20, 0, 244, 182, 0, 172, 153, 0, 7, 5, 167, 0, 18, 42, 20, 0, 246, 182, 0, 172, 153, 0, 7, 6]
abbrev dktX6_line_3 : List UInt8 := dkwX6_line_3 ++ dktX6_line_4
def dkwX6_line_2 : List UInt8 := [153, 0, 7, 3, 167, 0, 46, 42, 20, 0, 211, 182, 0, 172, 153, 0, 7, 4, 167, 0, 32, 42]
abbrev dktX6_line_2 : List UInt8 := dkwX6_line_2 ++ dktX6_line_3
def dkwX6_line_1 : List UInt8 := [4, 167, 0, 4, 2, 60, 27, 2, 159, 0, 9, 42, 27, 182, 0, 239, 177, 42, 20, 0, 242, 182, 0, 172]
abbrev dktX6_line_1 : List UInt8 := dkwX6_line_1 ++ dktX6_line_2
def dkwX6_line_0 : List UInt8 := [42, 20, 0, 235, 182, 0, 172, 153, 0, 7, 3, 167, 0, 18, 42, 20, 0, 237, 182, 0, 172, 153, 0, 7]
abbrev dktX6_line_0 : List UInt8 := dkwX6_line_0 ++ dktX6_line_1
theorem dksX6_line_0 : cX6_line.data.toList.drop 0 = dktX6_line_0 := by decide +kernel
theorem dksX6_line_1 : cX6_line.data.toList.drop 24 = dktX6_line_1 := dk_seg dksX6_line_0 24 rfl rfl
theorem dksX6_line_2 : cX6_line.data.toList.drop 48 = dktX6_line_2 := dk_seg dksX6_line_1 24 rfl rfl
theorem dksX6_line_3 : cX6_line.data.toList.drop 70 = dktX6_line_3 := dk_seg dksX6_line_2 22 rfl rfl
theorem dksX6_line_4 : cX6_line.data.toList.drop 94 = dktX6_line_4 := dk_seg dksX6_line_3 24 rfl rfl
theorem dksX6_line_5 : cX6_line.data.toList.drop 118 = dktX6_line_5 := dk_seg dksX6_line_4 24 rfl rfl
theorem dksX6_line_6 : cX6_line.data.toList.drop 135 = dktX6_line_6 := dk_seg dksX6_line_5 17 rfl rfl
theorem dksX6_line_7 : cX6_line.data.toList.drop 160 = dktX6_line_7 := dk_seg dksX6_line_6 25 rfl rfl
theorem dksX6_line_8 : cX6_line.data.toList.drop 182 = dktX6_line_8 := dk_seg dksX6_line_7 22 rfl rfl
theorem dX6_line_0 : decode cX6_line 0 = .ok (.aload_n 0, 1) := dk_42 (dk_at dksX6_line_0 0 rfl rfl)
theorem dX6_line_1 : decode cX6_line 1 = .ok (.ldc2_w 235, 3) := dk_20 0 235 (dk_at dksX6_line_0 1 rfl rfl)
theorem dX6_line_4 : decode cX6_line 4 = .ok (.invokevirtual 172, 3) := dk_182 0 172 (dk_at dksX6_line_0 4 rfl rfl)
theorem dX6_line_7 : decode cX6_line 7 = .ok (.ifCond .eq 7, 3) := dk_153 0 7 (dk_at dksX6_line_0 7 rfl rfl)
theorem dX6_line_10 : decode cX6_line 10 = .ok (.iconst 0, 1) := dk_3 (dk_at dksX6_line_0 10 rfl rfl)
theorem dX6_line_11 : decode cX6_line 11 = .ok (.goto 18, 3) := dk_167 0 18 (dk_at dksX6_line_0 11 rfl rfl)
theorem dX6_line_14 : decode cX6_line 14 = .ok (.aload_n 0, 1) := dk_42 (dk_at dksX6_line_0 14 rfl rfl)
theorem dX6_line_15 : decode cX6_line 15 = .ok (.ldc2_w 237, 3) := dk_20 0 237 (dk_at dksX6_line_0 15 rfl rfl)
theorem dX6_line_18 : decode cX6_line 18 = .ok (.invokevirtual 172, 3) := dk_182 0 172 (dk_at dksX6_line_0 18 rfl rfl)
theorem dX6_line_21 : decode cX6_line 21 = .ok (.ifCond .eq 7, 3) := dk_153 0 7 (dk_at dksX6_line_0 21 rfl rfl)
theorem dX6_line_24 : decode cX6_line 24 = .ok (.iconst 1, 1) := dk_4 (dk_at dksX6_line_1 0 rfl rfl)
theorem dX6_line_25 : decode cX6_line 25 = .ok (.goto 4, 3) := dk_167 0 4 (dk_at dksX6_line_1 1 rfl rfl)
theorem dX6_line_28 : decode cX6_line 28 = .ok (.iconst (-1), 1) := dk_2 (dk_at dksX6_line_1 4 rfl rfl)
theorem dX6_line_29 : decode cX6_line 29 = .ok (.istore_n 1, 1) := dk_60 (dk_at dksX6_line_1 5 rfl rfl)
theorem dX6_line_30 : decode cX6_line 30 = .ok (.iload_n 1, 1) := dk_27 (dk_at dksX6_line_1 6 rfl rfl)
theorem dX6_line_31 : decode cX6_line 31 = .ok (.iconst (-1), 1) := dk_2 (dk_at dksX6_line_1 7 rfl rfl)
theorem dX6_line_32 : decode cX6_line 32 = .ok (.if_icmp .eq 9, 3) := dk_159 0 9 (dk_at dksX6_line_1 8 rfl rfl)
theorem dX6_line_35 : decode cX6_line 35 = .ok (.aload_n 0, 1) := dk_42 (dk_at dksX6_line_1 11 rfl rfl)
theorem dX6_line_36 : decode cX6_line 36 = .ok (.iload_n 1, 1) := dk_27 (dk_at dksX6_line_1 12 rfl rfl)
theorem dX6_line_37 : decode cX6_line 37 = .ok (.invokevirtual 239, 3) := dk_182 0 239 (dk_at dksX6_line_1 13 rfl rfl)
theorem dX6_line_40 : decode cX6_line 40 = .ok (.return_, 1) := dk_177 (dk_at dksX6_line_1 16 rfl rfl)
theorem dX6_line_41 : decode cX6_line 41 = .ok (.aload_n 0, 1) := dk_42 (dk_at dksX6_line_1 17 rfl rfl)
theorem dX6_line_42 : decode cX6_line 42 = .ok (.ldc2_w 242, 3) := dk_20 0 242 (dk_at dksX6_line_1 18 rfl rfl)
theorem dX6_line_45 : decode cX6_line 45 = .ok (.invokevirtual 172, 3) := dk_182 0 172 (dk_at dksX6_line_1 21 rfl rfl)
theorem dX6_line_48 : decode cX6_line 48 = .ok (.ifCond .eq 7, 3) := dk_153 0 7 (dk_at dksX6_line_2 0 rfl rfl)
theorem dX6_line_51 : decode cX6_line 51 = .ok (.iconst 0, 1) := dk_3 (dk_at dksX6_line_2 3 rfl rfl)
theorem dX6_line_52 : decode cX6_line 52 = .ok (.goto 46, 3) := dk_167 0 46 (dk_at dksX6_line_2 4 rfl rfl)
theorem dX6_line_55 : decode cX6_line 55 = .ok (.aload_n 0, 1) := dk_42 (dk_at dksX6_line_2 7 rfl rfl)
theorem dX6_line_56 : decode cX6_line 56 = .ok (.ldc2_w 211, 3) := dk_20 0 211 (dk_at dksX6_line_2 8 rfl rfl)
theorem dX6_line_59 : decode cX6_line 59 = .ok (.invokevirtual 172, 3) := dk_182 0 172 (dk_at dksX6_line_2 11 rfl rfl)
theorem dX6_line_62 : decode cX6_line 62 = .ok (.ifCond .eq 7, 3) := dk_153 0 7 (dk_at dksX6_line_2 14 rfl rfl)
theorem dX6_line_65 : decode cX6_line 65 = .ok (.iconst 1, 1) := dk_4 (dk_at dksX6_line_2 17 rfl rfl)
theorem dX6_line_66 : decode cX6_line 66 = .ok (.goto 32, 3) := dk_167 0 32 (dk_at dksX6_line_2 18 rfl rfl)
theorem dX6_line_69 : decode cX6_line 69 = .ok (.aload_n 0, 1) := dk_42 (dk_at dksX6_line_2 21 rfl rfl)
theorem dX6_line_70 : decode cX6_line 70 = .ok (.ldc2_w 244, 3) := dk_20 0 244 (dk_at dksX6_line_3 0 rfl rfl)
theorem dX6_line_73 : decode cX6_line 73 = .ok (.invokevirtual 172, 3) := dk_182 0 172 (dk_at dksX6_line_3 3 rfl rfl)
theorem dX6_line_76 : decode cX6_line 76 = .ok (.ifCond .eq 7, 3) := dk_153 0 7 (dk_at dksX6_line_3 6 rfl rfl)
theorem dX6_line_79 : decode cX6_line 79 = .ok (.iconst 2, 1) := dk_5 (dk_at dksX6_line_3 9 rfl rfl)
theorem dX6_line_80 : decode cX6_line 80 = .ok (.goto 18, 3) := dk_167 0 18 (dk_at dksX6_line_3 10 rfl rfl)
theorem dX6_line_83 : decode cX6_line 83 = .ok (.aload_n 0, 1) := dk_42 (dk_at dksX6_line_3 13 rfl rfl)
theorem dX6_line_84 : decode cX6_line 84 = .ok (.ldc2_w 246, 3) := dk_20 0 246 (dk_at dksX6_line_3 14 rfl rfl)
theorem dX6_line_87 : decode cX6_line 87 = .ok (.invokevirtual 172, 3) := dk_182 0 172 (dk_at dksX6_line_3 17 rfl rfl)
theorem dX6_line_90 : decode cX6_line 90 = .ok (.ifCond .eq 7, 3) := dk_153 0 7 (dk_at dksX6_line_3 20 rfl rfl)
theorem dX6_line_93 : decode cX6_line 93 = .ok (.iconst 3, 1) := dk_6 (dk_at dksX6_line_3 23 rfl rfl)
theorem dX6_line_94 : decode cX6_line 94 = .ok (.goto 4, 3) := dk_167 0 4 (dk_at dksX6_line_4 0 rfl rfl)
theorem dX6_line_97 : decode cX6_line 97 = .ok (.iconst (-1), 1) := dk_2 (dk_at dksX6_line_4 3 rfl rfl)
theorem dX6_line_98 : decode cX6_line 98 = .ok (.istore_n 2, 1) := dk_61 (dk_at dksX6_line_4 4 rfl rfl)
theorem dX6_line_99 : decode cX6_line 99 = .ok (.iload_n 2, 1) := dk_28 (dk_at dksX6_line_4 5 rfl rfl)
theorem dX6_line_100 : decode cX6_line 100 = .ok (.iconst (-1), 1) := dk_2 (dk_at dksX6_line_4 6 rfl rfl)
theorem dX6_line_101 : decode cX6_line 101 = .ok (.if_icmp .ne 8, 3) := dk_160 0 8 (dk_at dksX6_line_4 7 rfl rfl)
theorem dX6_line_104 : decode cX6_line 104 = .ok (.aload_n 0, 1) := dk_42 (dk_at dksX6_line_4 10 rfl rfl)
theorem dX6_line_105 : decode cX6_line 105 = .ok (.iconst 1, 1) := dk_4 (dk_at dksX6_line_4 11 rfl rfl)
theorem dX6_line_106 : decode cX6_line 106 = .ok (.invokevirtual 182, 3) := dk_182 0 182 (dk_at dksX6_line_4 12 rfl rfl)
theorem dX6_line_109 : decode cX6_line 109 = .ok (.aload_n 0, 1) := dk_42 (dk_at dksX6_line_4 15 rfl rfl)
theorem dX6_line_110 : decode cX6_line 110 = .ok (.iload_n 2, 1) := dk_28 (dk_at dksX6_line_4 16 rfl rfl)
theorem dX6_line_111 : decode cX6_line 111 = .ok (.invokevirtual 248, 3) := dk_182 0 248 (dk_at dksX6_line_4 17 rfl rfl)
theorem dX6_line_114 : decode cX6_line 114 = .ok (.ifCond .eq 8, 3) := dk_153 0 8 (dk_at dksX6_line_4 20 rfl rfl)
theorem dX6_line_117 : decode cX6_line 117 = .ok (.aload_n 0, 1) := dk_42 (dk_at dksX6_line_4 23 rfl rfl)
theorem dX6_line_118 : decode cX6_line 118 = .ok (.iconst 3, 1) := dk_6 (dk_at dksX6_line_5 0 rfl rfl)
theorem dX6_line_119 : decode cX6_line 119 = .ok (.invokevirtual 182, 3) := dk_182 0 182 (dk_at dksX6_line_5 1 rfl rfl)
theorem dX6_line_122 : decode cX6_line 122 = .ok (.aload_n 0, 1) := dk_42 (dk_at dksX6_line_5 4 rfl rfl)
theorem dX6_line_123 : decode cX6_line 123 = .ok (.getfield 166, 3) := dk_180 0 166 (dk_at dksX6_line_5 5 rfl rfl)
theorem dX6_line_126 : decode cX6_line 126 = .ok (.ifCond .eq 4, 3) := dk_153 0 4 (dk_at dksX6_line_5 8 rfl rfl)
theorem dX6_line_129 : decode cX6_line 129 = .ok (.return_, 1) := dk_177 (dk_at dksX6_line_5 11 rfl rfl)
theorem dX6_line_130 : decode cX6_line 130 = .ok (.aload_n 0, 1) := dk_42 (dk_at dksX6_line_5 12 rfl rfl)
theorem dX6_line_131 : decode cX6_line 131 = .ok (.invokevirtual 176, 3) := dk_182 0 176 (dk_at dksX6_line_5 13 rfl rfl)
theorem dX6_line_134 : decode cX6_line 134 = .ok (.iload_n 2, 1) := dk_28 (dk_at dksX6_line_5 16 rfl rfl)
theorem dX6_line_135 : decode cX6_line 135 = .ok (.tableswitch 46 0 2 #[25, 32, 39], 25) := by decide +kernel
theorem dX6_line_160 : decode cX6_line 160 = .ok (.aload_n 0, 1) := dk_42 (dk_at dksX6_line_7 0 rfl rfl)
theorem dX6_line_161 : decode cX6_line 161 = .ok (.invokevirtual 251, 3) := dk_182 0 251 (dk_at dksX6_line_7 1 rfl rfl)
theorem dX6_line_164 : decode cX6_line 164 = .ok (.goto 21, 3) := dk_167 0 21 (dk_at dksX6_line_7 4 rfl rfl)
theorem dX6_line_167 : decode cX6_line 167 = .ok (.aload_n 0, 1) := dk_42 (dk_at dksX6_line_7 7 rfl rfl)
theorem dX6_line_168 : decode cX6_line 168 = .ok (.invokevirtual 254, 3) := dk_182 0 254 (dk_at dksX6_line_7 8 rfl rfl)
theorem dX6_line_171 : decode cX6_line 171 = .ok (.goto 14, 3) := dk_167 0 14 (dk_at dksX6_line_7 11 rfl rfl)
theorem dX6_line_174 : decode cX6_line 174 = .ok (.aload_n 0, 1) := dk_42 (dk_at dksX6_line_7 14 rfl rfl)
theorem dX6_line_175 : decode cX6_line 175 = .ok (.invokevirtual 257, 3) := dk_182 1 1 (dk_at dksX6_line_7 15 rfl rfl)
theorem dX6_line_178 : decode cX6_line 178 = .ok (.goto 7, 3) := dk_167 0 7 (dk_at dksX6_line_7 18 rfl rfl)
theorem dX6_line_181 : decode cX6_line 181 = .ok (.aload_n 0, 1) := dk_42 (dk_at dksX6_line_7 21 rfl rfl)
theorem dX6_line_182 : decode cX6_line 182 = .ok (.invokevirtual 260, 3) := dk_182 1 4 (dk_at dksX6_line_8 0 rfl rfl)
theorem dX6_line_185 : decode cX6_line 185 = .ok (.return_, 1) := dk_177 (dk_at dksX6_line_8 3 rfl rfl)
abbrev cX6_onceLine : ByteArray := prog_20_method_29_code
def yX6_onceLine : MethodName := ⟨RX6, "onceLine", "(I)V"⟩
def dkwX6_onceLine_6 : List UInt8 := [16, 99, 182, 0, 198, 79, 42, 180, 0, 64, 28, 6, 96, 4, 79, 177]
abbrev dktX6_onceLine_6 : List UInt8 := dkwX6_onceLine_6 ++ []
def dkwX6_onceLine_5 : List UInt8 := [20, 0, 231, 3, 17, 3, 231, 182, 0, 198, 79, 42, 180, 0, 64, 28, 8, 96, 42, 20, 0, 233, 3]
abbrev dktX6_onceLine_5 : List UInt8 := dkwX6_onceLine_5 ++ dktX6_onceLine_6
def dkwX6_onceLine_4 : List UInt8 := [182, 0, 179, 153, 0, 7, 4, 167, 0, 4, 3, 79, 167, 0, 49, 42, 180, 0, 64, 28, 7, 96, 42]
abbrev dktX6_onceLine_4 : List UInt8 := dkwX6_onceLine_4 ++ dktX6_onceLine_5
def dkwX6_onceLine_3 : List UInt8 := [96, 42, 20, 0, 227, 3, 16, 100, 182, 0, 198, 79, 42, 180, 0, 64, 28, 5, 96, 42, 20, 0, 229]
abbrev dktX6_onceLine_3 : List UInt8 := dkwX6_onceLine_3 ++ dktX6_onceLine_4
def dkwX6_onceLine_2 : List UInt8 := [180, 0, 64, 28, 3, 96, 42, 20, 0, 203, 3, 17, 3, 231, 182, 0, 198, 79, 42, 180, 0, 64, 28, 4]
abbrev dktX6_onceLine_2 : List UInt8 := dkwX6_onceLine_2 ++ dktX6_onceLine_3
def dkwX6_onceLine_1 : List UInt8 := [177, 42, 182, 0, 176, 42, 180, 0, 67, 16, 8, 27, 96, 4, 84, 16, 28, 61, 27, 154, 0, 66, 42]
abbrev dktX6_onceLine_1 : List UInt8 := dkwX6_onceLine_1 ++ dktX6_onceLine_2
def dkwX6_onceLine_0 : List UInt8 := [42, 180, 0, 67, 16, 8, 27, 96, 51, 153, 0, 8, 42, 5, 182, 0, 182, 42, 180, 0, 166, 153, 0, 4]
abbrev dktX6_onceLine_0 : List UInt8 := dkwX6_onceLine_0 ++ dktX6_onceLine_1
theorem dksX6_onceLine_0 : cX6_onceLine.data.toList.drop 0 = dktX6_onceLine_0 := by decide +kernel
theorem dksX6_onceLine_1 : cX6_onceLine.data.toList.drop 24 = dktX6_onceLine_1 := dk_seg dksX6_onceLine_0 24 rfl rfl
theorem dksX6_onceLine_2 : cX6_onceLine.data.toList.drop 47 = dktX6_onceLine_2 := dk_seg dksX6_onceLine_1 23 rfl rfl
theorem dksX6_onceLine_3 : cX6_onceLine.data.toList.drop 71 = dktX6_onceLine_3 := dk_seg dksX6_onceLine_2 24 rfl rfl
theorem dksX6_onceLine_4 : cX6_onceLine.data.toList.drop 94 = dktX6_onceLine_4 := dk_seg dksX6_onceLine_3 23 rfl rfl
theorem dksX6_onceLine_5 : cX6_onceLine.data.toList.drop 117 = dktX6_onceLine_5 := dk_seg dksX6_onceLine_4 23 rfl rfl
theorem dksX6_onceLine_6 : cX6_onceLine.data.toList.drop 140 = dktX6_onceLine_6 := dk_seg dksX6_onceLine_5 23 rfl rfl
theorem dX6_onceLine_0 : decode cX6_onceLine 0 = .ok (.aload_n 0, 1) := dk_42 (dk_at dksX6_onceLine_0 0 rfl rfl)
theorem dX6_onceLine_1 : decode cX6_onceLine 1 = .ok (.getfield 67, 3) := dk_180 0 67 (dk_at dksX6_onceLine_0 1 rfl rfl)
theorem dX6_onceLine_4 : decode cX6_onceLine 4 = .ok (.bipush 8, 2) := dk_16 8 (dk_at dksX6_onceLine_0 4 rfl rfl)
theorem dX6_onceLine_6 : decode cX6_onceLine 6 = .ok (.iload_n 1, 1) := dk_27 (dk_at dksX6_onceLine_0 6 rfl rfl)
theorem dX6_onceLine_7 : decode cX6_onceLine 7 = .ok (.iadd, 1) := dk_96 (dk_at dksX6_onceLine_0 7 rfl rfl)
theorem dX6_onceLine_8 : decode cX6_onceLine 8 = .ok (.baload, 1) := dk_51 (dk_at dksX6_onceLine_0 8 rfl rfl)
theorem dX6_onceLine_9 : decode cX6_onceLine 9 = .ok (.ifCond .eq 8, 3) := dk_153 0 8 (dk_at dksX6_onceLine_0 9 rfl rfl)
theorem dX6_onceLine_12 : decode cX6_onceLine 12 = .ok (.aload_n 0, 1) := dk_42 (dk_at dksX6_onceLine_0 12 rfl rfl)
theorem dX6_onceLine_13 : decode cX6_onceLine 13 = .ok (.iconst 2, 1) := dk_5 (dk_at dksX6_onceLine_0 13 rfl rfl)
theorem dX6_onceLine_14 : decode cX6_onceLine 14 = .ok (.invokevirtual 182, 3) := dk_182 0 182 (dk_at dksX6_onceLine_0 14 rfl rfl)
theorem dX6_onceLine_17 : decode cX6_onceLine 17 = .ok (.aload_n 0, 1) := dk_42 (dk_at dksX6_onceLine_0 17 rfl rfl)
theorem dX6_onceLine_18 : decode cX6_onceLine 18 = .ok (.getfield 166, 3) := dk_180 0 166 (dk_at dksX6_onceLine_0 18 rfl rfl)
theorem dX6_onceLine_21 : decode cX6_onceLine 21 = .ok (.ifCond .eq 4, 3) := dk_153 0 4 (dk_at dksX6_onceLine_0 21 rfl rfl)
theorem dX6_onceLine_24 : decode cX6_onceLine 24 = .ok (.return_, 1) := dk_177 (dk_at dksX6_onceLine_1 0 rfl rfl)
theorem dX6_onceLine_25 : decode cX6_onceLine 25 = .ok (.aload_n 0, 1) := dk_42 (dk_at dksX6_onceLine_1 1 rfl rfl)
theorem dX6_onceLine_26 : decode cX6_onceLine 26 = .ok (.invokevirtual 176, 3) := dk_182 0 176 (dk_at dksX6_onceLine_1 2 rfl rfl)
theorem dX6_onceLine_29 : decode cX6_onceLine 29 = .ok (.aload_n 0, 1) := dk_42 (dk_at dksX6_onceLine_1 5 rfl rfl)
theorem dX6_onceLine_30 : decode cX6_onceLine 30 = .ok (.getfield 67, 3) := dk_180 0 67 (dk_at dksX6_onceLine_1 6 rfl rfl)
theorem dX6_onceLine_33 : decode cX6_onceLine 33 = .ok (.bipush 8, 2) := dk_16 8 (dk_at dksX6_onceLine_1 9 rfl rfl)
theorem dX6_onceLine_35 : decode cX6_onceLine 35 = .ok (.iload_n 1, 1) := dk_27 (dk_at dksX6_onceLine_1 11 rfl rfl)
theorem dX6_onceLine_36 : decode cX6_onceLine 36 = .ok (.iadd, 1) := dk_96 (dk_at dksX6_onceLine_1 12 rfl rfl)
theorem dX6_onceLine_37 : decode cX6_onceLine 37 = .ok (.iconst 1, 1) := dk_4 (dk_at dksX6_onceLine_1 13 rfl rfl)
theorem dX6_onceLine_38 : decode cX6_onceLine 38 = .ok (.bastore, 1) := dk_84 (dk_at dksX6_onceLine_1 14 rfl rfl)
theorem dX6_onceLine_39 : decode cX6_onceLine 39 = .ok (.bipush 28, 2) := dk_16 28 (dk_at dksX6_onceLine_1 15 rfl rfl)
theorem dX6_onceLine_41 : decode cX6_onceLine 41 = .ok (.istore_n 2, 1) := dk_61 (dk_at dksX6_onceLine_1 17 rfl rfl)
theorem dX6_onceLine_42 : decode cX6_onceLine 42 = .ok (.iload_n 1, 1) := dk_27 (dk_at dksX6_onceLine_1 18 rfl rfl)
theorem dX6_onceLine_43 : decode cX6_onceLine 43 = .ok (.ifCond .ne 66, 3) := dk_154 0 66 (dk_at dksX6_onceLine_1 19 rfl rfl)
theorem dX6_onceLine_46 : decode cX6_onceLine 46 = .ok (.aload_n 0, 1) := dk_42 (dk_at dksX6_onceLine_1 22 rfl rfl)
theorem dX6_onceLine_47 : decode cX6_onceLine 47 = .ok (.getfield 64, 3) := dk_180 0 64 (dk_at dksX6_onceLine_2 0 rfl rfl)
theorem dX6_onceLine_50 : decode cX6_onceLine 50 = .ok (.iload_n 2, 1) := dk_28 (dk_at dksX6_onceLine_2 3 rfl rfl)
theorem dX6_onceLine_51 : decode cX6_onceLine 51 = .ok (.iconst 0, 1) := dk_3 (dk_at dksX6_onceLine_2 4 rfl rfl)
theorem dX6_onceLine_52 : decode cX6_onceLine 52 = .ok (.iadd, 1) := dk_96 (dk_at dksX6_onceLine_2 5 rfl rfl)
theorem dX6_onceLine_53 : decode cX6_onceLine 53 = .ok (.aload_n 0, 1) := dk_42 (dk_at dksX6_onceLine_2 6 rfl rfl)
theorem dX6_onceLine_54 : decode cX6_onceLine 54 = .ok (.ldc2_w 203, 3) := dk_20 0 203 (dk_at dksX6_onceLine_2 7 rfl rfl)
theorem dX6_onceLine_57 : decode cX6_onceLine 57 = .ok (.iconst 0, 1) := dk_3 (dk_at dksX6_onceLine_2 10 rfl rfl)
theorem dX6_onceLine_58 : decode cX6_onceLine 58 = .ok (.sipush 999, 3) := dk_17 3 231 (dk_at dksX6_onceLine_2 11 rfl rfl)
theorem dX6_onceLine_61 : decode cX6_onceLine 61 = .ok (.invokevirtual 198, 3) := dk_182 0 198 (dk_at dksX6_onceLine_2 14 rfl rfl)
theorem dX6_onceLine_64 : decode cX6_onceLine 64 = .ok (.iastore, 1) := dk_79 (dk_at dksX6_onceLine_2 17 rfl rfl)
theorem dX6_onceLine_65 : decode cX6_onceLine 65 = .ok (.aload_n 0, 1) := dk_42 (dk_at dksX6_onceLine_2 18 rfl rfl)
theorem dX6_onceLine_66 : decode cX6_onceLine 66 = .ok (.getfield 64, 3) := dk_180 0 64 (dk_at dksX6_onceLine_2 19 rfl rfl)
theorem dX6_onceLine_69 : decode cX6_onceLine 69 = .ok (.iload_n 2, 1) := dk_28 (dk_at dksX6_onceLine_2 22 rfl rfl)
theorem dX6_onceLine_70 : decode cX6_onceLine 70 = .ok (.iconst 1, 1) := dk_4 (dk_at dksX6_onceLine_2 23 rfl rfl)
theorem dX6_onceLine_71 : decode cX6_onceLine 71 = .ok (.iadd, 1) := dk_96 (dk_at dksX6_onceLine_3 0 rfl rfl)
theorem dX6_onceLine_72 : decode cX6_onceLine 72 = .ok (.aload_n 0, 1) := dk_42 (dk_at dksX6_onceLine_3 1 rfl rfl)
theorem dX6_onceLine_73 : decode cX6_onceLine 73 = .ok (.ldc2_w 227, 3) := dk_20 0 227 (dk_at dksX6_onceLine_3 2 rfl rfl)
theorem dX6_onceLine_76 : decode cX6_onceLine 76 = .ok (.iconst 0, 1) := dk_3 (dk_at dksX6_onceLine_3 5 rfl rfl)
theorem dX6_onceLine_77 : decode cX6_onceLine 77 = .ok (.bipush 100, 2) := dk_16 100 (dk_at dksX6_onceLine_3 6 rfl rfl)
theorem dX6_onceLine_79 : decode cX6_onceLine 79 = .ok (.invokevirtual 198, 3) := dk_182 0 198 (dk_at dksX6_onceLine_3 8 rfl rfl)
theorem dX6_onceLine_82 : decode cX6_onceLine 82 = .ok (.iastore, 1) := dk_79 (dk_at dksX6_onceLine_3 11 rfl rfl)
theorem dX6_onceLine_83 : decode cX6_onceLine 83 = .ok (.aload_n 0, 1) := dk_42 (dk_at dksX6_onceLine_3 12 rfl rfl)
theorem dX6_onceLine_84 : decode cX6_onceLine 84 = .ok (.getfield 64, 3) := dk_180 0 64 (dk_at dksX6_onceLine_3 13 rfl rfl)
theorem dX6_onceLine_87 : decode cX6_onceLine 87 = .ok (.iload_n 2, 1) := dk_28 (dk_at dksX6_onceLine_3 16 rfl rfl)
theorem dX6_onceLine_88 : decode cX6_onceLine 88 = .ok (.iconst 2, 1) := dk_5 (dk_at dksX6_onceLine_3 17 rfl rfl)
theorem dX6_onceLine_89 : decode cX6_onceLine 89 = .ok (.iadd, 1) := dk_96 (dk_at dksX6_onceLine_3 18 rfl rfl)
theorem dX6_onceLine_90 : decode cX6_onceLine 90 = .ok (.aload_n 0, 1) := dk_42 (dk_at dksX6_onceLine_3 19 rfl rfl)
theorem dX6_onceLine_91 : decode cX6_onceLine 91 = .ok (.ldc2_w 229, 3) := dk_20 0 229 (dk_at dksX6_onceLine_3 20 rfl rfl)
theorem dX6_onceLine_94 : decode cX6_onceLine 94 = .ok (.invokevirtual 179, 3) := dk_182 0 179 (dk_at dksX6_onceLine_4 0 rfl rfl)
theorem dX6_onceLine_97 : decode cX6_onceLine 97 = .ok (.ifCond .eq 7, 3) := dk_153 0 7 (dk_at dksX6_onceLine_4 3 rfl rfl)
theorem dX6_onceLine_100 : decode cX6_onceLine 100 = .ok (.iconst 1, 1) := dk_4 (dk_at dksX6_onceLine_4 6 rfl rfl)
theorem dX6_onceLine_101 : decode cX6_onceLine 101 = .ok (.goto 4, 3) := dk_167 0 4 (dk_at dksX6_onceLine_4 7 rfl rfl)
theorem dX6_onceLine_104 : decode cX6_onceLine 104 = .ok (.iconst 0, 1) := dk_3 (dk_at dksX6_onceLine_4 10 rfl rfl)
theorem dX6_onceLine_105 : decode cX6_onceLine 105 = .ok (.iastore, 1) := dk_79 (dk_at dksX6_onceLine_4 11 rfl rfl)
theorem dX6_onceLine_106 : decode cX6_onceLine 106 = .ok (.goto 49, 3) := dk_167 0 49 (dk_at dksX6_onceLine_4 12 rfl rfl)
theorem dX6_onceLine_109 : decode cX6_onceLine 109 = .ok (.aload_n 0, 1) := dk_42 (dk_at dksX6_onceLine_4 15 rfl rfl)
theorem dX6_onceLine_110 : decode cX6_onceLine 110 = .ok (.getfield 64, 3) := dk_180 0 64 (dk_at dksX6_onceLine_4 16 rfl rfl)
theorem dX6_onceLine_113 : decode cX6_onceLine 113 = .ok (.iload_n 2, 1) := dk_28 (dk_at dksX6_onceLine_4 19 rfl rfl)
theorem dX6_onceLine_114 : decode cX6_onceLine 114 = .ok (.iconst 4, 1) := dk_7 (dk_at dksX6_onceLine_4 20 rfl rfl)
theorem dX6_onceLine_115 : decode cX6_onceLine 115 = .ok (.iadd, 1) := dk_96 (dk_at dksX6_onceLine_4 21 rfl rfl)
theorem dX6_onceLine_116 : decode cX6_onceLine 116 = .ok (.aload_n 0, 1) := dk_42 (dk_at dksX6_onceLine_4 22 rfl rfl)
theorem dX6_onceLine_117 : decode cX6_onceLine 117 = .ok (.ldc2_w 231, 3) := dk_20 0 231 (dk_at dksX6_onceLine_5 0 rfl rfl)
theorem dX6_onceLine_120 : decode cX6_onceLine 120 = .ok (.iconst 0, 1) := dk_3 (dk_at dksX6_onceLine_5 3 rfl rfl)
theorem dX6_onceLine_121 : decode cX6_onceLine 121 = .ok (.sipush 999, 3) := dk_17 3 231 (dk_at dksX6_onceLine_5 4 rfl rfl)
theorem dX6_onceLine_124 : decode cX6_onceLine 124 = .ok (.invokevirtual 198, 3) := dk_182 0 198 (dk_at dksX6_onceLine_5 7 rfl rfl)
theorem dX6_onceLine_127 : decode cX6_onceLine 127 = .ok (.iastore, 1) := dk_79 (dk_at dksX6_onceLine_5 10 rfl rfl)
theorem dX6_onceLine_128 : decode cX6_onceLine 128 = .ok (.aload_n 0, 1) := dk_42 (dk_at dksX6_onceLine_5 11 rfl rfl)
theorem dX6_onceLine_129 : decode cX6_onceLine 129 = .ok (.getfield 64, 3) := dk_180 0 64 (dk_at dksX6_onceLine_5 12 rfl rfl)
theorem dX6_onceLine_132 : decode cX6_onceLine 132 = .ok (.iload_n 2, 1) := dk_28 (dk_at dksX6_onceLine_5 15 rfl rfl)
theorem dX6_onceLine_133 : decode cX6_onceLine 133 = .ok (.iconst 5, 1) := dk_8 (dk_at dksX6_onceLine_5 16 rfl rfl)
theorem dX6_onceLine_134 : decode cX6_onceLine 134 = .ok (.iadd, 1) := dk_96 (dk_at dksX6_onceLine_5 17 rfl rfl)
theorem dX6_onceLine_135 : decode cX6_onceLine 135 = .ok (.aload_n 0, 1) := dk_42 (dk_at dksX6_onceLine_5 18 rfl rfl)
theorem dX6_onceLine_136 : decode cX6_onceLine 136 = .ok (.ldc2_w 233, 3) := dk_20 0 233 (dk_at dksX6_onceLine_5 19 rfl rfl)
theorem dX6_onceLine_139 : decode cX6_onceLine 139 = .ok (.iconst 0, 1) := dk_3 (dk_at dksX6_onceLine_5 22 rfl rfl)
theorem dX6_onceLine_140 : decode cX6_onceLine 140 = .ok (.bipush 99, 2) := dk_16 99 (dk_at dksX6_onceLine_6 0 rfl rfl)
theorem dX6_onceLine_142 : decode cX6_onceLine 142 = .ok (.invokevirtual 198, 3) := dk_182 0 198 (dk_at dksX6_onceLine_6 2 rfl rfl)
theorem dX6_onceLine_145 : decode cX6_onceLine 145 = .ok (.iastore, 1) := dk_79 (dk_at dksX6_onceLine_6 5 rfl rfl)
theorem dX6_onceLine_146 : decode cX6_onceLine 146 = .ok (.aload_n 0, 1) := dk_42 (dk_at dksX6_onceLine_6 6 rfl rfl)
theorem dX6_onceLine_147 : decode cX6_onceLine 147 = .ok (.getfield 64, 3) := dk_180 0 64 (dk_at dksX6_onceLine_6 7 rfl rfl)
theorem dX6_onceLine_150 : decode cX6_onceLine 150 = .ok (.iload_n 2, 1) := dk_28 (dk_at dksX6_onceLine_6 10 rfl rfl)
theorem dX6_onceLine_151 : decode cX6_onceLine 151 = .ok (.iconst 3, 1) := dk_6 (dk_at dksX6_onceLine_6 11 rfl rfl)
theorem dX6_onceLine_152 : decode cX6_onceLine 152 = .ok (.iadd, 1) := dk_96 (dk_at dksX6_onceLine_6 12 rfl rfl)
theorem dX6_onceLine_153 : decode cX6_onceLine 153 = .ok (.iconst 1, 1) := dk_4 (dk_at dksX6_onceLine_6 13 rfl rfl)
theorem dX6_onceLine_154 : decode cX6_onceLine 154 = .ok (.iastore, 1) := dk_79 (dk_at dksX6_onceLine_6 14 rfl rfl)
theorem dX6_onceLine_155 : decode cX6_onceLine 155 = .ok (.return_, 1) := dk_177 (dk_at dksX6_onceLine_6 15 rfl rfl)
abbrev cX6_isFull : ByteArray := prog_20_method_30_code
def yX6_isFull : MethodName := ⟨RX6, "isFull", "(I)Z"⟩
def dkwX6_isFull_4 : List UInt8 := [3, 172, 42, 180, 0, 58, 7, 46, 16, 6, 160, 0, 7, 4, 167, 0, 4, 3, 172]
abbrev dktX6_isFull_4 : List UInt8 := dkwX6_isFull_4 ++ []
def dkwX6_isFull_3 : List UInt8 := [160, 0, 7, 4, 167, 0, 4, 3, 172, 42, 180, 0, 52, 7, 46, 16, 10, 160, 0, 7, 4, 167, 0, 4]
abbrev dktX6_isFull_3 : List UInt8 := dkwX6_isFull_3 ++ dktX6_isFull_4
def dkwX6_isFull_2 : List UInt8 := [42, 180, 0, 40, 7, 46, 7, 160, 0, 7, 4, 167, 0, 4, 3, 172, 42, 180, 0, 46, 7, 46, 8]
abbrev dktX6_isFull_2 : List UInt8 := dkwX6_isFull_2 ++ dktX6_isFull_3
def dkwX6_isFull_1 : List UInt8 := [170, 0, 0, 0, 0, 0, 76, 0, 0, 0, 0, 0, 0, 0, 2, 0, 0, 0, 27, 0, 0, 0, 43, 0, 0, 0, 59]
abbrev dktX6_isFull_1 : List UInt8 := dkwX6_isFull_1 ++ dktX6_isFull_2
def dkwX6_isFull_0 : List UInt8 := [27]
abbrev dktX6_isFull_0 : List UInt8 := dkwX6_isFull_0 ++ dktX6_isFull_1
theorem dksX6_isFull_0 : cX6_isFull.data.toList.drop 0 = dktX6_isFull_0 := by decide +kernel
theorem dksX6_isFull_1 : cX6_isFull.data.toList.drop 1 = dktX6_isFull_1 := dk_seg dksX6_isFull_0 1 rfl rfl
theorem dksX6_isFull_2 : cX6_isFull.data.toList.drop 28 = dktX6_isFull_2 := dk_seg dksX6_isFull_1 27 rfl rfl
theorem dksX6_isFull_3 : cX6_isFull.data.toList.drop 51 = dktX6_isFull_3 := dk_seg dksX6_isFull_2 23 rfl rfl
theorem dksX6_isFull_4 : cX6_isFull.data.toList.drop 75 = dktX6_isFull_4 := dk_seg dksX6_isFull_3 24 rfl rfl
theorem dX6_isFull_0 : decode cX6_isFull 0 = .ok (.iload_n 1, 1) := dk_27 (dk_at dksX6_isFull_0 0 rfl rfl)
theorem dX6_isFull_1 : decode cX6_isFull 1 = .ok (.tableswitch 76 0 2 #[27, 43, 59], 27) := by decide +kernel
theorem dX6_isFull_28 : decode cX6_isFull 28 = .ok (.aload_n 0, 1) := dk_42 (dk_at dksX6_isFull_2 0 rfl rfl)
theorem dX6_isFull_29 : decode cX6_isFull 29 = .ok (.getfield 40, 3) := dk_180 0 40 (dk_at dksX6_isFull_2 1 rfl rfl)
theorem dX6_isFull_32 : decode cX6_isFull 32 = .ok (.iconst 4, 1) := dk_7 (dk_at dksX6_isFull_2 4 rfl rfl)
theorem dX6_isFull_33 : decode cX6_isFull 33 = .ok (.iaload, 1) := dk_46 (dk_at dksX6_isFull_2 5 rfl rfl)
theorem dX6_isFull_34 : decode cX6_isFull 34 = .ok (.iconst 4, 1) := dk_7 (dk_at dksX6_isFull_2 6 rfl rfl)
theorem dX6_isFull_35 : decode cX6_isFull 35 = .ok (.if_icmp .ne 7, 3) := dk_160 0 7 (dk_at dksX6_isFull_2 7 rfl rfl)
theorem dX6_isFull_38 : decode cX6_isFull 38 = .ok (.iconst 1, 1) := dk_4 (dk_at dksX6_isFull_2 10 rfl rfl)
theorem dX6_isFull_39 : decode cX6_isFull 39 = .ok (.goto 4, 3) := dk_167 0 4 (dk_at dksX6_isFull_2 11 rfl rfl)
theorem dX6_isFull_42 : decode cX6_isFull 42 = .ok (.iconst 0, 1) := dk_3 (dk_at dksX6_isFull_2 14 rfl rfl)
theorem dX6_isFull_43 : decode cX6_isFull 43 = .ok (.ireturn, 1) := dk_172 (dk_at dksX6_isFull_2 15 rfl rfl)
theorem dX6_isFull_44 : decode cX6_isFull 44 = .ok (.aload_n 0, 1) := dk_42 (dk_at dksX6_isFull_2 16 rfl rfl)
theorem dX6_isFull_45 : decode cX6_isFull 45 = .ok (.getfield 46, 3) := dk_180 0 46 (dk_at dksX6_isFull_2 17 rfl rfl)
theorem dX6_isFull_48 : decode cX6_isFull 48 = .ok (.iconst 4, 1) := dk_7 (dk_at dksX6_isFull_2 20 rfl rfl)
theorem dX6_isFull_49 : decode cX6_isFull 49 = .ok (.iaload, 1) := dk_46 (dk_at dksX6_isFull_2 21 rfl rfl)
theorem dX6_isFull_50 : decode cX6_isFull 50 = .ok (.iconst 5, 1) := dk_8 (dk_at dksX6_isFull_2 22 rfl rfl)
theorem dX6_isFull_51 : decode cX6_isFull 51 = .ok (.if_icmp .ne 7, 3) := dk_160 0 7 (dk_at dksX6_isFull_3 0 rfl rfl)
theorem dX6_isFull_54 : decode cX6_isFull 54 = .ok (.iconst 1, 1) := dk_4 (dk_at dksX6_isFull_3 3 rfl rfl)
theorem dX6_isFull_55 : decode cX6_isFull 55 = .ok (.goto 4, 3) := dk_167 0 4 (dk_at dksX6_isFull_3 4 rfl rfl)
theorem dX6_isFull_58 : decode cX6_isFull 58 = .ok (.iconst 0, 1) := dk_3 (dk_at dksX6_isFull_3 7 rfl rfl)
theorem dX6_isFull_59 : decode cX6_isFull 59 = .ok (.ireturn, 1) := dk_172 (dk_at dksX6_isFull_3 8 rfl rfl)
theorem dX6_isFull_60 : decode cX6_isFull 60 = .ok (.aload_n 0, 1) := dk_42 (dk_at dksX6_isFull_3 9 rfl rfl)
theorem dX6_isFull_61 : decode cX6_isFull 61 = .ok (.getfield 52, 3) := dk_180 0 52 (dk_at dksX6_isFull_3 10 rfl rfl)
theorem dX6_isFull_64 : decode cX6_isFull 64 = .ok (.iconst 4, 1) := dk_7 (dk_at dksX6_isFull_3 13 rfl rfl)
theorem dX6_isFull_65 : decode cX6_isFull 65 = .ok (.iaload, 1) := dk_46 (dk_at dksX6_isFull_3 14 rfl rfl)
theorem dX6_isFull_66 : decode cX6_isFull 66 = .ok (.bipush 10, 2) := dk_16 10 (dk_at dksX6_isFull_3 15 rfl rfl)
theorem dX6_isFull_68 : decode cX6_isFull 68 = .ok (.if_icmp .ne 7, 3) := dk_160 0 7 (dk_at dksX6_isFull_3 17 rfl rfl)
theorem dX6_isFull_71 : decode cX6_isFull 71 = .ok (.iconst 1, 1) := dk_4 (dk_at dksX6_isFull_3 20 rfl rfl)
theorem dX6_isFull_72 : decode cX6_isFull 72 = .ok (.goto 4, 3) := dk_167 0 4 (dk_at dksX6_isFull_3 21 rfl rfl)
theorem dX6_isFull_75 : decode cX6_isFull 75 = .ok (.iconst 0, 1) := dk_3 (dk_at dksX6_isFull_4 0 rfl rfl)
theorem dX6_isFull_76 : decode cX6_isFull 76 = .ok (.ireturn, 1) := dk_172 (dk_at dksX6_isFull_4 1 rfl rfl)
theorem dX6_isFull_77 : decode cX6_isFull 77 = .ok (.aload_n 0, 1) := dk_42 (dk_at dksX6_isFull_4 2 rfl rfl)
theorem dX6_isFull_78 : decode cX6_isFull 78 = .ok (.getfield 58, 3) := dk_180 0 58 (dk_at dksX6_isFull_4 3 rfl rfl)
theorem dX6_isFull_81 : decode cX6_isFull 81 = .ok (.iconst 4, 1) := dk_7 (dk_at dksX6_isFull_4 6 rfl rfl)
theorem dX6_isFull_82 : decode cX6_isFull 82 = .ok (.iaload, 1) := dk_46 (dk_at dksX6_isFull_4 7 rfl rfl)
theorem dX6_isFull_83 : decode cX6_isFull 83 = .ok (.bipush 6, 2) := dk_16 6 (dk_at dksX6_isFull_4 8 rfl rfl)
theorem dX6_isFull_85 : decode cX6_isFull 85 = .ok (.if_icmp .ne 7, 3) := dk_160 0 7 (dk_at dksX6_isFull_4 10 rfl rfl)
theorem dX6_isFull_88 : decode cX6_isFull 88 = .ok (.iconst 1, 1) := dk_4 (dk_at dksX6_isFull_4 13 rfl rfl)
theorem dX6_isFull_89 : decode cX6_isFull 89 = .ok (.goto 4, 3) := dk_167 0 4 (dk_at dksX6_isFull_4 14 rfl rfl)
theorem dX6_isFull_92 : decode cX6_isFull 92 = .ok (.iconst 0, 1) := dk_3 (dk_at dksX6_isFull_4 17 rfl rfl)
theorem dX6_isFull_93 : decode cX6_isFull 93 = .ok (.ireturn, 1) := dk_172 (dk_at dksX6_isFull_4 18 rfl rfl)
abbrev cX6_lampLine : ByteArray := prog_20_method_25_code
def yX6_lampLine : MethodName := ⟨RX6, "lampLine", "()V"⟩
def dkwX6_lampLine_2 : List UInt8 := [16, 99, 182, 0, 198, 79, 42, 180, 0, 40, 7, 92, 46, 4, 96, 79, 177]
abbrev dktX6_lampLine_2 : List UInt8 := dkwX6_lampLine_2 ++ []
def dkwX6_lampLine_1 : List UInt8 := [180, 0, 34, 7, 46, 4, 100, 182, 0, 198, 79, 42, 180, 0, 43, 27, 4, 96, 42, 20, 0, 201, 3]
abbrev dktX6_lampLine_1 : List UInt8 := dkwX6_lampLine_1 ++ dktX6_lampLine_2
def dkwX6_lampLine_0 : List UInt8 := [5, 16, 16, 42, 180, 0, 40, 7, 46, 96, 104, 60, 42, 180, 0, 43, 27, 42, 20, 0, 196, 3, 42]
abbrev dktX6_lampLine_0 : List UInt8 := dkwX6_lampLine_0 ++ dktX6_lampLine_1
theorem dksX6_lampLine_0 : cX6_lampLine.data.toList.drop 0 = dktX6_lampLine_0 := by decide +kernel
theorem dksX6_lampLine_1 : cX6_lampLine.data.toList.drop 23 = dktX6_lampLine_1 := dk_seg dksX6_lampLine_0 23 rfl rfl
theorem dksX6_lampLine_2 : cX6_lampLine.data.toList.drop 46 = dktX6_lampLine_2 := dk_seg dksX6_lampLine_1 23 rfl rfl
theorem dX6_lampLine_0 : decode cX6_lampLine 0 = .ok (.iconst 2, 1) := dk_5 (dk_at dksX6_lampLine_0 0 rfl rfl)
theorem dX6_lampLine_1 : decode cX6_lampLine 1 = .ok (.bipush 16, 2) := dk_16 16 (dk_at dksX6_lampLine_0 1 rfl rfl)
theorem dX6_lampLine_3 : decode cX6_lampLine 3 = .ok (.aload_n 0, 1) := dk_42 (dk_at dksX6_lampLine_0 3 rfl rfl)
theorem dX6_lampLine_4 : decode cX6_lampLine 4 = .ok (.getfield 40, 3) := dk_180 0 40 (dk_at dksX6_lampLine_0 4 rfl rfl)
theorem dX6_lampLine_7 : decode cX6_lampLine 7 = .ok (.iconst 4, 1) := dk_7 (dk_at dksX6_lampLine_0 7 rfl rfl)
theorem dX6_lampLine_8 : decode cX6_lampLine 8 = .ok (.iaload, 1) := dk_46 (dk_at dksX6_lampLine_0 8 rfl rfl)
theorem dX6_lampLine_9 : decode cX6_lampLine 9 = .ok (.iadd, 1) := dk_96 (dk_at dksX6_lampLine_0 9 rfl rfl)
theorem dX6_lampLine_10 : decode cX6_lampLine 10 = .ok (.imul, 1) := dk_104 (dk_at dksX6_lampLine_0 10 rfl rfl)
theorem dX6_lampLine_11 : decode cX6_lampLine 11 = .ok (.istore_n 1, 1) := dk_60 (dk_at dksX6_lampLine_0 11 rfl rfl)
theorem dX6_lampLine_12 : decode cX6_lampLine 12 = .ok (.aload_n 0, 1) := dk_42 (dk_at dksX6_lampLine_0 12 rfl rfl)
theorem dX6_lampLine_13 : decode cX6_lampLine 13 = .ok (.getfield 43, 3) := dk_180 0 43 (dk_at dksX6_lampLine_0 13 rfl rfl)
theorem dX6_lampLine_16 : decode cX6_lampLine 16 = .ok (.iload_n 1, 1) := dk_27 (dk_at dksX6_lampLine_0 16 rfl rfl)
theorem dX6_lampLine_17 : decode cX6_lampLine 17 = .ok (.aload_n 0, 1) := dk_42 (dk_at dksX6_lampLine_0 17 rfl rfl)
theorem dX6_lampLine_18 : decode cX6_lampLine 18 = .ok (.ldc2_w 196, 3) := dk_20 0 196 (dk_at dksX6_lampLine_0 18 rfl rfl)
theorem dX6_lampLine_21 : decode cX6_lampLine 21 = .ok (.iconst 0, 1) := dk_3 (dk_at dksX6_lampLine_0 21 rfl rfl)
theorem dX6_lampLine_22 : decode cX6_lampLine 22 = .ok (.aload_n 0, 1) := dk_42 (dk_at dksX6_lampLine_0 22 rfl rfl)
theorem dX6_lampLine_23 : decode cX6_lampLine 23 = .ok (.getfield 34, 3) := dk_180 0 34 (dk_at dksX6_lampLine_1 0 rfl rfl)
theorem dX6_lampLine_26 : decode cX6_lampLine 26 = .ok (.iconst 4, 1) := dk_7 (dk_at dksX6_lampLine_1 3 rfl rfl)
theorem dX6_lampLine_27 : decode cX6_lampLine 27 = .ok (.iaload, 1) := dk_46 (dk_at dksX6_lampLine_1 4 rfl rfl)
theorem dX6_lampLine_28 : decode cX6_lampLine 28 = .ok (.iconst 1, 1) := dk_4 (dk_at dksX6_lampLine_1 5 rfl rfl)
theorem dX6_lampLine_29 : decode cX6_lampLine 29 = .ok (.isub, 1) := dk_100 (dk_at dksX6_lampLine_1 6 rfl rfl)
theorem dX6_lampLine_30 : decode cX6_lampLine 30 = .ok (.invokevirtual 198, 3) := dk_182 0 198 (dk_at dksX6_lampLine_1 7 rfl rfl)
theorem dX6_lampLine_33 : decode cX6_lampLine 33 = .ok (.iastore, 1) := dk_79 (dk_at dksX6_lampLine_1 10 rfl rfl)
theorem dX6_lampLine_34 : decode cX6_lampLine 34 = .ok (.aload_n 0, 1) := dk_42 (dk_at dksX6_lampLine_1 11 rfl rfl)
theorem dX6_lampLine_35 : decode cX6_lampLine 35 = .ok (.getfield 43, 3) := dk_180 0 43 (dk_at dksX6_lampLine_1 12 rfl rfl)
theorem dX6_lampLine_38 : decode cX6_lampLine 38 = .ok (.iload_n 1, 1) := dk_27 (dk_at dksX6_lampLine_1 15 rfl rfl)
theorem dX6_lampLine_39 : decode cX6_lampLine 39 = .ok (.iconst 1, 1) := dk_4 (dk_at dksX6_lampLine_1 16 rfl rfl)
theorem dX6_lampLine_40 : decode cX6_lampLine 40 = .ok (.iadd, 1) := dk_96 (dk_at dksX6_lampLine_1 17 rfl rfl)
theorem dX6_lampLine_41 : decode cX6_lampLine 41 = .ok (.aload_n 0, 1) := dk_42 (dk_at dksX6_lampLine_1 18 rfl rfl)
theorem dX6_lampLine_42 : decode cX6_lampLine 42 = .ok (.ldc2_w 201, 3) := dk_20 0 201 (dk_at dksX6_lampLine_1 19 rfl rfl)
theorem dX6_lampLine_45 : decode cX6_lampLine 45 = .ok (.iconst 0, 1) := dk_3 (dk_at dksX6_lampLine_1 22 rfl rfl)
theorem dX6_lampLine_46 : decode cX6_lampLine 46 = .ok (.bipush 99, 2) := dk_16 99 (dk_at dksX6_lampLine_2 0 rfl rfl)
theorem dX6_lampLine_48 : decode cX6_lampLine 48 = .ok (.invokevirtual 198, 3) := dk_182 0 198 (dk_at dksX6_lampLine_2 2 rfl rfl)
theorem dX6_lampLine_51 : decode cX6_lampLine 51 = .ok (.iastore, 1) := dk_79 (dk_at dksX6_lampLine_2 5 rfl rfl)
theorem dX6_lampLine_52 : decode cX6_lampLine 52 = .ok (.aload_n 0, 1) := dk_42 (dk_at dksX6_lampLine_2 6 rfl rfl)
theorem dX6_lampLine_53 : decode cX6_lampLine 53 = .ok (.getfield 40, 3) := dk_180 0 40 (dk_at dksX6_lampLine_2 7 rfl rfl)
theorem dX6_lampLine_56 : decode cX6_lampLine 56 = .ok (.iconst 4, 1) := dk_7 (dk_at dksX6_lampLine_2 10 rfl rfl)
theorem dX6_lampLine_57 : decode cX6_lampLine 57 = .ok (.dup2, 1) := dk_92 (dk_at dksX6_lampLine_2 11 rfl rfl)
theorem dX6_lampLine_58 : decode cX6_lampLine 58 = .ok (.iaload, 1) := dk_46 (dk_at dksX6_lampLine_2 12 rfl rfl)
theorem dX6_lampLine_59 : decode cX6_lampLine 59 = .ok (.iconst 1, 1) := dk_4 (dk_at dksX6_lampLine_2 13 rfl rfl)
theorem dX6_lampLine_60 : decode cX6_lampLine 60 = .ok (.iadd, 1) := dk_96 (dk_at dksX6_lampLine_2 14 rfl rfl)
theorem dX6_lampLine_61 : decode cX6_lampLine 61 = .ok (.iastore, 1) := dk_79 (dk_at dksX6_lampLine_2 15 rfl rfl)
theorem dX6_lampLine_62 : decode cX6_lampLine 62 = .ok (.return_, 1) := dk_177 (dk_at dksX6_lampLine_2 16 rfl rfl)
abbrev cX6_lockLine : ByteArray := prog_20_method_26_code
def yX6_lockLine : MethodName := ⟨RX6, "lockLine", "()V"⟩
def dkwX6_lockLine_3 : List UInt8 := [27, 6, 96, 42, 4, 17, 3, 231, 182, 0, 189, 79, 42, 180, 0, 46, 7, 92, 46, 4, 96, 79, 177]
abbrev dktX6_lockLine_3 : List UInt8 := dkwX6_lockLine_3 ++ []
def dkwX6_lockLine_2 : List UInt8 := [182, 0, 198, 79, 42, 180, 0, 49, 27, 5, 96, 42, 4, 17, 3, 231, 182, 0, 189, 79, 42, 180, 0, 49]
abbrev dktX6_lockLine_2 : List UInt8 := dkwX6_lockLine_2 ++ dktX6_lockLine_3
def dkwX6_lockLine_1 : List UInt8 := [17, 3, 231, 182, 0, 198, 79, 42, 180, 0, 49, 27, 4, 96, 42, 20, 0, 205, 4, 17, 3, 231]
abbrev dktX6_lockLine_1 : List UInt8 := dkwX6_lockLine_1 ++ dktX6_lockLine_2
def dkwX6_lockLine_0 : List UInt8 := [7, 16, 20, 42, 180, 0, 46, 7, 46, 96, 104, 60, 42, 180, 0, 49, 27, 42, 20, 0, 203, 3]
abbrev dktX6_lockLine_0 : List UInt8 := dkwX6_lockLine_0 ++ dktX6_lockLine_1
theorem dksX6_lockLine_0 : cX6_lockLine.data.toList.drop 0 = dktX6_lockLine_0 := by decide +kernel
theorem dksX6_lockLine_1 : cX6_lockLine.data.toList.drop 22 = dktX6_lockLine_1 := dk_seg dksX6_lockLine_0 22 rfl rfl
theorem dksX6_lockLine_2 : cX6_lockLine.data.toList.drop 44 = dktX6_lockLine_2 := dk_seg dksX6_lockLine_1 22 rfl rfl
theorem dksX6_lockLine_3 : cX6_lockLine.data.toList.drop 68 = dktX6_lockLine_3 := dk_seg dksX6_lockLine_2 24 rfl rfl
theorem dX6_lockLine_0 : decode cX6_lockLine 0 = .ok (.iconst 4, 1) := dk_7 (dk_at dksX6_lockLine_0 0 rfl rfl)
theorem dX6_lockLine_1 : decode cX6_lockLine 1 = .ok (.bipush 20, 2) := dk_16 20 (dk_at dksX6_lockLine_0 1 rfl rfl)
theorem dX6_lockLine_3 : decode cX6_lockLine 3 = .ok (.aload_n 0, 1) := dk_42 (dk_at dksX6_lockLine_0 3 rfl rfl)
theorem dX6_lockLine_4 : decode cX6_lockLine 4 = .ok (.getfield 46, 3) := dk_180 0 46 (dk_at dksX6_lockLine_0 4 rfl rfl)
theorem dX6_lockLine_7 : decode cX6_lockLine 7 = .ok (.iconst 4, 1) := dk_7 (dk_at dksX6_lockLine_0 7 rfl rfl)
theorem dX6_lockLine_8 : decode cX6_lockLine 8 = .ok (.iaload, 1) := dk_46 (dk_at dksX6_lockLine_0 8 rfl rfl)
theorem dX6_lockLine_9 : decode cX6_lockLine 9 = .ok (.iadd, 1) := dk_96 (dk_at dksX6_lockLine_0 9 rfl rfl)
theorem dX6_lockLine_10 : decode cX6_lockLine 10 = .ok (.imul, 1) := dk_104 (dk_at dksX6_lockLine_0 10 rfl rfl)
theorem dX6_lockLine_11 : decode cX6_lockLine 11 = .ok (.istore_n 1, 1) := dk_60 (dk_at dksX6_lockLine_0 11 rfl rfl)
theorem dX6_lockLine_12 : decode cX6_lockLine 12 = .ok (.aload_n 0, 1) := dk_42 (dk_at dksX6_lockLine_0 12 rfl rfl)
theorem dX6_lockLine_13 : decode cX6_lockLine 13 = .ok (.getfield 49, 3) := dk_180 0 49 (dk_at dksX6_lockLine_0 13 rfl rfl)
theorem dX6_lockLine_16 : decode cX6_lockLine 16 = .ok (.iload_n 1, 1) := dk_27 (dk_at dksX6_lockLine_0 16 rfl rfl)
theorem dX6_lockLine_17 : decode cX6_lockLine 17 = .ok (.aload_n 0, 1) := dk_42 (dk_at dksX6_lockLine_0 17 rfl rfl)
theorem dX6_lockLine_18 : decode cX6_lockLine 18 = .ok (.ldc2_w 203, 3) := dk_20 0 203 (dk_at dksX6_lockLine_0 18 rfl rfl)
theorem dX6_lockLine_21 : decode cX6_lockLine 21 = .ok (.iconst 0, 1) := dk_3 (dk_at dksX6_lockLine_0 21 rfl rfl)
theorem dX6_lockLine_22 : decode cX6_lockLine 22 = .ok (.sipush 999, 3) := dk_17 3 231 (dk_at dksX6_lockLine_1 0 rfl rfl)
theorem dX6_lockLine_25 : decode cX6_lockLine 25 = .ok (.invokevirtual 198, 3) := dk_182 0 198 (dk_at dksX6_lockLine_1 3 rfl rfl)
theorem dX6_lockLine_28 : decode cX6_lockLine 28 = .ok (.iastore, 1) := dk_79 (dk_at dksX6_lockLine_1 6 rfl rfl)
theorem dX6_lockLine_29 : decode cX6_lockLine 29 = .ok (.aload_n 0, 1) := dk_42 (dk_at dksX6_lockLine_1 7 rfl rfl)
theorem dX6_lockLine_30 : decode cX6_lockLine 30 = .ok (.getfield 49, 3) := dk_180 0 49 (dk_at dksX6_lockLine_1 8 rfl rfl)
theorem dX6_lockLine_33 : decode cX6_lockLine 33 = .ok (.iload_n 1, 1) := dk_27 (dk_at dksX6_lockLine_1 11 rfl rfl)
theorem dX6_lockLine_34 : decode cX6_lockLine 34 = .ok (.iconst 1, 1) := dk_4 (dk_at dksX6_lockLine_1 12 rfl rfl)
theorem dX6_lockLine_35 : decode cX6_lockLine 35 = .ok (.iadd, 1) := dk_96 (dk_at dksX6_lockLine_1 13 rfl rfl)
theorem dX6_lockLine_36 : decode cX6_lockLine 36 = .ok (.aload_n 0, 1) := dk_42 (dk_at dksX6_lockLine_1 14 rfl rfl)
theorem dX6_lockLine_37 : decode cX6_lockLine 37 = .ok (.ldc2_w 205, 3) := dk_20 0 205 (dk_at dksX6_lockLine_1 15 rfl rfl)
theorem dX6_lockLine_40 : decode cX6_lockLine 40 = .ok (.iconst 1, 1) := dk_4 (dk_at dksX6_lockLine_1 18 rfl rfl)
theorem dX6_lockLine_41 : decode cX6_lockLine 41 = .ok (.sipush 999, 3) := dk_17 3 231 (dk_at dksX6_lockLine_1 19 rfl rfl)
theorem dX6_lockLine_44 : decode cX6_lockLine 44 = .ok (.invokevirtual 198, 3) := dk_182 0 198 (dk_at dksX6_lockLine_2 0 rfl rfl)
theorem dX6_lockLine_47 : decode cX6_lockLine 47 = .ok (.iastore, 1) := dk_79 (dk_at dksX6_lockLine_2 3 rfl rfl)
theorem dX6_lockLine_48 : decode cX6_lockLine 48 = .ok (.aload_n 0, 1) := dk_42 (dk_at dksX6_lockLine_2 4 rfl rfl)
theorem dX6_lockLine_49 : decode cX6_lockLine 49 = .ok (.getfield 49, 3) := dk_180 0 49 (dk_at dksX6_lockLine_2 5 rfl rfl)
theorem dX6_lockLine_52 : decode cX6_lockLine 52 = .ok (.iload_n 1, 1) := dk_27 (dk_at dksX6_lockLine_2 8 rfl rfl)
theorem dX6_lockLine_53 : decode cX6_lockLine 53 = .ok (.iconst 2, 1) := dk_5 (dk_at dksX6_lockLine_2 9 rfl rfl)
theorem dX6_lockLine_54 : decode cX6_lockLine 54 = .ok (.iadd, 1) := dk_96 (dk_at dksX6_lockLine_2 10 rfl rfl)
theorem dX6_lockLine_55 : decode cX6_lockLine 55 = .ok (.aload_n 0, 1) := dk_42 (dk_at dksX6_lockLine_2 11 rfl rfl)
theorem dX6_lockLine_56 : decode cX6_lockLine 56 = .ok (.iconst 1, 1) := dk_4 (dk_at dksX6_lockLine_2 12 rfl rfl)
theorem dX6_lockLine_57 : decode cX6_lockLine 57 = .ok (.sipush 999, 3) := dk_17 3 231 (dk_at dksX6_lockLine_2 13 rfl rfl)
theorem dX6_lockLine_60 : decode cX6_lockLine 60 = .ok (.invokevirtual 189, 3) := dk_182 0 189 (dk_at dksX6_lockLine_2 16 rfl rfl)
theorem dX6_lockLine_63 : decode cX6_lockLine 63 = .ok (.iastore, 1) := dk_79 (dk_at dksX6_lockLine_2 19 rfl rfl)
theorem dX6_lockLine_64 : decode cX6_lockLine 64 = .ok (.aload_n 0, 1) := dk_42 (dk_at dksX6_lockLine_2 20 rfl rfl)
theorem dX6_lockLine_65 : decode cX6_lockLine 65 = .ok (.getfield 49, 3) := dk_180 0 49 (dk_at dksX6_lockLine_2 21 rfl rfl)
theorem dX6_lockLine_68 : decode cX6_lockLine 68 = .ok (.iload_n 1, 1) := dk_27 (dk_at dksX6_lockLine_3 0 rfl rfl)
theorem dX6_lockLine_69 : decode cX6_lockLine 69 = .ok (.iconst 3, 1) := dk_6 (dk_at dksX6_lockLine_3 1 rfl rfl)
theorem dX6_lockLine_70 : decode cX6_lockLine 70 = .ok (.iadd, 1) := dk_96 (dk_at dksX6_lockLine_3 2 rfl rfl)
theorem dX6_lockLine_71 : decode cX6_lockLine 71 = .ok (.aload_n 0, 1) := dk_42 (dk_at dksX6_lockLine_3 3 rfl rfl)
theorem dX6_lockLine_72 : decode cX6_lockLine 72 = .ok (.iconst 1, 1) := dk_4 (dk_at dksX6_lockLine_3 4 rfl rfl)
theorem dX6_lockLine_73 : decode cX6_lockLine 73 = .ok (.sipush 999, 3) := dk_17 3 231 (dk_at dksX6_lockLine_3 5 rfl rfl)
theorem dX6_lockLine_76 : decode cX6_lockLine 76 = .ok (.invokevirtual 189, 3) := dk_182 0 189 (dk_at dksX6_lockLine_3 8 rfl rfl)
theorem dX6_lockLine_79 : decode cX6_lockLine 79 = .ok (.iastore, 1) := dk_79 (dk_at dksX6_lockLine_3 11 rfl rfl)
theorem dX6_lockLine_80 : decode cX6_lockLine 80 = .ok (.aload_n 0, 1) := dk_42 (dk_at dksX6_lockLine_3 12 rfl rfl)
theorem dX6_lockLine_81 : decode cX6_lockLine 81 = .ok (.getfield 46, 3) := dk_180 0 46 (dk_at dksX6_lockLine_3 13 rfl rfl)
theorem dX6_lockLine_84 : decode cX6_lockLine 84 = .ok (.iconst 4, 1) := dk_7 (dk_at dksX6_lockLine_3 16 rfl rfl)
theorem dX6_lockLine_85 : decode cX6_lockLine 85 = .ok (.dup2, 1) := dk_92 (dk_at dksX6_lockLine_3 17 rfl rfl)
theorem dX6_lockLine_86 : decode cX6_lockLine 86 = .ok (.iaload, 1) := dk_46 (dk_at dksX6_lockLine_3 18 rfl rfl)
theorem dX6_lockLine_87 : decode cX6_lockLine 87 = .ok (.iconst 1, 1) := dk_4 (dk_at dksX6_lockLine_3 19 rfl rfl)
theorem dX6_lockLine_88 : decode cX6_lockLine 88 = .ok (.iadd, 1) := dk_96 (dk_at dksX6_lockLine_3 20 rfl rfl)
theorem dX6_lockLine_89 : decode cX6_lockLine 89 = .ok (.iastore, 1) := dk_79 (dk_at dksX6_lockLine_3 21 rfl rfl)
theorem dX6_lockLine_90 : decode cX6_lockLine 90 = .ok (.return_, 1) := dk_177 (dk_at dksX6_lockLine_3 22 rfl rfl)
abbrev cX6_bikeLine : ByteArray := prog_20_method_27_code
def yX6_bikeLine : MethodName := ⟨RX6, "bikeLine", "()V"⟩
def dkwX6_bikeLine_9 : List UInt8 := [180, 0, 52, 7, 92, 46, 4, 96, 79, 177]
abbrev dktX6_bikeLine_9 : List UInt8 := dkwX6_bikeLine_9 ++ []
def dkwX6_bikeLine_8 : List UInt8 := [42, 180, 0, 55, 27, 7, 96, 42, 20, 0, 213, 182, 0, 179, 153, 0, 7, 4, 167, 0, 4, 3, 79, 42]
abbrev dktX6_bikeLine_8 : List UInt8 := dkwX6_bikeLine_8 ++ dktX6_bikeLine_9
def dkwX6_bikeLine_7 : List UInt8 := [182, 0, 179, 153, 0, 19, 42, 3, 42, 180, 0, 46, 7, 46, 4, 100, 182, 0, 189, 167, 0, 4, 2, 79]
abbrev dktX6_bikeLine_7 : List UInt8 := dkwX6_bikeLine_7 ++ dktX6_bikeLine_8
def dkwX6_bikeLine_6 : List UInt8 := [3, 42, 180, 0, 34, 7, 46, 4, 100, 182, 0, 189, 79, 42, 180, 0, 55, 27, 6, 96, 42, 20, 0, 211]
abbrev dktX6_bikeLine_6 : List UInt8 := dkwX6_bikeLine_6 ++ dktX6_bikeLine_7
def dkwX6_bikeLine_5 : List UInt8 := [180, 0, 155, 5, 160, 0, 12, 28, 153, 0, 8, 42, 5, 182, 0, 182, 42, 180, 0, 55, 27, 5, 96, 42]
abbrev dktX6_bikeLine_5 : List UInt8 := dkwX6_bikeLine_5 ++ dktX6_bikeLine_6
def dkwX6_bikeLine_4 : List UInt8 := [160, 0, 7, 4, 167, 0, 4, 3, 61, 132, 3, 1, 167, 255, 213, 42, 180, 0, 166, 154, 0, 20, 42]
abbrev dktX6_bikeLine_4 : List UInt8 := dkwX6_bikeLine_4 ++ dktX6_bikeLine_5
def dkwX6_bikeLine_3 : List UInt8 := [162, 0, 39, 28, 154, 0, 23, 42, 180, 0, 55, 8, 16, 40, 29, 96, 104, 5, 96, 46, 42, 180, 0, 148]
abbrev dktX6_bikeLine_3 : List UInt8 := dkwX6_bikeLine_3 ++ dktX6_bikeLine_4
def dkwX6_bikeLine_2 : List UInt8 := [182, 0, 198, 79, 42, 20, 0, 196, 182, 0, 185, 3, 61, 3, 62, 29, 42, 180, 0, 52, 7, 46]
abbrev dktX6_bikeLine_2 : List UInt8 := dkwX6_bikeLine_2 ++ dktX6_bikeLine_3
def dkwX6_bikeLine_1 : List UInt8 := [17, 39, 15, 182, 0, 198, 79, 42, 180, 0, 55, 27, 4, 96, 42, 20, 0, 209, 3, 17, 39, 15]
abbrev dktX6_bikeLine_1 : List UInt8 := dkwX6_bikeLine_1 ++ dktX6_bikeLine_2
def dkwX6_bikeLine_0 : List UInt8 := [8, 16, 40, 42, 180, 0, 52, 7, 46, 96, 104, 60, 42, 180, 0, 55, 27, 42, 20, 0, 207, 3]
abbrev dktX6_bikeLine_0 : List UInt8 := dkwX6_bikeLine_0 ++ dktX6_bikeLine_1
theorem dksX6_bikeLine_0 : cX6_bikeLine.data.toList.drop 0 = dktX6_bikeLine_0 := by decide +kernel
theorem dksX6_bikeLine_1 : cX6_bikeLine.data.toList.drop 22 = dktX6_bikeLine_1 := dk_seg dksX6_bikeLine_0 22 rfl rfl
theorem dksX6_bikeLine_2 : cX6_bikeLine.data.toList.drop 44 = dktX6_bikeLine_2 := dk_seg dksX6_bikeLine_1 22 rfl rfl
theorem dksX6_bikeLine_3 : cX6_bikeLine.data.toList.drop 66 = dktX6_bikeLine_3 := dk_seg dksX6_bikeLine_2 22 rfl rfl
theorem dksX6_bikeLine_4 : cX6_bikeLine.data.toList.drop 90 = dktX6_bikeLine_4 := dk_seg dksX6_bikeLine_3 24 rfl rfl
theorem dksX6_bikeLine_5 : cX6_bikeLine.data.toList.drop 113 = dktX6_bikeLine_5 := dk_seg dksX6_bikeLine_4 23 rfl rfl
theorem dksX6_bikeLine_6 : cX6_bikeLine.data.toList.drop 137 = dktX6_bikeLine_6 := dk_seg dksX6_bikeLine_5 24 rfl rfl
theorem dksX6_bikeLine_7 : cX6_bikeLine.data.toList.drop 161 = dktX6_bikeLine_7 := dk_seg dksX6_bikeLine_6 24 rfl rfl
theorem dksX6_bikeLine_8 : cX6_bikeLine.data.toList.drop 185 = dktX6_bikeLine_8 := dk_seg dksX6_bikeLine_7 24 rfl rfl
theorem dksX6_bikeLine_9 : cX6_bikeLine.data.toList.drop 209 = dktX6_bikeLine_9 := dk_seg dksX6_bikeLine_8 24 rfl rfl
theorem dX6_bikeLine_0 : decode cX6_bikeLine 0 = .ok (.iconst 5, 1) := dk_8 (dk_at dksX6_bikeLine_0 0 rfl rfl)
theorem dX6_bikeLine_1 : decode cX6_bikeLine 1 = .ok (.bipush 40, 2) := dk_16 40 (dk_at dksX6_bikeLine_0 1 rfl rfl)
theorem dX6_bikeLine_3 : decode cX6_bikeLine 3 = .ok (.aload_n 0, 1) := dk_42 (dk_at dksX6_bikeLine_0 3 rfl rfl)
theorem dX6_bikeLine_4 : decode cX6_bikeLine 4 = .ok (.getfield 52, 3) := dk_180 0 52 (dk_at dksX6_bikeLine_0 4 rfl rfl)
theorem dX6_bikeLine_7 : decode cX6_bikeLine 7 = .ok (.iconst 4, 1) := dk_7 (dk_at dksX6_bikeLine_0 7 rfl rfl)
theorem dX6_bikeLine_8 : decode cX6_bikeLine 8 = .ok (.iaload, 1) := dk_46 (dk_at dksX6_bikeLine_0 8 rfl rfl)
theorem dX6_bikeLine_9 : decode cX6_bikeLine 9 = .ok (.iadd, 1) := dk_96 (dk_at dksX6_bikeLine_0 9 rfl rfl)
theorem dX6_bikeLine_10 : decode cX6_bikeLine 10 = .ok (.imul, 1) := dk_104 (dk_at dksX6_bikeLine_0 10 rfl rfl)
theorem dX6_bikeLine_11 : decode cX6_bikeLine 11 = .ok (.istore_n 1, 1) := dk_60 (dk_at dksX6_bikeLine_0 11 rfl rfl)
theorem dX6_bikeLine_12 : decode cX6_bikeLine 12 = .ok (.aload_n 0, 1) := dk_42 (dk_at dksX6_bikeLine_0 12 rfl rfl)
theorem dX6_bikeLine_13 : decode cX6_bikeLine 13 = .ok (.getfield 55, 3) := dk_180 0 55 (dk_at dksX6_bikeLine_0 13 rfl rfl)
theorem dX6_bikeLine_16 : decode cX6_bikeLine 16 = .ok (.iload_n 1, 1) := dk_27 (dk_at dksX6_bikeLine_0 16 rfl rfl)
theorem dX6_bikeLine_17 : decode cX6_bikeLine 17 = .ok (.aload_n 0, 1) := dk_42 (dk_at dksX6_bikeLine_0 17 rfl rfl)
theorem dX6_bikeLine_18 : decode cX6_bikeLine 18 = .ok (.ldc2_w 207, 3) := dk_20 0 207 (dk_at dksX6_bikeLine_0 18 rfl rfl)
theorem dX6_bikeLine_21 : decode cX6_bikeLine 21 = .ok (.iconst 0, 1) := dk_3 (dk_at dksX6_bikeLine_0 21 rfl rfl)
theorem dX6_bikeLine_22 : decode cX6_bikeLine 22 = .ok (.sipush 9999, 3) := dk_17 39 15 (dk_at dksX6_bikeLine_1 0 rfl rfl)
theorem dX6_bikeLine_25 : decode cX6_bikeLine 25 = .ok (.invokevirtual 198, 3) := dk_182 0 198 (dk_at dksX6_bikeLine_1 3 rfl rfl)
theorem dX6_bikeLine_28 : decode cX6_bikeLine 28 = .ok (.iastore, 1) := dk_79 (dk_at dksX6_bikeLine_1 6 rfl rfl)
theorem dX6_bikeLine_29 : decode cX6_bikeLine 29 = .ok (.aload_n 0, 1) := dk_42 (dk_at dksX6_bikeLine_1 7 rfl rfl)
theorem dX6_bikeLine_30 : decode cX6_bikeLine 30 = .ok (.getfield 55, 3) := dk_180 0 55 (dk_at dksX6_bikeLine_1 8 rfl rfl)
theorem dX6_bikeLine_33 : decode cX6_bikeLine 33 = .ok (.iload_n 1, 1) := dk_27 (dk_at dksX6_bikeLine_1 11 rfl rfl)
theorem dX6_bikeLine_34 : decode cX6_bikeLine 34 = .ok (.iconst 1, 1) := dk_4 (dk_at dksX6_bikeLine_1 12 rfl rfl)
theorem dX6_bikeLine_35 : decode cX6_bikeLine 35 = .ok (.iadd, 1) := dk_96 (dk_at dksX6_bikeLine_1 13 rfl rfl)
theorem dX6_bikeLine_36 : decode cX6_bikeLine 36 = .ok (.aload_n 0, 1) := dk_42 (dk_at dksX6_bikeLine_1 14 rfl rfl)
theorem dX6_bikeLine_37 : decode cX6_bikeLine 37 = .ok (.ldc2_w 209, 3) := dk_20 0 209 (dk_at dksX6_bikeLine_1 15 rfl rfl)
theorem dX6_bikeLine_40 : decode cX6_bikeLine 40 = .ok (.iconst 0, 1) := dk_3 (dk_at dksX6_bikeLine_1 18 rfl rfl)
theorem dX6_bikeLine_41 : decode cX6_bikeLine 41 = .ok (.sipush 9999, 3) := dk_17 39 15 (dk_at dksX6_bikeLine_1 19 rfl rfl)
theorem dX6_bikeLine_44 : decode cX6_bikeLine 44 = .ok (.invokevirtual 198, 3) := dk_182 0 198 (dk_at dksX6_bikeLine_2 0 rfl rfl)
theorem dX6_bikeLine_47 : decode cX6_bikeLine 47 = .ok (.iastore, 1) := dk_79 (dk_at dksX6_bikeLine_2 3 rfl rfl)
theorem dX6_bikeLine_48 : decode cX6_bikeLine 48 = .ok (.aload_n 0, 1) := dk_42 (dk_at dksX6_bikeLine_2 4 rfl rfl)
theorem dX6_bikeLine_49 : decode cX6_bikeLine 49 = .ok (.ldc2_w 196, 3) := dk_20 0 196 (dk_at dksX6_bikeLine_2 5 rfl rfl)
theorem dX6_bikeLine_52 : decode cX6_bikeLine 52 = .ok (.invokevirtual 185, 3) := dk_182 0 185 (dk_at dksX6_bikeLine_2 8 rfl rfl)
theorem dX6_bikeLine_55 : decode cX6_bikeLine 55 = .ok (.iconst 0, 1) := dk_3 (dk_at dksX6_bikeLine_2 11 rfl rfl)
theorem dX6_bikeLine_56 : decode cX6_bikeLine 56 = .ok (.istore_n 2, 1) := dk_61 (dk_at dksX6_bikeLine_2 12 rfl rfl)
theorem dX6_bikeLine_57 : decode cX6_bikeLine 57 = .ok (.iconst 0, 1) := dk_3 (dk_at dksX6_bikeLine_2 13 rfl rfl)
theorem dX6_bikeLine_58 : decode cX6_bikeLine 58 = .ok (.istore_n 3, 1) := dk_62 (dk_at dksX6_bikeLine_2 14 rfl rfl)
theorem dX6_bikeLine_59 : decode cX6_bikeLine 59 = .ok (.iload_n 3, 1) := dk_29 (dk_at dksX6_bikeLine_2 15 rfl rfl)
theorem dX6_bikeLine_60 : decode cX6_bikeLine 60 = .ok (.aload_n 0, 1) := dk_42 (dk_at dksX6_bikeLine_2 16 rfl rfl)
theorem dX6_bikeLine_61 : decode cX6_bikeLine 61 = .ok (.getfield 52, 3) := dk_180 0 52 (dk_at dksX6_bikeLine_2 17 rfl rfl)
theorem dX6_bikeLine_64 : decode cX6_bikeLine 64 = .ok (.iconst 4, 1) := dk_7 (dk_at dksX6_bikeLine_2 20 rfl rfl)
theorem dX6_bikeLine_65 : decode cX6_bikeLine 65 = .ok (.iaload, 1) := dk_46 (dk_at dksX6_bikeLine_2 21 rfl rfl)
theorem dX6_bikeLine_66 : decode cX6_bikeLine 66 = .ok (.if_icmp .ge 39, 3) := dk_162 0 39 (dk_at dksX6_bikeLine_3 0 rfl rfl)
theorem dX6_bikeLine_69 : decode cX6_bikeLine 69 = .ok (.iload_n 2, 1) := dk_28 (dk_at dksX6_bikeLine_3 3 rfl rfl)
theorem dX6_bikeLine_70 : decode cX6_bikeLine 70 = .ok (.ifCond .ne 23, 3) := dk_154 0 23 (dk_at dksX6_bikeLine_3 4 rfl rfl)
theorem dX6_bikeLine_73 : decode cX6_bikeLine 73 = .ok (.aload_n 0, 1) := dk_42 (dk_at dksX6_bikeLine_3 7 rfl rfl)
theorem dX6_bikeLine_74 : decode cX6_bikeLine 74 = .ok (.getfield 55, 3) := dk_180 0 55 (dk_at dksX6_bikeLine_3 8 rfl rfl)
theorem dX6_bikeLine_77 : decode cX6_bikeLine 77 = .ok (.iconst 5, 1) := dk_8 (dk_at dksX6_bikeLine_3 11 rfl rfl)
theorem dX6_bikeLine_78 : decode cX6_bikeLine 78 = .ok (.bipush 40, 2) := dk_16 40 (dk_at dksX6_bikeLine_3 12 rfl rfl)
theorem dX6_bikeLine_80 : decode cX6_bikeLine 80 = .ok (.iload_n 3, 1) := dk_29 (dk_at dksX6_bikeLine_3 14 rfl rfl)
theorem dX6_bikeLine_81 : decode cX6_bikeLine 81 = .ok (.iadd, 1) := dk_96 (dk_at dksX6_bikeLine_3 15 rfl rfl)
theorem dX6_bikeLine_82 : decode cX6_bikeLine 82 = .ok (.imul, 1) := dk_104 (dk_at dksX6_bikeLine_3 16 rfl rfl)
theorem dX6_bikeLine_83 : decode cX6_bikeLine 83 = .ok (.iconst 2, 1) := dk_5 (dk_at dksX6_bikeLine_3 17 rfl rfl)
theorem dX6_bikeLine_84 : decode cX6_bikeLine 84 = .ok (.iadd, 1) := dk_96 (dk_at dksX6_bikeLine_3 18 rfl rfl)
theorem dX6_bikeLine_85 : decode cX6_bikeLine 85 = .ok (.iaload, 1) := dk_46 (dk_at dksX6_bikeLine_3 19 rfl rfl)
theorem dX6_bikeLine_86 : decode cX6_bikeLine 86 = .ok (.aload_n 0, 1) := dk_42 (dk_at dksX6_bikeLine_3 20 rfl rfl)
theorem dX6_bikeLine_87 : decode cX6_bikeLine 87 = .ok (.getfield 148, 3) := dk_180 0 148 (dk_at dksX6_bikeLine_3 21 rfl rfl)
theorem dX6_bikeLine_90 : decode cX6_bikeLine 90 = .ok (.if_icmp .ne 7, 3) := dk_160 0 7 (dk_at dksX6_bikeLine_4 0 rfl rfl)
theorem dX6_bikeLine_93 : decode cX6_bikeLine 93 = .ok (.iconst 1, 1) := dk_4 (dk_at dksX6_bikeLine_4 3 rfl rfl)
theorem dX6_bikeLine_94 : decode cX6_bikeLine 94 = .ok (.goto 4, 3) := dk_167 0 4 (dk_at dksX6_bikeLine_4 4 rfl rfl)
theorem dX6_bikeLine_97 : decode cX6_bikeLine 97 = .ok (.iconst 0, 1) := dk_3 (dk_at dksX6_bikeLine_4 7 rfl rfl)
theorem dX6_bikeLine_98 : decode cX6_bikeLine 98 = .ok (.istore_n 2, 1) := dk_61 (dk_at dksX6_bikeLine_4 8 rfl rfl)
theorem dX6_bikeLine_99 : decode cX6_bikeLine 99 = .ok (.iinc 3 1, 3) := dk_132 3 1 (dk_at dksX6_bikeLine_4 9 rfl rfl)
theorem dX6_bikeLine_102 : decode cX6_bikeLine 102 = .ok (.goto (-43), 3) := dk_167 255 213 (dk_at dksX6_bikeLine_4 12 rfl rfl)
theorem dX6_bikeLine_105 : decode cX6_bikeLine 105 = .ok (.aload_n 0, 1) := dk_42 (dk_at dksX6_bikeLine_4 15 rfl rfl)
theorem dX6_bikeLine_106 : decode cX6_bikeLine 106 = .ok (.getfield 166, 3) := dk_180 0 166 (dk_at dksX6_bikeLine_4 16 rfl rfl)
theorem dX6_bikeLine_109 : decode cX6_bikeLine 109 = .ok (.ifCond .ne 20, 3) := dk_154 0 20 (dk_at dksX6_bikeLine_4 19 rfl rfl)
theorem dX6_bikeLine_112 : decode cX6_bikeLine 112 = .ok (.aload_n 0, 1) := dk_42 (dk_at dksX6_bikeLine_4 22 rfl rfl)
theorem dX6_bikeLine_113 : decode cX6_bikeLine 113 = .ok (.getfield 155, 3) := dk_180 0 155 (dk_at dksX6_bikeLine_5 0 rfl rfl)
theorem dX6_bikeLine_116 : decode cX6_bikeLine 116 = .ok (.iconst 2, 1) := dk_5 (dk_at dksX6_bikeLine_5 3 rfl rfl)
theorem dX6_bikeLine_117 : decode cX6_bikeLine 117 = .ok (.if_icmp .ne 12, 3) := dk_160 0 12 (dk_at dksX6_bikeLine_5 4 rfl rfl)
theorem dX6_bikeLine_120 : decode cX6_bikeLine 120 = .ok (.iload_n 2, 1) := dk_28 (dk_at dksX6_bikeLine_5 7 rfl rfl)
theorem dX6_bikeLine_121 : decode cX6_bikeLine 121 = .ok (.ifCond .eq 8, 3) := dk_153 0 8 (dk_at dksX6_bikeLine_5 8 rfl rfl)
theorem dX6_bikeLine_124 : decode cX6_bikeLine 124 = .ok (.aload_n 0, 1) := dk_42 (dk_at dksX6_bikeLine_5 11 rfl rfl)
theorem dX6_bikeLine_125 : decode cX6_bikeLine 125 = .ok (.iconst 2, 1) := dk_5 (dk_at dksX6_bikeLine_5 12 rfl rfl)
theorem dX6_bikeLine_126 : decode cX6_bikeLine 126 = .ok (.invokevirtual 182, 3) := dk_182 0 182 (dk_at dksX6_bikeLine_5 13 rfl rfl)
theorem dX6_bikeLine_129 : decode cX6_bikeLine 129 = .ok (.aload_n 0, 1) := dk_42 (dk_at dksX6_bikeLine_5 16 rfl rfl)
theorem dX6_bikeLine_130 : decode cX6_bikeLine 130 = .ok (.getfield 55, 3) := dk_180 0 55 (dk_at dksX6_bikeLine_5 17 rfl rfl)
theorem dX6_bikeLine_133 : decode cX6_bikeLine 133 = .ok (.iload_n 1, 1) := dk_27 (dk_at dksX6_bikeLine_5 20 rfl rfl)
theorem dX6_bikeLine_134 : decode cX6_bikeLine 134 = .ok (.iconst 2, 1) := dk_5 (dk_at dksX6_bikeLine_5 21 rfl rfl)
theorem dX6_bikeLine_135 : decode cX6_bikeLine 135 = .ok (.iadd, 1) := dk_96 (dk_at dksX6_bikeLine_5 22 rfl rfl)
theorem dX6_bikeLine_136 : decode cX6_bikeLine 136 = .ok (.aload_n 0, 1) := dk_42 (dk_at dksX6_bikeLine_5 23 rfl rfl)
theorem dX6_bikeLine_137 : decode cX6_bikeLine 137 = .ok (.iconst 0, 1) := dk_3 (dk_at dksX6_bikeLine_6 0 rfl rfl)
theorem dX6_bikeLine_138 : decode cX6_bikeLine 138 = .ok (.aload_n 0, 1) := dk_42 (dk_at dksX6_bikeLine_6 1 rfl rfl)
theorem dX6_bikeLine_139 : decode cX6_bikeLine 139 = .ok (.getfield 34, 3) := dk_180 0 34 (dk_at dksX6_bikeLine_6 2 rfl rfl)
theorem dX6_bikeLine_142 : decode cX6_bikeLine 142 = .ok (.iconst 4, 1) := dk_7 (dk_at dksX6_bikeLine_6 5 rfl rfl)
theorem dX6_bikeLine_143 : decode cX6_bikeLine 143 = .ok (.iaload, 1) := dk_46 (dk_at dksX6_bikeLine_6 6 rfl rfl)
theorem dX6_bikeLine_144 : decode cX6_bikeLine 144 = .ok (.iconst 1, 1) := dk_4 (dk_at dksX6_bikeLine_6 7 rfl rfl)
theorem dX6_bikeLine_145 : decode cX6_bikeLine 145 = .ok (.isub, 1) := dk_100 (dk_at dksX6_bikeLine_6 8 rfl rfl)
theorem dX6_bikeLine_146 : decode cX6_bikeLine 146 = .ok (.invokevirtual 189, 3) := dk_182 0 189 (dk_at dksX6_bikeLine_6 9 rfl rfl)
theorem dX6_bikeLine_149 : decode cX6_bikeLine 149 = .ok (.iastore, 1) := dk_79 (dk_at dksX6_bikeLine_6 12 rfl rfl)
theorem dX6_bikeLine_150 : decode cX6_bikeLine 150 = .ok (.aload_n 0, 1) := dk_42 (dk_at dksX6_bikeLine_6 13 rfl rfl)
theorem dX6_bikeLine_151 : decode cX6_bikeLine 151 = .ok (.getfield 55, 3) := dk_180 0 55 (dk_at dksX6_bikeLine_6 14 rfl rfl)
theorem dX6_bikeLine_154 : decode cX6_bikeLine 154 = .ok (.iload_n 1, 1) := dk_27 (dk_at dksX6_bikeLine_6 17 rfl rfl)
theorem dX6_bikeLine_155 : decode cX6_bikeLine 155 = .ok (.iconst 3, 1) := dk_6 (dk_at dksX6_bikeLine_6 18 rfl rfl)
theorem dX6_bikeLine_156 : decode cX6_bikeLine 156 = .ok (.iadd, 1) := dk_96 (dk_at dksX6_bikeLine_6 19 rfl rfl)
theorem dX6_bikeLine_157 : decode cX6_bikeLine 157 = .ok (.aload_n 0, 1) := dk_42 (dk_at dksX6_bikeLine_6 20 rfl rfl)
theorem dX6_bikeLine_158 : decode cX6_bikeLine 158 = .ok (.ldc2_w 211, 3) := dk_20 0 211 (dk_at dksX6_bikeLine_6 21 rfl rfl)
theorem dX6_bikeLine_161 : decode cX6_bikeLine 161 = .ok (.invokevirtual 179, 3) := dk_182 0 179 (dk_at dksX6_bikeLine_7 0 rfl rfl)
theorem dX6_bikeLine_164 : decode cX6_bikeLine 164 = .ok (.ifCond .eq 19, 3) := dk_153 0 19 (dk_at dksX6_bikeLine_7 3 rfl rfl)
theorem dX6_bikeLine_167 : decode cX6_bikeLine 167 = .ok (.aload_n 0, 1) := dk_42 (dk_at dksX6_bikeLine_7 6 rfl rfl)
theorem dX6_bikeLine_168 : decode cX6_bikeLine 168 = .ok (.iconst 0, 1) := dk_3 (dk_at dksX6_bikeLine_7 7 rfl rfl)
theorem dX6_bikeLine_169 : decode cX6_bikeLine 169 = .ok (.aload_n 0, 1) := dk_42 (dk_at dksX6_bikeLine_7 8 rfl rfl)
theorem dX6_bikeLine_170 : decode cX6_bikeLine 170 = .ok (.getfield 46, 3) := dk_180 0 46 (dk_at dksX6_bikeLine_7 9 rfl rfl)
theorem dX6_bikeLine_173 : decode cX6_bikeLine 173 = .ok (.iconst 4, 1) := dk_7 (dk_at dksX6_bikeLine_7 12 rfl rfl)
theorem dX6_bikeLine_174 : decode cX6_bikeLine 174 = .ok (.iaload, 1) := dk_46 (dk_at dksX6_bikeLine_7 13 rfl rfl)
theorem dX6_bikeLine_175 : decode cX6_bikeLine 175 = .ok (.iconst 1, 1) := dk_4 (dk_at dksX6_bikeLine_7 14 rfl rfl)
theorem dX6_bikeLine_176 : decode cX6_bikeLine 176 = .ok (.isub, 1) := dk_100 (dk_at dksX6_bikeLine_7 15 rfl rfl)
theorem dX6_bikeLine_177 : decode cX6_bikeLine 177 = .ok (.invokevirtual 189, 3) := dk_182 0 189 (dk_at dksX6_bikeLine_7 16 rfl rfl)
theorem dX6_bikeLine_180 : decode cX6_bikeLine 180 = .ok (.goto 4, 3) := dk_167 0 4 (dk_at dksX6_bikeLine_7 19 rfl rfl)
theorem dX6_bikeLine_183 : decode cX6_bikeLine 183 = .ok (.iconst (-1), 1) := dk_2 (dk_at dksX6_bikeLine_7 22 rfl rfl)
theorem dX6_bikeLine_184 : decode cX6_bikeLine 184 = .ok (.iastore, 1) := dk_79 (dk_at dksX6_bikeLine_7 23 rfl rfl)
theorem dX6_bikeLine_185 : decode cX6_bikeLine 185 = .ok (.aload_n 0, 1) := dk_42 (dk_at dksX6_bikeLine_8 0 rfl rfl)
theorem dX6_bikeLine_186 : decode cX6_bikeLine 186 = .ok (.getfield 55, 3) := dk_180 0 55 (dk_at dksX6_bikeLine_8 1 rfl rfl)
theorem dX6_bikeLine_189 : decode cX6_bikeLine 189 = .ok (.iload_n 1, 1) := dk_27 (dk_at dksX6_bikeLine_8 4 rfl rfl)
theorem dX6_bikeLine_190 : decode cX6_bikeLine 190 = .ok (.iconst 4, 1) := dk_7 (dk_at dksX6_bikeLine_8 5 rfl rfl)
theorem dX6_bikeLine_191 : decode cX6_bikeLine 191 = .ok (.iadd, 1) := dk_96 (dk_at dksX6_bikeLine_8 6 rfl rfl)
theorem dX6_bikeLine_192 : decode cX6_bikeLine 192 = .ok (.aload_n 0, 1) := dk_42 (dk_at dksX6_bikeLine_8 7 rfl rfl)
theorem dX6_bikeLine_193 : decode cX6_bikeLine 193 = .ok (.ldc2_w 213, 3) := dk_20 0 213 (dk_at dksX6_bikeLine_8 8 rfl rfl)
theorem dX6_bikeLine_196 : decode cX6_bikeLine 196 = .ok (.invokevirtual 179, 3) := dk_182 0 179 (dk_at dksX6_bikeLine_8 11 rfl rfl)
theorem dX6_bikeLine_199 : decode cX6_bikeLine 199 = .ok (.ifCond .eq 7, 3) := dk_153 0 7 (dk_at dksX6_bikeLine_8 14 rfl rfl)
theorem dX6_bikeLine_202 : decode cX6_bikeLine 202 = .ok (.iconst 1, 1) := dk_4 (dk_at dksX6_bikeLine_8 17 rfl rfl)
theorem dX6_bikeLine_203 : decode cX6_bikeLine 203 = .ok (.goto 4, 3) := dk_167 0 4 (dk_at dksX6_bikeLine_8 18 rfl rfl)
theorem dX6_bikeLine_206 : decode cX6_bikeLine 206 = .ok (.iconst 0, 1) := dk_3 (dk_at dksX6_bikeLine_8 21 rfl rfl)
theorem dX6_bikeLine_207 : decode cX6_bikeLine 207 = .ok (.iastore, 1) := dk_79 (dk_at dksX6_bikeLine_8 22 rfl rfl)
theorem dX6_bikeLine_208 : decode cX6_bikeLine 208 = .ok (.aload_n 0, 1) := dk_42 (dk_at dksX6_bikeLine_8 23 rfl rfl)
theorem dX6_bikeLine_209 : decode cX6_bikeLine 209 = .ok (.getfield 52, 3) := dk_180 0 52 (dk_at dksX6_bikeLine_9 0 rfl rfl)
theorem dX6_bikeLine_212 : decode cX6_bikeLine 212 = .ok (.iconst 4, 1) := dk_7 (dk_at dksX6_bikeLine_9 3 rfl rfl)
theorem dX6_bikeLine_213 : decode cX6_bikeLine 213 = .ok (.dup2, 1) := dk_92 (dk_at dksX6_bikeLine_9 4 rfl rfl)
theorem dX6_bikeLine_214 : decode cX6_bikeLine 214 = .ok (.iaload, 1) := dk_46 (dk_at dksX6_bikeLine_9 5 rfl rfl)
theorem dX6_bikeLine_215 : decode cX6_bikeLine 215 = .ok (.iconst 1, 1) := dk_4 (dk_at dksX6_bikeLine_9 6 rfl rfl)
theorem dX6_bikeLine_216 : decode cX6_bikeLine 216 = .ok (.iadd, 1) := dk_96 (dk_at dksX6_bikeLine_9 7 rfl rfl)
theorem dX6_bikeLine_217 : decode cX6_bikeLine 217 = .ok (.iastore, 1) := dk_79 (dk_at dksX6_bikeLine_9 8 rfl rfl)
theorem dX6_bikeLine_218 : decode cX6_bikeLine 218 = .ok (.return_, 1) := dk_177 (dk_at dksX6_bikeLine_9 9 rfl rfl)
abbrev cX6_thiefLine : ByteArray := prog_20_method_28_code
def yX6_thiefLine : MethodName := ⟨RX6, "thiefLine", "()V"⟩
def dkwX6_thiefLine_7 : List UInt8 := [167, 0, 4, 2, 79, 42, 180, 0, 58, 7, 92, 46, 4, 96, 79, 177]
abbrev dktX6_thiefLine_7 : List UInt8 := dkwX6_thiefLine_7 ++ []
def dkwX6_thiefLine_6 : List UInt8 := [180, 0, 61, 27, 7, 96, 28, 5, 160, 0, 19, 42, 3, 42, 180, 0, 52, 7, 46, 4, 100, 182, 0, 189]
abbrev dktX6_thiefLine_6 : List UInt8 := dkwX6_thiefLine_6 ++ dktX6_thiefLine_7
def dkwX6_thiefLine_5 : List UInt8 := [182, 0, 182, 42, 180, 0, 166, 154, 0, 7, 42, 182, 0, 176, 42, 180, 0, 61, 27, 6, 96, 28, 79, 42]
abbrev dktX6_thiefLine_5 : List UInt8 := dkwX6_thiefLine_5 ++ dktX6_thiefLine_6
def dkwX6_thiefLine_4 : List UInt8 := [20, 0, 225, 182, 0, 172, 153, 0, 7, 5, 167, 0, 4, 2, 61, 28, 2, 160, 0, 8, 42, 4]
abbrev dktX6_thiefLine_4 : List UInt8 := dkwX6_thiefLine_4 ++ dktX6_thiefLine_5
def dkwX6_thiefLine_3 : List UInt8 := [153, 0, 7, 3, 167, 0, 32, 42, 20, 0, 223, 182, 0, 172, 153, 0, 7, 4, 167, 0, 18, 42]
abbrev dktX6_thiefLine_3 : List UInt8 := dkwX6_thiefLine_3 ++ dktX6_thiefLine_4
def dkwX6_thiefLine_2 : List UInt8 := [180, 0, 61, 27, 5, 96, 42, 20, 0, 219, 3, 16, 99, 182, 0, 198, 79, 42, 20, 0, 221, 182, 0, 172]
abbrev dktX6_thiefLine_2 : List UInt8 := dkwX6_thiefLine_2 ++ dktX6_thiefLine_3
def dkwX6_thiefLine_1 : List UInt8 := [182, 0, 198, 79, 42, 180, 0, 61, 27, 4, 96, 42, 20, 0, 217, 3, 16, 100, 182, 0, 198, 79, 42]
abbrev dktX6_thiefLine_1 : List UInt8 := dkwX6_thiefLine_1 ++ dktX6_thiefLine_2
def dkwX6_thiefLine_0 : List UInt8 := [8, 16, 24, 42, 180, 0, 58, 7, 46, 96, 104, 60, 42, 180, 0, 61, 27, 42, 20, 0, 215, 3, 5]
abbrev dktX6_thiefLine_0 : List UInt8 := dkwX6_thiefLine_0 ++ dktX6_thiefLine_1
theorem dksX6_thiefLine_0 : cX6_thiefLine.data.toList.drop 0 = dktX6_thiefLine_0 := by decide +kernel
theorem dksX6_thiefLine_1 : cX6_thiefLine.data.toList.drop 23 = dktX6_thiefLine_1 := dk_seg dksX6_thiefLine_0 23 rfl rfl
theorem dksX6_thiefLine_2 : cX6_thiefLine.data.toList.drop 46 = dktX6_thiefLine_2 := dk_seg dksX6_thiefLine_1 23 rfl rfl
theorem dksX6_thiefLine_3 : cX6_thiefLine.data.toList.drop 70 = dktX6_thiefLine_3 := dk_seg dksX6_thiefLine_2 24 rfl rfl
theorem dksX6_thiefLine_4 : cX6_thiefLine.data.toList.drop 92 = dktX6_thiefLine_4 := dk_seg dksX6_thiefLine_3 22 rfl rfl
theorem dksX6_thiefLine_5 : cX6_thiefLine.data.toList.drop 114 = dktX6_thiefLine_5 := dk_seg dksX6_thiefLine_4 22 rfl rfl
theorem dksX6_thiefLine_6 : cX6_thiefLine.data.toList.drop 138 = dktX6_thiefLine_6 := dk_seg dksX6_thiefLine_5 24 rfl rfl
theorem dksX6_thiefLine_7 : cX6_thiefLine.data.toList.drop 162 = dktX6_thiefLine_7 := dk_seg dksX6_thiefLine_6 24 rfl rfl
theorem dX6_thiefLine_0 : decode cX6_thiefLine 0 = .ok (.iconst 5, 1) := dk_8 (dk_at dksX6_thiefLine_0 0 rfl rfl)
theorem dX6_thiefLine_1 : decode cX6_thiefLine 1 = .ok (.bipush 24, 2) := dk_16 24 (dk_at dksX6_thiefLine_0 1 rfl rfl)
theorem dX6_thiefLine_3 : decode cX6_thiefLine 3 = .ok (.aload_n 0, 1) := dk_42 (dk_at dksX6_thiefLine_0 3 rfl rfl)
theorem dX6_thiefLine_4 : decode cX6_thiefLine 4 = .ok (.getfield 58, 3) := dk_180 0 58 (dk_at dksX6_thiefLine_0 4 rfl rfl)
theorem dX6_thiefLine_7 : decode cX6_thiefLine 7 = .ok (.iconst 4, 1) := dk_7 (dk_at dksX6_thiefLine_0 7 rfl rfl)
theorem dX6_thiefLine_8 : decode cX6_thiefLine 8 = .ok (.iaload, 1) := dk_46 (dk_at dksX6_thiefLine_0 8 rfl rfl)
theorem dX6_thiefLine_9 : decode cX6_thiefLine 9 = .ok (.iadd, 1) := dk_96 (dk_at dksX6_thiefLine_0 9 rfl rfl)
theorem dX6_thiefLine_10 : decode cX6_thiefLine 10 = .ok (.imul, 1) := dk_104 (dk_at dksX6_thiefLine_0 10 rfl rfl)
theorem dX6_thiefLine_11 : decode cX6_thiefLine 11 = .ok (.istore_n 1, 1) := dk_60 (dk_at dksX6_thiefLine_0 11 rfl rfl)
theorem dX6_thiefLine_12 : decode cX6_thiefLine 12 = .ok (.aload_n 0, 1) := dk_42 (dk_at dksX6_thiefLine_0 12 rfl rfl)
theorem dX6_thiefLine_13 : decode cX6_thiefLine 13 = .ok (.getfield 61, 3) := dk_180 0 61 (dk_at dksX6_thiefLine_0 13 rfl rfl)
theorem dX6_thiefLine_16 : decode cX6_thiefLine 16 = .ok (.iload_n 1, 1) := dk_27 (dk_at dksX6_thiefLine_0 16 rfl rfl)
theorem dX6_thiefLine_17 : decode cX6_thiefLine 17 = .ok (.aload_n 0, 1) := dk_42 (dk_at dksX6_thiefLine_0 17 rfl rfl)
theorem dX6_thiefLine_18 : decode cX6_thiefLine 18 = .ok (.ldc2_w 215, 3) := dk_20 0 215 (dk_at dksX6_thiefLine_0 18 rfl rfl)
theorem dX6_thiefLine_21 : decode cX6_thiefLine 21 = .ok (.iconst 0, 1) := dk_3 (dk_at dksX6_thiefLine_0 21 rfl rfl)
theorem dX6_thiefLine_22 : decode cX6_thiefLine 22 = .ok (.iconst 2, 1) := dk_5 (dk_at dksX6_thiefLine_0 22 rfl rfl)
theorem dX6_thiefLine_23 : decode cX6_thiefLine 23 = .ok (.invokevirtual 198, 3) := dk_182 0 198 (dk_at dksX6_thiefLine_1 0 rfl rfl)
theorem dX6_thiefLine_26 : decode cX6_thiefLine 26 = .ok (.iastore, 1) := dk_79 (dk_at dksX6_thiefLine_1 3 rfl rfl)
theorem dX6_thiefLine_27 : decode cX6_thiefLine 27 = .ok (.aload_n 0, 1) := dk_42 (dk_at dksX6_thiefLine_1 4 rfl rfl)
theorem dX6_thiefLine_28 : decode cX6_thiefLine 28 = .ok (.getfield 61, 3) := dk_180 0 61 (dk_at dksX6_thiefLine_1 5 rfl rfl)
theorem dX6_thiefLine_31 : decode cX6_thiefLine 31 = .ok (.iload_n 1, 1) := dk_27 (dk_at dksX6_thiefLine_1 8 rfl rfl)
theorem dX6_thiefLine_32 : decode cX6_thiefLine 32 = .ok (.iconst 1, 1) := dk_4 (dk_at dksX6_thiefLine_1 9 rfl rfl)
theorem dX6_thiefLine_33 : decode cX6_thiefLine 33 = .ok (.iadd, 1) := dk_96 (dk_at dksX6_thiefLine_1 10 rfl rfl)
theorem dX6_thiefLine_34 : decode cX6_thiefLine 34 = .ok (.aload_n 0, 1) := dk_42 (dk_at dksX6_thiefLine_1 11 rfl rfl)
theorem dX6_thiefLine_35 : decode cX6_thiefLine 35 = .ok (.ldc2_w 217, 3) := dk_20 0 217 (dk_at dksX6_thiefLine_1 12 rfl rfl)
theorem dX6_thiefLine_38 : decode cX6_thiefLine 38 = .ok (.iconst 0, 1) := dk_3 (dk_at dksX6_thiefLine_1 15 rfl rfl)
theorem dX6_thiefLine_39 : decode cX6_thiefLine 39 = .ok (.bipush 100, 2) := dk_16 100 (dk_at dksX6_thiefLine_1 16 rfl rfl)
theorem dX6_thiefLine_41 : decode cX6_thiefLine 41 = .ok (.invokevirtual 198, 3) := dk_182 0 198 (dk_at dksX6_thiefLine_1 18 rfl rfl)
theorem dX6_thiefLine_44 : decode cX6_thiefLine 44 = .ok (.iastore, 1) := dk_79 (dk_at dksX6_thiefLine_1 21 rfl rfl)
theorem dX6_thiefLine_45 : decode cX6_thiefLine 45 = .ok (.aload_n 0, 1) := dk_42 (dk_at dksX6_thiefLine_1 22 rfl rfl)
theorem dX6_thiefLine_46 : decode cX6_thiefLine 46 = .ok (.getfield 61, 3) := dk_180 0 61 (dk_at dksX6_thiefLine_2 0 rfl rfl)
theorem dX6_thiefLine_49 : decode cX6_thiefLine 49 = .ok (.iload_n 1, 1) := dk_27 (dk_at dksX6_thiefLine_2 3 rfl rfl)
theorem dX6_thiefLine_50 : decode cX6_thiefLine 50 = .ok (.iconst 2, 1) := dk_5 (dk_at dksX6_thiefLine_2 4 rfl rfl)
theorem dX6_thiefLine_51 : decode cX6_thiefLine 51 = .ok (.iadd, 1) := dk_96 (dk_at dksX6_thiefLine_2 5 rfl rfl)
theorem dX6_thiefLine_52 : decode cX6_thiefLine 52 = .ok (.aload_n 0, 1) := dk_42 (dk_at dksX6_thiefLine_2 6 rfl rfl)
theorem dX6_thiefLine_53 : decode cX6_thiefLine 53 = .ok (.ldc2_w 219, 3) := dk_20 0 219 (dk_at dksX6_thiefLine_2 7 rfl rfl)
theorem dX6_thiefLine_56 : decode cX6_thiefLine 56 = .ok (.iconst 0, 1) := dk_3 (dk_at dksX6_thiefLine_2 10 rfl rfl)
theorem dX6_thiefLine_57 : decode cX6_thiefLine 57 = .ok (.bipush 99, 2) := dk_16 99 (dk_at dksX6_thiefLine_2 11 rfl rfl)
theorem dX6_thiefLine_59 : decode cX6_thiefLine 59 = .ok (.invokevirtual 198, 3) := dk_182 0 198 (dk_at dksX6_thiefLine_2 13 rfl rfl)
theorem dX6_thiefLine_62 : decode cX6_thiefLine 62 = .ok (.iastore, 1) := dk_79 (dk_at dksX6_thiefLine_2 16 rfl rfl)
theorem dX6_thiefLine_63 : decode cX6_thiefLine 63 = .ok (.aload_n 0, 1) := dk_42 (dk_at dksX6_thiefLine_2 17 rfl rfl)
theorem dX6_thiefLine_64 : decode cX6_thiefLine 64 = .ok (.ldc2_w 221, 3) := dk_20 0 221 (dk_at dksX6_thiefLine_2 18 rfl rfl)
theorem dX6_thiefLine_67 : decode cX6_thiefLine 67 = .ok (.invokevirtual 172, 3) := dk_182 0 172 (dk_at dksX6_thiefLine_2 21 rfl rfl)
theorem dX6_thiefLine_70 : decode cX6_thiefLine 70 = .ok (.ifCond .eq 7, 3) := dk_153 0 7 (dk_at dksX6_thiefLine_3 0 rfl rfl)
theorem dX6_thiefLine_73 : decode cX6_thiefLine 73 = .ok (.iconst 0, 1) := dk_3 (dk_at dksX6_thiefLine_3 3 rfl rfl)
theorem dX6_thiefLine_74 : decode cX6_thiefLine 74 = .ok (.goto 32, 3) := dk_167 0 32 (dk_at dksX6_thiefLine_3 4 rfl rfl)
theorem dX6_thiefLine_77 : decode cX6_thiefLine 77 = .ok (.aload_n 0, 1) := dk_42 (dk_at dksX6_thiefLine_3 7 rfl rfl)
theorem dX6_thiefLine_78 : decode cX6_thiefLine 78 = .ok (.ldc2_w 223, 3) := dk_20 0 223 (dk_at dksX6_thiefLine_3 8 rfl rfl)
theorem dX6_thiefLine_81 : decode cX6_thiefLine 81 = .ok (.invokevirtual 172, 3) := dk_182 0 172 (dk_at dksX6_thiefLine_3 11 rfl rfl)
theorem dX6_thiefLine_84 : decode cX6_thiefLine 84 = .ok (.ifCond .eq 7, 3) := dk_153 0 7 (dk_at dksX6_thiefLine_3 14 rfl rfl)
theorem dX6_thiefLine_87 : decode cX6_thiefLine 87 = .ok (.iconst 1, 1) := dk_4 (dk_at dksX6_thiefLine_3 17 rfl rfl)
theorem dX6_thiefLine_88 : decode cX6_thiefLine 88 = .ok (.goto 18, 3) := dk_167 0 18 (dk_at dksX6_thiefLine_3 18 rfl rfl)
theorem dX6_thiefLine_91 : decode cX6_thiefLine 91 = .ok (.aload_n 0, 1) := dk_42 (dk_at dksX6_thiefLine_3 21 rfl rfl)
theorem dX6_thiefLine_92 : decode cX6_thiefLine 92 = .ok (.ldc2_w 225, 3) := dk_20 0 225 (dk_at dksX6_thiefLine_4 0 rfl rfl)
theorem dX6_thiefLine_95 : decode cX6_thiefLine 95 = .ok (.invokevirtual 172, 3) := dk_182 0 172 (dk_at dksX6_thiefLine_4 3 rfl rfl)
theorem dX6_thiefLine_98 : decode cX6_thiefLine 98 = .ok (.ifCond .eq 7, 3) := dk_153 0 7 (dk_at dksX6_thiefLine_4 6 rfl rfl)
theorem dX6_thiefLine_101 : decode cX6_thiefLine 101 = .ok (.iconst 2, 1) := dk_5 (dk_at dksX6_thiefLine_4 9 rfl rfl)
theorem dX6_thiefLine_102 : decode cX6_thiefLine 102 = .ok (.goto 4, 3) := dk_167 0 4 (dk_at dksX6_thiefLine_4 10 rfl rfl)
theorem dX6_thiefLine_105 : decode cX6_thiefLine 105 = .ok (.iconst (-1), 1) := dk_2 (dk_at dksX6_thiefLine_4 13 rfl rfl)
theorem dX6_thiefLine_106 : decode cX6_thiefLine 106 = .ok (.istore_n 2, 1) := dk_61 (dk_at dksX6_thiefLine_4 14 rfl rfl)
theorem dX6_thiefLine_107 : decode cX6_thiefLine 107 = .ok (.iload_n 2, 1) := dk_28 (dk_at dksX6_thiefLine_4 15 rfl rfl)
theorem dX6_thiefLine_108 : decode cX6_thiefLine 108 = .ok (.iconst (-1), 1) := dk_2 (dk_at dksX6_thiefLine_4 16 rfl rfl)
theorem dX6_thiefLine_109 : decode cX6_thiefLine 109 = .ok (.if_icmp .ne 8, 3) := dk_160 0 8 (dk_at dksX6_thiefLine_4 17 rfl rfl)
theorem dX6_thiefLine_112 : decode cX6_thiefLine 112 = .ok (.aload_n 0, 1) := dk_42 (dk_at dksX6_thiefLine_4 20 rfl rfl)
theorem dX6_thiefLine_113 : decode cX6_thiefLine 113 = .ok (.iconst 1, 1) := dk_4 (dk_at dksX6_thiefLine_4 21 rfl rfl)
theorem dX6_thiefLine_114 : decode cX6_thiefLine 114 = .ok (.invokevirtual 182, 3) := dk_182 0 182 (dk_at dksX6_thiefLine_5 0 rfl rfl)
theorem dX6_thiefLine_117 : decode cX6_thiefLine 117 = .ok (.aload_n 0, 1) := dk_42 (dk_at dksX6_thiefLine_5 3 rfl rfl)
theorem dX6_thiefLine_118 : decode cX6_thiefLine 118 = .ok (.getfield 166, 3) := dk_180 0 166 (dk_at dksX6_thiefLine_5 4 rfl rfl)
theorem dX6_thiefLine_121 : decode cX6_thiefLine 121 = .ok (.ifCond .ne 7, 3) := dk_154 0 7 (dk_at dksX6_thiefLine_5 7 rfl rfl)
theorem dX6_thiefLine_124 : decode cX6_thiefLine 124 = .ok (.aload_n 0, 1) := dk_42 (dk_at dksX6_thiefLine_5 10 rfl rfl)
theorem dX6_thiefLine_125 : decode cX6_thiefLine 125 = .ok (.invokevirtual 176, 3) := dk_182 0 176 (dk_at dksX6_thiefLine_5 11 rfl rfl)
theorem dX6_thiefLine_128 : decode cX6_thiefLine 128 = .ok (.aload_n 0, 1) := dk_42 (dk_at dksX6_thiefLine_5 14 rfl rfl)
theorem dX6_thiefLine_129 : decode cX6_thiefLine 129 = .ok (.getfield 61, 3) := dk_180 0 61 (dk_at dksX6_thiefLine_5 15 rfl rfl)
theorem dX6_thiefLine_132 : decode cX6_thiefLine 132 = .ok (.iload_n 1, 1) := dk_27 (dk_at dksX6_thiefLine_5 18 rfl rfl)
theorem dX6_thiefLine_133 : decode cX6_thiefLine 133 = .ok (.iconst 3, 1) := dk_6 (dk_at dksX6_thiefLine_5 19 rfl rfl)
theorem dX6_thiefLine_134 : decode cX6_thiefLine 134 = .ok (.iadd, 1) := dk_96 (dk_at dksX6_thiefLine_5 20 rfl rfl)
theorem dX6_thiefLine_135 : decode cX6_thiefLine 135 = .ok (.iload_n 2, 1) := dk_28 (dk_at dksX6_thiefLine_5 21 rfl rfl)
theorem dX6_thiefLine_136 : decode cX6_thiefLine 136 = .ok (.iastore, 1) := dk_79 (dk_at dksX6_thiefLine_5 22 rfl rfl)
theorem dX6_thiefLine_137 : decode cX6_thiefLine 137 = .ok (.aload_n 0, 1) := dk_42 (dk_at dksX6_thiefLine_5 23 rfl rfl)
theorem dX6_thiefLine_138 : decode cX6_thiefLine 138 = .ok (.getfield 61, 3) := dk_180 0 61 (dk_at dksX6_thiefLine_6 0 rfl rfl)
theorem dX6_thiefLine_141 : decode cX6_thiefLine 141 = .ok (.iload_n 1, 1) := dk_27 (dk_at dksX6_thiefLine_6 3 rfl rfl)
theorem dX6_thiefLine_142 : decode cX6_thiefLine 142 = .ok (.iconst 4, 1) := dk_7 (dk_at dksX6_thiefLine_6 4 rfl rfl)
theorem dX6_thiefLine_143 : decode cX6_thiefLine 143 = .ok (.iadd, 1) := dk_96 (dk_at dksX6_thiefLine_6 5 rfl rfl)
theorem dX6_thiefLine_144 : decode cX6_thiefLine 144 = .ok (.iload_n 2, 1) := dk_28 (dk_at dksX6_thiefLine_6 6 rfl rfl)
theorem dX6_thiefLine_145 : decode cX6_thiefLine 145 = .ok (.iconst 2, 1) := dk_5 (dk_at dksX6_thiefLine_6 7 rfl rfl)
theorem dX6_thiefLine_146 : decode cX6_thiefLine 146 = .ok (.if_icmp .ne 19, 3) := dk_160 0 19 (dk_at dksX6_thiefLine_6 8 rfl rfl)
theorem dX6_thiefLine_149 : decode cX6_thiefLine 149 = .ok (.aload_n 0, 1) := dk_42 (dk_at dksX6_thiefLine_6 11 rfl rfl)
theorem dX6_thiefLine_150 : decode cX6_thiefLine 150 = .ok (.iconst 0, 1) := dk_3 (dk_at dksX6_thiefLine_6 12 rfl rfl)
theorem dX6_thiefLine_151 : decode cX6_thiefLine 151 = .ok (.aload_n 0, 1) := dk_42 (dk_at dksX6_thiefLine_6 13 rfl rfl)
theorem dX6_thiefLine_152 : decode cX6_thiefLine 152 = .ok (.getfield 52, 3) := dk_180 0 52 (dk_at dksX6_thiefLine_6 14 rfl rfl)
theorem dX6_thiefLine_155 : decode cX6_thiefLine 155 = .ok (.iconst 4, 1) := dk_7 (dk_at dksX6_thiefLine_6 17 rfl rfl)
theorem dX6_thiefLine_156 : decode cX6_thiefLine 156 = .ok (.iaload, 1) := dk_46 (dk_at dksX6_thiefLine_6 18 rfl rfl)
theorem dX6_thiefLine_157 : decode cX6_thiefLine 157 = .ok (.iconst 1, 1) := dk_4 (dk_at dksX6_thiefLine_6 19 rfl rfl)
theorem dX6_thiefLine_158 : decode cX6_thiefLine 158 = .ok (.isub, 1) := dk_100 (dk_at dksX6_thiefLine_6 20 rfl rfl)
theorem dX6_thiefLine_159 : decode cX6_thiefLine 159 = .ok (.invokevirtual 189, 3) := dk_182 0 189 (dk_at dksX6_thiefLine_6 21 rfl rfl)
theorem dX6_thiefLine_162 : decode cX6_thiefLine 162 = .ok (.goto 4, 3) := dk_167 0 4 (dk_at dksX6_thiefLine_7 0 rfl rfl)
theorem dX6_thiefLine_165 : decode cX6_thiefLine 165 = .ok (.iconst (-1), 1) := dk_2 (dk_at dksX6_thiefLine_7 3 rfl rfl)
theorem dX6_thiefLine_166 : decode cX6_thiefLine 166 = .ok (.iastore, 1) := dk_79 (dk_at dksX6_thiefLine_7 4 rfl rfl)
theorem dX6_thiefLine_167 : decode cX6_thiefLine 167 = .ok (.aload_n 0, 1) := dk_42 (dk_at dksX6_thiefLine_7 5 rfl rfl)
theorem dX6_thiefLine_168 : decode cX6_thiefLine 168 = .ok (.getfield 58, 3) := dk_180 0 58 (dk_at dksX6_thiefLine_7 6 rfl rfl)
theorem dX6_thiefLine_171 : decode cX6_thiefLine 171 = .ok (.iconst 4, 1) := dk_7 (dk_at dksX6_thiefLine_7 9 rfl rfl)
theorem dX6_thiefLine_172 : decode cX6_thiefLine 172 = .ok (.dup2, 1) := dk_92 (dk_at dksX6_thiefLine_7 10 rfl rfl)
theorem dX6_thiefLine_173 : decode cX6_thiefLine 173 = .ok (.iaload, 1) := dk_46 (dk_at dksX6_thiefLine_7 11 rfl rfl)
theorem dX6_thiefLine_174 : decode cX6_thiefLine 174 = .ok (.iconst 1, 1) := dk_4 (dk_at dksX6_thiefLine_7 12 rfl rfl)
theorem dX6_thiefLine_175 : decode cX6_thiefLine 175 = .ok (.iadd, 1) := dk_96 (dk_at dksX6_thiefLine_7 13 rfl rfl)
theorem dX6_thiefLine_176 : decode cX6_thiefLine 176 = .ok (.iastore, 1) := dk_79 (dk_at dksX6_thiefLine_7 14 rfl rfl)
theorem dX6_thiefLine_177 : decode cX6_thiefLine 177 = .ok (.return_, 1) := dk_177 (dk_at dksX6_thiefLine_7 15 rfl rfl)
abbrev cX6_ends : ByteArray := prog_20_method_21_code
def yX6_ends : MethodName := ⟨RX6, "ends", "()V"⟩
def dkwX6_ends_1 : List UInt8 := [177]
abbrev dktX6_ends_1 : List UInt8 := dkwX6_ends_1 ++ []
def dkwX6_ends_0 : List UInt8 := [42, 180, 0, 155, 6, 159, 0, 8, 42, 4, 182, 0, 182, 42, 180, 0, 166, 154, 0, 7, 42, 182, 0, 176]
abbrev dktX6_ends_0 : List UInt8 := dkwX6_ends_0 ++ dktX6_ends_1
theorem dksX6_ends_0 : cX6_ends.data.toList.drop 0 = dktX6_ends_0 := by decide +kernel
theorem dksX6_ends_1 : cX6_ends.data.toList.drop 24 = dktX6_ends_1 := dk_seg dksX6_ends_0 24 rfl rfl
theorem dX6_ends_0 : decode cX6_ends 0 = .ok (.aload_n 0, 1) := dk_42 (dk_at dksX6_ends_0 0 rfl rfl)
theorem dX6_ends_1 : decode cX6_ends 1 = .ok (.getfield 155, 3) := dk_180 0 155 (dk_at dksX6_ends_0 1 rfl rfl)
theorem dX6_ends_4 : decode cX6_ends 4 = .ok (.iconst 3, 1) := dk_6 (dk_at dksX6_ends_0 4 rfl rfl)
theorem dX6_ends_5 : decode cX6_ends 5 = .ok (.if_icmp .eq 8, 3) := dk_159 0 8 (dk_at dksX6_ends_0 5 rfl rfl)
theorem dX6_ends_8 : decode cX6_ends 8 = .ok (.aload_n 0, 1) := dk_42 (dk_at dksX6_ends_0 8 rfl rfl)
theorem dX6_ends_9 : decode cX6_ends 9 = .ok (.iconst 1, 1) := dk_4 (dk_at dksX6_ends_0 9 rfl rfl)
theorem dX6_ends_10 : decode cX6_ends 10 = .ok (.invokevirtual 182, 3) := dk_182 0 182 (dk_at dksX6_ends_0 10 rfl rfl)
theorem dX6_ends_13 : decode cX6_ends 13 = .ok (.aload_n 0, 1) := dk_42 (dk_at dksX6_ends_0 13 rfl rfl)
theorem dX6_ends_14 : decode cX6_ends 14 = .ok (.getfield 166, 3) := dk_180 0 166 (dk_at dksX6_ends_0 14 rfl rfl)
theorem dX6_ends_17 : decode cX6_ends 17 = .ok (.ifCond .ne 7, 3) := dk_154 0 7 (dk_at dksX6_ends_0 17 rfl rfl)
theorem dX6_ends_20 : decode cX6_ends 20 = .ok (.aload_n 0, 1) := dk_42 (dk_at dksX6_ends_0 20 rfl rfl)
theorem dX6_ends_21 : decode cX6_ends 21 = .ok (.invokevirtual 176, 3) := dk_182 0 176 (dk_at dksX6_ends_0 21 rfl rfl)
theorem dX6_ends_24 : decode cX6_ends 24 = .ok (.return_, 1) := dk_177 (dk_at dksX6_ends_1 0 rfl rfl)
abbrev cX6_isOver : ByteArray := prog_20_method_23_code
def yX6_isOver : MethodName := ⟨RX6, "isOver", "()V"⟩
def dkwX6_isOver_1 : List UInt8 := [167, 0, 7, 42, 180, 0, 169, 181, 0, 27, 177]
abbrev dktX6_isOver_1 : List UInt8 := dkwX6_isOver_1 ++ []
def dkwX6_isOver_0 : List UInt8 := [42, 3, 181, 0, 131, 42, 42, 180, 0, 166, 181, 0, 193, 42, 42, 180, 0, 166, 154, 0, 7, 2]
abbrev dktX6_isOver_0 : List UInt8 := dkwX6_isOver_0 ++ dktX6_isOver_1
theorem dksX6_isOver_0 : cX6_isOver.data.toList.drop 0 = dktX6_isOver_0 := by decide +kernel
theorem dksX6_isOver_1 : cX6_isOver.data.toList.drop 22 = dktX6_isOver_1 := dk_seg dksX6_isOver_0 22 rfl rfl
theorem dX6_isOver_0 : decode cX6_isOver 0 = .ok (.aload_n 0, 1) := dk_42 (dk_at dksX6_isOver_0 0 rfl rfl)
theorem dX6_isOver_1 : decode cX6_isOver 1 = .ok (.iconst 0, 1) := dk_3 (dk_at dksX6_isOver_0 1 rfl rfl)
theorem dX6_isOver_2 : decode cX6_isOver 2 = .ok (.putfield 131, 3) := dk_181 0 131 (dk_at dksX6_isOver_0 2 rfl rfl)
theorem dX6_isOver_5 : decode cX6_isOver 5 = .ok (.aload_n 0, 1) := dk_42 (dk_at dksX6_isOver_0 5 rfl rfl)
theorem dX6_isOver_6 : decode cX6_isOver 6 = .ok (.aload_n 0, 1) := dk_42 (dk_at dksX6_isOver_0 6 rfl rfl)
theorem dX6_isOver_7 : decode cX6_isOver 7 = .ok (.getfield 166, 3) := dk_180 0 166 (dk_at dksX6_isOver_0 7 rfl rfl)
theorem dX6_isOver_10 : decode cX6_isOver 10 = .ok (.putfield 193, 3) := dk_181 0 193 (dk_at dksX6_isOver_0 10 rfl rfl)
theorem dX6_isOver_13 : decode cX6_isOver 13 = .ok (.aload_n 0, 1) := dk_42 (dk_at dksX6_isOver_0 13 rfl rfl)
theorem dX6_isOver_14 : decode cX6_isOver 14 = .ok (.aload_n 0, 1) := dk_42 (dk_at dksX6_isOver_0 14 rfl rfl)
theorem dX6_isOver_15 : decode cX6_isOver 15 = .ok (.getfield 166, 3) := dk_180 0 166 (dk_at dksX6_isOver_0 15 rfl rfl)
theorem dX6_isOver_18 : decode cX6_isOver 18 = .ok (.ifCond .ne 7, 3) := dk_154 0 7 (dk_at dksX6_isOver_0 18 rfl rfl)
theorem dX6_isOver_21 : decode cX6_isOver 21 = .ok (.iconst (-1), 1) := dk_2 (dk_at dksX6_isOver_0 21 rfl rfl)
theorem dX6_isOver_22 : decode cX6_isOver 22 = .ok (.goto 7, 3) := dk_167 0 7 (dk_at dksX6_isOver_1 0 rfl rfl)
theorem dX6_isOver_25 : decode cX6_isOver 25 = .ok (.aload_n 0, 1) := dk_42 (dk_at dksX6_isOver_1 3 rfl rfl)
theorem dX6_isOver_26 : decode cX6_isOver 26 = .ok (.getfield 169, 3) := dk_180 0 169 (dk_at dksX6_isOver_1 4 rfl rfl)
theorem dX6_isOver_29 : decode cX6_isOver 29 = .ok (.putfield 27, 3) := dk_181 0 27 (dk_at dksX6_isOver_1 7 rfl rfl)
theorem dX6_isOver_32 : decode cX6_isOver 32 = .ok (.return_, 1) := dk_177 (dk_at dksX6_isOver_1 10 rfl rfl)
abbrev cX6_copyRail : ByteArray := prog_20_method_36_code
def yX6_copyRail : MethodName := ⟨RX6, "copyRail", "(II)V"⟩
def dkwX6_copyRail_5 : List UInt8 := [16, 7, 27, 28, 184, 1, 39, 42, 180, 0, 71, 16, 17, 27, 28, 184, 1, 39, 177]
abbrev dktX6_copyRail_5 : List UInt8 := dkwX6_copyRail_5 ++ []
def dkwX6_copyRail_4 : List UInt8 := [180, 0, 58, 4, 27, 28, 184, 1, 39, 42, 180, 0, 61, 16, 30, 27, 28, 184, 1, 39, 42, 180, 0, 64]
abbrev dktX6_copyRail_4 : List UInt8 := dkwX6_copyRail_4 ++ dktX6_copyRail_5
def dkwX6_copyRail_3 : List UInt8 := [42, 180, 0, 52, 4, 27, 28, 184, 1, 39, 42, 180, 0, 55, 16, 50, 27, 28, 184, 1, 39, 42]
abbrev dktX6_copyRail_3 : List UInt8 := dkwX6_copyRail_3 ++ dktX6_copyRail_4
def dkwX6_copyRail_2 : List UInt8 := [184, 1, 39, 42, 180, 0, 46, 4, 27, 28, 184, 1, 39, 42, 180, 0, 49, 16, 20, 27, 28, 184, 1, 39]
abbrev dktX6_copyRail_2 : List UInt8 := dkwX6_copyRail_2 ++ dktX6_copyRail_3
def dkwX6_copyRail_1 : List UInt8 := [4, 27, 28, 184, 1, 39, 42, 180, 0, 40, 4, 27, 28, 184, 1, 39, 42, 180, 0, 43, 16, 8, 27, 28]
abbrev dktX6_copyRail_1 : List UInt8 := dkwX6_copyRail_1 ++ dktX6_copyRail_2
def dkwX6_copyRail_0 : List UInt8 := [42, 180, 0, 31, 4, 27, 28, 184, 1, 39, 42, 180, 0, 34, 4, 27, 28, 184, 1, 39, 42, 180, 0, 37]
abbrev dktX6_copyRail_0 : List UInt8 := dkwX6_copyRail_0 ++ dktX6_copyRail_1
theorem dksX6_copyRail_0 : cX6_copyRail.data.toList.drop 0 = dktX6_copyRail_0 := by decide +kernel
theorem dksX6_copyRail_1 : cX6_copyRail.data.toList.drop 24 = dktX6_copyRail_1 := dk_seg dksX6_copyRail_0 24 rfl rfl
theorem dksX6_copyRail_2 : cX6_copyRail.data.toList.drop 48 = dktX6_copyRail_2 := dk_seg dksX6_copyRail_1 24 rfl rfl
theorem dksX6_copyRail_3 : cX6_copyRail.data.toList.drop 72 = dktX6_copyRail_3 := dk_seg dksX6_copyRail_2 24 rfl rfl
theorem dksX6_copyRail_4 : cX6_copyRail.data.toList.drop 94 = dktX6_copyRail_4 := dk_seg dksX6_copyRail_3 22 rfl rfl
theorem dksX6_copyRail_5 : cX6_copyRail.data.toList.drop 118 = dktX6_copyRail_5 := dk_seg dksX6_copyRail_4 24 rfl rfl
theorem dX6_copyRail_0 : decode cX6_copyRail 0 = .ok (.aload_n 0, 1) := dk_42 (dk_at dksX6_copyRail_0 0 rfl rfl)
theorem dX6_copyRail_1 : decode cX6_copyRail 1 = .ok (.getfield 31, 3) := dk_180 0 31 (dk_at dksX6_copyRail_0 1 rfl rfl)
theorem dX6_copyRail_4 : decode cX6_copyRail 4 = .ok (.iconst 1, 1) := dk_4 (dk_at dksX6_copyRail_0 4 rfl rfl)
theorem dX6_copyRail_5 : decode cX6_copyRail 5 = .ok (.iload_n 1, 1) := dk_27 (dk_at dksX6_copyRail_0 5 rfl rfl)
theorem dX6_copyRail_6 : decode cX6_copyRail 6 = .ok (.iload_n 2, 1) := dk_28 (dk_at dksX6_copyRail_0 6 rfl rfl)
theorem dX6_copyRail_7 : decode cX6_copyRail 7 = .ok (.invokestatic 295, 3) := dk_184 1 39 (dk_at dksX6_copyRail_0 7 rfl rfl)
theorem dX6_copyRail_10 : decode cX6_copyRail 10 = .ok (.aload_n 0, 1) := dk_42 (dk_at dksX6_copyRail_0 10 rfl rfl)
theorem dX6_copyRail_11 : decode cX6_copyRail 11 = .ok (.getfield 34, 3) := dk_180 0 34 (dk_at dksX6_copyRail_0 11 rfl rfl)
theorem dX6_copyRail_14 : decode cX6_copyRail 14 = .ok (.iconst 1, 1) := dk_4 (dk_at dksX6_copyRail_0 14 rfl rfl)
theorem dX6_copyRail_15 : decode cX6_copyRail 15 = .ok (.iload_n 1, 1) := dk_27 (dk_at dksX6_copyRail_0 15 rfl rfl)
theorem dX6_copyRail_16 : decode cX6_copyRail 16 = .ok (.iload_n 2, 1) := dk_28 (dk_at dksX6_copyRail_0 16 rfl rfl)
theorem dX6_copyRail_17 : decode cX6_copyRail 17 = .ok (.invokestatic 295, 3) := dk_184 1 39 (dk_at dksX6_copyRail_0 17 rfl rfl)
theorem dX6_copyRail_20 : decode cX6_copyRail 20 = .ok (.aload_n 0, 1) := dk_42 (dk_at dksX6_copyRail_0 20 rfl rfl)
theorem dX6_copyRail_21 : decode cX6_copyRail 21 = .ok (.getfield 37, 3) := dk_180 0 37 (dk_at dksX6_copyRail_0 21 rfl rfl)
theorem dX6_copyRail_24 : decode cX6_copyRail 24 = .ok (.iconst 1, 1) := dk_4 (dk_at dksX6_copyRail_1 0 rfl rfl)
theorem dX6_copyRail_25 : decode cX6_copyRail 25 = .ok (.iload_n 1, 1) := dk_27 (dk_at dksX6_copyRail_1 1 rfl rfl)
theorem dX6_copyRail_26 : decode cX6_copyRail 26 = .ok (.iload_n 2, 1) := dk_28 (dk_at dksX6_copyRail_1 2 rfl rfl)
theorem dX6_copyRail_27 : decode cX6_copyRail 27 = .ok (.invokestatic 295, 3) := dk_184 1 39 (dk_at dksX6_copyRail_1 3 rfl rfl)
theorem dX6_copyRail_30 : decode cX6_copyRail 30 = .ok (.aload_n 0, 1) := dk_42 (dk_at dksX6_copyRail_1 6 rfl rfl)
theorem dX6_copyRail_31 : decode cX6_copyRail 31 = .ok (.getfield 40, 3) := dk_180 0 40 (dk_at dksX6_copyRail_1 7 rfl rfl)
theorem dX6_copyRail_34 : decode cX6_copyRail 34 = .ok (.iconst 1, 1) := dk_4 (dk_at dksX6_copyRail_1 10 rfl rfl)
theorem dX6_copyRail_35 : decode cX6_copyRail 35 = .ok (.iload_n 1, 1) := dk_27 (dk_at dksX6_copyRail_1 11 rfl rfl)
theorem dX6_copyRail_36 : decode cX6_copyRail 36 = .ok (.iload_n 2, 1) := dk_28 (dk_at dksX6_copyRail_1 12 rfl rfl)
theorem dX6_copyRail_37 : decode cX6_copyRail 37 = .ok (.invokestatic 295, 3) := dk_184 1 39 (dk_at dksX6_copyRail_1 13 rfl rfl)
theorem dX6_copyRail_40 : decode cX6_copyRail 40 = .ok (.aload_n 0, 1) := dk_42 (dk_at dksX6_copyRail_1 16 rfl rfl)
theorem dX6_copyRail_41 : decode cX6_copyRail 41 = .ok (.getfield 43, 3) := dk_180 0 43 (dk_at dksX6_copyRail_1 17 rfl rfl)
theorem dX6_copyRail_44 : decode cX6_copyRail 44 = .ok (.bipush 8, 2) := dk_16 8 (dk_at dksX6_copyRail_1 20 rfl rfl)
theorem dX6_copyRail_46 : decode cX6_copyRail 46 = .ok (.iload_n 1, 1) := dk_27 (dk_at dksX6_copyRail_1 22 rfl rfl)
theorem dX6_copyRail_47 : decode cX6_copyRail 47 = .ok (.iload_n 2, 1) := dk_28 (dk_at dksX6_copyRail_1 23 rfl rfl)
theorem dX6_copyRail_48 : decode cX6_copyRail 48 = .ok (.invokestatic 295, 3) := dk_184 1 39 (dk_at dksX6_copyRail_2 0 rfl rfl)
theorem dX6_copyRail_51 : decode cX6_copyRail 51 = .ok (.aload_n 0, 1) := dk_42 (dk_at dksX6_copyRail_2 3 rfl rfl)
theorem dX6_copyRail_52 : decode cX6_copyRail 52 = .ok (.getfield 46, 3) := dk_180 0 46 (dk_at dksX6_copyRail_2 4 rfl rfl)
theorem dX6_copyRail_55 : decode cX6_copyRail 55 = .ok (.iconst 1, 1) := dk_4 (dk_at dksX6_copyRail_2 7 rfl rfl)
theorem dX6_copyRail_56 : decode cX6_copyRail 56 = .ok (.iload_n 1, 1) := dk_27 (dk_at dksX6_copyRail_2 8 rfl rfl)
theorem dX6_copyRail_57 : decode cX6_copyRail 57 = .ok (.iload_n 2, 1) := dk_28 (dk_at dksX6_copyRail_2 9 rfl rfl)
theorem dX6_copyRail_58 : decode cX6_copyRail 58 = .ok (.invokestatic 295, 3) := dk_184 1 39 (dk_at dksX6_copyRail_2 10 rfl rfl)
theorem dX6_copyRail_61 : decode cX6_copyRail 61 = .ok (.aload_n 0, 1) := dk_42 (dk_at dksX6_copyRail_2 13 rfl rfl)
theorem dX6_copyRail_62 : decode cX6_copyRail 62 = .ok (.getfield 49, 3) := dk_180 0 49 (dk_at dksX6_copyRail_2 14 rfl rfl)
theorem dX6_copyRail_65 : decode cX6_copyRail 65 = .ok (.bipush 20, 2) := dk_16 20 (dk_at dksX6_copyRail_2 17 rfl rfl)
theorem dX6_copyRail_67 : decode cX6_copyRail 67 = .ok (.iload_n 1, 1) := dk_27 (dk_at dksX6_copyRail_2 19 rfl rfl)
theorem dX6_copyRail_68 : decode cX6_copyRail 68 = .ok (.iload_n 2, 1) := dk_28 (dk_at dksX6_copyRail_2 20 rfl rfl)
theorem dX6_copyRail_69 : decode cX6_copyRail 69 = .ok (.invokestatic 295, 3) := dk_184 1 39 (dk_at dksX6_copyRail_2 21 rfl rfl)
theorem dX6_copyRail_72 : decode cX6_copyRail 72 = .ok (.aload_n 0, 1) := dk_42 (dk_at dksX6_copyRail_3 0 rfl rfl)
theorem dX6_copyRail_73 : decode cX6_copyRail 73 = .ok (.getfield 52, 3) := dk_180 0 52 (dk_at dksX6_copyRail_3 1 rfl rfl)
theorem dX6_copyRail_76 : decode cX6_copyRail 76 = .ok (.iconst 1, 1) := dk_4 (dk_at dksX6_copyRail_3 4 rfl rfl)
theorem dX6_copyRail_77 : decode cX6_copyRail 77 = .ok (.iload_n 1, 1) := dk_27 (dk_at dksX6_copyRail_3 5 rfl rfl)
theorem dX6_copyRail_78 : decode cX6_copyRail 78 = .ok (.iload_n 2, 1) := dk_28 (dk_at dksX6_copyRail_3 6 rfl rfl)
theorem dX6_copyRail_79 : decode cX6_copyRail 79 = .ok (.invokestatic 295, 3) := dk_184 1 39 (dk_at dksX6_copyRail_3 7 rfl rfl)
theorem dX6_copyRail_82 : decode cX6_copyRail 82 = .ok (.aload_n 0, 1) := dk_42 (dk_at dksX6_copyRail_3 10 rfl rfl)
theorem dX6_copyRail_83 : decode cX6_copyRail 83 = .ok (.getfield 55, 3) := dk_180 0 55 (dk_at dksX6_copyRail_3 11 rfl rfl)
theorem dX6_copyRail_86 : decode cX6_copyRail 86 = .ok (.bipush 50, 2) := dk_16 50 (dk_at dksX6_copyRail_3 14 rfl rfl)
theorem dX6_copyRail_88 : decode cX6_copyRail 88 = .ok (.iload_n 1, 1) := dk_27 (dk_at dksX6_copyRail_3 16 rfl rfl)
theorem dX6_copyRail_89 : decode cX6_copyRail 89 = .ok (.iload_n 2, 1) := dk_28 (dk_at dksX6_copyRail_3 17 rfl rfl)
theorem dX6_copyRail_90 : decode cX6_copyRail 90 = .ok (.invokestatic 295, 3) := dk_184 1 39 (dk_at dksX6_copyRail_3 18 rfl rfl)
theorem dX6_copyRail_93 : decode cX6_copyRail 93 = .ok (.aload_n 0, 1) := dk_42 (dk_at dksX6_copyRail_3 21 rfl rfl)
theorem dX6_copyRail_94 : decode cX6_copyRail 94 = .ok (.getfield 58, 3) := dk_180 0 58 (dk_at dksX6_copyRail_4 0 rfl rfl)
theorem dX6_copyRail_97 : decode cX6_copyRail 97 = .ok (.iconst 1, 1) := dk_4 (dk_at dksX6_copyRail_4 3 rfl rfl)
theorem dX6_copyRail_98 : decode cX6_copyRail 98 = .ok (.iload_n 1, 1) := dk_27 (dk_at dksX6_copyRail_4 4 rfl rfl)
theorem dX6_copyRail_99 : decode cX6_copyRail 99 = .ok (.iload_n 2, 1) := dk_28 (dk_at dksX6_copyRail_4 5 rfl rfl)
theorem dX6_copyRail_100 : decode cX6_copyRail 100 = .ok (.invokestatic 295, 3) := dk_184 1 39 (dk_at dksX6_copyRail_4 6 rfl rfl)
theorem dX6_copyRail_103 : decode cX6_copyRail 103 = .ok (.aload_n 0, 1) := dk_42 (dk_at dksX6_copyRail_4 9 rfl rfl)
theorem dX6_copyRail_104 : decode cX6_copyRail 104 = .ok (.getfield 61, 3) := dk_180 0 61 (dk_at dksX6_copyRail_4 10 rfl rfl)
theorem dX6_copyRail_107 : decode cX6_copyRail 107 = .ok (.bipush 30, 2) := dk_16 30 (dk_at dksX6_copyRail_4 13 rfl rfl)
theorem dX6_copyRail_109 : decode cX6_copyRail 109 = .ok (.iload_n 1, 1) := dk_27 (dk_at dksX6_copyRail_4 15 rfl rfl)
theorem dX6_copyRail_110 : decode cX6_copyRail 110 = .ok (.iload_n 2, 1) := dk_28 (dk_at dksX6_copyRail_4 16 rfl rfl)
theorem dX6_copyRail_111 : decode cX6_copyRail 111 = .ok (.invokestatic 295, 3) := dk_184 1 39 (dk_at dksX6_copyRail_4 17 rfl rfl)
theorem dX6_copyRail_114 : decode cX6_copyRail 114 = .ok (.aload_n 0, 1) := dk_42 (dk_at dksX6_copyRail_4 20 rfl rfl)
theorem dX6_copyRail_115 : decode cX6_copyRail 115 = .ok (.getfield 64, 3) := dk_180 0 64 (dk_at dksX6_copyRail_4 21 rfl rfl)
theorem dX6_copyRail_118 : decode cX6_copyRail 118 = .ok (.bipush 7, 2) := dk_16 7 (dk_at dksX6_copyRail_5 0 rfl rfl)
theorem dX6_copyRail_120 : decode cX6_copyRail 120 = .ok (.iload_n 1, 1) := dk_27 (dk_at dksX6_copyRail_5 2 rfl rfl)
theorem dX6_copyRail_121 : decode cX6_copyRail 121 = .ok (.iload_n 2, 1) := dk_28 (dk_at dksX6_copyRail_5 3 rfl rfl)
theorem dX6_copyRail_122 : decode cX6_copyRail 122 = .ok (.invokestatic 295, 3) := dk_184 1 39 (dk_at dksX6_copyRail_5 4 rfl rfl)
theorem dX6_copyRail_125 : decode cX6_copyRail 125 = .ok (.aload_n 0, 1) := dk_42 (dk_at dksX6_copyRail_5 7 rfl rfl)
theorem dX6_copyRail_126 : decode cX6_copyRail 126 = .ok (.getfield 71, 3) := dk_180 0 71 (dk_at dksX6_copyRail_5 8 rfl rfl)
theorem dX6_copyRail_129 : decode cX6_copyRail 129 = .ok (.bipush 17, 2) := dk_16 17 (dk_at dksX6_copyRail_5 11 rfl rfl)
theorem dX6_copyRail_131 : decode cX6_copyRail 131 = .ok (.iload_n 1, 1) := dk_27 (dk_at dksX6_copyRail_5 13 rfl rfl)
theorem dX6_copyRail_132 : decode cX6_copyRail 132 = .ok (.iload_n 2, 1) := dk_28 (dk_at dksX6_copyRail_5 14 rfl rfl)
theorem dX6_copyRail_133 : decode cX6_copyRail 133 = .ok (.invokestatic 295, 3) := dk_184 1 39 (dk_at dksX6_copyRail_5 15 rfl rfl)
theorem dX6_copyRail_136 : decode cX6_copyRail 136 = .ok (.return_, 1) := dk_177 (dk_at dksX6_copyRail_5 18 rfl rfl)
abbrev cX6_copyRow : ByteArray := prog_20_method_35_code
def yX6_copyRow : MethodName := ⟨RX6, "copyRow", "([IIII)V"⟩
def dkwX6_copyRow_1 : List UInt8 := [79, 132, 4, 1, 167, 255, 231, 177]
abbrev dktX6_copyRow_1 : List UInt8 := dkwX6_copyRow_1 ++ []
def dkwX6_copyRow_0 : List UInt8 := [3, 54, 4, 21, 4, 27, 162, 0, 25, 42, 27, 29, 104, 21, 4, 96, 42, 27, 28, 104, 21, 4, 96, 46]
abbrev dktX6_copyRow_0 : List UInt8 := dkwX6_copyRow_0 ++ dktX6_copyRow_1
theorem dksX6_copyRow_0 : cX6_copyRow.data.toList.drop 0 = dktX6_copyRow_0 := by decide +kernel
theorem dksX6_copyRow_1 : cX6_copyRow.data.toList.drop 24 = dktX6_copyRow_1 := dk_seg dksX6_copyRow_0 24 rfl rfl
theorem dX6_copyRow_0 : decode cX6_copyRow 0 = .ok (.iconst 0, 1) := dk_3 (dk_at dksX6_copyRow_0 0 rfl rfl)
theorem dX6_copyRow_1 : decode cX6_copyRow 1 = .ok (.istore 4, 2) := dk_54 4 (dk_at dksX6_copyRow_0 1 rfl rfl)
theorem dX6_copyRow_3 : decode cX6_copyRow 3 = .ok (.iload 4, 2) := dk_21 4 (dk_at dksX6_copyRow_0 3 rfl rfl)
theorem dX6_copyRow_5 : decode cX6_copyRow 5 = .ok (.iload_n 1, 1) := dk_27 (dk_at dksX6_copyRow_0 5 rfl rfl)
theorem dX6_copyRow_6 : decode cX6_copyRow 6 = .ok (.if_icmp .ge 25, 3) := dk_162 0 25 (dk_at dksX6_copyRow_0 6 rfl rfl)
theorem dX6_copyRow_9 : decode cX6_copyRow 9 = .ok (.aload_n 0, 1) := dk_42 (dk_at dksX6_copyRow_0 9 rfl rfl)
theorem dX6_copyRow_10 : decode cX6_copyRow 10 = .ok (.iload_n 1, 1) := dk_27 (dk_at dksX6_copyRow_0 10 rfl rfl)
theorem dX6_copyRow_11 : decode cX6_copyRow 11 = .ok (.iload_n 3, 1) := dk_29 (dk_at dksX6_copyRow_0 11 rfl rfl)
theorem dX6_copyRow_12 : decode cX6_copyRow 12 = .ok (.imul, 1) := dk_104 (dk_at dksX6_copyRow_0 12 rfl rfl)
theorem dX6_copyRow_13 : decode cX6_copyRow 13 = .ok (.iload 4, 2) := dk_21 4 (dk_at dksX6_copyRow_0 13 rfl rfl)
theorem dX6_copyRow_15 : decode cX6_copyRow 15 = .ok (.iadd, 1) := dk_96 (dk_at dksX6_copyRow_0 15 rfl rfl)
theorem dX6_copyRow_16 : decode cX6_copyRow 16 = .ok (.aload_n 0, 1) := dk_42 (dk_at dksX6_copyRow_0 16 rfl rfl)
theorem dX6_copyRow_17 : decode cX6_copyRow 17 = .ok (.iload_n 1, 1) := dk_27 (dk_at dksX6_copyRow_0 17 rfl rfl)
theorem dX6_copyRow_18 : decode cX6_copyRow 18 = .ok (.iload_n 2, 1) := dk_28 (dk_at dksX6_copyRow_0 18 rfl rfl)
theorem dX6_copyRow_19 : decode cX6_copyRow 19 = .ok (.imul, 1) := dk_104 (dk_at dksX6_copyRow_0 19 rfl rfl)
theorem dX6_copyRow_20 : decode cX6_copyRow 20 = .ok (.iload 4, 2) := dk_21 4 (dk_at dksX6_copyRow_0 20 rfl rfl)
theorem dX6_copyRow_22 : decode cX6_copyRow 22 = .ok (.iadd, 1) := dk_96 (dk_at dksX6_copyRow_0 22 rfl rfl)
theorem dX6_copyRow_23 : decode cX6_copyRow 23 = .ok (.iaload, 1) := dk_46 (dk_at dksX6_copyRow_0 23 rfl rfl)
theorem dX6_copyRow_24 : decode cX6_copyRow 24 = .ok (.iastore, 1) := dk_79 (dk_at dksX6_copyRow_1 0 rfl rfl)
theorem dX6_copyRow_25 : decode cX6_copyRow 25 = .ok (.iinc 4 1, 3) := dk_132 4 1 (dk_at dksX6_copyRow_1 1 rfl rfl)
theorem dX6_copyRow_28 : decode cX6_copyRow 28 = .ok (.goto (-25), 3) := dk_167 255 231 (dk_at dksX6_copyRow_1 4 rfl rfl)
theorem dX6_copyRow_31 : decode cX6_copyRow 31 = .ok (.return_, 1) := dk_177 (dk_at dksX6_copyRow_1 7 rfl rfl)
abbrev cX6_light : ByteArray := prog_20_method_45_code
def yX6_light : MethodName := ⟨RX6, "light", "(I)I"⟩
def dkwX6_light_1 : List UInt8 := [172]
abbrev dktX6_light_1 : List UInt8 := dkwX6_light_1 ++ []
def dkwX6_light_0 : List UInt8 := [42, 3, 181, 0, 114, 42, 27, 182, 1, 56, 153, 0, 12, 42, 3, 27, 182, 1, 59, 167, 0, 5, 16, 254]
abbrev dktX6_light_0 : List UInt8 := dkwX6_light_0 ++ dktX6_light_1
theorem dksX6_light_0 : cX6_light.data.toList.drop 0 = dktX6_light_0 := by decide +kernel
theorem dksX6_light_1 : cX6_light.data.toList.drop 24 = dktX6_light_1 := dk_seg dksX6_light_0 24 rfl rfl
theorem dX6_light_0 : decode cX6_light 0 = .ok (.aload_n 0, 1) := dk_42 (dk_at dksX6_light_0 0 rfl rfl)
theorem dX6_light_1 : decode cX6_light 1 = .ok (.iconst 0, 1) := dk_3 (dk_at dksX6_light_0 1 rfl rfl)
theorem dX6_light_2 : decode cX6_light 2 = .ok (.putfield 114, 3) := dk_181 0 114 (dk_at dksX6_light_0 2 rfl rfl)
theorem dX6_light_5 : decode cX6_light 5 = .ok (.aload_n 0, 1) := dk_42 (dk_at dksX6_light_0 5 rfl rfl)
theorem dX6_light_6 : decode cX6_light 6 = .ok (.iload_n 1, 1) := dk_27 (dk_at dksX6_light_0 6 rfl rfl)
theorem dX6_light_7 : decode cX6_light 7 = .ok (.invokevirtual 312, 3) := dk_182 1 56 (dk_at dksX6_light_0 7 rfl rfl)
theorem dX6_light_10 : decode cX6_light 10 = .ok (.ifCond .eq 12, 3) := dk_153 0 12 (dk_at dksX6_light_0 10 rfl rfl)
theorem dX6_light_13 : decode cX6_light 13 = .ok (.aload_n 0, 1) := dk_42 (dk_at dksX6_light_0 13 rfl rfl)
theorem dX6_light_14 : decode cX6_light 14 = .ok (.iconst 0, 1) := dk_3 (dk_at dksX6_light_0 14 rfl rfl)
theorem dX6_light_15 : decode cX6_light 15 = .ok (.iload_n 1, 1) := dk_27 (dk_at dksX6_light_0 15 rfl rfl)
theorem dX6_light_16 : decode cX6_light 16 = .ok (.invokevirtual 315, 3) := dk_182 1 59 (dk_at dksX6_light_0 16 rfl rfl)
theorem dX6_light_19 : decode cX6_light 19 = .ok (.goto 5, 3) := dk_167 0 5 (dk_at dksX6_light_0 19 rfl rfl)
theorem dX6_light_22 : decode cX6_light 22 = .ok (.bipush (-2), 2) := dk_16 254 (dk_at dksX6_light_0 22 rfl rfl)
theorem dX6_light_24 : decode cX6_light 24 = .ok (.ireturn, 1) := dk_172 (dk_at dksX6_light_1 0 rfl rfl)
abbrev cX6_isPlace : ByteArray := prog_20_method_41_code
def yX6_isPlace : MethodName := ⟨RX6, "isPlace", "(I)Z"⟩
def dkwX6_isPlace_0 : List UInt8 := [27, 133, 9, 42, 180, 0, 34, 3, 46, 4, 100, 133, 184, 0, 119, 172]
abbrev dktX6_isPlace_0 : List UInt8 := dkwX6_isPlace_0 ++ []
theorem dksX6_isPlace_0 : cX6_isPlace.data.toList.drop 0 = dktX6_isPlace_0 := by decide +kernel
theorem dX6_isPlace_0 : decode cX6_isPlace 0 = .ok (.iload_n 1, 1) := dk_27 (dk_at dksX6_isPlace_0 0 rfl rfl)
theorem dX6_isPlace_1 : decode cX6_isPlace 1 = .ok (.i2l, 1) := dk_133 (dk_at dksX6_isPlace_0 1 rfl rfl)
theorem dX6_isPlace_2 : decode cX6_isPlace 2 = .ok (.lconst 0, 1) := dk_9 (dk_at dksX6_isPlace_0 2 rfl rfl)
theorem dX6_isPlace_3 : decode cX6_isPlace 3 = .ok (.aload_n 0, 1) := dk_42 (dk_at dksX6_isPlace_0 3 rfl rfl)
theorem dX6_isPlace_4 : decode cX6_isPlace 4 = .ok (.getfield 34, 3) := dk_180 0 34 (dk_at dksX6_isPlace_0 4 rfl rfl)
theorem dX6_isPlace_7 : decode cX6_isPlace 7 = .ok (.iconst 0, 1) := dk_3 (dk_at dksX6_isPlace_0 7 rfl rfl)
theorem dX6_isPlace_8 : decode cX6_isPlace 8 = .ok (.iaload, 1) := dk_46 (dk_at dksX6_isPlace_0 8 rfl rfl)
theorem dX6_isPlace_9 : decode cX6_isPlace 9 = .ok (.iconst 1, 1) := dk_4 (dk_at dksX6_isPlace_0 9 rfl rfl)
theorem dX6_isPlace_10 : decode cX6_isPlace 10 = .ok (.isub, 1) := dk_100 (dk_at dksX6_isPlace_0 10 rfl rfl)
theorem dX6_isPlace_11 : decode cX6_isPlace 11 = .ok (.i2l, 1) := dk_133 (dk_at dksX6_isPlace_0 11 rfl rfl)
theorem dX6_isPlace_12 : decode cX6_isPlace 12 = .ok (.invokestatic 119, 3) := dk_184 0 119 (dk_at dksX6_isPlace_0 12 rfl rfl)
theorem dX6_isPlace_15 : decode cX6_isPlace 15 = .ok (.ireturn, 1) := dk_172 (dk_at dksX6_isPlace_0 15 rfl rfl)
abbrev cX6_lightOf : ByteArray := prog_20_method_39_code
def yX6_lightOf : MethodName := ⟨RX6, "lightOf", "(II)I"⟩
def dkwX6_lightOf_4 : List UInt8 := [180, 1, 53, 28, 184, 1, 43, 100, 184, 1, 46, 96, 172]
abbrev dktX6_lightOf_4 : List UInt8 := dkwX6_lightOf_4 ++ []
def dkwX6_lightOf_3 : List UInt8 := [46, 28, 184, 1, 43, 100, 184, 1, 46, 96, 62, 132, 4, 1, 167, 255, 205, 29, 42, 180, 1, 50, 42]
abbrev dktX6_lightOf_3 : List UInt8 := dkwX6_lightOf_3 ++ dktX6_lightOf_4
def dkwX6_lightOf_2 : List UInt8 := [27, 104, 21, 4, 96, 104, 54, 5, 29, 42, 180, 0, 43, 21, 5, 4, 96, 46, 42, 180, 0, 43, 21, 5]
abbrev dktX6_lightOf_2 : List UInt8 := dkwX6_lightOf_2 ++ dktX6_lightOf_3
def dkwX6_lightOf_1 : List UInt8 := [8, 96, 46, 167, 0, 4, 3, 62, 3, 54, 4, 21, 4, 42, 180, 0, 40, 27, 46, 162, 0, 46, 5, 7]
abbrev dktX6_lightOf_1 : List UInt8 := dkwX6_lightOf_1 ++ dktX6_lightOf_2
def dkwX6_lightOf_0 : List UInt8 := [42, 180, 0, 64, 16, 7, 27, 104, 16, 6, 96, 46, 4, 160, 0, 17, 42, 180, 0, 64, 16, 7, 27, 104]
abbrev dktX6_lightOf_0 : List UInt8 := dkwX6_lightOf_0 ++ dktX6_lightOf_1
theorem dksX6_lightOf_0 : cX6_lightOf.data.toList.drop 0 = dktX6_lightOf_0 := by decide +kernel
theorem dksX6_lightOf_1 : cX6_lightOf.data.toList.drop 24 = dktX6_lightOf_1 := dk_seg dksX6_lightOf_0 24 rfl rfl
theorem dksX6_lightOf_2 : cX6_lightOf.data.toList.drop 48 = dktX6_lightOf_2 := dk_seg dksX6_lightOf_1 24 rfl rfl
theorem dksX6_lightOf_3 : cX6_lightOf.data.toList.drop 72 = dktX6_lightOf_3 := dk_seg dksX6_lightOf_2 24 rfl rfl
theorem dksX6_lightOf_4 : cX6_lightOf.data.toList.drop 95 = dktX6_lightOf_4 := dk_seg dksX6_lightOf_3 23 rfl rfl
theorem dX6_lightOf_0 : decode cX6_lightOf 0 = .ok (.aload_n 0, 1) := dk_42 (dk_at dksX6_lightOf_0 0 rfl rfl)
theorem dX6_lightOf_1 : decode cX6_lightOf 1 = .ok (.getfield 64, 3) := dk_180 0 64 (dk_at dksX6_lightOf_0 1 rfl rfl)
theorem dX6_lightOf_4 : decode cX6_lightOf 4 = .ok (.bipush 7, 2) := dk_16 7 (dk_at dksX6_lightOf_0 4 rfl rfl)
theorem dX6_lightOf_6 : decode cX6_lightOf 6 = .ok (.iload_n 1, 1) := dk_27 (dk_at dksX6_lightOf_0 6 rfl rfl)
theorem dX6_lightOf_7 : decode cX6_lightOf 7 = .ok (.imul, 1) := dk_104 (dk_at dksX6_lightOf_0 7 rfl rfl)
theorem dX6_lightOf_8 : decode cX6_lightOf 8 = .ok (.bipush 6, 2) := dk_16 6 (dk_at dksX6_lightOf_0 8 rfl rfl)
theorem dX6_lightOf_10 : decode cX6_lightOf 10 = .ok (.iadd, 1) := dk_96 (dk_at dksX6_lightOf_0 10 rfl rfl)
theorem dX6_lightOf_11 : decode cX6_lightOf 11 = .ok (.iaload, 1) := dk_46 (dk_at dksX6_lightOf_0 11 rfl rfl)
theorem dX6_lightOf_12 : decode cX6_lightOf 12 = .ok (.iconst 1, 1) := dk_4 (dk_at dksX6_lightOf_0 12 rfl rfl)
theorem dX6_lightOf_13 : decode cX6_lightOf 13 = .ok (.if_icmp .ne 17, 3) := dk_160 0 17 (dk_at dksX6_lightOf_0 13 rfl rfl)
theorem dX6_lightOf_16 : decode cX6_lightOf 16 = .ok (.aload_n 0, 1) := dk_42 (dk_at dksX6_lightOf_0 16 rfl rfl)
theorem dX6_lightOf_17 : decode cX6_lightOf 17 = .ok (.getfield 64, 3) := dk_180 0 64 (dk_at dksX6_lightOf_0 17 rfl rfl)
theorem dX6_lightOf_20 : decode cX6_lightOf 20 = .ok (.bipush 7, 2) := dk_16 7 (dk_at dksX6_lightOf_0 20 rfl rfl)
theorem dX6_lightOf_22 : decode cX6_lightOf 22 = .ok (.iload_n 1, 1) := dk_27 (dk_at dksX6_lightOf_0 22 rfl rfl)
theorem dX6_lightOf_23 : decode cX6_lightOf 23 = .ok (.imul, 1) := dk_104 (dk_at dksX6_lightOf_0 23 rfl rfl)
theorem dX6_lightOf_24 : decode cX6_lightOf 24 = .ok (.iconst 5, 1) := dk_8 (dk_at dksX6_lightOf_1 0 rfl rfl)
theorem dX6_lightOf_25 : decode cX6_lightOf 25 = .ok (.iadd, 1) := dk_96 (dk_at dksX6_lightOf_1 1 rfl rfl)
theorem dX6_lightOf_26 : decode cX6_lightOf 26 = .ok (.iaload, 1) := dk_46 (dk_at dksX6_lightOf_1 2 rfl rfl)
theorem dX6_lightOf_27 : decode cX6_lightOf 27 = .ok (.goto 4, 3) := dk_167 0 4 (dk_at dksX6_lightOf_1 3 rfl rfl)
theorem dX6_lightOf_30 : decode cX6_lightOf 30 = .ok (.iconst 0, 1) := dk_3 (dk_at dksX6_lightOf_1 6 rfl rfl)
theorem dX6_lightOf_31 : decode cX6_lightOf 31 = .ok (.istore_n 3, 1) := dk_62 (dk_at dksX6_lightOf_1 7 rfl rfl)
theorem dX6_lightOf_32 : decode cX6_lightOf 32 = .ok (.iconst 0, 1) := dk_3 (dk_at dksX6_lightOf_1 8 rfl rfl)
theorem dX6_lightOf_33 : decode cX6_lightOf 33 = .ok (.istore 4, 2) := dk_54 4 (dk_at dksX6_lightOf_1 9 rfl rfl)
theorem dX6_lightOf_35 : decode cX6_lightOf 35 = .ok (.iload 4, 2) := dk_21 4 (dk_at dksX6_lightOf_1 11 rfl rfl)
theorem dX6_lightOf_37 : decode cX6_lightOf 37 = .ok (.aload_n 0, 1) := dk_42 (dk_at dksX6_lightOf_1 13 rfl rfl)
theorem dX6_lightOf_38 : decode cX6_lightOf 38 = .ok (.getfield 40, 3) := dk_180 0 40 (dk_at dksX6_lightOf_1 14 rfl rfl)
theorem dX6_lightOf_41 : decode cX6_lightOf 41 = .ok (.iload_n 1, 1) := dk_27 (dk_at dksX6_lightOf_1 17 rfl rfl)
theorem dX6_lightOf_42 : decode cX6_lightOf 42 = .ok (.iaload, 1) := dk_46 (dk_at dksX6_lightOf_1 18 rfl rfl)
theorem dX6_lightOf_43 : decode cX6_lightOf 43 = .ok (.if_icmp .ge 46, 3) := dk_162 0 46 (dk_at dksX6_lightOf_1 19 rfl rfl)
theorem dX6_lightOf_46 : decode cX6_lightOf 46 = .ok (.iconst 2, 1) := dk_5 (dk_at dksX6_lightOf_1 22 rfl rfl)
theorem dX6_lightOf_47 : decode cX6_lightOf 47 = .ok (.iconst 4, 1) := dk_7 (dk_at dksX6_lightOf_1 23 rfl rfl)
theorem dX6_lightOf_48 : decode cX6_lightOf 48 = .ok (.iload_n 1, 1) := dk_27 (dk_at dksX6_lightOf_2 0 rfl rfl)
theorem dX6_lightOf_49 : decode cX6_lightOf 49 = .ok (.imul, 1) := dk_104 (dk_at dksX6_lightOf_2 1 rfl rfl)
theorem dX6_lightOf_50 : decode cX6_lightOf 50 = .ok (.iload 4, 2) := dk_21 4 (dk_at dksX6_lightOf_2 2 rfl rfl)
theorem dX6_lightOf_52 : decode cX6_lightOf 52 = .ok (.iadd, 1) := dk_96 (dk_at dksX6_lightOf_2 4 rfl rfl)
theorem dX6_lightOf_53 : decode cX6_lightOf 53 = .ok (.imul, 1) := dk_104 (dk_at dksX6_lightOf_2 5 rfl rfl)
theorem dX6_lightOf_54 : decode cX6_lightOf 54 = .ok (.istore 5, 2) := dk_54 5 (dk_at dksX6_lightOf_2 6 rfl rfl)
theorem dX6_lightOf_56 : decode cX6_lightOf 56 = .ok (.iload_n 3, 1) := dk_29 (dk_at dksX6_lightOf_2 8 rfl rfl)
theorem dX6_lightOf_57 : decode cX6_lightOf 57 = .ok (.aload_n 0, 1) := dk_42 (dk_at dksX6_lightOf_2 9 rfl rfl)
theorem dX6_lightOf_58 : decode cX6_lightOf 58 = .ok (.getfield 43, 3) := dk_180 0 43 (dk_at dksX6_lightOf_2 10 rfl rfl)
theorem dX6_lightOf_61 : decode cX6_lightOf 61 = .ok (.iload 5, 2) := dk_21 5 (dk_at dksX6_lightOf_2 13 rfl rfl)
theorem dX6_lightOf_63 : decode cX6_lightOf 63 = .ok (.iconst 1, 1) := dk_4 (dk_at dksX6_lightOf_2 15 rfl rfl)
theorem dX6_lightOf_64 : decode cX6_lightOf 64 = .ok (.iadd, 1) := dk_96 (dk_at dksX6_lightOf_2 16 rfl rfl)
theorem dX6_lightOf_65 : decode cX6_lightOf 65 = .ok (.iaload, 1) := dk_46 (dk_at dksX6_lightOf_2 17 rfl rfl)
theorem dX6_lightOf_66 : decode cX6_lightOf 66 = .ok (.aload_n 0, 1) := dk_42 (dk_at dksX6_lightOf_2 18 rfl rfl)
theorem dX6_lightOf_67 : decode cX6_lightOf 67 = .ok (.getfield 43, 3) := dk_180 0 43 (dk_at dksX6_lightOf_2 19 rfl rfl)
theorem dX6_lightOf_70 : decode cX6_lightOf 70 = .ok (.iload 5, 2) := dk_21 5 (dk_at dksX6_lightOf_2 22 rfl rfl)
theorem dX6_lightOf_72 : decode cX6_lightOf 72 = .ok (.iaload, 1) := dk_46 (dk_at dksX6_lightOf_3 0 rfl rfl)
theorem dX6_lightOf_73 : decode cX6_lightOf 73 = .ok (.iload_n 2, 1) := dk_28 (dk_at dksX6_lightOf_3 1 rfl rfl)
theorem dX6_lightOf_74 : decode cX6_lightOf 74 = .ok (.invokestatic 299, 3) := dk_184 1 43 (dk_at dksX6_lightOf_3 2 rfl rfl)
theorem dX6_lightOf_77 : decode cX6_lightOf 77 = .ok (.isub, 1) := dk_100 (dk_at dksX6_lightOf_3 5 rfl rfl)
theorem dX6_lightOf_78 : decode cX6_lightOf 78 = .ok (.invokestatic 302, 3) := dk_184 1 46 (dk_at dksX6_lightOf_3 6 rfl rfl)
theorem dX6_lightOf_81 : decode cX6_lightOf 81 = .ok (.iadd, 1) := dk_96 (dk_at dksX6_lightOf_3 9 rfl rfl)
theorem dX6_lightOf_82 : decode cX6_lightOf 82 = .ok (.istore_n 3, 1) := dk_62 (dk_at dksX6_lightOf_3 10 rfl rfl)
theorem dX6_lightOf_83 : decode cX6_lightOf 83 = .ok (.iinc 4 1, 3) := dk_132 4 1 (dk_at dksX6_lightOf_3 11 rfl rfl)
theorem dX6_lightOf_86 : decode cX6_lightOf 86 = .ok (.goto (-51), 3) := dk_167 255 205 (dk_at dksX6_lightOf_3 14 rfl rfl)
theorem dX6_lightOf_89 : decode cX6_lightOf 89 = .ok (.iload_n 3, 1) := dk_29 (dk_at dksX6_lightOf_3 17 rfl rfl)
theorem dX6_lightOf_90 : decode cX6_lightOf 90 = .ok (.aload_n 0, 1) := dk_42 (dk_at dksX6_lightOf_3 18 rfl rfl)
theorem dX6_lightOf_91 : decode cX6_lightOf 91 = .ok (.getfield 306, 3) := dk_180 1 50 (dk_at dksX6_lightOf_3 19 rfl rfl)
theorem dX6_lightOf_94 : decode cX6_lightOf 94 = .ok (.aload_n 0, 1) := dk_42 (dk_at dksX6_lightOf_3 22 rfl rfl)
theorem dX6_lightOf_95 : decode cX6_lightOf 95 = .ok (.getfield 309, 3) := dk_180 1 53 (dk_at dksX6_lightOf_4 0 rfl rfl)
theorem dX6_lightOf_98 : decode cX6_lightOf 98 = .ok (.iload_n 2, 1) := dk_28 (dk_at dksX6_lightOf_4 3 rfl rfl)
theorem dX6_lightOf_99 : decode cX6_lightOf 99 = .ok (.invokestatic 299, 3) := dk_184 1 43 (dk_at dksX6_lightOf_4 4 rfl rfl)
theorem dX6_lightOf_102 : decode cX6_lightOf 102 = .ok (.isub, 1) := dk_100 (dk_at dksX6_lightOf_4 7 rfl rfl)
theorem dX6_lightOf_103 : decode cX6_lightOf 103 = .ok (.invokestatic 302, 3) := dk_184 1 46 (dk_at dksX6_lightOf_4 8 rfl rfl)
theorem dX6_lightOf_106 : decode cX6_lightOf 106 = .ok (.iadd, 1) := dk_96 (dk_at dksX6_lightOf_4 11 rfl rfl)
theorem dX6_lightOf_107 : decode cX6_lightOf 107 = .ok (.ireturn, 1) := dk_172 (dk_at dksX6_lightOf_4 12 rfl rfl)
abbrev cX6_apart : ByteArray := prog_20_method_37_code
def yX6_apart : MethodName := ⟨RX6, "apart", "(II)I"⟩
def dkwX6_apart_0 : List UInt8 := [26, 27, 162, 0, 9, 27, 26, 100, 167, 0, 6, 26, 27, 100, 172]
abbrev dktX6_apart_0 : List UInt8 := dkwX6_apart_0 ++ []
theorem dksX6_apart_0 : cX6_apart.data.toList.drop 0 = dktX6_apart_0 := by decide +kernel
theorem dX6_apart_0 : decode cX6_apart 0 = .ok (.iload_n 0, 1) := dk_26 (dk_at dksX6_apart_0 0 rfl rfl)
theorem dX6_apart_1 : decode cX6_apart 1 = .ok (.iload_n 1, 1) := dk_27 (dk_at dksX6_apart_0 1 rfl rfl)
theorem dX6_apart_2 : decode cX6_apart 2 = .ok (.if_icmp .ge 9, 3) := dk_162 0 9 (dk_at dksX6_apart_0 2 rfl rfl)
theorem dX6_apart_5 : decode cX6_apart 5 = .ok (.iload_n 1, 1) := dk_27 (dk_at dksX6_apart_0 5 rfl rfl)
theorem dX6_apart_6 : decode cX6_apart 6 = .ok (.iload_n 0, 1) := dk_26 (dk_at dksX6_apart_0 6 rfl rfl)
theorem dX6_apart_7 : decode cX6_apart 7 = .ok (.isub, 1) := dk_100 (dk_at dksX6_apart_0 7 rfl rfl)
theorem dX6_apart_8 : decode cX6_apart 8 = .ok (.goto 6, 3) := dk_167 0 6 (dk_at dksX6_apart_0 8 rfl rfl)
theorem dX6_apart_11 : decode cX6_apart 11 = .ok (.iload_n 0, 1) := dk_26 (dk_at dksX6_apart_0 11 rfl rfl)
theorem dX6_apart_12 : decode cX6_apart 12 = .ok (.iload_n 1, 1) := dk_27 (dk_at dksX6_apart_0 12 rfl rfl)
theorem dX6_apart_13 : decode cX6_apart 13 = .ok (.isub, 1) := dk_100 (dk_at dksX6_apart_0 13 rfl rfl)
theorem dX6_apart_14 : decode cX6_apart 14 = .ok (.ireturn, 1) := dk_172 (dk_at dksX6_apart_0 14 rfl rfl)
abbrev cX6_above : ByteArray := prog_20_method_38_code
def yX6_above : MethodName := ⟨RX6, "above", "(I)I"⟩
def dkwX6_above_0 : List UInt8 := [26, 158, 0, 7, 26, 167, 0, 4, 3, 172]
abbrev dktX6_above_0 : List UInt8 := dkwX6_above_0 ++ []
theorem dksX6_above_0 : cX6_above.data.toList.drop 0 = dktX6_above_0 := by decide +kernel
theorem dX6_above_0 : decode cX6_above 0 = .ok (.iload_n 0, 1) := dk_26 (dk_at dksX6_above_0 0 rfl rfl)
theorem dX6_above_1 : decode cX6_above 1 = .ok (.ifCond .le 7, 3) := dk_158 0 7 (dk_at dksX6_above_0 1 rfl rfl)
theorem dX6_above_4 : decode cX6_above 4 = .ok (.iload_n 0, 1) := dk_26 (dk_at dksX6_above_0 4 rfl rfl)
theorem dX6_above_5 : decode cX6_above 5 = .ok (.goto 4, 3) := dk_167 0 4 (dk_at dksX6_above_0 5 rfl rfl)
theorem dX6_above_8 : decode cX6_above 8 = .ok (.iconst 0, 1) := dk_3 (dk_at dksX6_above_0 8 rfl rfl)
theorem dX6_above_9 : decode cX6_above 9 = .ok (.ireturn, 1) := dk_172 (dk_at dksX6_above_0 9 rfl rfl)
abbrev cX6_bike : ByteArray := prog_20_method_46_code
def yX6_bike : MethodName := ⟨RX6, "bike", "(II)I"⟩
def dkwX6_bike_1 : List UInt8 := [153, 0, 18, 42, 180, 0, 55, 3, 27, 184, 1, 67, 28, 96, 46, 167, 0, 5, 16, 254, 172]
abbrev dktX6_bike_1 : List UInt8 := dkwX6_bike_1 ++ []
def dkwX6_bike_0 : List UInt8 := [42, 3, 181, 0, 114, 42, 27, 182, 1, 62, 153, 0, 30, 28, 133, 9, 20, 1, 65, 184, 0, 119]
abbrev dktX6_bike_0 : List UInt8 := dkwX6_bike_0 ++ dktX6_bike_1
theorem dksX6_bike_0 : cX6_bike.data.toList.drop 0 = dktX6_bike_0 := by decide +kernel
theorem dksX6_bike_1 : cX6_bike.data.toList.drop 22 = dktX6_bike_1 := dk_seg dksX6_bike_0 22 rfl rfl
theorem dX6_bike_0 : decode cX6_bike 0 = .ok (.aload_n 0, 1) := dk_42 (dk_at dksX6_bike_0 0 rfl rfl)
theorem dX6_bike_1 : decode cX6_bike 1 = .ok (.iconst 0, 1) := dk_3 (dk_at dksX6_bike_0 1 rfl rfl)
theorem dX6_bike_2 : decode cX6_bike 2 = .ok (.putfield 114, 3) := dk_181 0 114 (dk_at dksX6_bike_0 2 rfl rfl)
theorem dX6_bike_5 : decode cX6_bike 5 = .ok (.aload_n 0, 1) := dk_42 (dk_at dksX6_bike_0 5 rfl rfl)
theorem dX6_bike_6 : decode cX6_bike 6 = .ok (.iload_n 1, 1) := dk_27 (dk_at dksX6_bike_0 6 rfl rfl)
theorem dX6_bike_7 : decode cX6_bike 7 = .ok (.invokevirtual 318, 3) := dk_182 1 62 (dk_at dksX6_bike_0 7 rfl rfl)
theorem dX6_bike_10 : decode cX6_bike 10 = .ok (.ifCond .eq 30, 3) := dk_153 0 30 (dk_at dksX6_bike_0 10 rfl rfl)
theorem dX6_bike_13 : decode cX6_bike 13 = .ok (.iload_n 2, 1) := dk_28 (dk_at dksX6_bike_0 13 rfl rfl)
theorem dX6_bike_14 : decode cX6_bike 14 = .ok (.i2l, 1) := dk_133 (dk_at dksX6_bike_0 14 rfl rfl)
theorem dX6_bike_15 : decode cX6_bike 15 = .ok (.lconst 0, 1) := dk_9 (dk_at dksX6_bike_0 15 rfl rfl)
theorem dX6_bike_16 : decode cX6_bike 16 = .ok (.ldc2_w 321, 3) := dk_20 1 65 (dk_at dksX6_bike_0 16 rfl rfl)
theorem dX6_bike_19 : decode cX6_bike 19 = .ok (.invokestatic 119, 3) := dk_184 0 119 (dk_at dksX6_bike_0 19 rfl rfl)
theorem dX6_bike_22 : decode cX6_bike 22 = .ok (.ifCond .eq 18, 3) := dk_153 0 18 (dk_at dksX6_bike_1 0 rfl rfl)
theorem dX6_bike_25 : decode cX6_bike 25 = .ok (.aload_n 0, 1) := dk_42 (dk_at dksX6_bike_1 3 rfl rfl)
theorem dX6_bike_26 : decode cX6_bike 26 = .ok (.getfield 55, 3) := dk_180 0 55 (dk_at dksX6_bike_1 4 rfl rfl)
theorem dX6_bike_29 : decode cX6_bike 29 = .ok (.iconst 0, 1) := dk_3 (dk_at dksX6_bike_1 7 rfl rfl)
theorem dX6_bike_30 : decode cX6_bike 30 = .ok (.iload_n 1, 1) := dk_27 (dk_at dksX6_bike_1 8 rfl rfl)
theorem dX6_bike_31 : decode cX6_bike 31 = .ok (.invokestatic 323, 3) := dk_184 1 67 (dk_at dksX6_bike_1 9 rfl rfl)
theorem dX6_bike_34 : decode cX6_bike 34 = .ok (.iload_n 2, 1) := dk_28 (dk_at dksX6_bike_1 12 rfl rfl)
theorem dX6_bike_35 : decode cX6_bike 35 = .ok (.iadd, 1) := dk_96 (dk_at dksX6_bike_1 13 rfl rfl)
theorem dX6_bike_36 : decode cX6_bike 36 = .ok (.iaload, 1) := dk_46 (dk_at dksX6_bike_1 14 rfl rfl)
theorem dX6_bike_37 : decode cX6_bike 37 = .ok (.goto 5, 3) := dk_167 0 5 (dk_at dksX6_bike_1 15 rfl rfl)
theorem dX6_bike_40 : decode cX6_bike 40 = .ok (.bipush (-2), 2) := dk_16 254 (dk_at dksX6_bike_1 18 rfl rfl)
theorem dX6_bike_42 : decode cX6_bike 42 = .ok (.ireturn, 1) := dk_172 (dk_at dksX6_bike_1 20 rfl rfl)
abbrev cX6_isBike : ByteArray := prog_20_method_42_code
def yX6_isBike : MethodName := ⟨RX6, "isBike", "(I)Z"⟩
def dkwX6_isBike_0 : List UInt8 := [27, 133, 9, 42, 180, 0, 52, 3, 46, 4, 100, 133, 184, 0, 119, 172]
abbrev dktX6_isBike_0 : List UInt8 := dkwX6_isBike_0 ++ []
theorem dksX6_isBike_0 : cX6_isBike.data.toList.drop 0 = dktX6_isBike_0 := by decide +kernel
theorem dX6_isBike_0 : decode cX6_isBike 0 = .ok (.iload_n 1, 1) := dk_27 (dk_at dksX6_isBike_0 0 rfl rfl)
theorem dX6_isBike_1 : decode cX6_isBike 1 = .ok (.i2l, 1) := dk_133 (dk_at dksX6_isBike_0 1 rfl rfl)
theorem dX6_isBike_2 : decode cX6_isBike 2 = .ok (.lconst 0, 1) := dk_9 (dk_at dksX6_isBike_0 2 rfl rfl)
theorem dX6_isBike_3 : decode cX6_isBike 3 = .ok (.aload_n 0, 1) := dk_42 (dk_at dksX6_isBike_0 3 rfl rfl)
theorem dX6_isBike_4 : decode cX6_isBike 4 = .ok (.getfield 52, 3) := dk_180 0 52 (dk_at dksX6_isBike_0 4 rfl rfl)
theorem dX6_isBike_7 : decode cX6_isBike 7 = .ok (.iconst 0, 1) := dk_3 (dk_at dksX6_isBike_0 7 rfl rfl)
theorem dX6_isBike_8 : decode cX6_isBike 8 = .ok (.iaload, 1) := dk_46 (dk_at dksX6_isBike_0 8 rfl rfl)
theorem dX6_isBike_9 : decode cX6_isBike 9 = .ok (.iconst 1, 1) := dk_4 (dk_at dksX6_isBike_0 9 rfl rfl)
theorem dX6_isBike_10 : decode cX6_isBike 10 = .ok (.isub, 1) := dk_100 (dk_at dksX6_isBike_0 10 rfl rfl)
theorem dX6_isBike_11 : decode cX6_isBike 11 = .ok (.i2l, 1) := dk_133 (dk_at dksX6_isBike_0 11 rfl rfl)
theorem dX6_isBike_12 : decode cX6_isBike 12 = .ok (.invokestatic 119, 3) := dk_184 0 119 (dk_at dksX6_isBike_0 12 rfl rfl)
theorem dX6_isBike_15 : decode cX6_isBike 15 = .ok (.ireturn, 1) := dk_172 (dk_at dksX6_isBike_0 15 rfl rfl)
abbrev cX6_at : ByteArray := prog_20_method_44_code
def yX6_at : MethodName := ⟨RX6, "at", "(II)I"⟩
def dkwX6_at_0 : List UInt8 := [8, 16, 10, 26, 104, 27, 96, 104, 172]
abbrev dktX6_at_0 : List UInt8 := dkwX6_at_0 ++ []
theorem dksX6_at_0 : cX6_at.data.toList.drop 0 = dktX6_at_0 := by decide +kernel
theorem dX6_at_0 : decode cX6_at 0 = .ok (.iconst 5, 1) := dk_8 (dk_at dksX6_at_0 0 rfl rfl)
theorem dX6_at_1 : decode cX6_at 1 = .ok (.bipush 10, 2) := dk_16 10 (dk_at dksX6_at_0 1 rfl rfl)
theorem dX6_at_3 : decode cX6_at 3 = .ok (.iload_n 0, 1) := dk_26 (dk_at dksX6_at_0 3 rfl rfl)
theorem dX6_at_4 : decode cX6_at 4 = .ok (.imul, 1) := dk_104 (dk_at dksX6_at_0 4 rfl rfl)
theorem dX6_at_5 : decode cX6_at 5 = .ok (.iload_n 1, 1) := dk_27 (dk_at dksX6_at_0 5 rfl rfl)
theorem dX6_at_6 : decode cX6_at 6 = .ok (.iadd, 1) := dk_96 (dk_at dksX6_at_0 6 rfl rfl)
theorem dX6_at_7 : decode cX6_at 7 = .ok (.imul, 1) := dk_104 (dk_at dksX6_at_0 7 rfl rfl)
theorem dX6_at_8 : decode cX6_at 8 = .ok (.ireturn, 1) := dk_172 (dk_at dksX6_at_0 8 rfl rfl)
abbrev cX6_trouble : ByteArray := prog_20_method_50_code
def yX6_trouble : MethodName := ⟨RX6, "trouble", "(II)I"⟩
def dkwX6_trouble_1 : List UInt8 := [28, 182, 1, 77, 167, 0, 5, 16, 254, 172]
abbrev dktX6_trouble_1 : List UInt8 := dkwX6_trouble_1 ++ []
def dkwX6_trouble_0 : List UInt8 := [42, 3, 181, 0, 114, 42, 27, 182, 1, 74, 153, 0, 21, 42, 28, 182, 1, 62, 153, 0, 13, 42, 27, 3]
abbrev dktX6_trouble_0 : List UInt8 := dkwX6_trouble_0 ++ dktX6_trouble_1
theorem dksX6_trouble_0 : cX6_trouble.data.toList.drop 0 = dktX6_trouble_0 := by decide +kernel
theorem dksX6_trouble_1 : cX6_trouble.data.toList.drop 24 = dktX6_trouble_1 := dk_seg dksX6_trouble_0 24 rfl rfl
theorem dX6_trouble_0 : decode cX6_trouble 0 = .ok (.aload_n 0, 1) := dk_42 (dk_at dksX6_trouble_0 0 rfl rfl)
theorem dX6_trouble_1 : decode cX6_trouble 1 = .ok (.iconst 0, 1) := dk_3 (dk_at dksX6_trouble_0 1 rfl rfl)
theorem dX6_trouble_2 : decode cX6_trouble 2 = .ok (.putfield 114, 3) := dk_181 0 114 (dk_at dksX6_trouble_0 2 rfl rfl)
theorem dX6_trouble_5 : decode cX6_trouble 5 = .ok (.aload_n 0, 1) := dk_42 (dk_at dksX6_trouble_0 5 rfl rfl)
theorem dX6_trouble_6 : decode cX6_trouble 6 = .ok (.iload_n 1, 1) := dk_27 (dk_at dksX6_trouble_0 6 rfl rfl)
theorem dX6_trouble_7 : decode cX6_trouble 7 = .ok (.invokevirtual 330, 3) := dk_182 1 74 (dk_at dksX6_trouble_0 7 rfl rfl)
theorem dX6_trouble_10 : decode cX6_trouble 10 = .ok (.ifCond .eq 21, 3) := dk_153 0 21 (dk_at dksX6_trouble_0 10 rfl rfl)
theorem dX6_trouble_13 : decode cX6_trouble 13 = .ok (.aload_n 0, 1) := dk_42 (dk_at dksX6_trouble_0 13 rfl rfl)
theorem dX6_trouble_14 : decode cX6_trouble 14 = .ok (.iload_n 2, 1) := dk_28 (dk_at dksX6_trouble_0 14 rfl rfl)
theorem dX6_trouble_15 : decode cX6_trouble 15 = .ok (.invokevirtual 318, 3) := dk_182 1 62 (dk_at dksX6_trouble_0 15 rfl rfl)
theorem dX6_trouble_18 : decode cX6_trouble 18 = .ok (.ifCond .eq 13, 3) := dk_153 0 13 (dk_at dksX6_trouble_0 18 rfl rfl)
theorem dX6_trouble_21 : decode cX6_trouble 21 = .ok (.aload_n 0, 1) := dk_42 (dk_at dksX6_trouble_0 21 rfl rfl)
theorem dX6_trouble_22 : decode cX6_trouble 22 = .ok (.iload_n 1, 1) := dk_27 (dk_at dksX6_trouble_0 22 rfl rfl)
theorem dX6_trouble_23 : decode cX6_trouble 23 = .ok (.iconst 0, 1) := dk_3 (dk_at dksX6_trouble_0 23 rfl rfl)
theorem dX6_trouble_24 : decode cX6_trouble 24 = .ok (.iload_n 2, 1) := dk_28 (dk_at dksX6_trouble_1 0 rfl rfl)
theorem dX6_trouble_25 : decode cX6_trouble 25 = .ok (.invokevirtual 333, 3) := dk_182 1 77 (dk_at dksX6_trouble_1 1 rfl rfl)
theorem dX6_trouble_28 : decode cX6_trouble 28 = .ok (.goto 5, 3) := dk_167 0 5 (dk_at dksX6_trouble_1 4 rfl rfl)
theorem dX6_trouble_31 : decode cX6_trouble 31 = .ok (.bipush (-2), 2) := dk_16 254 (dk_at dksX6_trouble_1 7 rfl rfl)
theorem dX6_trouble_33 : decode cX6_trouble 33 = .ok (.ireturn, 1) := dk_172 (dk_at dksX6_trouble_1 9 rfl rfl)
abbrev cX6_isThief : ByteArray := prog_20_method_43_code
def yX6_isThief : MethodName := ⟨RX6, "isThief", "(I)Z"⟩
def dkwX6_isThief_0 : List UInt8 := [27, 133, 9, 42, 180, 0, 58, 3, 46, 4, 100, 133, 184, 0, 119, 172]
abbrev dktX6_isThief_0 : List UInt8 := dkwX6_isThief_0 ++ []
theorem dksX6_isThief_0 : cX6_isThief.data.toList.drop 0 = dktX6_isThief_0 := by decide +kernel
theorem dX6_isThief_0 : decode cX6_isThief 0 = .ok (.iload_n 1, 1) := dk_27 (dk_at dksX6_isThief_0 0 rfl rfl)
theorem dX6_isThief_1 : decode cX6_isThief 1 = .ok (.i2l, 1) := dk_133 (dk_at dksX6_isThief_0 1 rfl rfl)
theorem dX6_isThief_2 : decode cX6_isThief 2 = .ok (.lconst 0, 1) := dk_9 (dk_at dksX6_isThief_0 2 rfl rfl)
theorem dX6_isThief_3 : decode cX6_isThief 3 = .ok (.aload_n 0, 1) := dk_42 (dk_at dksX6_isThief_0 3 rfl rfl)
theorem dX6_isThief_4 : decode cX6_isThief 4 = .ok (.getfield 58, 3) := dk_180 0 58 (dk_at dksX6_isThief_0 4 rfl rfl)
theorem dX6_isThief_7 : decode cX6_isThief 7 = .ok (.iconst 0, 1) := dk_3 (dk_at dksX6_isThief_0 7 rfl rfl)
theorem dX6_isThief_8 : decode cX6_isThief 8 = .ok (.iaload, 1) := dk_46 (dk_at dksX6_isThief_0 8 rfl rfl)
theorem dX6_isThief_9 : decode cX6_isThief 9 = .ok (.iconst 1, 1) := dk_4 (dk_at dksX6_isThief_0 9 rfl rfl)
theorem dX6_isThief_10 : decode cX6_isThief 10 = .ok (.isub, 1) := dk_100 (dk_at dksX6_isThief_0 10 rfl rfl)
theorem dX6_isThief_11 : decode cX6_isThief 11 = .ok (.i2l, 1) := dk_133 (dk_at dksX6_isThief_0 11 rfl rfl)
theorem dX6_isThief_12 : decode cX6_isThief 12 = .ok (.invokestatic 119, 3) := dk_184 0 119 (dk_at dksX6_isThief_0 12 rfl rfl)
theorem dX6_isThief_15 : decode cX6_isThief 15 = .ok (.ireturn, 1) := dk_172 (dk_at dksX6_isThief_0 15 rfl rfl)
abbrev cX6_troubleOf : ByteArray := prog_20_method_47_code
def yX6_troubleOf : MethodName := ⟨RX6, "troubleOf", "(III)I"⟩
def dkwX6_troubleOf_3 : List UInt8 := [180, 0, 55, 21, 4, 5, 96, 46, 182, 1, 59, 96, 133, 105, 55, 5, 22, 5, 20, 1, 69, 109, 136, 172]
abbrev dktX6_troubleOf_3 : List UInt8 := dkwX6_troubleOf_3 ++ []
def dkwX6_troubleOf_2 : List UInt8 := [8, 27, 104, 46, 96, 46, 133, 42, 180, 0, 61, 8, 27, 104, 5, 96, 46, 133, 105, 4, 42, 28, 42]
abbrev dktX6_troubleOf_2 : List UInt8 := dkwX6_troubleOf_2 ++ dktX6_troubleOf_3
def dkwX6_troubleOf_1 : List UInt8 := [180, 0, 49, 7, 8, 28, 104, 42, 180, 0, 55, 21, 4, 6, 96, 46, 96, 104, 4, 96, 42, 180, 0, 61]
abbrev dktX6_troubleOf_1 : List UInt8 := dkwX6_troubleOf_1 ++ dktX6_troubleOf_2
def dkwX6_troubleOf_0 : List UInt8 := [28, 29, 184, 1, 67, 54, 4, 42, 180, 0, 55, 21, 4, 6, 96, 46, 2, 160, 0, 5, 3, 172, 42]
abbrev dktX6_troubleOf_0 : List UInt8 := dkwX6_troubleOf_0 ++ dktX6_troubleOf_1
theorem dksX6_troubleOf_0 : cX6_troubleOf.data.toList.drop 0 = dktX6_troubleOf_0 := by decide +kernel
theorem dksX6_troubleOf_1 : cX6_troubleOf.data.toList.drop 23 = dktX6_troubleOf_1 := dk_seg dksX6_troubleOf_0 23 rfl rfl
theorem dksX6_troubleOf_2 : cX6_troubleOf.data.toList.drop 47 = dktX6_troubleOf_2 := dk_seg dksX6_troubleOf_1 24 rfl rfl
theorem dksX6_troubleOf_3 : cX6_troubleOf.data.toList.drop 70 = dktX6_troubleOf_3 := dk_seg dksX6_troubleOf_2 23 rfl rfl
theorem dX6_troubleOf_0 : decode cX6_troubleOf 0 = .ok (.iload_n 2, 1) := dk_28 (dk_at dksX6_troubleOf_0 0 rfl rfl)
theorem dX6_troubleOf_1 : decode cX6_troubleOf 1 = .ok (.iload_n 3, 1) := dk_29 (dk_at dksX6_troubleOf_0 1 rfl rfl)
theorem dX6_troubleOf_2 : decode cX6_troubleOf 2 = .ok (.invokestatic 323, 3) := dk_184 1 67 (dk_at dksX6_troubleOf_0 2 rfl rfl)
theorem dX6_troubleOf_5 : decode cX6_troubleOf 5 = .ok (.istore 4, 2) := dk_54 4 (dk_at dksX6_troubleOf_0 5 rfl rfl)
theorem dX6_troubleOf_7 : decode cX6_troubleOf 7 = .ok (.aload_n 0, 1) := dk_42 (dk_at dksX6_troubleOf_0 7 rfl rfl)
theorem dX6_troubleOf_8 : decode cX6_troubleOf 8 = .ok (.getfield 55, 3) := dk_180 0 55 (dk_at dksX6_troubleOf_0 8 rfl rfl)
theorem dX6_troubleOf_11 : decode cX6_troubleOf 11 = .ok (.iload 4, 2) := dk_21 4 (dk_at dksX6_troubleOf_0 11 rfl rfl)
theorem dX6_troubleOf_13 : decode cX6_troubleOf 13 = .ok (.iconst 3, 1) := dk_6 (dk_at dksX6_troubleOf_0 13 rfl rfl)
theorem dX6_troubleOf_14 : decode cX6_troubleOf 14 = .ok (.iadd, 1) := dk_96 (dk_at dksX6_troubleOf_0 14 rfl rfl)
theorem dX6_troubleOf_15 : decode cX6_troubleOf 15 = .ok (.iaload, 1) := dk_46 (dk_at dksX6_troubleOf_0 15 rfl rfl)
theorem dX6_troubleOf_16 : decode cX6_troubleOf 16 = .ok (.iconst (-1), 1) := dk_2 (dk_at dksX6_troubleOf_0 16 rfl rfl)
theorem dX6_troubleOf_17 : decode cX6_troubleOf 17 = .ok (.if_icmp .ne 5, 3) := dk_160 0 5 (dk_at dksX6_troubleOf_0 17 rfl rfl)
theorem dX6_troubleOf_20 : decode cX6_troubleOf 20 = .ok (.iconst 0, 1) := dk_3 (dk_at dksX6_troubleOf_0 20 rfl rfl)
theorem dX6_troubleOf_21 : decode cX6_troubleOf 21 = .ok (.ireturn, 1) := dk_172 (dk_at dksX6_troubleOf_0 21 rfl rfl)
theorem dX6_troubleOf_22 : decode cX6_troubleOf 22 = .ok (.aload_n 0, 1) := dk_42 (dk_at dksX6_troubleOf_0 22 rfl rfl)
theorem dX6_troubleOf_23 : decode cX6_troubleOf 23 = .ok (.getfield 49, 3) := dk_180 0 49 (dk_at dksX6_troubleOf_1 0 rfl rfl)
theorem dX6_troubleOf_26 : decode cX6_troubleOf 26 = .ok (.iconst 4, 1) := dk_7 (dk_at dksX6_troubleOf_1 3 rfl rfl)
theorem dX6_troubleOf_27 : decode cX6_troubleOf 27 = .ok (.iconst 5, 1) := dk_8 (dk_at dksX6_troubleOf_1 4 rfl rfl)
theorem dX6_troubleOf_28 : decode cX6_troubleOf 28 = .ok (.iload_n 2, 1) := dk_28 (dk_at dksX6_troubleOf_1 5 rfl rfl)
theorem dX6_troubleOf_29 : decode cX6_troubleOf 29 = .ok (.imul, 1) := dk_104 (dk_at dksX6_troubleOf_1 6 rfl rfl)
theorem dX6_troubleOf_30 : decode cX6_troubleOf 30 = .ok (.aload_n 0, 1) := dk_42 (dk_at dksX6_troubleOf_1 7 rfl rfl)
theorem dX6_troubleOf_31 : decode cX6_troubleOf 31 = .ok (.getfield 55, 3) := dk_180 0 55 (dk_at dksX6_troubleOf_1 8 rfl rfl)
theorem dX6_troubleOf_34 : decode cX6_troubleOf 34 = .ok (.iload 4, 2) := dk_21 4 (dk_at dksX6_troubleOf_1 11 rfl rfl)
theorem dX6_troubleOf_36 : decode cX6_troubleOf 36 = .ok (.iconst 3, 1) := dk_6 (dk_at dksX6_troubleOf_1 13 rfl rfl)
theorem dX6_troubleOf_37 : decode cX6_troubleOf 37 = .ok (.iadd, 1) := dk_96 (dk_at dksX6_troubleOf_1 14 rfl rfl)
theorem dX6_troubleOf_38 : decode cX6_troubleOf 38 = .ok (.iaload, 1) := dk_46 (dk_at dksX6_troubleOf_1 15 rfl rfl)
theorem dX6_troubleOf_39 : decode cX6_troubleOf 39 = .ok (.iadd, 1) := dk_96 (dk_at dksX6_troubleOf_1 16 rfl rfl)
theorem dX6_troubleOf_40 : decode cX6_troubleOf 40 = .ok (.imul, 1) := dk_104 (dk_at dksX6_troubleOf_1 17 rfl rfl)
theorem dX6_troubleOf_41 : decode cX6_troubleOf 41 = .ok (.iconst 1, 1) := dk_4 (dk_at dksX6_troubleOf_1 18 rfl rfl)
theorem dX6_troubleOf_42 : decode cX6_troubleOf 42 = .ok (.iadd, 1) := dk_96 (dk_at dksX6_troubleOf_1 19 rfl rfl)
theorem dX6_troubleOf_43 : decode cX6_troubleOf 43 = .ok (.aload_n 0, 1) := dk_42 (dk_at dksX6_troubleOf_1 20 rfl rfl)
theorem dX6_troubleOf_44 : decode cX6_troubleOf 44 = .ok (.getfield 61, 3) := dk_180 0 61 (dk_at dksX6_troubleOf_1 21 rfl rfl)
theorem dX6_troubleOf_47 : decode cX6_troubleOf 47 = .ok (.iconst 5, 1) := dk_8 (dk_at dksX6_troubleOf_2 0 rfl rfl)
theorem dX6_troubleOf_48 : decode cX6_troubleOf 48 = .ok (.iload_n 1, 1) := dk_27 (dk_at dksX6_troubleOf_2 1 rfl rfl)
theorem dX6_troubleOf_49 : decode cX6_troubleOf 49 = .ok (.imul, 1) := dk_104 (dk_at dksX6_troubleOf_2 2 rfl rfl)
theorem dX6_troubleOf_50 : decode cX6_troubleOf 50 = .ok (.iaload, 1) := dk_46 (dk_at dksX6_troubleOf_2 3 rfl rfl)
theorem dX6_troubleOf_51 : decode cX6_troubleOf 51 = .ok (.iadd, 1) := dk_96 (dk_at dksX6_troubleOf_2 4 rfl rfl)
theorem dX6_troubleOf_52 : decode cX6_troubleOf 52 = .ok (.iaload, 1) := dk_46 (dk_at dksX6_troubleOf_2 5 rfl rfl)
theorem dX6_troubleOf_53 : decode cX6_troubleOf 53 = .ok (.i2l, 1) := dk_133 (dk_at dksX6_troubleOf_2 6 rfl rfl)
theorem dX6_troubleOf_54 : decode cX6_troubleOf 54 = .ok (.aload_n 0, 1) := dk_42 (dk_at dksX6_troubleOf_2 7 rfl rfl)
theorem dX6_troubleOf_55 : decode cX6_troubleOf 55 = .ok (.getfield 61, 3) := dk_180 0 61 (dk_at dksX6_troubleOf_2 8 rfl rfl)
theorem dX6_troubleOf_58 : decode cX6_troubleOf 58 = .ok (.iconst 5, 1) := dk_8 (dk_at dksX6_troubleOf_2 11 rfl rfl)
theorem dX6_troubleOf_59 : decode cX6_troubleOf 59 = .ok (.iload_n 1, 1) := dk_27 (dk_at dksX6_troubleOf_2 12 rfl rfl)
theorem dX6_troubleOf_60 : decode cX6_troubleOf 60 = .ok (.imul, 1) := dk_104 (dk_at dksX6_troubleOf_2 13 rfl rfl)
theorem dX6_troubleOf_61 : decode cX6_troubleOf 61 = .ok (.iconst 2, 1) := dk_5 (dk_at dksX6_troubleOf_2 14 rfl rfl)
theorem dX6_troubleOf_62 : decode cX6_troubleOf 62 = .ok (.iadd, 1) := dk_96 (dk_at dksX6_troubleOf_2 15 rfl rfl)
theorem dX6_troubleOf_63 : decode cX6_troubleOf 63 = .ok (.iaload, 1) := dk_46 (dk_at dksX6_troubleOf_2 16 rfl rfl)
theorem dX6_troubleOf_64 : decode cX6_troubleOf 64 = .ok (.i2l, 1) := dk_133 (dk_at dksX6_troubleOf_2 17 rfl rfl)
theorem dX6_troubleOf_65 : decode cX6_troubleOf 65 = .ok (.lmul, 1) := dk_105 (dk_at dksX6_troubleOf_2 18 rfl rfl)
theorem dX6_troubleOf_66 : decode cX6_troubleOf 66 = .ok (.iconst 1, 1) := dk_4 (dk_at dksX6_troubleOf_2 19 rfl rfl)
theorem dX6_troubleOf_67 : decode cX6_troubleOf 67 = .ok (.aload_n 0, 1) := dk_42 (dk_at dksX6_troubleOf_2 20 rfl rfl)
theorem dX6_troubleOf_68 : decode cX6_troubleOf 68 = .ok (.iload_n 2, 1) := dk_28 (dk_at dksX6_troubleOf_2 21 rfl rfl)
theorem dX6_troubleOf_69 : decode cX6_troubleOf 69 = .ok (.aload_n 0, 1) := dk_42 (dk_at dksX6_troubleOf_2 22 rfl rfl)
theorem dX6_troubleOf_70 : decode cX6_troubleOf 70 = .ok (.getfield 55, 3) := dk_180 0 55 (dk_at dksX6_troubleOf_3 0 rfl rfl)
theorem dX6_troubleOf_73 : decode cX6_troubleOf 73 = .ok (.iload 4, 2) := dk_21 4 (dk_at dksX6_troubleOf_3 3 rfl rfl)
theorem dX6_troubleOf_75 : decode cX6_troubleOf 75 = .ok (.iconst 2, 1) := dk_5 (dk_at dksX6_troubleOf_3 5 rfl rfl)
theorem dX6_troubleOf_76 : decode cX6_troubleOf 76 = .ok (.iadd, 1) := dk_96 (dk_at dksX6_troubleOf_3 6 rfl rfl)
theorem dX6_troubleOf_77 : decode cX6_troubleOf 77 = .ok (.iaload, 1) := dk_46 (dk_at dksX6_troubleOf_3 7 rfl rfl)
theorem dX6_troubleOf_78 : decode cX6_troubleOf 78 = .ok (.invokevirtual 315, 3) := dk_182 1 59 (dk_at dksX6_troubleOf_3 8 rfl rfl)
theorem dX6_troubleOf_81 : decode cX6_troubleOf 81 = .ok (.iadd, 1) := dk_96 (dk_at dksX6_troubleOf_3 11 rfl rfl)
theorem dX6_troubleOf_82 : decode cX6_troubleOf 82 = .ok (.i2l, 1) := dk_133 (dk_at dksX6_troubleOf_3 12 rfl rfl)
theorem dX6_troubleOf_83 : decode cX6_troubleOf 83 = .ok (.lmul, 1) := dk_105 (dk_at dksX6_troubleOf_3 13 rfl rfl)
theorem dX6_troubleOf_84 : decode cX6_troubleOf 84 = .ok (.lstore 5, 2) := dk_55 5 (dk_at dksX6_troubleOf_3 14 rfl rfl)
theorem dX6_troubleOf_86 : decode cX6_troubleOf 86 = .ok (.lload 5, 2) := dk_22 5 (dk_at dksX6_troubleOf_3 16 rfl rfl)
theorem dX6_troubleOf_88 : decode cX6_troubleOf 88 = .ok (.ldc2_w 325, 3) := dk_20 1 69 (dk_at dksX6_troubleOf_3 18 rfl rfl)
theorem dX6_troubleOf_91 : decode cX6_troubleOf 91 = .ok (.ldiv, 1) := dk_109 (dk_at dksX6_troubleOf_3 21 rfl rfl)
theorem dX6_troubleOf_92 : decode cX6_troubleOf 92 = .ok (.l2i, 1) := dk_136 (dk_at dksX6_troubleOf_3 22 rfl rfl)
theorem dX6_troubleOf_93 : decode cX6_troubleOf 93 = .ok (.ireturn, 1) := dk_172 (dk_at dksX6_troubleOf_3 23 rfl rfl)
abbrev cX6_gain : ByteArray := prog_20_method_51_code
def yX6_gain : MethodName := ⟨RX6, "gain", "(I)I"⟩
def dkwX6_gain_1 : List UInt8 := [172]
abbrev dktX6_gain_1 : List UInt8 := dkwX6_gain_1 ++ []
def dkwX6_gain_0 : List UInt8 := [42, 3, 181, 0, 114, 42, 27, 182, 1, 62, 153, 0, 12, 42, 3, 27, 182, 1, 81, 167, 0, 5, 16, 254]
abbrev dktX6_gain_0 : List UInt8 := dkwX6_gain_0 ++ dktX6_gain_1
theorem dksX6_gain_0 : cX6_gain.data.toList.drop 0 = dktX6_gain_0 := by decide +kernel
theorem dksX6_gain_1 : cX6_gain.data.toList.drop 24 = dktX6_gain_1 := dk_seg dksX6_gain_0 24 rfl rfl
theorem dX6_gain_0 : decode cX6_gain 0 = .ok (.aload_n 0, 1) := dk_42 (dk_at dksX6_gain_0 0 rfl rfl)
theorem dX6_gain_1 : decode cX6_gain 1 = .ok (.iconst 0, 1) := dk_3 (dk_at dksX6_gain_0 1 rfl rfl)
theorem dX6_gain_2 : decode cX6_gain 2 = .ok (.putfield 114, 3) := dk_181 0 114 (dk_at dksX6_gain_0 2 rfl rfl)
theorem dX6_gain_5 : decode cX6_gain 5 = .ok (.aload_n 0, 1) := dk_42 (dk_at dksX6_gain_0 5 rfl rfl)
theorem dX6_gain_6 : decode cX6_gain 6 = .ok (.iload_n 1, 1) := dk_27 (dk_at dksX6_gain_0 6 rfl rfl)
theorem dX6_gain_7 : decode cX6_gain 7 = .ok (.invokevirtual 318, 3) := dk_182 1 62 (dk_at dksX6_gain_0 7 rfl rfl)
theorem dX6_gain_10 : decode cX6_gain 10 = .ok (.ifCond .eq 12, 3) := dk_153 0 12 (dk_at dksX6_gain_0 10 rfl rfl)
theorem dX6_gain_13 : decode cX6_gain 13 = .ok (.aload_n 0, 1) := dk_42 (dk_at dksX6_gain_0 13 rfl rfl)
theorem dX6_gain_14 : decode cX6_gain 14 = .ok (.iconst 0, 1) := dk_3 (dk_at dksX6_gain_0 14 rfl rfl)
theorem dX6_gain_15 : decode cX6_gain 15 = .ok (.iload_n 1, 1) := dk_27 (dk_at dksX6_gain_0 15 rfl rfl)
theorem dX6_gain_16 : decode cX6_gain 16 = .ok (.invokevirtual 337, 3) := dk_182 1 81 (dk_at dksX6_gain_0 16 rfl rfl)
theorem dX6_gain_19 : decode cX6_gain 19 = .ok (.goto 5, 3) := dk_167 0 5 (dk_at dksX6_gain_0 19 rfl rfl)
theorem dX6_gain_22 : decode cX6_gain 22 = .ok (.bipush (-2), 2) := dk_16 254 (dk_at dksX6_gain_0 22 rfl rfl)
theorem dX6_gain_24 : decode cX6_gain 24 = .ok (.ireturn, 1) := dk_172 (dk_at dksX6_gain_1 0 rfl rfl)
abbrev cX6_gainOf : ByteArray := prog_20_method_49_code
def yX6_gainOf : MethodName := ⟨RX6, "gainOf", "(II)I"⟩
def dkwX6_gainOf_4 : List UInt8 := [96, 46, 16, 100, 21, 4, 100, 104, 16, 100, 108, 167, 0, 11, 42, 180, 0, 55, 29, 4, 96, 46, 172]
abbrev dktX6_gainOf_4 : List UInt8 := dkwX6_gainOf_4 ++ []
def dkwX6_gainOf_3 : List UInt8 := [46, 104, 133, 109, 136, 172, 42, 180, 0, 55, 29, 7, 96, 46, 4, 160, 0, 23, 42, 180, 0, 55, 29, 4]
abbrev dktX6_gainOf_3 : List UInt8 := dkwX6_gainOf_3 ++ dktX6_gainOf_4
def dkwX6_gainOf_2 : List UInt8 := [180, 0, 52, 27, 46, 104, 21, 4, 42, 27, 182, 1, 71, 104, 100, 133, 105, 16, 100, 42, 180, 0, 52, 27]
abbrev dktX6_gainOf_2 : List UInt8 := dkwX6_gainOf_2 ++ dktX6_gainOf_3
def dkwX6_gainOf_1 : List UInt8 := [16, 7, 27, 104, 5, 96, 46, 4, 160, 0, 45, 42, 180, 0, 55, 29, 4, 96, 46, 133, 16, 100, 42]
abbrev dktX6_gainOf_1 : List UInt8 := dkwX6_gainOf_1 ++ dktX6_gainOf_2
def dkwX6_gainOf_0 : List UInt8 := [27, 28, 184, 1, 67, 62, 42, 180, 0, 64, 16, 7, 27, 104, 4, 96, 46, 54, 4, 42, 180, 0, 64]
abbrev dktX6_gainOf_0 : List UInt8 := dkwX6_gainOf_0 ++ dktX6_gainOf_1
theorem dksX6_gainOf_0 : cX6_gainOf.data.toList.drop 0 = dktX6_gainOf_0 := by decide +kernel
theorem dksX6_gainOf_1 : cX6_gainOf.data.toList.drop 23 = dktX6_gainOf_1 := dk_seg dksX6_gainOf_0 23 rfl rfl
theorem dksX6_gainOf_2 : cX6_gainOf.data.toList.drop 46 = dktX6_gainOf_2 := dk_seg dksX6_gainOf_1 23 rfl rfl
theorem dksX6_gainOf_3 : cX6_gainOf.data.toList.drop 70 = dktX6_gainOf_3 := dk_seg dksX6_gainOf_2 24 rfl rfl
theorem dksX6_gainOf_4 : cX6_gainOf.data.toList.drop 94 = dktX6_gainOf_4 := dk_seg dksX6_gainOf_3 24 rfl rfl
theorem dX6_gainOf_0 : decode cX6_gainOf 0 = .ok (.iload_n 1, 1) := dk_27 (dk_at dksX6_gainOf_0 0 rfl rfl)
theorem dX6_gainOf_1 : decode cX6_gainOf 1 = .ok (.iload_n 2, 1) := dk_28 (dk_at dksX6_gainOf_0 1 rfl rfl)
theorem dX6_gainOf_2 : decode cX6_gainOf 2 = .ok (.invokestatic 323, 3) := dk_184 1 67 (dk_at dksX6_gainOf_0 2 rfl rfl)
theorem dX6_gainOf_5 : decode cX6_gainOf 5 = .ok (.istore_n 3, 1) := dk_62 (dk_at dksX6_gainOf_0 5 rfl rfl)
theorem dX6_gainOf_6 : decode cX6_gainOf 6 = .ok (.aload_n 0, 1) := dk_42 (dk_at dksX6_gainOf_0 6 rfl rfl)
theorem dX6_gainOf_7 : decode cX6_gainOf 7 = .ok (.getfield 64, 3) := dk_180 0 64 (dk_at dksX6_gainOf_0 7 rfl rfl)
theorem dX6_gainOf_10 : decode cX6_gainOf 10 = .ok (.bipush 7, 2) := dk_16 7 (dk_at dksX6_gainOf_0 10 rfl rfl)
theorem dX6_gainOf_12 : decode cX6_gainOf 12 = .ok (.iload_n 1, 1) := dk_27 (dk_at dksX6_gainOf_0 12 rfl rfl)
theorem dX6_gainOf_13 : decode cX6_gainOf 13 = .ok (.imul, 1) := dk_104 (dk_at dksX6_gainOf_0 13 rfl rfl)
theorem dX6_gainOf_14 : decode cX6_gainOf 14 = .ok (.iconst 1, 1) := dk_4 (dk_at dksX6_gainOf_0 14 rfl rfl)
theorem dX6_gainOf_15 : decode cX6_gainOf 15 = .ok (.iadd, 1) := dk_96 (dk_at dksX6_gainOf_0 15 rfl rfl)
theorem dX6_gainOf_16 : decode cX6_gainOf 16 = .ok (.iaload, 1) := dk_46 (dk_at dksX6_gainOf_0 16 rfl rfl)
theorem dX6_gainOf_17 : decode cX6_gainOf 17 = .ok (.istore 4, 2) := dk_54 4 (dk_at dksX6_gainOf_0 17 rfl rfl)
theorem dX6_gainOf_19 : decode cX6_gainOf 19 = .ok (.aload_n 0, 1) := dk_42 (dk_at dksX6_gainOf_0 19 rfl rfl)
theorem dX6_gainOf_20 : decode cX6_gainOf 20 = .ok (.getfield 64, 3) := dk_180 0 64 (dk_at dksX6_gainOf_0 20 rfl rfl)
theorem dX6_gainOf_23 : decode cX6_gainOf 23 = .ok (.bipush 7, 2) := dk_16 7 (dk_at dksX6_gainOf_1 0 rfl rfl)
theorem dX6_gainOf_25 : decode cX6_gainOf 25 = .ok (.iload_n 1, 1) := dk_27 (dk_at dksX6_gainOf_1 2 rfl rfl)
theorem dX6_gainOf_26 : decode cX6_gainOf 26 = .ok (.imul, 1) := dk_104 (dk_at dksX6_gainOf_1 3 rfl rfl)
theorem dX6_gainOf_27 : decode cX6_gainOf 27 = .ok (.iconst 2, 1) := dk_5 (dk_at dksX6_gainOf_1 4 rfl rfl)
theorem dX6_gainOf_28 : decode cX6_gainOf 28 = .ok (.iadd, 1) := dk_96 (dk_at dksX6_gainOf_1 5 rfl rfl)
theorem dX6_gainOf_29 : decode cX6_gainOf 29 = .ok (.iaload, 1) := dk_46 (dk_at dksX6_gainOf_1 6 rfl rfl)
theorem dX6_gainOf_30 : decode cX6_gainOf 30 = .ok (.iconst 1, 1) := dk_4 (dk_at dksX6_gainOf_1 7 rfl rfl)
theorem dX6_gainOf_31 : decode cX6_gainOf 31 = .ok (.if_icmp .ne 45, 3) := dk_160 0 45 (dk_at dksX6_gainOf_1 8 rfl rfl)
theorem dX6_gainOf_34 : decode cX6_gainOf 34 = .ok (.aload_n 0, 1) := dk_42 (dk_at dksX6_gainOf_1 11 rfl rfl)
theorem dX6_gainOf_35 : decode cX6_gainOf 35 = .ok (.getfield 55, 3) := dk_180 0 55 (dk_at dksX6_gainOf_1 12 rfl rfl)
theorem dX6_gainOf_38 : decode cX6_gainOf 38 = .ok (.iload_n 3, 1) := dk_29 (dk_at dksX6_gainOf_1 15 rfl rfl)
theorem dX6_gainOf_39 : decode cX6_gainOf 39 = .ok (.iconst 1, 1) := dk_4 (dk_at dksX6_gainOf_1 16 rfl rfl)
theorem dX6_gainOf_40 : decode cX6_gainOf 40 = .ok (.iadd, 1) := dk_96 (dk_at dksX6_gainOf_1 17 rfl rfl)
theorem dX6_gainOf_41 : decode cX6_gainOf 41 = .ok (.iaload, 1) := dk_46 (dk_at dksX6_gainOf_1 18 rfl rfl)
theorem dX6_gainOf_42 : decode cX6_gainOf 42 = .ok (.i2l, 1) := dk_133 (dk_at dksX6_gainOf_1 19 rfl rfl)
theorem dX6_gainOf_43 : decode cX6_gainOf 43 = .ok (.bipush 100, 2) := dk_16 100 (dk_at dksX6_gainOf_1 20 rfl rfl)
theorem dX6_gainOf_45 : decode cX6_gainOf 45 = .ok (.aload_n 0, 1) := dk_42 (dk_at dksX6_gainOf_1 22 rfl rfl)
theorem dX6_gainOf_46 : decode cX6_gainOf 46 = .ok (.getfield 52, 3) := dk_180 0 52 (dk_at dksX6_gainOf_2 0 rfl rfl)
theorem dX6_gainOf_49 : decode cX6_gainOf 49 = .ok (.iload_n 1, 1) := dk_27 (dk_at dksX6_gainOf_2 3 rfl rfl)
theorem dX6_gainOf_50 : decode cX6_gainOf 50 = .ok (.iaload, 1) := dk_46 (dk_at dksX6_gainOf_2 4 rfl rfl)
theorem dX6_gainOf_51 : decode cX6_gainOf 51 = .ok (.imul, 1) := dk_104 (dk_at dksX6_gainOf_2 5 rfl rfl)
theorem dX6_gainOf_52 : decode cX6_gainOf 52 = .ok (.iload 4, 2) := dk_21 4 (dk_at dksX6_gainOf_2 6 rfl rfl)
theorem dX6_gainOf_54 : decode cX6_gainOf 54 = .ok (.aload_n 0, 1) := dk_42 (dk_at dksX6_gainOf_2 8 rfl rfl)
theorem dX6_gainOf_55 : decode cX6_gainOf 55 = .ok (.iload_n 1, 1) := dk_27 (dk_at dksX6_gainOf_2 9 rfl rfl)
theorem dX6_gainOf_56 : decode cX6_gainOf 56 = .ok (.invokevirtual 327, 3) := dk_182 1 71 (dk_at dksX6_gainOf_2 10 rfl rfl)
theorem dX6_gainOf_59 : decode cX6_gainOf 59 = .ok (.imul, 1) := dk_104 (dk_at dksX6_gainOf_2 13 rfl rfl)
theorem dX6_gainOf_60 : decode cX6_gainOf 60 = .ok (.isub, 1) := dk_100 (dk_at dksX6_gainOf_2 14 rfl rfl)
theorem dX6_gainOf_61 : decode cX6_gainOf 61 = .ok (.i2l, 1) := dk_133 (dk_at dksX6_gainOf_2 15 rfl rfl)
theorem dX6_gainOf_62 : decode cX6_gainOf 62 = .ok (.lmul, 1) := dk_105 (dk_at dksX6_gainOf_2 16 rfl rfl)
theorem dX6_gainOf_63 : decode cX6_gainOf 63 = .ok (.bipush 100, 2) := dk_16 100 (dk_at dksX6_gainOf_2 17 rfl rfl)
theorem dX6_gainOf_65 : decode cX6_gainOf 65 = .ok (.aload_n 0, 1) := dk_42 (dk_at dksX6_gainOf_2 19 rfl rfl)
theorem dX6_gainOf_66 : decode cX6_gainOf 66 = .ok (.getfield 52, 3) := dk_180 0 52 (dk_at dksX6_gainOf_2 20 rfl rfl)
theorem dX6_gainOf_69 : decode cX6_gainOf 69 = .ok (.iload_n 1, 1) := dk_27 (dk_at dksX6_gainOf_2 23 rfl rfl)
theorem dX6_gainOf_70 : decode cX6_gainOf 70 = .ok (.iaload, 1) := dk_46 (dk_at dksX6_gainOf_3 0 rfl rfl)
theorem dX6_gainOf_71 : decode cX6_gainOf 71 = .ok (.imul, 1) := dk_104 (dk_at dksX6_gainOf_3 1 rfl rfl)
theorem dX6_gainOf_72 : decode cX6_gainOf 72 = .ok (.i2l, 1) := dk_133 (dk_at dksX6_gainOf_3 2 rfl rfl)
theorem dX6_gainOf_73 : decode cX6_gainOf 73 = .ok (.ldiv, 1) := dk_109 (dk_at dksX6_gainOf_3 3 rfl rfl)
theorem dX6_gainOf_74 : decode cX6_gainOf 74 = .ok (.l2i, 1) := dk_136 (dk_at dksX6_gainOf_3 4 rfl rfl)
theorem dX6_gainOf_75 : decode cX6_gainOf 75 = .ok (.ireturn, 1) := dk_172 (dk_at dksX6_gainOf_3 5 rfl rfl)
theorem dX6_gainOf_76 : decode cX6_gainOf 76 = .ok (.aload_n 0, 1) := dk_42 (dk_at dksX6_gainOf_3 6 rfl rfl)
theorem dX6_gainOf_77 : decode cX6_gainOf 77 = .ok (.getfield 55, 3) := dk_180 0 55 (dk_at dksX6_gainOf_3 7 rfl rfl)
theorem dX6_gainOf_80 : decode cX6_gainOf 80 = .ok (.iload_n 3, 1) := dk_29 (dk_at dksX6_gainOf_3 10 rfl rfl)
theorem dX6_gainOf_81 : decode cX6_gainOf 81 = .ok (.iconst 4, 1) := dk_7 (dk_at dksX6_gainOf_3 11 rfl rfl)
theorem dX6_gainOf_82 : decode cX6_gainOf 82 = .ok (.iadd, 1) := dk_96 (dk_at dksX6_gainOf_3 12 rfl rfl)
theorem dX6_gainOf_83 : decode cX6_gainOf 83 = .ok (.iaload, 1) := dk_46 (dk_at dksX6_gainOf_3 13 rfl rfl)
theorem dX6_gainOf_84 : decode cX6_gainOf 84 = .ok (.iconst 1, 1) := dk_4 (dk_at dksX6_gainOf_3 14 rfl rfl)
theorem dX6_gainOf_85 : decode cX6_gainOf 85 = .ok (.if_icmp .ne 23, 3) := dk_160 0 23 (dk_at dksX6_gainOf_3 15 rfl rfl)
theorem dX6_gainOf_88 : decode cX6_gainOf 88 = .ok (.aload_n 0, 1) := dk_42 (dk_at dksX6_gainOf_3 18 rfl rfl)
theorem dX6_gainOf_89 : decode cX6_gainOf 89 = .ok (.getfield 55, 3) := dk_180 0 55 (dk_at dksX6_gainOf_3 19 rfl rfl)
theorem dX6_gainOf_92 : decode cX6_gainOf 92 = .ok (.iload_n 3, 1) := dk_29 (dk_at dksX6_gainOf_3 22 rfl rfl)
theorem dX6_gainOf_93 : decode cX6_gainOf 93 = .ok (.iconst 1, 1) := dk_4 (dk_at dksX6_gainOf_3 23 rfl rfl)
theorem dX6_gainOf_94 : decode cX6_gainOf 94 = .ok (.iadd, 1) := dk_96 (dk_at dksX6_gainOf_4 0 rfl rfl)
theorem dX6_gainOf_95 : decode cX6_gainOf 95 = .ok (.iaload, 1) := dk_46 (dk_at dksX6_gainOf_4 1 rfl rfl)
theorem dX6_gainOf_96 : decode cX6_gainOf 96 = .ok (.bipush 100, 2) := dk_16 100 (dk_at dksX6_gainOf_4 2 rfl rfl)
theorem dX6_gainOf_98 : decode cX6_gainOf 98 = .ok (.iload 4, 2) := dk_21 4 (dk_at dksX6_gainOf_4 4 rfl rfl)
theorem dX6_gainOf_100 : decode cX6_gainOf 100 = .ok (.isub, 1) := dk_100 (dk_at dksX6_gainOf_4 6 rfl rfl)
theorem dX6_gainOf_101 : decode cX6_gainOf 101 = .ok (.imul, 1) := dk_104 (dk_at dksX6_gainOf_4 7 rfl rfl)
theorem dX6_gainOf_102 : decode cX6_gainOf 102 = .ok (.bipush 100, 2) := dk_16 100 (dk_at dksX6_gainOf_4 8 rfl rfl)
theorem dX6_gainOf_104 : decode cX6_gainOf 104 = .ok (.idiv, 1) := dk_108 (dk_at dksX6_gainOf_4 10 rfl rfl)
theorem dX6_gainOf_105 : decode cX6_gainOf 105 = .ok (.goto 11, 3) := dk_167 0 11 (dk_at dksX6_gainOf_4 11 rfl rfl)
theorem dX6_gainOf_108 : decode cX6_gainOf 108 = .ok (.aload_n 0, 1) := dk_42 (dk_at dksX6_gainOf_4 14 rfl rfl)
theorem dX6_gainOf_109 : decode cX6_gainOf 109 = .ok (.getfield 55, 3) := dk_180 0 55 (dk_at dksX6_gainOf_4 15 rfl rfl)
theorem dX6_gainOf_112 : decode cX6_gainOf 112 = .ok (.iload_n 3, 1) := dk_29 (dk_at dksX6_gainOf_4 18 rfl rfl)
theorem dX6_gainOf_113 : decode cX6_gainOf 113 = .ok (.iconst 1, 1) := dk_4 (dk_at dksX6_gainOf_4 19 rfl rfl)
theorem dX6_gainOf_114 : decode cX6_gainOf 114 = .ok (.iadd, 1) := dk_96 (dk_at dksX6_gainOf_4 20 rfl rfl)
theorem dX6_gainOf_115 : decode cX6_gainOf 115 = .ok (.iaload, 1) := dk_46 (dk_at dksX6_gainOf_4 21 rfl rfl)
theorem dX6_gainOf_116 : decode cX6_gainOf 116 = .ok (.ireturn, 1) := dk_172 (dk_at dksX6_gainOf_4 22 rfl rfl)
abbrev cX6_markedOn : ByteArray := prog_20_method_48_code
def yX6_markedOn : MethodName := ⟨RX6, "markedOn", "(I)I"⟩
def dkwX6_markedOn_1 : List UInt8 := [7, 96, 46, 96, 61, 132, 3, 1, 167, 255, 228, 28, 172]
abbrev dktX6_markedOn_1 : List UInt8 := dkwX6_markedOn_1 ++ []
def dkwX6_markedOn_0 : List UInt8 := [3, 61, 3, 62, 29, 42, 180, 0, 52, 27, 46, 162, 0, 24, 28, 42, 180, 0, 55, 27, 29, 184, 1, 67]
abbrev dktX6_markedOn_0 : List UInt8 := dkwX6_markedOn_0 ++ dktX6_markedOn_1
theorem dksX6_markedOn_0 : cX6_markedOn.data.toList.drop 0 = dktX6_markedOn_0 := by decide +kernel
theorem dksX6_markedOn_1 : cX6_markedOn.data.toList.drop 24 = dktX6_markedOn_1 := dk_seg dksX6_markedOn_0 24 rfl rfl
theorem dX6_markedOn_0 : decode cX6_markedOn 0 = .ok (.iconst 0, 1) := dk_3 (dk_at dksX6_markedOn_0 0 rfl rfl)
theorem dX6_markedOn_1 : decode cX6_markedOn 1 = .ok (.istore_n 2, 1) := dk_61 (dk_at dksX6_markedOn_0 1 rfl rfl)
theorem dX6_markedOn_2 : decode cX6_markedOn 2 = .ok (.iconst 0, 1) := dk_3 (dk_at dksX6_markedOn_0 2 rfl rfl)
theorem dX6_markedOn_3 : decode cX6_markedOn 3 = .ok (.istore_n 3, 1) := dk_62 (dk_at dksX6_markedOn_0 3 rfl rfl)
theorem dX6_markedOn_4 : decode cX6_markedOn 4 = .ok (.iload_n 3, 1) := dk_29 (dk_at dksX6_markedOn_0 4 rfl rfl)
theorem dX6_markedOn_5 : decode cX6_markedOn 5 = .ok (.aload_n 0, 1) := dk_42 (dk_at dksX6_markedOn_0 5 rfl rfl)
theorem dX6_markedOn_6 : decode cX6_markedOn 6 = .ok (.getfield 52, 3) := dk_180 0 52 (dk_at dksX6_markedOn_0 6 rfl rfl)
theorem dX6_markedOn_9 : decode cX6_markedOn 9 = .ok (.iload_n 1, 1) := dk_27 (dk_at dksX6_markedOn_0 9 rfl rfl)
theorem dX6_markedOn_10 : decode cX6_markedOn 10 = .ok (.iaload, 1) := dk_46 (dk_at dksX6_markedOn_0 10 rfl rfl)
theorem dX6_markedOn_11 : decode cX6_markedOn 11 = .ok (.if_icmp .ge 24, 3) := dk_162 0 24 (dk_at dksX6_markedOn_0 11 rfl rfl)
theorem dX6_markedOn_14 : decode cX6_markedOn 14 = .ok (.iload_n 2, 1) := dk_28 (dk_at dksX6_markedOn_0 14 rfl rfl)
theorem dX6_markedOn_15 : decode cX6_markedOn 15 = .ok (.aload_n 0, 1) := dk_42 (dk_at dksX6_markedOn_0 15 rfl rfl)
theorem dX6_markedOn_16 : decode cX6_markedOn 16 = .ok (.getfield 55, 3) := dk_180 0 55 (dk_at dksX6_markedOn_0 16 rfl rfl)
theorem dX6_markedOn_19 : decode cX6_markedOn 19 = .ok (.iload_n 1, 1) := dk_27 (dk_at dksX6_markedOn_0 19 rfl rfl)
theorem dX6_markedOn_20 : decode cX6_markedOn 20 = .ok (.iload_n 3, 1) := dk_29 (dk_at dksX6_markedOn_0 20 rfl rfl)
theorem dX6_markedOn_21 : decode cX6_markedOn 21 = .ok (.invokestatic 323, 3) := dk_184 1 67 (dk_at dksX6_markedOn_0 21 rfl rfl)
theorem dX6_markedOn_24 : decode cX6_markedOn 24 = .ok (.iconst 4, 1) := dk_7 (dk_at dksX6_markedOn_1 0 rfl rfl)
theorem dX6_markedOn_25 : decode cX6_markedOn 25 = .ok (.iadd, 1) := dk_96 (dk_at dksX6_markedOn_1 1 rfl rfl)
theorem dX6_markedOn_26 : decode cX6_markedOn 26 = .ok (.iaload, 1) := dk_46 (dk_at dksX6_markedOn_1 2 rfl rfl)
theorem dX6_markedOn_27 : decode cX6_markedOn 27 = .ok (.iadd, 1) := dk_96 (dk_at dksX6_markedOn_1 3 rfl rfl)
theorem dX6_markedOn_28 : decode cX6_markedOn 28 = .ok (.istore_n 2, 1) := dk_61 (dk_at dksX6_markedOn_1 4 rfl rfl)
theorem dX6_markedOn_29 : decode cX6_markedOn 29 = .ok (.iinc 3 1, 3) := dk_132 3 1 (dk_at dksX6_markedOn_1 5 rfl rfl)
theorem dX6_markedOn_32 : decode cX6_markedOn 32 = .ok (.goto (-28), 3) := dk_167 255 228 (dk_at dksX6_markedOn_1 8 rfl rfl)
theorem dX6_markedOn_35 : decode cX6_markedOn 35 = .ok (.iload_n 2, 1) := dk_28 (dk_at dksX6_markedOn_1 11 rfl rfl)
theorem dX6_markedOn_36 : decode cX6_markedOn 36 = .ok (.ireturn, 1) := dk_172 (dk_at dksX6_markedOn_1 12 rfl rfl)
abbrev cX6_takes_2 : ByteArray := prog_20_method_54_code
def yX6_takes_2 : MethodName := ⟨RX6, "takes", "(II)I"⟩
def dkwX6_takes_2_1 : List UInt8 := [4, 100, 133, 184, 0, 119, 154, 0, 6, 16, 254, 172, 42, 2, 182, 1, 87, 42, 27, 28, 182, 1, 90, 172]
abbrev dktX6_takes_2_1 : List UInt8 := dkwX6_takes_2_1 ++ []
def dkwX6_takes_2_0 : List UInt8 := [42, 3, 181, 0, 114, 42, 27, 182, 1, 74, 153, 0, 23, 28, 133, 9, 4, 42, 180, 0, 52, 3, 46, 120]
abbrev dktX6_takes_2_0 : List UInt8 := dkwX6_takes_2_0 ++ dktX6_takes_2_1
theorem dksX6_takes_2_0 : cX6_takes_2.data.toList.drop 0 = dktX6_takes_2_0 := by decide +kernel
theorem dksX6_takes_2_1 : cX6_takes_2.data.toList.drop 24 = dktX6_takes_2_1 := dk_seg dksX6_takes_2_0 24 rfl rfl
theorem dX6_takes_2_0 : decode cX6_takes_2 0 = .ok (.aload_n 0, 1) := dk_42 (dk_at dksX6_takes_2_0 0 rfl rfl)
theorem dX6_takes_2_1 : decode cX6_takes_2 1 = .ok (.iconst 0, 1) := dk_3 (dk_at dksX6_takes_2_0 1 rfl rfl)
theorem dX6_takes_2_2 : decode cX6_takes_2 2 = .ok (.putfield 114, 3) := dk_181 0 114 (dk_at dksX6_takes_2_0 2 rfl rfl)
theorem dX6_takes_2_5 : decode cX6_takes_2 5 = .ok (.aload_n 0, 1) := dk_42 (dk_at dksX6_takes_2_0 5 rfl rfl)
theorem dX6_takes_2_6 : decode cX6_takes_2 6 = .ok (.iload_n 1, 1) := dk_27 (dk_at dksX6_takes_2_0 6 rfl rfl)
theorem dX6_takes_2_7 : decode cX6_takes_2 7 = .ok (.invokevirtual 330, 3) := dk_182 1 74 (dk_at dksX6_takes_2_0 7 rfl rfl)
theorem dX6_takes_2_10 : decode cX6_takes_2 10 = .ok (.ifCond .eq 23, 3) := dk_153 0 23 (dk_at dksX6_takes_2_0 10 rfl rfl)
theorem dX6_takes_2_13 : decode cX6_takes_2 13 = .ok (.iload_n 2, 1) := dk_28 (dk_at dksX6_takes_2_0 13 rfl rfl)
theorem dX6_takes_2_14 : decode cX6_takes_2 14 = .ok (.i2l, 1) := dk_133 (dk_at dksX6_takes_2_0 14 rfl rfl)
theorem dX6_takes_2_15 : decode cX6_takes_2 15 = .ok (.lconst 0, 1) := dk_9 (dk_at dksX6_takes_2_0 15 rfl rfl)
theorem dX6_takes_2_16 : decode cX6_takes_2 16 = .ok (.iconst 1, 1) := dk_4 (dk_at dksX6_takes_2_0 16 rfl rfl)
theorem dX6_takes_2_17 : decode cX6_takes_2 17 = .ok (.aload_n 0, 1) := dk_42 (dk_at dksX6_takes_2_0 17 rfl rfl)
theorem dX6_takes_2_18 : decode cX6_takes_2 18 = .ok (.getfield 52, 3) := dk_180 0 52 (dk_at dksX6_takes_2_0 18 rfl rfl)
theorem dX6_takes_2_21 : decode cX6_takes_2 21 = .ok (.iconst 0, 1) := dk_3 (dk_at dksX6_takes_2_0 21 rfl rfl)
theorem dX6_takes_2_22 : decode cX6_takes_2 22 = .ok (.iaload, 1) := dk_46 (dk_at dksX6_takes_2_0 22 rfl rfl)
theorem dX6_takes_2_23 : decode cX6_takes_2 23 = .ok (.ishl, 1) := dk_120 (dk_at dksX6_takes_2_0 23 rfl rfl)
theorem dX6_takes_2_24 : decode cX6_takes_2 24 = .ok (.iconst 1, 1) := dk_4 (dk_at dksX6_takes_2_1 0 rfl rfl)
theorem dX6_takes_2_25 : decode cX6_takes_2 25 = .ok (.isub, 1) := dk_100 (dk_at dksX6_takes_2_1 1 rfl rfl)
theorem dX6_takes_2_26 : decode cX6_takes_2 26 = .ok (.i2l, 1) := dk_133 (dk_at dksX6_takes_2_1 2 rfl rfl)
theorem dX6_takes_2_27 : decode cX6_takes_2 27 = .ok (.invokestatic 119, 3) := dk_184 0 119 (dk_at dksX6_takes_2_1 3 rfl rfl)
theorem dX6_takes_2_30 : decode cX6_takes_2 30 = .ok (.ifCond .ne 6, 3) := dk_154 0 6 (dk_at dksX6_takes_2_1 6 rfl rfl)
theorem dX6_takes_2_33 : decode cX6_takes_2 33 = .ok (.bipush (-2), 2) := dk_16 254 (dk_at dksX6_takes_2_1 9 rfl rfl)
theorem dX6_takes_2_35 : decode cX6_takes_2 35 = .ok (.ireturn, 1) := dk_172 (dk_at dksX6_takes_2_1 11 rfl rfl)
theorem dX6_takes_2_36 : decode cX6_takes_2 36 = .ok (.aload_n 0, 1) := dk_42 (dk_at dksX6_takes_2_1 12 rfl rfl)
theorem dX6_takes_2_37 : decode cX6_takes_2 37 = .ok (.iconst (-1), 1) := dk_2 (dk_at dksX6_takes_2_1 13 rfl rfl)
theorem dX6_takes_2_38 : decode cX6_takes_2 38 = .ok (.invokevirtual 343, 3) := dk_182 1 87 (dk_at dksX6_takes_2_1 14 rfl rfl)
theorem dX6_takes_2_41 : decode cX6_takes_2 41 = .ok (.aload_n 0, 1) := dk_42 (dk_at dksX6_takes_2_1 17 rfl rfl)
theorem dX6_takes_2_42 : decode cX6_takes_2 42 = .ok (.iload_n 1, 1) := dk_27 (dk_at dksX6_takes_2_1 18 rfl rfl)
theorem dX6_takes_2_43 : decode cX6_takes_2 43 = .ok (.iload_n 2, 1) := dk_28 (dk_at dksX6_takes_2_1 19 rfl rfl)
theorem dX6_takes_2_44 : decode cX6_takes_2 44 = .ok (.invokevirtual 346, 3) := dk_182 1 90 (dk_at dksX6_takes_2_1 20 rfl rfl)
theorem dX6_takes_2_47 : decode cX6_takes_2 47 = .ok (.ireturn, 1) := dk_172 (dk_at dksX6_takes_2_1 23 rfl rfl)
abbrev cX6_lays : ByteArray := prog_20_method_52_code
def yX6_lays : MethodName := ⟨RX6, "lays", "(I)V"⟩
def dkwX6_lays_6 : List UInt8 := [167, 255, 137, 177]
abbrev dktX6_lays_6 : List UInt8 := dkwX6_lays_6 ++ []
def dkwX6_lays_5 : List UInt8 := [96, 3, 79, 42, 180, 0, 80, 16, 11, 28, 104, 42, 180, 0, 52, 3, 46, 96, 27, 79, 132, 2, 1]
abbrev dktX6_lays_5 : List UInt8 := dkwX6_lays_5 ++ dktX6_lays_6
def dkwX6_lays_4 : List UInt8 := [167, 255, 196, 27, 156, 0, 6, 167, 0, 37, 42, 180, 0, 77, 16, 11, 28, 104, 42, 180, 0, 52, 3, 46]
abbrev dktX6_lays_4 : List UInt8 := dkwX6_lays_4 ++ dktX6_lays_5
def dkwX6_lays_3 : List UInt8 := [42, 3, 29, 182, 1, 81, 42, 180, 0, 77, 16, 11, 28, 104, 29, 96, 46, 100, 79, 132, 3, 1]
abbrev dktX6_lays_3 : List UInt8 := dkwX6_lays_3 ++ dktX6_lays_4
def dkwX6_lays_2 : List UInt8 := [16, 11, 28, 104, 29, 96, 42, 28, 3, 29, 182, 1, 77, 79, 42, 180, 0, 80, 16, 11, 28, 104, 29, 96]
abbrev dktX6_lays_2 : List UInt8 := dkwX6_lays_2 ++ dktX6_lays_3
def dkwX6_lays_1 : List UInt8 := [180, 0, 58, 3, 46, 162, 0, 115, 3, 62, 29, 42, 180, 0, 52, 3, 46, 162, 0, 56, 42, 180, 0, 77]
abbrev dktX6_lays_1 : List UInt8 := dkwX6_lays_1 ++ dktX6_lays_2
def dkwX6_lays_0 : List UInt8 := [42, 42, 180, 0, 52, 3, 46, 27, 156, 0, 7, 3, 167, 0, 4, 4, 96, 181, 1, 84, 3, 61, 28, 42]
abbrev dktX6_lays_0 : List UInt8 := dkwX6_lays_0 ++ dktX6_lays_1
theorem dksX6_lays_0 : cX6_lays.data.toList.drop 0 = dktX6_lays_0 := by decide +kernel
theorem dksX6_lays_1 : cX6_lays.data.toList.drop 24 = dktX6_lays_1 := dk_seg dksX6_lays_0 24 rfl rfl
theorem dksX6_lays_2 : cX6_lays.data.toList.drop 48 = dktX6_lays_2 := dk_seg dksX6_lays_1 24 rfl rfl
theorem dksX6_lays_3 : cX6_lays.data.toList.drop 72 = dktX6_lays_3 := dk_seg dksX6_lays_2 24 rfl rfl
theorem dksX6_lays_4 : cX6_lays.data.toList.drop 94 = dktX6_lays_4 := dk_seg dksX6_lays_3 22 rfl rfl
theorem dksX6_lays_5 : cX6_lays.data.toList.drop 118 = dktX6_lays_5 := dk_seg dksX6_lays_4 24 rfl rfl
theorem dksX6_lays_6 : cX6_lays.data.toList.drop 141 = dktX6_lays_6 := dk_seg dksX6_lays_5 23 rfl rfl
theorem dX6_lays_0 : decode cX6_lays 0 = .ok (.aload_n 0, 1) := dk_42 (dk_at dksX6_lays_0 0 rfl rfl)
theorem dX6_lays_1 : decode cX6_lays 1 = .ok (.aload_n 0, 1) := dk_42 (dk_at dksX6_lays_0 1 rfl rfl)
theorem dX6_lays_2 : decode cX6_lays 2 = .ok (.getfield 52, 3) := dk_180 0 52 (dk_at dksX6_lays_0 2 rfl rfl)
theorem dX6_lays_5 : decode cX6_lays 5 = .ok (.iconst 0, 1) := dk_3 (dk_at dksX6_lays_0 5 rfl rfl)
theorem dX6_lays_6 : decode cX6_lays 6 = .ok (.iaload, 1) := dk_46 (dk_at dksX6_lays_0 6 rfl rfl)
theorem dX6_lays_7 : decode cX6_lays 7 = .ok (.iload_n 1, 1) := dk_27 (dk_at dksX6_lays_0 7 rfl rfl)
theorem dX6_lays_8 : decode cX6_lays 8 = .ok (.ifCond .ge 7, 3) := dk_156 0 7 (dk_at dksX6_lays_0 8 rfl rfl)
theorem dX6_lays_11 : decode cX6_lays 11 = .ok (.iconst 0, 1) := dk_3 (dk_at dksX6_lays_0 11 rfl rfl)
theorem dX6_lays_12 : decode cX6_lays 12 = .ok (.goto 4, 3) := dk_167 0 4 (dk_at dksX6_lays_0 12 rfl rfl)
theorem dX6_lays_15 : decode cX6_lays 15 = .ok (.iconst 1, 1) := dk_4 (dk_at dksX6_lays_0 15 rfl rfl)
theorem dX6_lays_16 : decode cX6_lays 16 = .ok (.iadd, 1) := dk_96 (dk_at dksX6_lays_0 16 rfl rfl)
theorem dX6_lays_17 : decode cX6_lays 17 = .ok (.putfield 340, 3) := dk_181 1 84 (dk_at dksX6_lays_0 17 rfl rfl)
theorem dX6_lays_20 : decode cX6_lays 20 = .ok (.iconst 0, 1) := dk_3 (dk_at dksX6_lays_0 20 rfl rfl)
theorem dX6_lays_21 : decode cX6_lays 21 = .ok (.istore_n 2, 1) := dk_61 (dk_at dksX6_lays_0 21 rfl rfl)
theorem dX6_lays_22 : decode cX6_lays 22 = .ok (.iload_n 2, 1) := dk_28 (dk_at dksX6_lays_0 22 rfl rfl)
theorem dX6_lays_23 : decode cX6_lays 23 = .ok (.aload_n 0, 1) := dk_42 (dk_at dksX6_lays_0 23 rfl rfl)
theorem dX6_lays_24 : decode cX6_lays 24 = .ok (.getfield 58, 3) := dk_180 0 58 (dk_at dksX6_lays_1 0 rfl rfl)
theorem dX6_lays_27 : decode cX6_lays 27 = .ok (.iconst 0, 1) := dk_3 (dk_at dksX6_lays_1 3 rfl rfl)
theorem dX6_lays_28 : decode cX6_lays 28 = .ok (.iaload, 1) := dk_46 (dk_at dksX6_lays_1 4 rfl rfl)
theorem dX6_lays_29 : decode cX6_lays 29 = .ok (.if_icmp .ge 115, 3) := dk_162 0 115 (dk_at dksX6_lays_1 5 rfl rfl)
theorem dX6_lays_32 : decode cX6_lays 32 = .ok (.iconst 0, 1) := dk_3 (dk_at dksX6_lays_1 8 rfl rfl)
theorem dX6_lays_33 : decode cX6_lays 33 = .ok (.istore_n 3, 1) := dk_62 (dk_at dksX6_lays_1 9 rfl rfl)
theorem dX6_lays_34 : decode cX6_lays 34 = .ok (.iload_n 3, 1) := dk_29 (dk_at dksX6_lays_1 10 rfl rfl)
theorem dX6_lays_35 : decode cX6_lays 35 = .ok (.aload_n 0, 1) := dk_42 (dk_at dksX6_lays_1 11 rfl rfl)
theorem dX6_lays_36 : decode cX6_lays 36 = .ok (.getfield 52, 3) := dk_180 0 52 (dk_at dksX6_lays_1 12 rfl rfl)
theorem dX6_lays_39 : decode cX6_lays 39 = .ok (.iconst 0, 1) := dk_3 (dk_at dksX6_lays_1 15 rfl rfl)
theorem dX6_lays_40 : decode cX6_lays 40 = .ok (.iaload, 1) := dk_46 (dk_at dksX6_lays_1 16 rfl rfl)
theorem dX6_lays_41 : decode cX6_lays 41 = .ok (.if_icmp .ge 56, 3) := dk_162 0 56 (dk_at dksX6_lays_1 17 rfl rfl)
theorem dX6_lays_44 : decode cX6_lays 44 = .ok (.aload_n 0, 1) := dk_42 (dk_at dksX6_lays_1 20 rfl rfl)
theorem dX6_lays_45 : decode cX6_lays 45 = .ok (.getfield 77, 3) := dk_180 0 77 (dk_at dksX6_lays_1 21 rfl rfl)
theorem dX6_lays_48 : decode cX6_lays 48 = .ok (.bipush 11, 2) := dk_16 11 (dk_at dksX6_lays_2 0 rfl rfl)
theorem dX6_lays_50 : decode cX6_lays 50 = .ok (.iload_n 2, 1) := dk_28 (dk_at dksX6_lays_2 2 rfl rfl)
theorem dX6_lays_51 : decode cX6_lays 51 = .ok (.imul, 1) := dk_104 (dk_at dksX6_lays_2 3 rfl rfl)
theorem dX6_lays_52 : decode cX6_lays 52 = .ok (.iload_n 3, 1) := dk_29 (dk_at dksX6_lays_2 4 rfl rfl)
theorem dX6_lays_53 : decode cX6_lays 53 = .ok (.iadd, 1) := dk_96 (dk_at dksX6_lays_2 5 rfl rfl)
theorem dX6_lays_54 : decode cX6_lays 54 = .ok (.aload_n 0, 1) := dk_42 (dk_at dksX6_lays_2 6 rfl rfl)
theorem dX6_lays_55 : decode cX6_lays 55 = .ok (.iload_n 2, 1) := dk_28 (dk_at dksX6_lays_2 7 rfl rfl)
theorem dX6_lays_56 : decode cX6_lays 56 = .ok (.iconst 0, 1) := dk_3 (dk_at dksX6_lays_2 8 rfl rfl)
theorem dX6_lays_57 : decode cX6_lays 57 = .ok (.iload_n 3, 1) := dk_29 (dk_at dksX6_lays_2 9 rfl rfl)
theorem dX6_lays_58 : decode cX6_lays 58 = .ok (.invokevirtual 333, 3) := dk_182 1 77 (dk_at dksX6_lays_2 10 rfl rfl)
theorem dX6_lays_61 : decode cX6_lays 61 = .ok (.iastore, 1) := dk_79 (dk_at dksX6_lays_2 13 rfl rfl)
theorem dX6_lays_62 : decode cX6_lays 62 = .ok (.aload_n 0, 1) := dk_42 (dk_at dksX6_lays_2 14 rfl rfl)
theorem dX6_lays_63 : decode cX6_lays 63 = .ok (.getfield 80, 3) := dk_180 0 80 (dk_at dksX6_lays_2 15 rfl rfl)
theorem dX6_lays_66 : decode cX6_lays 66 = .ok (.bipush 11, 2) := dk_16 11 (dk_at dksX6_lays_2 18 rfl rfl)
theorem dX6_lays_68 : decode cX6_lays 68 = .ok (.iload_n 2, 1) := dk_28 (dk_at dksX6_lays_2 20 rfl rfl)
theorem dX6_lays_69 : decode cX6_lays 69 = .ok (.imul, 1) := dk_104 (dk_at dksX6_lays_2 21 rfl rfl)
theorem dX6_lays_70 : decode cX6_lays 70 = .ok (.iload_n 3, 1) := dk_29 (dk_at dksX6_lays_2 22 rfl rfl)
theorem dX6_lays_71 : decode cX6_lays 71 = .ok (.iadd, 1) := dk_96 (dk_at dksX6_lays_2 23 rfl rfl)
theorem dX6_lays_72 : decode cX6_lays 72 = .ok (.aload_n 0, 1) := dk_42 (dk_at dksX6_lays_3 0 rfl rfl)
theorem dX6_lays_73 : decode cX6_lays 73 = .ok (.iconst 0, 1) := dk_3 (dk_at dksX6_lays_3 1 rfl rfl)
theorem dX6_lays_74 : decode cX6_lays 74 = .ok (.iload_n 3, 1) := dk_29 (dk_at dksX6_lays_3 2 rfl rfl)
theorem dX6_lays_75 : decode cX6_lays 75 = .ok (.invokevirtual 337, 3) := dk_182 1 81 (dk_at dksX6_lays_3 3 rfl rfl)
theorem dX6_lays_78 : decode cX6_lays 78 = .ok (.aload_n 0, 1) := dk_42 (dk_at dksX6_lays_3 6 rfl rfl)
theorem dX6_lays_79 : decode cX6_lays 79 = .ok (.getfield 77, 3) := dk_180 0 77 (dk_at dksX6_lays_3 7 rfl rfl)
theorem dX6_lays_82 : decode cX6_lays 82 = .ok (.bipush 11, 2) := dk_16 11 (dk_at dksX6_lays_3 10 rfl rfl)
theorem dX6_lays_84 : decode cX6_lays 84 = .ok (.iload_n 2, 1) := dk_28 (dk_at dksX6_lays_3 12 rfl rfl)
theorem dX6_lays_85 : decode cX6_lays 85 = .ok (.imul, 1) := dk_104 (dk_at dksX6_lays_3 13 rfl rfl)
theorem dX6_lays_86 : decode cX6_lays 86 = .ok (.iload_n 3, 1) := dk_29 (dk_at dksX6_lays_3 14 rfl rfl)
theorem dX6_lays_87 : decode cX6_lays 87 = .ok (.iadd, 1) := dk_96 (dk_at dksX6_lays_3 15 rfl rfl)
theorem dX6_lays_88 : decode cX6_lays 88 = .ok (.iaload, 1) := dk_46 (dk_at dksX6_lays_3 16 rfl rfl)
theorem dX6_lays_89 : decode cX6_lays 89 = .ok (.isub, 1) := dk_100 (dk_at dksX6_lays_3 17 rfl rfl)
theorem dX6_lays_90 : decode cX6_lays 90 = .ok (.iastore, 1) := dk_79 (dk_at dksX6_lays_3 18 rfl rfl)
theorem dX6_lays_91 : decode cX6_lays 91 = .ok (.iinc 3 1, 3) := dk_132 3 1 (dk_at dksX6_lays_3 19 rfl rfl)
theorem dX6_lays_94 : decode cX6_lays 94 = .ok (.goto (-60), 3) := dk_167 255 196 (dk_at dksX6_lays_4 0 rfl rfl)
theorem dX6_lays_97 : decode cX6_lays 97 = .ok (.iload_n 1, 1) := dk_27 (dk_at dksX6_lays_4 3 rfl rfl)
theorem dX6_lays_98 : decode cX6_lays 98 = .ok (.ifCond .ge 6, 3) := dk_156 0 6 (dk_at dksX6_lays_4 4 rfl rfl)
theorem dX6_lays_101 : decode cX6_lays 101 = .ok (.goto 37, 3) := dk_167 0 37 (dk_at dksX6_lays_4 7 rfl rfl)
theorem dX6_lays_104 : decode cX6_lays 104 = .ok (.aload_n 0, 1) := dk_42 (dk_at dksX6_lays_4 10 rfl rfl)
theorem dX6_lays_105 : decode cX6_lays 105 = .ok (.getfield 77, 3) := dk_180 0 77 (dk_at dksX6_lays_4 11 rfl rfl)
theorem dX6_lays_108 : decode cX6_lays 108 = .ok (.bipush 11, 2) := dk_16 11 (dk_at dksX6_lays_4 14 rfl rfl)
theorem dX6_lays_110 : decode cX6_lays 110 = .ok (.iload_n 2, 1) := dk_28 (dk_at dksX6_lays_4 16 rfl rfl)
theorem dX6_lays_111 : decode cX6_lays 111 = .ok (.imul, 1) := dk_104 (dk_at dksX6_lays_4 17 rfl rfl)
theorem dX6_lays_112 : decode cX6_lays 112 = .ok (.aload_n 0, 1) := dk_42 (dk_at dksX6_lays_4 18 rfl rfl)
theorem dX6_lays_113 : decode cX6_lays 113 = .ok (.getfield 52, 3) := dk_180 0 52 (dk_at dksX6_lays_4 19 rfl rfl)
theorem dX6_lays_116 : decode cX6_lays 116 = .ok (.iconst 0, 1) := dk_3 (dk_at dksX6_lays_4 22 rfl rfl)
theorem dX6_lays_117 : decode cX6_lays 117 = .ok (.iaload, 1) := dk_46 (dk_at dksX6_lays_4 23 rfl rfl)
theorem dX6_lays_118 : decode cX6_lays 118 = .ok (.iadd, 1) := dk_96 (dk_at dksX6_lays_5 0 rfl rfl)
theorem dX6_lays_119 : decode cX6_lays 119 = .ok (.iconst 0, 1) := dk_3 (dk_at dksX6_lays_5 1 rfl rfl)
theorem dX6_lays_120 : decode cX6_lays 120 = .ok (.iastore, 1) := dk_79 (dk_at dksX6_lays_5 2 rfl rfl)
theorem dX6_lays_121 : decode cX6_lays 121 = .ok (.aload_n 0, 1) := dk_42 (dk_at dksX6_lays_5 3 rfl rfl)
theorem dX6_lays_122 : decode cX6_lays 122 = .ok (.getfield 80, 3) := dk_180 0 80 (dk_at dksX6_lays_5 4 rfl rfl)
theorem dX6_lays_125 : decode cX6_lays 125 = .ok (.bipush 11, 2) := dk_16 11 (dk_at dksX6_lays_5 7 rfl rfl)
theorem dX6_lays_127 : decode cX6_lays 127 = .ok (.iload_n 2, 1) := dk_28 (dk_at dksX6_lays_5 9 rfl rfl)
theorem dX6_lays_128 : decode cX6_lays 128 = .ok (.imul, 1) := dk_104 (dk_at dksX6_lays_5 10 rfl rfl)
theorem dX6_lays_129 : decode cX6_lays 129 = .ok (.aload_n 0, 1) := dk_42 (dk_at dksX6_lays_5 11 rfl rfl)
theorem dX6_lays_130 : decode cX6_lays 130 = .ok (.getfield 52, 3) := dk_180 0 52 (dk_at dksX6_lays_5 12 rfl rfl)
theorem dX6_lays_133 : decode cX6_lays 133 = .ok (.iconst 0, 1) := dk_3 (dk_at dksX6_lays_5 15 rfl rfl)
theorem dX6_lays_134 : decode cX6_lays 134 = .ok (.iaload, 1) := dk_46 (dk_at dksX6_lays_5 16 rfl rfl)
theorem dX6_lays_135 : decode cX6_lays 135 = .ok (.iadd, 1) := dk_96 (dk_at dksX6_lays_5 17 rfl rfl)
theorem dX6_lays_136 : decode cX6_lays 136 = .ok (.iload_n 1, 1) := dk_27 (dk_at dksX6_lays_5 18 rfl rfl)
theorem dX6_lays_137 : decode cX6_lays 137 = .ok (.iastore, 1) := dk_79 (dk_at dksX6_lays_5 19 rfl rfl)
theorem dX6_lays_138 : decode cX6_lays 138 = .ok (.iinc 2 1, 3) := dk_132 2 1 (dk_at dksX6_lays_5 20 rfl rfl)
theorem dX6_lays_141 : decode cX6_lays 141 = .ok (.goto (-119), 3) := dk_167 255 137 (dk_at dksX6_lays_6 0 rfl rfl)
theorem dX6_lays_144 : decode cX6_lays 144 = .ok (.return_, 1) := dk_177 (dk_at dksX6_lays_6 3 rfl rfl)
abbrev cX6_takesOf : ByteArray := prog_20_method_53_code
def yX6_takesOf : MethodName := ⟨RX6, "takesOf", "(II)I"⟩
def dkwX6_takesOf_6 : List UInt8 := [54, 4, 132, 5, 1, 167, 255, 128, 21, 4, 172]
abbrev dktX6_takesOf_6 : List UInt8 := dkwX6_takesOf_6 ++ []
def dkwX6_takesOf_5 : List UInt8 := [42, 180, 0, 77, 21, 6, 46, 42, 180, 0, 77, 16, 11, 27, 104, 21, 4, 96, 46, 162, 0, 7, 21, 5]
abbrev dktX6_takesOf_5 : List UInt8 := dkwX6_takesOf_5 ++ dktX6_takesOf_6
def dkwX6_takesOf_4 : List UInt8 := [180, 0, 80, 21, 6, 46, 42, 180, 0, 80, 16, 11, 27, 104, 21, 4, 96, 46, 164, 0, 32, 167, 0, 25]
abbrev dktX6_takesOf_4 : List UInt8 := dkwX6_takesOf_4 ++ dktX6_takesOf_5
def dkwX6_takesOf_3 : List UInt8 := [27, 104, 7, 96, 46, 160, 0, 67, 21, 5, 172, 21, 4, 2, 159, 0, 54, 29, 154, 0, 28, 42]
abbrev dktX6_takesOf_3 : List UInt8 := dkwX6_takesOf_3 ++ dktX6_takesOf_4
def dkwX6_takesOf_2 : List UInt8 := [180, 0, 80, 21, 6, 46, 157, 0, 6, 167, 0, 87, 29, 5, 160, 0, 21, 21, 5, 42, 180, 0, 61, 8]
abbrev dktX6_takesOf_2 : List UInt8 := dkwX6_takesOf_2 ++ dktX6_takesOf_3
def dkwX6_takesOf_1 : List UInt8 := [162, 0, 125, 16, 11, 27, 104, 21, 5, 96, 54, 6, 28, 21, 5, 122, 4, 126, 4, 159, 0, 100, 42]
abbrev dktX6_takesOf_1 : List UInt8 := dkwX6_takesOf_1 ++ dktX6_takesOf_2
def dkwX6_takesOf_0 : List UInt8 := [42, 180, 0, 61, 8, 27, 104, 6, 96, 46, 62, 2, 54, 4, 3, 54, 5, 21, 5, 42, 180, 1, 84]
abbrev dktX6_takesOf_0 : List UInt8 := dkwX6_takesOf_0 ++ dktX6_takesOf_1
theorem dksX6_takesOf_0 : cX6_takesOf.data.toList.drop 0 = dktX6_takesOf_0 := by decide +kernel
theorem dksX6_takesOf_1 : cX6_takesOf.data.toList.drop 23 = dktX6_takesOf_1 := dk_seg dksX6_takesOf_0 23 rfl rfl
theorem dksX6_takesOf_2 : cX6_takesOf.data.toList.drop 46 = dktX6_takesOf_2 := dk_seg dksX6_takesOf_1 23 rfl rfl
theorem dksX6_takesOf_3 : cX6_takesOf.data.toList.drop 70 = dktX6_takesOf_3 := dk_seg dksX6_takesOf_2 24 rfl rfl
theorem dksX6_takesOf_4 : cX6_takesOf.data.toList.drop 92 = dktX6_takesOf_4 := dk_seg dksX6_takesOf_3 22 rfl rfl
theorem dksX6_takesOf_5 : cX6_takesOf.data.toList.drop 116 = dktX6_takesOf_5 := dk_seg dksX6_takesOf_4 24 rfl rfl
theorem dksX6_takesOf_6 : cX6_takesOf.data.toList.drop 140 = dktX6_takesOf_6 := dk_seg dksX6_takesOf_5 24 rfl rfl
theorem dX6_takesOf_0 : decode cX6_takesOf 0 = .ok (.aload_n 0, 1) := dk_42 (dk_at dksX6_takesOf_0 0 rfl rfl)
theorem dX6_takesOf_1 : decode cX6_takesOf 1 = .ok (.getfield 61, 3) := dk_180 0 61 (dk_at dksX6_takesOf_0 1 rfl rfl)
theorem dX6_takesOf_4 : decode cX6_takesOf 4 = .ok (.iconst 5, 1) := dk_8 (dk_at dksX6_takesOf_0 4 rfl rfl)
theorem dX6_takesOf_5 : decode cX6_takesOf 5 = .ok (.iload_n 1, 1) := dk_27 (dk_at dksX6_takesOf_0 5 rfl rfl)
theorem dX6_takesOf_6 : decode cX6_takesOf 6 = .ok (.imul, 1) := dk_104 (dk_at dksX6_takesOf_0 6 rfl rfl)
theorem dX6_takesOf_7 : decode cX6_takesOf 7 = .ok (.iconst 3, 1) := dk_6 (dk_at dksX6_takesOf_0 7 rfl rfl)
theorem dX6_takesOf_8 : decode cX6_takesOf 8 = .ok (.iadd, 1) := dk_96 (dk_at dksX6_takesOf_0 8 rfl rfl)
theorem dX6_takesOf_9 : decode cX6_takesOf 9 = .ok (.iaload, 1) := dk_46 (dk_at dksX6_takesOf_0 9 rfl rfl)
theorem dX6_takesOf_10 : decode cX6_takesOf 10 = .ok (.istore_n 3, 1) := dk_62 (dk_at dksX6_takesOf_0 10 rfl rfl)
theorem dX6_takesOf_11 : decode cX6_takesOf 11 = .ok (.iconst (-1), 1) := dk_2 (dk_at dksX6_takesOf_0 11 rfl rfl)
theorem dX6_takesOf_12 : decode cX6_takesOf 12 = .ok (.istore 4, 2) := dk_54 4 (dk_at dksX6_takesOf_0 12 rfl rfl)
theorem dX6_takesOf_14 : decode cX6_takesOf 14 = .ok (.iconst 0, 1) := dk_3 (dk_at dksX6_takesOf_0 14 rfl rfl)
theorem dX6_takesOf_15 : decode cX6_takesOf 15 = .ok (.istore 5, 2) := dk_54 5 (dk_at dksX6_takesOf_0 15 rfl rfl)
theorem dX6_takesOf_17 : decode cX6_takesOf 17 = .ok (.iload 5, 2) := dk_21 5 (dk_at dksX6_takesOf_0 17 rfl rfl)
theorem dX6_takesOf_19 : decode cX6_takesOf 19 = .ok (.aload_n 0, 1) := dk_42 (dk_at dksX6_takesOf_0 19 rfl rfl)
theorem dX6_takesOf_20 : decode cX6_takesOf 20 = .ok (.getfield 340, 3) := dk_180 1 84 (dk_at dksX6_takesOf_0 20 rfl rfl)
theorem dX6_takesOf_23 : decode cX6_takesOf 23 = .ok (.if_icmp .ge 125, 3) := dk_162 0 125 (dk_at dksX6_takesOf_1 0 rfl rfl)
theorem dX6_takesOf_26 : decode cX6_takesOf 26 = .ok (.bipush 11, 2) := dk_16 11 (dk_at dksX6_takesOf_1 3 rfl rfl)
theorem dX6_takesOf_28 : decode cX6_takesOf 28 = .ok (.iload_n 1, 1) := dk_27 (dk_at dksX6_takesOf_1 5 rfl rfl)
theorem dX6_takesOf_29 : decode cX6_takesOf 29 = .ok (.imul, 1) := dk_104 (dk_at dksX6_takesOf_1 6 rfl rfl)
theorem dX6_takesOf_30 : decode cX6_takesOf 30 = .ok (.iload 5, 2) := dk_21 5 (dk_at dksX6_takesOf_1 7 rfl rfl)
theorem dX6_takesOf_32 : decode cX6_takesOf 32 = .ok (.iadd, 1) := dk_96 (dk_at dksX6_takesOf_1 9 rfl rfl)
theorem dX6_takesOf_33 : decode cX6_takesOf 33 = .ok (.istore 6, 2) := dk_54 6 (dk_at dksX6_takesOf_1 10 rfl rfl)
theorem dX6_takesOf_35 : decode cX6_takesOf 35 = .ok (.iload_n 2, 1) := dk_28 (dk_at dksX6_takesOf_1 12 rfl rfl)
theorem dX6_takesOf_36 : decode cX6_takesOf 36 = .ok (.iload 5, 2) := dk_21 5 (dk_at dksX6_takesOf_1 13 rfl rfl)
theorem dX6_takesOf_38 : decode cX6_takesOf 38 = .ok (.ishr, 1) := dk_122 (dk_at dksX6_takesOf_1 15 rfl rfl)
theorem dX6_takesOf_39 : decode cX6_takesOf 39 = .ok (.iconst 1, 1) := dk_4 (dk_at dksX6_takesOf_1 16 rfl rfl)
theorem dX6_takesOf_40 : decode cX6_takesOf 40 = .ok (.iand, 1) := dk_126 (dk_at dksX6_takesOf_1 17 rfl rfl)
theorem dX6_takesOf_41 : decode cX6_takesOf 41 = .ok (.iconst 1, 1) := dk_4 (dk_at dksX6_takesOf_1 18 rfl rfl)
theorem dX6_takesOf_42 : decode cX6_takesOf 42 = .ok (.if_icmp .eq 100, 3) := dk_159 0 100 (dk_at dksX6_takesOf_1 19 rfl rfl)
theorem dX6_takesOf_45 : decode cX6_takesOf 45 = .ok (.aload_n 0, 1) := dk_42 (dk_at dksX6_takesOf_1 22 rfl rfl)
theorem dX6_takesOf_46 : decode cX6_takesOf 46 = .ok (.getfield 80, 3) := dk_180 0 80 (dk_at dksX6_takesOf_2 0 rfl rfl)
theorem dX6_takesOf_49 : decode cX6_takesOf 49 = .ok (.iload 6, 2) := dk_21 6 (dk_at dksX6_takesOf_2 3 rfl rfl)
theorem dX6_takesOf_51 : decode cX6_takesOf 51 = .ok (.iaload, 1) := dk_46 (dk_at dksX6_takesOf_2 5 rfl rfl)
theorem dX6_takesOf_52 : decode cX6_takesOf 52 = .ok (.ifCond .gt 6, 3) := dk_157 0 6 (dk_at dksX6_takesOf_2 6 rfl rfl)
theorem dX6_takesOf_55 : decode cX6_takesOf 55 = .ok (.goto 87, 3) := dk_167 0 87 (dk_at dksX6_takesOf_2 9 rfl rfl)
theorem dX6_takesOf_58 : decode cX6_takesOf 58 = .ok (.iload_n 3, 1) := dk_29 (dk_at dksX6_takesOf_2 12 rfl rfl)
theorem dX6_takesOf_59 : decode cX6_takesOf 59 = .ok (.iconst 2, 1) := dk_5 (dk_at dksX6_takesOf_2 13 rfl rfl)
theorem dX6_takesOf_60 : decode cX6_takesOf 60 = .ok (.if_icmp .ne 21, 3) := dk_160 0 21 (dk_at dksX6_takesOf_2 14 rfl rfl)
theorem dX6_takesOf_63 : decode cX6_takesOf 63 = .ok (.iload 5, 2) := dk_21 5 (dk_at dksX6_takesOf_2 17 rfl rfl)
theorem dX6_takesOf_65 : decode cX6_takesOf 65 = .ok (.aload_n 0, 1) := dk_42 (dk_at dksX6_takesOf_2 19 rfl rfl)
theorem dX6_takesOf_66 : decode cX6_takesOf 66 = .ok (.getfield 61, 3) := dk_180 0 61 (dk_at dksX6_takesOf_2 20 rfl rfl)
theorem dX6_takesOf_69 : decode cX6_takesOf 69 = .ok (.iconst 5, 1) := dk_8 (dk_at dksX6_takesOf_2 23 rfl rfl)
theorem dX6_takesOf_70 : decode cX6_takesOf 70 = .ok (.iload_n 1, 1) := dk_27 (dk_at dksX6_takesOf_3 0 rfl rfl)
theorem dX6_takesOf_71 : decode cX6_takesOf 71 = .ok (.imul, 1) := dk_104 (dk_at dksX6_takesOf_3 1 rfl rfl)
theorem dX6_takesOf_72 : decode cX6_takesOf 72 = .ok (.iconst 4, 1) := dk_7 (dk_at dksX6_takesOf_3 2 rfl rfl)
theorem dX6_takesOf_73 : decode cX6_takesOf 73 = .ok (.iadd, 1) := dk_96 (dk_at dksX6_takesOf_3 3 rfl rfl)
theorem dX6_takesOf_74 : decode cX6_takesOf 74 = .ok (.iaload, 1) := dk_46 (dk_at dksX6_takesOf_3 4 rfl rfl)
theorem dX6_takesOf_75 : decode cX6_takesOf 75 = .ok (.if_icmp .ne 67, 3) := dk_160 0 67 (dk_at dksX6_takesOf_3 5 rfl rfl)
theorem dX6_takesOf_78 : decode cX6_takesOf 78 = .ok (.iload 5, 2) := dk_21 5 (dk_at dksX6_takesOf_3 8 rfl rfl)
theorem dX6_takesOf_80 : decode cX6_takesOf 80 = .ok (.ireturn, 1) := dk_172 (dk_at dksX6_takesOf_3 10 rfl rfl)
theorem dX6_takesOf_81 : decode cX6_takesOf 81 = .ok (.iload 4, 2) := dk_21 4 (dk_at dksX6_takesOf_3 11 rfl rfl)
theorem dX6_takesOf_83 : decode cX6_takesOf 83 = .ok (.iconst (-1), 1) := dk_2 (dk_at dksX6_takesOf_3 13 rfl rfl)
theorem dX6_takesOf_84 : decode cX6_takesOf 84 = .ok (.if_icmp .eq 54, 3) := dk_159 0 54 (dk_at dksX6_takesOf_3 14 rfl rfl)
theorem dX6_takesOf_87 : decode cX6_takesOf 87 = .ok (.iload_n 3, 1) := dk_29 (dk_at dksX6_takesOf_3 17 rfl rfl)
theorem dX6_takesOf_88 : decode cX6_takesOf 88 = .ok (.ifCond .ne 28, 3) := dk_154 0 28 (dk_at dksX6_takesOf_3 18 rfl rfl)
theorem dX6_takesOf_91 : decode cX6_takesOf 91 = .ok (.aload_n 0, 1) := dk_42 (dk_at dksX6_takesOf_3 21 rfl rfl)
theorem dX6_takesOf_92 : decode cX6_takesOf 92 = .ok (.getfield 80, 3) := dk_180 0 80 (dk_at dksX6_takesOf_4 0 rfl rfl)
theorem dX6_takesOf_95 : decode cX6_takesOf 95 = .ok (.iload 6, 2) := dk_21 6 (dk_at dksX6_takesOf_4 3 rfl rfl)
theorem dX6_takesOf_97 : decode cX6_takesOf 97 = .ok (.iaload, 1) := dk_46 (dk_at dksX6_takesOf_4 5 rfl rfl)
theorem dX6_takesOf_98 : decode cX6_takesOf 98 = .ok (.aload_n 0, 1) := dk_42 (dk_at dksX6_takesOf_4 6 rfl rfl)
theorem dX6_takesOf_99 : decode cX6_takesOf 99 = .ok (.getfield 80, 3) := dk_180 0 80 (dk_at dksX6_takesOf_4 7 rfl rfl)
theorem dX6_takesOf_102 : decode cX6_takesOf 102 = .ok (.bipush 11, 2) := dk_16 11 (dk_at dksX6_takesOf_4 10 rfl rfl)
theorem dX6_takesOf_104 : decode cX6_takesOf 104 = .ok (.iload_n 1, 1) := dk_27 (dk_at dksX6_takesOf_4 12 rfl rfl)
theorem dX6_takesOf_105 : decode cX6_takesOf 105 = .ok (.imul, 1) := dk_104 (dk_at dksX6_takesOf_4 13 rfl rfl)
theorem dX6_takesOf_106 : decode cX6_takesOf 106 = .ok (.iload 4, 2) := dk_21 4 (dk_at dksX6_takesOf_4 14 rfl rfl)
theorem dX6_takesOf_108 : decode cX6_takesOf 108 = .ok (.iadd, 1) := dk_96 (dk_at dksX6_takesOf_4 16 rfl rfl)
theorem dX6_takesOf_109 : decode cX6_takesOf 109 = .ok (.iaload, 1) := dk_46 (dk_at dksX6_takesOf_4 17 rfl rfl)
theorem dX6_takesOf_110 : decode cX6_takesOf 110 = .ok (.if_icmp .le 32, 3) := dk_164 0 32 (dk_at dksX6_takesOf_4 18 rfl rfl)
theorem dX6_takesOf_113 : decode cX6_takesOf 113 = .ok (.goto 25, 3) := dk_167 0 25 (dk_at dksX6_takesOf_4 21 rfl rfl)
theorem dX6_takesOf_116 : decode cX6_takesOf 116 = .ok (.aload_n 0, 1) := dk_42 (dk_at dksX6_takesOf_5 0 rfl rfl)
theorem dX6_takesOf_117 : decode cX6_takesOf 117 = .ok (.getfield 77, 3) := dk_180 0 77 (dk_at dksX6_takesOf_5 1 rfl rfl)
theorem dX6_takesOf_120 : decode cX6_takesOf 120 = .ok (.iload 6, 2) := dk_21 6 (dk_at dksX6_takesOf_5 4 rfl rfl)
theorem dX6_takesOf_122 : decode cX6_takesOf 122 = .ok (.iaload, 1) := dk_46 (dk_at dksX6_takesOf_5 6 rfl rfl)
theorem dX6_takesOf_123 : decode cX6_takesOf 123 = .ok (.aload_n 0, 1) := dk_42 (dk_at dksX6_takesOf_5 7 rfl rfl)
theorem dX6_takesOf_124 : decode cX6_takesOf 124 = .ok (.getfield 77, 3) := dk_180 0 77 (dk_at dksX6_takesOf_5 8 rfl rfl)
theorem dX6_takesOf_127 : decode cX6_takesOf 127 = .ok (.bipush 11, 2) := dk_16 11 (dk_at dksX6_takesOf_5 11 rfl rfl)
theorem dX6_takesOf_129 : decode cX6_takesOf 129 = .ok (.iload_n 1, 1) := dk_27 (dk_at dksX6_takesOf_5 13 rfl rfl)
theorem dX6_takesOf_130 : decode cX6_takesOf 130 = .ok (.imul, 1) := dk_104 (dk_at dksX6_takesOf_5 14 rfl rfl)
theorem dX6_takesOf_131 : decode cX6_takesOf 131 = .ok (.iload 4, 2) := dk_21 4 (dk_at dksX6_takesOf_5 15 rfl rfl)
theorem dX6_takesOf_133 : decode cX6_takesOf 133 = .ok (.iadd, 1) := dk_96 (dk_at dksX6_takesOf_5 17 rfl rfl)
theorem dX6_takesOf_134 : decode cX6_takesOf 134 = .ok (.iaload, 1) := dk_46 (dk_at dksX6_takesOf_5 18 rfl rfl)
theorem dX6_takesOf_135 : decode cX6_takesOf 135 = .ok (.if_icmp .ge 7, 3) := dk_162 0 7 (dk_at dksX6_takesOf_5 19 rfl rfl)
theorem dX6_takesOf_138 : decode cX6_takesOf 138 = .ok (.iload 5, 2) := dk_21 5 (dk_at dksX6_takesOf_5 22 rfl rfl)
theorem dX6_takesOf_140 : decode cX6_takesOf 140 = .ok (.istore 4, 2) := dk_54 4 (dk_at dksX6_takesOf_6 0 rfl rfl)
theorem dX6_takesOf_142 : decode cX6_takesOf 142 = .ok (.iinc 5 1, 3) := dk_132 5 1 (dk_at dksX6_takesOf_6 2 rfl rfl)
theorem dX6_takesOf_145 : decode cX6_takesOf 145 = .ok (.goto (-128), 3) := dk_167 255 128 (dk_at dksX6_takesOf_6 5 rfl rfl)
theorem dX6_takesOf_148 : decode cX6_takesOf 148 = .ok (.iload 4, 2) := dk_21 4 (dk_at dksX6_takesOf_6 8 rfl rfl)
theorem dX6_takesOf_150 : decode cX6_takesOf 150 = .ok (.ireturn, 1) := dk_172 (dk_at dksX6_takesOf_6 10 rfl rfl)
abbrev cX6_wants : ByteArray := prog_20_method_56_code
def yX6_wants : MethodName := ⟨RX6, "wants", "(I)I"⟩
def dkwX6_wants_1 : List UInt8 := [182, 1, 93, 172]
abbrev dktX6_wants_1 : List UInt8 := dkwX6_wants_1 ++ []
def dkwX6_wants_0 : List UInt8 := [42, 3, 181, 0, 114, 42, 27, 182, 1, 74, 154, 0, 6, 16, 254, 172, 42, 2, 182, 1, 87, 42, 27]
abbrev dktX6_wants_0 : List UInt8 := dkwX6_wants_0 ++ dktX6_wants_1
theorem dksX6_wants_0 : cX6_wants.data.toList.drop 0 = dktX6_wants_0 := by decide +kernel
theorem dksX6_wants_1 : cX6_wants.data.toList.drop 23 = dktX6_wants_1 := dk_seg dksX6_wants_0 23 rfl rfl
theorem dX6_wants_0 : decode cX6_wants 0 = .ok (.aload_n 0, 1) := dk_42 (dk_at dksX6_wants_0 0 rfl rfl)
theorem dX6_wants_1 : decode cX6_wants 1 = .ok (.iconst 0, 1) := dk_3 (dk_at dksX6_wants_0 1 rfl rfl)
theorem dX6_wants_2 : decode cX6_wants 2 = .ok (.putfield 114, 3) := dk_181 0 114 (dk_at dksX6_wants_0 2 rfl rfl)
theorem dX6_wants_5 : decode cX6_wants 5 = .ok (.aload_n 0, 1) := dk_42 (dk_at dksX6_wants_0 5 rfl rfl)
theorem dX6_wants_6 : decode cX6_wants 6 = .ok (.iload_n 1, 1) := dk_27 (dk_at dksX6_wants_0 6 rfl rfl)
theorem dX6_wants_7 : decode cX6_wants 7 = .ok (.invokevirtual 330, 3) := dk_182 1 74 (dk_at dksX6_wants_0 7 rfl rfl)
theorem dX6_wants_10 : decode cX6_wants 10 = .ok (.ifCond .ne 6, 3) := dk_154 0 6 (dk_at dksX6_wants_0 10 rfl rfl)
theorem dX6_wants_13 : decode cX6_wants 13 = .ok (.bipush (-2), 2) := dk_16 254 (dk_at dksX6_wants_0 13 rfl rfl)
theorem dX6_wants_15 : decode cX6_wants 15 = .ok (.ireturn, 1) := dk_172 (dk_at dksX6_wants_0 15 rfl rfl)
theorem dX6_wants_16 : decode cX6_wants 16 = .ok (.aload_n 0, 1) := dk_42 (dk_at dksX6_wants_0 16 rfl rfl)
theorem dX6_wants_17 : decode cX6_wants 17 = .ok (.iconst (-1), 1) := dk_2 (dk_at dksX6_wants_0 17 rfl rfl)
theorem dX6_wants_18 : decode cX6_wants 18 = .ok (.invokevirtual 343, 3) := dk_182 1 87 (dk_at dksX6_wants_0 18 rfl rfl)
theorem dX6_wants_21 : decode cX6_wants 21 = .ok (.aload_n 0, 1) := dk_42 (dk_at dksX6_wants_0 21 rfl rfl)
theorem dX6_wants_22 : decode cX6_wants 22 = .ok (.iload_n 1, 1) := dk_27 (dk_at dksX6_wants_0 22 rfl rfl)
theorem dX6_wants_23 : decode cX6_wants 23 = .ok (.invokevirtual 349, 3) := dk_182 1 93 (dk_at dksX6_wants_1 0 rfl rfl)
theorem dX6_wants_26 : decode cX6_wants 26 = .ok (.ireturn, 1) := dk_172 (dk_at dksX6_wants_1 3 rfl rfl)
abbrev cX6_wantsOf : ByteArray := prog_20_method_55_code
def yX6_wantsOf : MethodName := ⟨RX6, "wantsOf", "(I)I"⟩
def dkwX6_wantsOf_1 : List UInt8 := [96, 46, 158, 0, 7, 4, 167, 0, 4, 3, 96, 61, 132, 3, 1, 167, 255, 221, 28, 172]
abbrev dktX6_wantsOf_1 : List UInt8 := dkwX6_wantsOf_1 ++ []
def dkwX6_wantsOf_0 : List UInt8 := [3, 61, 3, 62, 29, 42, 180, 0, 52, 3, 46, 162, 0, 31, 28, 42, 180, 0, 80, 16, 11, 27, 104, 29]
abbrev dktX6_wantsOf_0 : List UInt8 := dkwX6_wantsOf_0 ++ dktX6_wantsOf_1
theorem dksX6_wantsOf_0 : cX6_wantsOf.data.toList.drop 0 = dktX6_wantsOf_0 := by decide +kernel
theorem dksX6_wantsOf_1 : cX6_wantsOf.data.toList.drop 24 = dktX6_wantsOf_1 := dk_seg dksX6_wantsOf_0 24 rfl rfl
theorem dX6_wantsOf_0 : decode cX6_wantsOf 0 = .ok (.iconst 0, 1) := dk_3 (dk_at dksX6_wantsOf_0 0 rfl rfl)
theorem dX6_wantsOf_1 : decode cX6_wantsOf 1 = .ok (.istore_n 2, 1) := dk_61 (dk_at dksX6_wantsOf_0 1 rfl rfl)
theorem dX6_wantsOf_2 : decode cX6_wantsOf 2 = .ok (.iconst 0, 1) := dk_3 (dk_at dksX6_wantsOf_0 2 rfl rfl)
theorem dX6_wantsOf_3 : decode cX6_wantsOf 3 = .ok (.istore_n 3, 1) := dk_62 (dk_at dksX6_wantsOf_0 3 rfl rfl)
theorem dX6_wantsOf_4 : decode cX6_wantsOf 4 = .ok (.iload_n 3, 1) := dk_29 (dk_at dksX6_wantsOf_0 4 rfl rfl)
theorem dX6_wantsOf_5 : decode cX6_wantsOf 5 = .ok (.aload_n 0, 1) := dk_42 (dk_at dksX6_wantsOf_0 5 rfl rfl)
theorem dX6_wantsOf_6 : decode cX6_wantsOf 6 = .ok (.getfield 52, 3) := dk_180 0 52 (dk_at dksX6_wantsOf_0 6 rfl rfl)
theorem dX6_wantsOf_9 : decode cX6_wantsOf 9 = .ok (.iconst 0, 1) := dk_3 (dk_at dksX6_wantsOf_0 9 rfl rfl)
theorem dX6_wantsOf_10 : decode cX6_wantsOf 10 = .ok (.iaload, 1) := dk_46 (dk_at dksX6_wantsOf_0 10 rfl rfl)
theorem dX6_wantsOf_11 : decode cX6_wantsOf 11 = .ok (.if_icmp .ge 31, 3) := dk_162 0 31 (dk_at dksX6_wantsOf_0 11 rfl rfl)
theorem dX6_wantsOf_14 : decode cX6_wantsOf 14 = .ok (.iload_n 2, 1) := dk_28 (dk_at dksX6_wantsOf_0 14 rfl rfl)
theorem dX6_wantsOf_15 : decode cX6_wantsOf 15 = .ok (.aload_n 0, 1) := dk_42 (dk_at dksX6_wantsOf_0 15 rfl rfl)
theorem dX6_wantsOf_16 : decode cX6_wantsOf 16 = .ok (.getfield 80, 3) := dk_180 0 80 (dk_at dksX6_wantsOf_0 16 rfl rfl)
theorem dX6_wantsOf_19 : decode cX6_wantsOf 19 = .ok (.bipush 11, 2) := dk_16 11 (dk_at dksX6_wantsOf_0 19 rfl rfl)
theorem dX6_wantsOf_21 : decode cX6_wantsOf 21 = .ok (.iload_n 1, 1) := dk_27 (dk_at dksX6_wantsOf_0 21 rfl rfl)
theorem dX6_wantsOf_22 : decode cX6_wantsOf 22 = .ok (.imul, 1) := dk_104 (dk_at dksX6_wantsOf_0 22 rfl rfl)
theorem dX6_wantsOf_23 : decode cX6_wantsOf 23 = .ok (.iload_n 3, 1) := dk_29 (dk_at dksX6_wantsOf_0 23 rfl rfl)
theorem dX6_wantsOf_24 : decode cX6_wantsOf 24 = .ok (.iadd, 1) := dk_96 (dk_at dksX6_wantsOf_1 0 rfl rfl)
theorem dX6_wantsOf_25 : decode cX6_wantsOf 25 = .ok (.iaload, 1) := dk_46 (dk_at dksX6_wantsOf_1 1 rfl rfl)
theorem dX6_wantsOf_26 : decode cX6_wantsOf 26 = .ok (.ifCond .le 7, 3) := dk_158 0 7 (dk_at dksX6_wantsOf_1 2 rfl rfl)
theorem dX6_wantsOf_29 : decode cX6_wantsOf 29 = .ok (.iconst 1, 1) := dk_4 (dk_at dksX6_wantsOf_1 5 rfl rfl)
theorem dX6_wantsOf_30 : decode cX6_wantsOf 30 = .ok (.goto 4, 3) := dk_167 0 4 (dk_at dksX6_wantsOf_1 6 rfl rfl)
theorem dX6_wantsOf_33 : decode cX6_wantsOf 33 = .ok (.iconst 0, 1) := dk_3 (dk_at dksX6_wantsOf_1 9 rfl rfl)
theorem dX6_wantsOf_34 : decode cX6_wantsOf 34 = .ok (.iadd, 1) := dk_96 (dk_at dksX6_wantsOf_1 10 rfl rfl)
theorem dX6_wantsOf_35 : decode cX6_wantsOf 35 = .ok (.istore_n 2, 1) := dk_61 (dk_at dksX6_wantsOf_1 11 rfl rfl)
theorem dX6_wantsOf_36 : decode cX6_wantsOf 36 = .ok (.iinc 3 1, 3) := dk_132 3 1 (dk_at dksX6_wantsOf_1 12 rfl rfl)
theorem dX6_wantsOf_39 : decode cX6_wantsOf 39 = .ok (.goto (-35), 3) := dk_167 255 221 (dk_at dksX6_wantsOf_1 15 rfl rfl)
theorem dX6_wantsOf_42 : decode cX6_wantsOf 42 = .ok (.iload_n 2, 1) := dk_28 (dk_at dksX6_wantsOf_1 18 rfl rfl)
theorem dX6_wantsOf_43 : decode cX6_wantsOf 43 = .ok (.ireturn, 1) := dk_172 (dk_at dksX6_wantsOf_1 19 rfl rfl)
abbrev cX6_part : ByteArray := prog_20_method_59_code
def yX6_part : MethodName := ⟨RX6, "part", "(I)J"⟩
def dkwX6_part_1 : List UInt8 := [180, 0, 83, 27, 47, 173]
abbrev dktX6_part_1 : List UInt8 := dkwX6_part_1 ++ []
def dkwX6_part_0 : List UInt8 := [42, 3, 181, 0, 114, 42, 27, 182, 1, 101, 154, 0, 7, 20, 1, 104, 173, 42, 182, 1, 106, 42]
abbrev dktX6_part_0 : List UInt8 := dkwX6_part_0 ++ dktX6_part_1
theorem dksX6_part_0 : cX6_part.data.toList.drop 0 = dktX6_part_0 := by decide +kernel
theorem dksX6_part_1 : cX6_part.data.toList.drop 22 = dktX6_part_1 := dk_seg dksX6_part_0 22 rfl rfl
theorem dX6_part_0 : decode cX6_part 0 = .ok (.aload_n 0, 1) := dk_42 (dk_at dksX6_part_0 0 rfl rfl)
theorem dX6_part_1 : decode cX6_part 1 = .ok (.iconst 0, 1) := dk_3 (dk_at dksX6_part_0 1 rfl rfl)
theorem dX6_part_2 : decode cX6_part 2 = .ok (.putfield 114, 3) := dk_181 0 114 (dk_at dksX6_part_0 2 rfl rfl)
theorem dX6_part_5 : decode cX6_part 5 = .ok (.aload_n 0, 1) := dk_42 (dk_at dksX6_part_0 5 rfl rfl)
theorem dX6_part_6 : decode cX6_part 6 = .ok (.iload_n 1, 1) := dk_27 (dk_at dksX6_part_0 6 rfl rfl)
theorem dX6_part_7 : decode cX6_part 7 = .ok (.invokevirtual 357, 3) := dk_182 1 101 (dk_at dksX6_part_0 7 rfl rfl)
theorem dX6_part_10 : decode cX6_part 10 = .ok (.ifCond .ne 7, 3) := dk_154 0 7 (dk_at dksX6_part_0 10 rfl rfl)
theorem dX6_part_13 : decode cX6_part 13 = .ok (.ldc2_w 360, 3) := dk_20 1 104 (dk_at dksX6_part_0 13 rfl rfl)
theorem dX6_part_16 : decode cX6_part 16 = .ok (.lreturn, 1) := dk_173 (dk_at dksX6_part_0 16 rfl rfl)
theorem dX6_part_17 : decode cX6_part 17 = .ok (.aload_n 0, 1) := dk_42 (dk_at dksX6_part_0 17 rfl rfl)
theorem dX6_part_18 : decode cX6_part 18 = .ok (.invokevirtual 362, 3) := dk_182 1 106 (dk_at dksX6_part_0 18 rfl rfl)
theorem dX6_part_21 : decode cX6_part 21 = .ok (.aload_n 0, 1) := dk_42 (dk_at dksX6_part_0 21 rfl rfl)
theorem dX6_part_22 : decode cX6_part 22 = .ok (.getfield 83, 3) := dk_180 0 83 (dk_at dksX6_part_1 0 rfl rfl)
theorem dX6_part_25 : decode cX6_part 25 = .ok (.iload_n 1, 1) := dk_27 (dk_at dksX6_part_1 3 rfl rfl)
theorem dX6_part_26 : decode cX6_part 26 = .ok (.laload, 1) := dk_47 (dk_at dksX6_part_1 4 rfl rfl)
theorem dX6_part_27 : decode cX6_part 27 = .ok (.lreturn, 1) := dk_173 (dk_at dksX6_part_1 5 rfl rfl)
abbrev cX6_isSet : ByteArray := prog_20_method_58_code
def yX6_isSet : MethodName := ⟨RX6, "isSet", "(I)Z"⟩
def dkwX6_isSet_1 : List UInt8 := [153, 0, 7, 4, 167, 0, 4, 3, 172]
abbrev dktX6_isSet_1 : List UInt8 := dkwX6_isSet_1 ++ []
def dkwX6_isSet_0 : List UInt8 := [42, 182, 1, 98, 153, 0, 27, 27, 133, 9, 4, 42, 180, 0, 52, 3, 46, 120, 4, 100, 133, 184, 0, 119]
abbrev dktX6_isSet_0 : List UInt8 := dkwX6_isSet_0 ++ dktX6_isSet_1
theorem dksX6_isSet_0 : cX6_isSet.data.toList.drop 0 = dktX6_isSet_0 := by decide +kernel
theorem dksX6_isSet_1 : cX6_isSet.data.toList.drop 24 = dktX6_isSet_1 := dk_seg dksX6_isSet_0 24 rfl rfl
theorem dX6_isSet_0 : decode cX6_isSet 0 = .ok (.aload_n 0, 1) := dk_42 (dk_at dksX6_isSet_0 0 rfl rfl)
theorem dX6_isSet_1 : decode cX6_isSet 1 = .ok (.invokevirtual 354, 3) := dk_182 1 98 (dk_at dksX6_isSet_0 1 rfl rfl)
theorem dX6_isSet_4 : decode cX6_isSet 4 = .ok (.ifCond .eq 27, 3) := dk_153 0 27 (dk_at dksX6_isSet_0 4 rfl rfl)
theorem dX6_isSet_7 : decode cX6_isSet 7 = .ok (.iload_n 1, 1) := dk_27 (dk_at dksX6_isSet_0 7 rfl rfl)
theorem dX6_isSet_8 : decode cX6_isSet 8 = .ok (.i2l, 1) := dk_133 (dk_at dksX6_isSet_0 8 rfl rfl)
theorem dX6_isSet_9 : decode cX6_isSet 9 = .ok (.lconst 0, 1) := dk_9 (dk_at dksX6_isSet_0 9 rfl rfl)
theorem dX6_isSet_10 : decode cX6_isSet 10 = .ok (.iconst 1, 1) := dk_4 (dk_at dksX6_isSet_0 10 rfl rfl)
theorem dX6_isSet_11 : decode cX6_isSet 11 = .ok (.aload_n 0, 1) := dk_42 (dk_at dksX6_isSet_0 11 rfl rfl)
theorem dX6_isSet_12 : decode cX6_isSet 12 = .ok (.getfield 52, 3) := dk_180 0 52 (dk_at dksX6_isSet_0 12 rfl rfl)
theorem dX6_isSet_15 : decode cX6_isSet 15 = .ok (.iconst 0, 1) := dk_3 (dk_at dksX6_isSet_0 15 rfl rfl)
theorem dX6_isSet_16 : decode cX6_isSet 16 = .ok (.iaload, 1) := dk_46 (dk_at dksX6_isSet_0 16 rfl rfl)
theorem dX6_isSet_17 : decode cX6_isSet 17 = .ok (.ishl, 1) := dk_120 (dk_at dksX6_isSet_0 17 rfl rfl)
theorem dX6_isSet_18 : decode cX6_isSet 18 = .ok (.iconst 1, 1) := dk_4 (dk_at dksX6_isSet_0 18 rfl rfl)
theorem dX6_isSet_19 : decode cX6_isSet 19 = .ok (.isub, 1) := dk_100 (dk_at dksX6_isSet_0 19 rfl rfl)
theorem dX6_isSet_20 : decode cX6_isSet 20 = .ok (.i2l, 1) := dk_133 (dk_at dksX6_isSet_0 20 rfl rfl)
theorem dX6_isSet_21 : decode cX6_isSet 21 = .ok (.invokestatic 119, 3) := dk_184 0 119 (dk_at dksX6_isSet_0 21 rfl rfl)
theorem dX6_isSet_24 : decode cX6_isSet 24 = .ok (.ifCond .eq 7, 3) := dk_153 0 7 (dk_at dksX6_isSet_1 0 rfl rfl)
theorem dX6_isSet_27 : decode cX6_isSet 27 = .ok (.iconst 1, 1) := dk_4 (dk_at dksX6_isSet_1 3 rfl rfl)
theorem dX6_isSet_28 : decode cX6_isSet 28 = .ok (.goto 4, 3) := dk_167 0 4 (dk_at dksX6_isSet_1 4 rfl rfl)
theorem dX6_isSet_31 : decode cX6_isSet 31 = .ok (.iconst 0, 1) := dk_3 (dk_at dksX6_isSet_1 7 rfl rfl)
theorem dX6_isSet_32 : decode cX6_isSet 32 = .ok (.ireturn, 1) := dk_172 (dk_at dksX6_isSet_1 8 rfl rfl)
abbrev cX6_isRail : ByteArray := prog_20_method_40_code
def yX6_isRail : MethodName := ⟨RX6, "isRail", "()Z"⟩
def dkwX6_isRail_0 : List UInt8 := [42, 180, 0, 34, 3, 46, 158, 0, 7, 4, 167, 0, 4, 3, 172]
abbrev dktX6_isRail_0 : List UInt8 := dkwX6_isRail_0 ++ []
theorem dksX6_isRail_0 : cX6_isRail.data.toList.drop 0 = dktX6_isRail_0 := by decide +kernel
theorem dX6_isRail_0 : decode cX6_isRail 0 = .ok (.aload_n 0, 1) := dk_42 (dk_at dksX6_isRail_0 0 rfl rfl)
theorem dX6_isRail_1 : decode cX6_isRail 1 = .ok (.getfield 34, 3) := dk_180 0 34 (dk_at dksX6_isRail_0 1 rfl rfl)
theorem dX6_isRail_4 : decode cX6_isRail 4 = .ok (.iconst 0, 1) := dk_3 (dk_at dksX6_isRail_0 4 rfl rfl)
theorem dX6_isRail_5 : decode cX6_isRail 5 = .ok (.iaload, 1) := dk_46 (dk_at dksX6_isRail_0 5 rfl rfl)
theorem dX6_isRail_6 : decode cX6_isRail 6 = .ok (.ifCond .le 7, 3) := dk_158 0 7 (dk_at dksX6_isRail_0 6 rfl rfl)
theorem dX6_isRail_9 : decode cX6_isRail 9 = .ok (.iconst 1, 1) := dk_4 (dk_at dksX6_isRail_0 9 rfl rfl)
theorem dX6_isRail_10 : decode cX6_isRail 10 = .ok (.goto 4, 3) := dk_167 0 4 (dk_at dksX6_isRail_0 10 rfl rfl)
theorem dX6_isRail_13 : decode cX6_isRail 13 = .ok (.iconst 0, 1) := dk_3 (dk_at dksX6_isRail_0 13 rfl rfl)
theorem dX6_isRail_14 : decode cX6_isRail 14 = .ok (.ireturn, 1) := dk_172 (dk_at dksX6_isRail_0 14 rfl rfl)
abbrev cX6_night : ByteArray := prog_20_method_57_code
def yX6_night : MethodName := ⟨RX6, "night", "()V"⟩
def dkwX6_night_9 : List UInt8 := [80, 132, 3, 1, 167, 255, 161, 132, 2, 1, 167, 255, 102, 177]
abbrev dktX6_night_9 : List UInt8 := dkwX6_night_9 ++ []
def dkwX6_night_8 : List UInt8 := [29, 47, 97, 80, 42, 180, 0, 89, 16, 10, 28, 104, 21, 4, 96, 92, 47, 42, 180, 0, 86, 29, 47, 97]
abbrev dktX6_night_8 : List UInt8 := dkwX6_night_8 ++ dktX6_night_9
def dkwX6_night_7 : List UInt8 := [42, 180, 0, 86, 29, 47, 101, 80, 42, 180, 0, 83, 29, 4, 21, 4, 120, 128, 92, 47, 42, 180, 0, 86]
abbrev dktX6_night_7 : List UInt8 := dkwX6_night_7 ++ dktX6_night_8
def dkwX6_night_6 : List UInt8 := [42, 28, 29, 182, 1, 90, 54, 4, 21, 4, 2, 160, 0, 6, 167, 0, 59, 42, 180, 0, 83, 29, 92, 47]
abbrev dktX6_night_6 : List UInt8 := dkwX6_night_6 ++ dktX6_night_7
def dkwX6_night_5 : List UInt8 := [167, 255, 220, 3, 62, 29, 27, 162, 0, 96, 42, 180, 0, 86, 29, 47, 9, 148, 154, 0, 6, 167, 0, 76]
abbrev dktX6_night_5 : List UInt8 := dkwX6_night_5 ++ dktX6_night_6
def dkwX6_night_4 : List UInt8 := [29, 47, 42, 180, 0, 61, 8, 28, 104, 4, 96, 46, 133, 105, 20, 1, 69, 109, 80, 132, 3, 1]
abbrev dktX6_night_4 : List UInt8 := dkwX6_night_4 ++ dktX6_night_5
def dkwX6_night_3 : List UInt8 := [180, 0, 58, 3, 46, 162, 0, 150, 3, 62, 29, 27, 162, 0, 37, 42, 180, 0, 86, 29, 42, 180, 0, 83]
abbrev dktX6_night_3 : List UInt8 := dkwX6_night_3 ++ dktX6_night_4
def dkwX6_night_2 : List UInt8 := [28, 16, 60, 162, 0, 16, 42, 180, 0, 89, 28, 9, 80, 132, 2, 1, 167, 255, 240, 3, 61, 28, 42]
abbrev dktX6_night_2 : List UInt8 := dkwX6_night_2 ++ dktX6_night_3
def dkwX6_night_1 : List UInt8 := [180, 0, 83, 28, 28, 154, 0, 9, 20, 1, 96, 167, 0, 4, 9, 80, 132, 2, 1, 167, 255, 231, 3, 61]
abbrev dktX6_night_1 : List UInt8 := dkwX6_night_1 ++ dktX6_night_2
def dkwX6_night_0 : List UInt8 := [42, 2, 182, 1, 87, 4, 42, 180, 0, 52, 3, 46, 120, 60, 3, 61, 28, 27, 162, 0, 26, 42]
abbrev dktX6_night_0 : List UInt8 := dkwX6_night_0 ++ dktX6_night_1
theorem dksX6_night_0 : cX6_night.data.toList.drop 0 = dktX6_night_0 := by decide +kernel
theorem dksX6_night_1 : cX6_night.data.toList.drop 22 = dktX6_night_1 := dk_seg dksX6_night_0 22 rfl rfl
theorem dksX6_night_2 : cX6_night.data.toList.drop 46 = dktX6_night_2 := dk_seg dksX6_night_1 24 rfl rfl
theorem dksX6_night_3 : cX6_night.data.toList.drop 69 = dktX6_night_3 := dk_seg dksX6_night_2 23 rfl rfl
theorem dksX6_night_4 : cX6_night.data.toList.drop 93 = dktX6_night_4 := dk_seg dksX6_night_3 24 rfl rfl
theorem dksX6_night_5 : cX6_night.data.toList.drop 115 = dktX6_night_5 := dk_seg dksX6_night_4 22 rfl rfl
theorem dksX6_night_6 : cX6_night.data.toList.drop 139 = dktX6_night_6 := dk_seg dksX6_night_5 24 rfl rfl
theorem dksX6_night_7 : cX6_night.data.toList.drop 163 = dktX6_night_7 := dk_seg dksX6_night_6 24 rfl rfl
theorem dksX6_night_8 : cX6_night.data.toList.drop 187 = dktX6_night_8 := dk_seg dksX6_night_7 24 rfl rfl
theorem dksX6_night_9 : cX6_night.data.toList.drop 211 = dktX6_night_9 := dk_seg dksX6_night_8 24 rfl rfl
theorem dX6_night_0 : decode cX6_night 0 = .ok (.aload_n 0, 1) := dk_42 (dk_at dksX6_night_0 0 rfl rfl)
theorem dX6_night_1 : decode cX6_night 1 = .ok (.iconst (-1), 1) := dk_2 (dk_at dksX6_night_0 1 rfl rfl)
theorem dX6_night_2 : decode cX6_night 2 = .ok (.invokevirtual 343, 3) := dk_182 1 87 (dk_at dksX6_night_0 2 rfl rfl)
theorem dX6_night_5 : decode cX6_night 5 = .ok (.iconst 1, 1) := dk_4 (dk_at dksX6_night_0 5 rfl rfl)
theorem dX6_night_6 : decode cX6_night 6 = .ok (.aload_n 0, 1) := dk_42 (dk_at dksX6_night_0 6 rfl rfl)
theorem dX6_night_7 : decode cX6_night 7 = .ok (.getfield 52, 3) := dk_180 0 52 (dk_at dksX6_night_0 7 rfl rfl)
theorem dX6_night_10 : decode cX6_night 10 = .ok (.iconst 0, 1) := dk_3 (dk_at dksX6_night_0 10 rfl rfl)
theorem dX6_night_11 : decode cX6_night 11 = .ok (.iaload, 1) := dk_46 (dk_at dksX6_night_0 11 rfl rfl)
theorem dX6_night_12 : decode cX6_night 12 = .ok (.ishl, 1) := dk_120 (dk_at dksX6_night_0 12 rfl rfl)
theorem dX6_night_13 : decode cX6_night 13 = .ok (.istore_n 1, 1) := dk_60 (dk_at dksX6_night_0 13 rfl rfl)
theorem dX6_night_14 : decode cX6_night 14 = .ok (.iconst 0, 1) := dk_3 (dk_at dksX6_night_0 14 rfl rfl)
theorem dX6_night_15 : decode cX6_night 15 = .ok (.istore_n 2, 1) := dk_61 (dk_at dksX6_night_0 15 rfl rfl)
theorem dX6_night_16 : decode cX6_night 16 = .ok (.iload_n 2, 1) := dk_28 (dk_at dksX6_night_0 16 rfl rfl)
theorem dX6_night_17 : decode cX6_night 17 = .ok (.iload_n 1, 1) := dk_27 (dk_at dksX6_night_0 17 rfl rfl)
theorem dX6_night_18 : decode cX6_night 18 = .ok (.if_icmp .ge 26, 3) := dk_162 0 26 (dk_at dksX6_night_0 18 rfl rfl)
theorem dX6_night_21 : decode cX6_night 21 = .ok (.aload_n 0, 1) := dk_42 (dk_at dksX6_night_0 21 rfl rfl)
theorem dX6_night_22 : decode cX6_night 22 = .ok (.getfield 83, 3) := dk_180 0 83 (dk_at dksX6_night_1 0 rfl rfl)
theorem dX6_night_25 : decode cX6_night 25 = .ok (.iload_n 2, 1) := dk_28 (dk_at dksX6_night_1 3 rfl rfl)
theorem dX6_night_26 : decode cX6_night 26 = .ok (.iload_n 2, 1) := dk_28 (dk_at dksX6_night_1 4 rfl rfl)
theorem dX6_night_27 : decode cX6_night 27 = .ok (.ifCond .ne 9, 3) := dk_154 0 9 (dk_at dksX6_night_1 5 rfl rfl)
theorem dX6_night_30 : decode cX6_night 30 = .ok (.ldc2_w 352, 3) := dk_20 1 96 (dk_at dksX6_night_1 8 rfl rfl)
theorem dX6_night_33 : decode cX6_night 33 = .ok (.goto 4, 3) := dk_167 0 4 (dk_at dksX6_night_1 11 rfl rfl)
theorem dX6_night_36 : decode cX6_night 36 = .ok (.lconst 0, 1) := dk_9 (dk_at dksX6_night_1 14 rfl rfl)
theorem dX6_night_37 : decode cX6_night 37 = .ok (.lastore, 1) := dk_80 (dk_at dksX6_night_1 15 rfl rfl)
theorem dX6_night_38 : decode cX6_night 38 = .ok (.iinc 2 1, 3) := dk_132 2 1 (dk_at dksX6_night_1 16 rfl rfl)
theorem dX6_night_41 : decode cX6_night 41 = .ok (.goto (-25), 3) := dk_167 255 231 (dk_at dksX6_night_1 19 rfl rfl)
theorem dX6_night_44 : decode cX6_night 44 = .ok (.iconst 0, 1) := dk_3 (dk_at dksX6_night_1 22 rfl rfl)
theorem dX6_night_45 : decode cX6_night 45 = .ok (.istore_n 2, 1) := dk_61 (dk_at dksX6_night_1 23 rfl rfl)
theorem dX6_night_46 : decode cX6_night 46 = .ok (.iload_n 2, 1) := dk_28 (dk_at dksX6_night_2 0 rfl rfl)
theorem dX6_night_47 : decode cX6_night 47 = .ok (.bipush 60, 2) := dk_16 60 (dk_at dksX6_night_2 1 rfl rfl)
theorem dX6_night_49 : decode cX6_night 49 = .ok (.if_icmp .ge 16, 3) := dk_162 0 16 (dk_at dksX6_night_2 3 rfl rfl)
theorem dX6_night_52 : decode cX6_night 52 = .ok (.aload_n 0, 1) := dk_42 (dk_at dksX6_night_2 6 rfl rfl)
theorem dX6_night_53 : decode cX6_night 53 = .ok (.getfield 89, 3) := dk_180 0 89 (dk_at dksX6_night_2 7 rfl rfl)
theorem dX6_night_56 : decode cX6_night 56 = .ok (.iload_n 2, 1) := dk_28 (dk_at dksX6_night_2 10 rfl rfl)
theorem dX6_night_57 : decode cX6_night 57 = .ok (.lconst 0, 1) := dk_9 (dk_at dksX6_night_2 11 rfl rfl)
theorem dX6_night_58 : decode cX6_night 58 = .ok (.lastore, 1) := dk_80 (dk_at dksX6_night_2 12 rfl rfl)
theorem dX6_night_59 : decode cX6_night 59 = .ok (.iinc 2 1, 3) := dk_132 2 1 (dk_at dksX6_night_2 13 rfl rfl)
theorem dX6_night_62 : decode cX6_night 62 = .ok (.goto (-16), 3) := dk_167 255 240 (dk_at dksX6_night_2 16 rfl rfl)
theorem dX6_night_65 : decode cX6_night 65 = .ok (.iconst 0, 1) := dk_3 (dk_at dksX6_night_2 19 rfl rfl)
theorem dX6_night_66 : decode cX6_night 66 = .ok (.istore_n 2, 1) := dk_61 (dk_at dksX6_night_2 20 rfl rfl)
theorem dX6_night_67 : decode cX6_night 67 = .ok (.iload_n 2, 1) := dk_28 (dk_at dksX6_night_2 21 rfl rfl)
theorem dX6_night_68 : decode cX6_night 68 = .ok (.aload_n 0, 1) := dk_42 (dk_at dksX6_night_2 22 rfl rfl)
theorem dX6_night_69 : decode cX6_night 69 = .ok (.getfield 58, 3) := dk_180 0 58 (dk_at dksX6_night_3 0 rfl rfl)
theorem dX6_night_72 : decode cX6_night 72 = .ok (.iconst 0, 1) := dk_3 (dk_at dksX6_night_3 3 rfl rfl)
theorem dX6_night_73 : decode cX6_night 73 = .ok (.iaload, 1) := dk_46 (dk_at dksX6_night_3 4 rfl rfl)
theorem dX6_night_74 : decode cX6_night 74 = .ok (.if_icmp .ge 150, 3) := dk_162 0 150 (dk_at dksX6_night_3 5 rfl rfl)
theorem dX6_night_77 : decode cX6_night 77 = .ok (.iconst 0, 1) := dk_3 (dk_at dksX6_night_3 8 rfl rfl)
theorem dX6_night_78 : decode cX6_night 78 = .ok (.istore_n 3, 1) := dk_62 (dk_at dksX6_night_3 9 rfl rfl)
theorem dX6_night_79 : decode cX6_night 79 = .ok (.iload_n 3, 1) := dk_29 (dk_at dksX6_night_3 10 rfl rfl)
theorem dX6_night_80 : decode cX6_night 80 = .ok (.iload_n 1, 1) := dk_27 (dk_at dksX6_night_3 11 rfl rfl)
theorem dX6_night_81 : decode cX6_night 81 = .ok (.if_icmp .ge 37, 3) := dk_162 0 37 (dk_at dksX6_night_3 12 rfl rfl)
theorem dX6_night_84 : decode cX6_night 84 = .ok (.aload_n 0, 1) := dk_42 (dk_at dksX6_night_3 15 rfl rfl)
theorem dX6_night_85 : decode cX6_night 85 = .ok (.getfield 86, 3) := dk_180 0 86 (dk_at dksX6_night_3 16 rfl rfl)
theorem dX6_night_88 : decode cX6_night 88 = .ok (.iload_n 3, 1) := dk_29 (dk_at dksX6_night_3 19 rfl rfl)
theorem dX6_night_89 : decode cX6_night 89 = .ok (.aload_n 0, 1) := dk_42 (dk_at dksX6_night_3 20 rfl rfl)
theorem dX6_night_90 : decode cX6_night 90 = .ok (.getfield 83, 3) := dk_180 0 83 (dk_at dksX6_night_3 21 rfl rfl)
theorem dX6_night_93 : decode cX6_night 93 = .ok (.iload_n 3, 1) := dk_29 (dk_at dksX6_night_4 0 rfl rfl)
theorem dX6_night_94 : decode cX6_night 94 = .ok (.laload, 1) := dk_47 (dk_at dksX6_night_4 1 rfl rfl)
theorem dX6_night_95 : decode cX6_night 95 = .ok (.aload_n 0, 1) := dk_42 (dk_at dksX6_night_4 2 rfl rfl)
theorem dX6_night_96 : decode cX6_night 96 = .ok (.getfield 61, 3) := dk_180 0 61 (dk_at dksX6_night_4 3 rfl rfl)
theorem dX6_night_99 : decode cX6_night 99 = .ok (.iconst 5, 1) := dk_8 (dk_at dksX6_night_4 6 rfl rfl)
theorem dX6_night_100 : decode cX6_night 100 = .ok (.iload_n 2, 1) := dk_28 (dk_at dksX6_night_4 7 rfl rfl)
theorem dX6_night_101 : decode cX6_night 101 = .ok (.imul, 1) := dk_104 (dk_at dksX6_night_4 8 rfl rfl)
theorem dX6_night_102 : decode cX6_night 102 = .ok (.iconst 1, 1) := dk_4 (dk_at dksX6_night_4 9 rfl rfl)
theorem dX6_night_103 : decode cX6_night 103 = .ok (.iadd, 1) := dk_96 (dk_at dksX6_night_4 10 rfl rfl)
theorem dX6_night_104 : decode cX6_night 104 = .ok (.iaload, 1) := dk_46 (dk_at dksX6_night_4 11 rfl rfl)
theorem dX6_night_105 : decode cX6_night 105 = .ok (.i2l, 1) := dk_133 (dk_at dksX6_night_4 12 rfl rfl)
theorem dX6_night_106 : decode cX6_night 106 = .ok (.lmul, 1) := dk_105 (dk_at dksX6_night_4 13 rfl rfl)
theorem dX6_night_107 : decode cX6_night 107 = .ok (.ldc2_w 325, 3) := dk_20 1 69 (dk_at dksX6_night_4 14 rfl rfl)
theorem dX6_night_110 : decode cX6_night 110 = .ok (.ldiv, 1) := dk_109 (dk_at dksX6_night_4 17 rfl rfl)
theorem dX6_night_111 : decode cX6_night 111 = .ok (.lastore, 1) := dk_80 (dk_at dksX6_night_4 18 rfl rfl)
theorem dX6_night_112 : decode cX6_night 112 = .ok (.iinc 3 1, 3) := dk_132 3 1 (dk_at dksX6_night_4 19 rfl rfl)
theorem dX6_night_115 : decode cX6_night 115 = .ok (.goto (-36), 3) := dk_167 255 220 (dk_at dksX6_night_5 0 rfl rfl)
theorem dX6_night_118 : decode cX6_night 118 = .ok (.iconst 0, 1) := dk_3 (dk_at dksX6_night_5 3 rfl rfl)
theorem dX6_night_119 : decode cX6_night 119 = .ok (.istore_n 3, 1) := dk_62 (dk_at dksX6_night_5 4 rfl rfl)
theorem dX6_night_120 : decode cX6_night 120 = .ok (.iload_n 3, 1) := dk_29 (dk_at dksX6_night_5 5 rfl rfl)
theorem dX6_night_121 : decode cX6_night 121 = .ok (.iload_n 1, 1) := dk_27 (dk_at dksX6_night_5 6 rfl rfl)
theorem dX6_night_122 : decode cX6_night 122 = .ok (.if_icmp .ge 96, 3) := dk_162 0 96 (dk_at dksX6_night_5 7 rfl rfl)
theorem dX6_night_125 : decode cX6_night 125 = .ok (.aload_n 0, 1) := dk_42 (dk_at dksX6_night_5 10 rfl rfl)
theorem dX6_night_126 : decode cX6_night 126 = .ok (.getfield 86, 3) := dk_180 0 86 (dk_at dksX6_night_5 11 rfl rfl)
theorem dX6_night_129 : decode cX6_night 129 = .ok (.iload_n 3, 1) := dk_29 (dk_at dksX6_night_5 14 rfl rfl)
theorem dX6_night_130 : decode cX6_night 130 = .ok (.laload, 1) := dk_47 (dk_at dksX6_night_5 15 rfl rfl)
theorem dX6_night_131 : decode cX6_night 131 = .ok (.lconst 0, 1) := dk_9 (dk_at dksX6_night_5 16 rfl rfl)
theorem dX6_night_132 : decode cX6_night 132 = .ok (.lcmp, 1) := dk_148 (dk_at dksX6_night_5 17 rfl rfl)
theorem dX6_night_133 : decode cX6_night 133 = .ok (.ifCond .ne 6, 3) := dk_154 0 6 (dk_at dksX6_night_5 18 rfl rfl)
theorem dX6_night_136 : decode cX6_night 136 = .ok (.goto 76, 3) := dk_167 0 76 (dk_at dksX6_night_5 21 rfl rfl)
theorem dX6_night_139 : decode cX6_night 139 = .ok (.aload_n 0, 1) := dk_42 (dk_at dksX6_night_6 0 rfl rfl)
theorem dX6_night_140 : decode cX6_night 140 = .ok (.iload_n 2, 1) := dk_28 (dk_at dksX6_night_6 1 rfl rfl)
theorem dX6_night_141 : decode cX6_night 141 = .ok (.iload_n 3, 1) := dk_29 (dk_at dksX6_night_6 2 rfl rfl)
theorem dX6_night_142 : decode cX6_night 142 = .ok (.invokevirtual 346, 3) := dk_182 1 90 (dk_at dksX6_night_6 3 rfl rfl)
theorem dX6_night_145 : decode cX6_night 145 = .ok (.istore 4, 2) := dk_54 4 (dk_at dksX6_night_6 6 rfl rfl)
theorem dX6_night_147 : decode cX6_night 147 = .ok (.iload 4, 2) := dk_21 4 (dk_at dksX6_night_6 8 rfl rfl)
theorem dX6_night_149 : decode cX6_night 149 = .ok (.iconst (-1), 1) := dk_2 (dk_at dksX6_night_6 10 rfl rfl)
theorem dX6_night_150 : decode cX6_night 150 = .ok (.if_icmp .ne 6, 3) := dk_160 0 6 (dk_at dksX6_night_6 11 rfl rfl)
theorem dX6_night_153 : decode cX6_night 153 = .ok (.goto 59, 3) := dk_167 0 59 (dk_at dksX6_night_6 14 rfl rfl)
theorem dX6_night_156 : decode cX6_night 156 = .ok (.aload_n 0, 1) := dk_42 (dk_at dksX6_night_6 17 rfl rfl)
theorem dX6_night_157 : decode cX6_night 157 = .ok (.getfield 83, 3) := dk_180 0 83 (dk_at dksX6_night_6 18 rfl rfl)
theorem dX6_night_160 : decode cX6_night 160 = .ok (.iload_n 3, 1) := dk_29 (dk_at dksX6_night_6 21 rfl rfl)
theorem dX6_night_161 : decode cX6_night 161 = .ok (.dup2, 1) := dk_92 (dk_at dksX6_night_6 22 rfl rfl)
theorem dX6_night_162 : decode cX6_night 162 = .ok (.laload, 1) := dk_47 (dk_at dksX6_night_6 23 rfl rfl)
theorem dX6_night_163 : decode cX6_night 163 = .ok (.aload_n 0, 1) := dk_42 (dk_at dksX6_night_7 0 rfl rfl)
theorem dX6_night_164 : decode cX6_night 164 = .ok (.getfield 86, 3) := dk_180 0 86 (dk_at dksX6_night_7 1 rfl rfl)
theorem dX6_night_167 : decode cX6_night 167 = .ok (.iload_n 3, 1) := dk_29 (dk_at dksX6_night_7 4 rfl rfl)
theorem dX6_night_168 : decode cX6_night 168 = .ok (.laload, 1) := dk_47 (dk_at dksX6_night_7 5 rfl rfl)
theorem dX6_night_169 : decode cX6_night 169 = .ok (.lsub, 1) := dk_101 (dk_at dksX6_night_7 6 rfl rfl)
theorem dX6_night_170 : decode cX6_night 170 = .ok (.lastore, 1) := dk_80 (dk_at dksX6_night_7 7 rfl rfl)
theorem dX6_night_171 : decode cX6_night 171 = .ok (.aload_n 0, 1) := dk_42 (dk_at dksX6_night_7 8 rfl rfl)
theorem dX6_night_172 : decode cX6_night 172 = .ok (.getfield 83, 3) := dk_180 0 83 (dk_at dksX6_night_7 9 rfl rfl)
theorem dX6_night_175 : decode cX6_night 175 = .ok (.iload_n 3, 1) := dk_29 (dk_at dksX6_night_7 12 rfl rfl)
theorem dX6_night_176 : decode cX6_night 176 = .ok (.iconst 1, 1) := dk_4 (dk_at dksX6_night_7 13 rfl rfl)
theorem dX6_night_177 : decode cX6_night 177 = .ok (.iload 4, 2) := dk_21 4 (dk_at dksX6_night_7 14 rfl rfl)
theorem dX6_night_179 : decode cX6_night 179 = .ok (.ishl, 1) := dk_120 (dk_at dksX6_night_7 16 rfl rfl)
theorem dX6_night_180 : decode cX6_night 180 = .ok (.ior, 1) := dk_128 (dk_at dksX6_night_7 17 rfl rfl)
theorem dX6_night_181 : decode cX6_night 181 = .ok (.dup2, 1) := dk_92 (dk_at dksX6_night_7 18 rfl rfl)
theorem dX6_night_182 : decode cX6_night 182 = .ok (.laload, 1) := dk_47 (dk_at dksX6_night_7 19 rfl rfl)
theorem dX6_night_183 : decode cX6_night 183 = .ok (.aload_n 0, 1) := dk_42 (dk_at dksX6_night_7 20 rfl rfl)
theorem dX6_night_184 : decode cX6_night 184 = .ok (.getfield 86, 3) := dk_180 0 86 (dk_at dksX6_night_7 21 rfl rfl)
theorem dX6_night_187 : decode cX6_night 187 = .ok (.iload_n 3, 1) := dk_29 (dk_at dksX6_night_8 0 rfl rfl)
theorem dX6_night_188 : decode cX6_night 188 = .ok (.laload, 1) := dk_47 (dk_at dksX6_night_8 1 rfl rfl)
theorem dX6_night_189 : decode cX6_night 189 = .ok (.ladd, 1) := dk_97 (dk_at dksX6_night_8 2 rfl rfl)
theorem dX6_night_190 : decode cX6_night 190 = .ok (.lastore, 1) := dk_80 (dk_at dksX6_night_8 3 rfl rfl)
theorem dX6_night_191 : decode cX6_night 191 = .ok (.aload_n 0, 1) := dk_42 (dk_at dksX6_night_8 4 rfl rfl)
theorem dX6_night_192 : decode cX6_night 192 = .ok (.getfield 89, 3) := dk_180 0 89 (dk_at dksX6_night_8 5 rfl rfl)
theorem dX6_night_195 : decode cX6_night 195 = .ok (.bipush 10, 2) := dk_16 10 (dk_at dksX6_night_8 8 rfl rfl)
theorem dX6_night_197 : decode cX6_night 197 = .ok (.iload_n 2, 1) := dk_28 (dk_at dksX6_night_8 10 rfl rfl)
theorem dX6_night_198 : decode cX6_night 198 = .ok (.imul, 1) := dk_104 (dk_at dksX6_night_8 11 rfl rfl)
theorem dX6_night_199 : decode cX6_night 199 = .ok (.iload 4, 2) := dk_21 4 (dk_at dksX6_night_8 12 rfl rfl)
theorem dX6_night_201 : decode cX6_night 201 = .ok (.iadd, 1) := dk_96 (dk_at dksX6_night_8 14 rfl rfl)
theorem dX6_night_202 : decode cX6_night 202 = .ok (.dup2, 1) := dk_92 (dk_at dksX6_night_8 15 rfl rfl)
theorem dX6_night_203 : decode cX6_night 203 = .ok (.laload, 1) := dk_47 (dk_at dksX6_night_8 16 rfl rfl)
theorem dX6_night_204 : decode cX6_night 204 = .ok (.aload_n 0, 1) := dk_42 (dk_at dksX6_night_8 17 rfl rfl)
theorem dX6_night_205 : decode cX6_night 205 = .ok (.getfield 86, 3) := dk_180 0 86 (dk_at dksX6_night_8 18 rfl rfl)
theorem dX6_night_208 : decode cX6_night 208 = .ok (.iload_n 3, 1) := dk_29 (dk_at dksX6_night_8 21 rfl rfl)
theorem dX6_night_209 : decode cX6_night 209 = .ok (.laload, 1) := dk_47 (dk_at dksX6_night_8 22 rfl rfl)
theorem dX6_night_210 : decode cX6_night 210 = .ok (.ladd, 1) := dk_97 (dk_at dksX6_night_8 23 rfl rfl)
theorem dX6_night_211 : decode cX6_night 211 = .ok (.lastore, 1) := dk_80 (dk_at dksX6_night_9 0 rfl rfl)
theorem dX6_night_212 : decode cX6_night 212 = .ok (.iinc 3 1, 3) := dk_132 3 1 (dk_at dksX6_night_9 1 rfl rfl)
theorem dX6_night_215 : decode cX6_night 215 = .ok (.goto (-95), 3) := dk_167 255 161 (dk_at dksX6_night_9 4 rfl rfl)
theorem dX6_night_218 : decode cX6_night 218 = .ok (.iinc 2 1, 3) := dk_132 2 1 (dk_at dksX6_night_9 7 rfl rfl)
theorem dX6_night_221 : decode cX6_night 221 = .ok (.goto (-154), 3) := dk_167 255 102 (dk_at dksX6_night_9 10 rfl rfl)
theorem dX6_night_224 : decode cX6_night 224 = .ok (.return_, 1) := dk_177 (dk_at dksX6_night_9 13 rfl rfl)
abbrev cX6_many : ByteArray := prog_20_method_61_code
def yX6_many : MethodName := ⟨RX6, "many", "(I)J"⟩
def dkwX6_many_3 : List UInt8 := [21, 4, 47, 167, 0, 4, 9, 97, 65, 132, 4, 1, 167, 255, 217, 32, 173]
abbrev dktX6_many_3 : List UInt8 := dkwX6_many_3 ++ []
def dkwX6_many_2 : List UInt8 := [180, 0, 52, 3, 46, 120, 162, 0, 32, 32, 21, 4, 184, 1, 109, 27, 160, 0, 13, 42, 180, 0, 83]
abbrev dktX6_many_2 : List UInt8 := dkwX6_many_2 ++ dktX6_many_3
def dkwX6_many_1 : List UInt8 := [184, 0, 119, 154, 0, 7, 20, 1, 104, 173, 42, 182, 1, 106, 9, 65, 3, 54, 4, 21, 4, 4, 42]
abbrev dktX6_many_1 : List UInt8 := dkwX6_many_1 ++ dktX6_many_2
def dkwX6_many_0 : List UInt8 := [42, 3, 181, 0, 114, 42, 182, 1, 98, 153, 0, 19, 27, 133, 9, 42, 180, 0, 52, 3, 46, 133]
abbrev dktX6_many_0 : List UInt8 := dkwX6_many_0 ++ dktX6_many_1
theorem dksX6_many_0 : cX6_many.data.toList.drop 0 = dktX6_many_0 := by decide +kernel
theorem dksX6_many_1 : cX6_many.data.toList.drop 22 = dktX6_many_1 := dk_seg dksX6_many_0 22 rfl rfl
theorem dksX6_many_2 : cX6_many.data.toList.drop 45 = dktX6_many_2 := dk_seg dksX6_many_1 23 rfl rfl
theorem dksX6_many_3 : cX6_many.data.toList.drop 68 = dktX6_many_3 := dk_seg dksX6_many_2 23 rfl rfl
theorem dX6_many_0 : decode cX6_many 0 = .ok (.aload_n 0, 1) := dk_42 (dk_at dksX6_many_0 0 rfl rfl)
theorem dX6_many_1 : decode cX6_many 1 = .ok (.iconst 0, 1) := dk_3 (dk_at dksX6_many_0 1 rfl rfl)
theorem dX6_many_2 : decode cX6_many 2 = .ok (.putfield 114, 3) := dk_181 0 114 (dk_at dksX6_many_0 2 rfl rfl)
theorem dX6_many_5 : decode cX6_many 5 = .ok (.aload_n 0, 1) := dk_42 (dk_at dksX6_many_0 5 rfl rfl)
theorem dX6_many_6 : decode cX6_many 6 = .ok (.invokevirtual 354, 3) := dk_182 1 98 (dk_at dksX6_many_0 6 rfl rfl)
theorem dX6_many_9 : decode cX6_many 9 = .ok (.ifCond .eq 19, 3) := dk_153 0 19 (dk_at dksX6_many_0 9 rfl rfl)
theorem dX6_many_12 : decode cX6_many 12 = .ok (.iload_n 1, 1) := dk_27 (dk_at dksX6_many_0 12 rfl rfl)
theorem dX6_many_13 : decode cX6_many 13 = .ok (.i2l, 1) := dk_133 (dk_at dksX6_many_0 13 rfl rfl)
theorem dX6_many_14 : decode cX6_many 14 = .ok (.lconst 0, 1) := dk_9 (dk_at dksX6_many_0 14 rfl rfl)
theorem dX6_many_15 : decode cX6_many 15 = .ok (.aload_n 0, 1) := dk_42 (dk_at dksX6_many_0 15 rfl rfl)
theorem dX6_many_16 : decode cX6_many 16 = .ok (.getfield 52, 3) := dk_180 0 52 (dk_at dksX6_many_0 16 rfl rfl)
theorem dX6_many_19 : decode cX6_many 19 = .ok (.iconst 0, 1) := dk_3 (dk_at dksX6_many_0 19 rfl rfl)
theorem dX6_many_20 : decode cX6_many 20 = .ok (.iaload, 1) := dk_46 (dk_at dksX6_many_0 20 rfl rfl)
theorem dX6_many_21 : decode cX6_many 21 = .ok (.i2l, 1) := dk_133 (dk_at dksX6_many_0 21 rfl rfl)
theorem dX6_many_22 : decode cX6_many 22 = .ok (.invokestatic 119, 3) := dk_184 0 119 (dk_at dksX6_many_1 0 rfl rfl)
theorem dX6_many_25 : decode cX6_many 25 = .ok (.ifCond .ne 7, 3) := dk_154 0 7 (dk_at dksX6_many_1 3 rfl rfl)
theorem dX6_many_28 : decode cX6_many 28 = .ok (.ldc2_w 360, 3) := dk_20 1 104 (dk_at dksX6_many_1 6 rfl rfl)
theorem dX6_many_31 : decode cX6_many 31 = .ok (.lreturn, 1) := dk_173 (dk_at dksX6_many_1 9 rfl rfl)
theorem dX6_many_32 : decode cX6_many 32 = .ok (.aload_n 0, 1) := dk_42 (dk_at dksX6_many_1 10 rfl rfl)
theorem dX6_many_33 : decode cX6_many 33 = .ok (.invokevirtual 362, 3) := dk_182 1 106 (dk_at dksX6_many_1 11 rfl rfl)
theorem dX6_many_36 : decode cX6_many 36 = .ok (.lconst 0, 1) := dk_9 (dk_at dksX6_many_1 14 rfl rfl)
theorem dX6_many_37 : decode cX6_many 37 = .ok (.lstore_n 2, 1) := dk_65 (dk_at dksX6_many_1 15 rfl rfl)
theorem dX6_many_38 : decode cX6_many 38 = .ok (.iconst 0, 1) := dk_3 (dk_at dksX6_many_1 16 rfl rfl)
theorem dX6_many_39 : decode cX6_many 39 = .ok (.istore 4, 2) := dk_54 4 (dk_at dksX6_many_1 17 rfl rfl)
theorem dX6_many_41 : decode cX6_many 41 = .ok (.iload 4, 2) := dk_21 4 (dk_at dksX6_many_1 19 rfl rfl)
theorem dX6_many_43 : decode cX6_many 43 = .ok (.iconst 1, 1) := dk_4 (dk_at dksX6_many_1 21 rfl rfl)
theorem dX6_many_44 : decode cX6_many 44 = .ok (.aload_n 0, 1) := dk_42 (dk_at dksX6_many_1 22 rfl rfl)
theorem dX6_many_45 : decode cX6_many 45 = .ok (.getfield 52, 3) := dk_180 0 52 (dk_at dksX6_many_2 0 rfl rfl)
theorem dX6_many_48 : decode cX6_many 48 = .ok (.iconst 0, 1) := dk_3 (dk_at dksX6_many_2 3 rfl rfl)
theorem dX6_many_49 : decode cX6_many 49 = .ok (.iaload, 1) := dk_46 (dk_at dksX6_many_2 4 rfl rfl)
theorem dX6_many_50 : decode cX6_many 50 = .ok (.ishl, 1) := dk_120 (dk_at dksX6_many_2 5 rfl rfl)
theorem dX6_many_51 : decode cX6_many 51 = .ok (.if_icmp .ge 32, 3) := dk_162 0 32 (dk_at dksX6_many_2 6 rfl rfl)
theorem dX6_many_54 : decode cX6_many 54 = .ok (.lload_n 2, 1) := dk_32 (dk_at dksX6_many_2 9 rfl rfl)
theorem dX6_many_55 : decode cX6_many 55 = .ok (.iload 4, 2) := dk_21 4 (dk_at dksX6_many_2 10 rfl rfl)
theorem dX6_many_57 : decode cX6_many 57 = .ok (.invokestatic 365, 3) := dk_184 1 109 (dk_at dksX6_many_2 12 rfl rfl)
theorem dX6_many_60 : decode cX6_many 60 = .ok (.iload_n 1, 1) := dk_27 (dk_at dksX6_many_2 15 rfl rfl)
theorem dX6_many_61 : decode cX6_many 61 = .ok (.if_icmp .ne 13, 3) := dk_160 0 13 (dk_at dksX6_many_2 16 rfl rfl)
theorem dX6_many_64 : decode cX6_many 64 = .ok (.aload_n 0, 1) := dk_42 (dk_at dksX6_many_2 19 rfl rfl)
theorem dX6_many_65 : decode cX6_many 65 = .ok (.getfield 83, 3) := dk_180 0 83 (dk_at dksX6_many_2 20 rfl rfl)
theorem dX6_many_68 : decode cX6_many 68 = .ok (.iload 4, 2) := dk_21 4 (dk_at dksX6_many_3 0 rfl rfl)
theorem dX6_many_70 : decode cX6_many 70 = .ok (.laload, 1) := dk_47 (dk_at dksX6_many_3 2 rfl rfl)
theorem dX6_many_71 : decode cX6_many 71 = .ok (.goto 4, 3) := dk_167 0 4 (dk_at dksX6_many_3 3 rfl rfl)
theorem dX6_many_74 : decode cX6_many 74 = .ok (.lconst 0, 1) := dk_9 (dk_at dksX6_many_3 6 rfl rfl)
theorem dX6_many_75 : decode cX6_many 75 = .ok (.ladd, 1) := dk_97 (dk_at dksX6_many_3 7 rfl rfl)
theorem dX6_many_76 : decode cX6_many 76 = .ok (.lstore_n 2, 1) := dk_65 (dk_at dksX6_many_3 8 rfl rfl)
theorem dX6_many_77 : decode cX6_many 77 = .ok (.iinc 4 1, 3) := dk_132 4 1 (dk_at dksX6_many_3 9 rfl rfl)
theorem dX6_many_80 : decode cX6_many 80 = .ok (.goto (-39), 3) := dk_167 255 217 (dk_at dksX6_many_3 12 rfl rfl)
theorem dX6_many_83 : decode cX6_many 83 = .ok (.lload_n 2, 1) := dk_32 (dk_at dksX6_many_3 15 rfl rfl)
theorem dX6_many_84 : decode cX6_many 84 = .ok (.lreturn, 1) := dk_173 (dk_at dksX6_many_3 16 rfl rfl)
abbrev cX6_sizeOf : ByteArray := prog_20_method_60_code
def yX6_sizeOf : MethodName := ⟨RX6, "sizeOf", "(I)I"⟩
def dkwX6_sizeOf_0 : List UInt8 := [3, 60, 26, 61, 28, 153, 0, 15, 132, 1, 1, 28, 28, 4, 100, 126, 61, 167, 255, 243, 27, 172]
abbrev dktX6_sizeOf_0 : List UInt8 := dkwX6_sizeOf_0 ++ []
theorem dksX6_sizeOf_0 : cX6_sizeOf.data.toList.drop 0 = dktX6_sizeOf_0 := by decide +kernel
theorem dX6_sizeOf_0 : decode cX6_sizeOf 0 = .ok (.iconst 0, 1) := dk_3 (dk_at dksX6_sizeOf_0 0 rfl rfl)
theorem dX6_sizeOf_1 : decode cX6_sizeOf 1 = .ok (.istore_n 1, 1) := dk_60 (dk_at dksX6_sizeOf_0 1 rfl rfl)
theorem dX6_sizeOf_2 : decode cX6_sizeOf 2 = .ok (.iload_n 0, 1) := dk_26 (dk_at dksX6_sizeOf_0 2 rfl rfl)
theorem dX6_sizeOf_3 : decode cX6_sizeOf 3 = .ok (.istore_n 2, 1) := dk_61 (dk_at dksX6_sizeOf_0 3 rfl rfl)
theorem dX6_sizeOf_4 : decode cX6_sizeOf 4 = .ok (.iload_n 2, 1) := dk_28 (dk_at dksX6_sizeOf_0 4 rfl rfl)
theorem dX6_sizeOf_5 : decode cX6_sizeOf 5 = .ok (.ifCond .eq 15, 3) := dk_153 0 15 (dk_at dksX6_sizeOf_0 5 rfl rfl)
theorem dX6_sizeOf_8 : decode cX6_sizeOf 8 = .ok (.iinc 1 1, 3) := dk_132 1 1 (dk_at dksX6_sizeOf_0 8 rfl rfl)
theorem dX6_sizeOf_11 : decode cX6_sizeOf 11 = .ok (.iload_n 2, 1) := dk_28 (dk_at dksX6_sizeOf_0 11 rfl rfl)
theorem dX6_sizeOf_12 : decode cX6_sizeOf 12 = .ok (.iload_n 2, 1) := dk_28 (dk_at dksX6_sizeOf_0 12 rfl rfl)
theorem dX6_sizeOf_13 : decode cX6_sizeOf 13 = .ok (.iconst 1, 1) := dk_4 (dk_at dksX6_sizeOf_0 13 rfl rfl)
theorem dX6_sizeOf_14 : decode cX6_sizeOf 14 = .ok (.isub, 1) := dk_100 (dk_at dksX6_sizeOf_0 14 rfl rfl)
theorem dX6_sizeOf_15 : decode cX6_sizeOf 15 = .ok (.iand, 1) := dk_126 (dk_at dksX6_sizeOf_0 15 rfl rfl)
theorem dX6_sizeOf_16 : decode cX6_sizeOf 16 = .ok (.istore_n 2, 1) := dk_61 (dk_at dksX6_sizeOf_0 16 rfl rfl)
theorem dX6_sizeOf_17 : decode cX6_sizeOf 17 = .ok (.goto (-13), 3) := dk_167 255 243 (dk_at dksX6_sizeOf_0 17 rfl rfl)
theorem dX6_sizeOf_20 : decode cX6_sizeOf 20 = .ok (.iload_n 1, 1) := dk_27 (dk_at dksX6_sizeOf_0 20 rfl rfl)
theorem dX6_sizeOf_21 : decode cX6_sizeOf 21 = .ok (.ireturn, 1) := dk_172 (dk_at dksX6_sizeOf_0 21 rfl rfl)
abbrev cX6_risk : ByteArray := prog_20_method_64_code
def yX6_risk : MethodName := ⟨RX6, "risk", "(I)J"⟩
def dkwX6_risk_1 : List UInt8 := [173]
abbrev dktX6_risk_1 : List UInt8 := dkwX6_risk_1 ++ []
def dkwX6_risk_0 : List UInt8 := [42, 3, 181, 0, 114, 42, 27, 182, 1, 62, 153, 0, 11, 42, 27, 182, 1, 116, 167, 0, 6, 20, 1, 104]
abbrev dktX6_risk_0 : List UInt8 := dkwX6_risk_0 ++ dktX6_risk_1
theorem dksX6_risk_0 : cX6_risk.data.toList.drop 0 = dktX6_risk_0 := by decide +kernel
theorem dksX6_risk_1 : cX6_risk.data.toList.drop 24 = dktX6_risk_1 := dk_seg dksX6_risk_0 24 rfl rfl
theorem dX6_risk_0 : decode cX6_risk 0 = .ok (.aload_n 0, 1) := dk_42 (dk_at dksX6_risk_0 0 rfl rfl)
theorem dX6_risk_1 : decode cX6_risk 1 = .ok (.iconst 0, 1) := dk_3 (dk_at dksX6_risk_0 1 rfl rfl)
theorem dX6_risk_2 : decode cX6_risk 2 = .ok (.putfield 114, 3) := dk_181 0 114 (dk_at dksX6_risk_0 2 rfl rfl)
theorem dX6_risk_5 : decode cX6_risk 5 = .ok (.aload_n 0, 1) := dk_42 (dk_at dksX6_risk_0 5 rfl rfl)
theorem dX6_risk_6 : decode cX6_risk 6 = .ok (.iload_n 1, 1) := dk_27 (dk_at dksX6_risk_0 6 rfl rfl)
theorem dX6_risk_7 : decode cX6_risk 7 = .ok (.invokevirtual 318, 3) := dk_182 1 62 (dk_at dksX6_risk_0 7 rfl rfl)
theorem dX6_risk_10 : decode cX6_risk 10 = .ok (.ifCond .eq 11, 3) := dk_153 0 11 (dk_at dksX6_risk_0 10 rfl rfl)
theorem dX6_risk_13 : decode cX6_risk 13 = .ok (.aload_n 0, 1) := dk_42 (dk_at dksX6_risk_0 13 rfl rfl)
theorem dX6_risk_14 : decode cX6_risk 14 = .ok (.iload_n 1, 1) := dk_27 (dk_at dksX6_risk_0 14 rfl rfl)
theorem dX6_risk_15 : decode cX6_risk 15 = .ok (.invokevirtual 372, 3) := dk_182 1 116 (dk_at dksX6_risk_0 15 rfl rfl)
theorem dX6_risk_18 : decode cX6_risk 18 = .ok (.goto 6, 3) := dk_167 0 6 (dk_at dksX6_risk_0 18 rfl rfl)
theorem dX6_risk_21 : decode cX6_risk 21 = .ok (.ldc2_w 360, 3) := dk_20 1 104 (dk_at dksX6_risk_0 21 rfl rfl)
theorem dX6_risk_24 : decode cX6_risk 24 = .ok (.lreturn, 1) := dk_173 (dk_at dksX6_risk_1 0 rfl rfl)
abbrev cX6_riskNow : ByteArray := prog_20_method_63_code
def yX6_riskNow : MethodName := ⟨RX6, "riskNow", "(I)J"⟩
def dkwX6_riskNow_0 : List UInt8 := [42, 182, 1, 106, 42, 27, 182, 1, 112, 173]
abbrev dktX6_riskNow_0 : List UInt8 := dkwX6_riskNow_0 ++ []
theorem dksX6_riskNow_0 : cX6_riskNow.data.toList.drop 0 = dktX6_riskNow_0 := by decide +kernel
theorem dX6_riskNow_0 : decode cX6_riskNow 0 = .ok (.aload_n 0, 1) := dk_42 (dk_at dksX6_riskNow_0 0 rfl rfl)
theorem dX6_riskNow_1 : decode cX6_riskNow 1 = .ok (.invokevirtual 362, 3) := dk_182 1 106 (dk_at dksX6_riskNow_0 1 rfl rfl)
theorem dX6_riskNow_4 : decode cX6_riskNow 4 = .ok (.aload_n 0, 1) := dk_42 (dk_at dksX6_riskNow_0 4 rfl rfl)
theorem dX6_riskNow_5 : decode cX6_riskNow 5 = .ok (.iload_n 1, 1) := dk_27 (dk_at dksX6_riskNow_0 5 rfl rfl)
theorem dX6_riskNow_6 : decode cX6_riskNow 6 = .ok (.invokevirtual 368, 3) := dk_182 1 112 (dk_at dksX6_riskNow_0 6 rfl rfl)
theorem dX6_riskNow_9 : decode cX6_riskNow 9 = .ok (.lreturn, 1) := dk_173 (dk_at dksX6_riskNow_0 9 rfl rfl)
abbrev cX6_riskOf : ByteArray := prog_20_method_62_code
def yX6_riskOf : MethodName := ⟨RX6, "riskOf", "(I)J"⟩
def dkwX6_riskOf_2 : List UInt8 := [32, 173]
abbrev dktX6_riskOf_2 : List UInt8 := dkwX6_riskOf_2 ++ []
def dkwX6_riskOf_1 : List UInt8 := [126, 4, 160, 0, 13, 42, 180, 0, 83, 21, 4, 47, 167, 0, 4, 9, 97, 65, 132, 4, 1, 167, 255, 216]
abbrev dktX6_riskOf_1 : List UInt8 := dkwX6_riskOf_1 ++ dktX6_riskOf_2
def dkwX6_riskOf_0 : List UInt8 := [9, 65, 3, 54, 4, 21, 4, 4, 42, 180, 0, 52, 3, 46, 120, 162, 0, 33, 32, 21, 4, 27, 122, 4]
abbrev dktX6_riskOf_0 : List UInt8 := dkwX6_riskOf_0 ++ dktX6_riskOf_1
theorem dksX6_riskOf_0 : cX6_riskOf.data.toList.drop 0 = dktX6_riskOf_0 := by decide +kernel
theorem dksX6_riskOf_1 : cX6_riskOf.data.toList.drop 24 = dktX6_riskOf_1 := dk_seg dksX6_riskOf_0 24 rfl rfl
theorem dksX6_riskOf_2 : cX6_riskOf.data.toList.drop 48 = dktX6_riskOf_2 := dk_seg dksX6_riskOf_1 24 rfl rfl
theorem dX6_riskOf_0 : decode cX6_riskOf 0 = .ok (.lconst 0, 1) := dk_9 (dk_at dksX6_riskOf_0 0 rfl rfl)
theorem dX6_riskOf_1 : decode cX6_riskOf 1 = .ok (.lstore_n 2, 1) := dk_65 (dk_at dksX6_riskOf_0 1 rfl rfl)
theorem dX6_riskOf_2 : decode cX6_riskOf 2 = .ok (.iconst 0, 1) := dk_3 (dk_at dksX6_riskOf_0 2 rfl rfl)
theorem dX6_riskOf_3 : decode cX6_riskOf 3 = .ok (.istore 4, 2) := dk_54 4 (dk_at dksX6_riskOf_0 3 rfl rfl)
theorem dX6_riskOf_5 : decode cX6_riskOf 5 = .ok (.iload 4, 2) := dk_21 4 (dk_at dksX6_riskOf_0 5 rfl rfl)
theorem dX6_riskOf_7 : decode cX6_riskOf 7 = .ok (.iconst 1, 1) := dk_4 (dk_at dksX6_riskOf_0 7 rfl rfl)
theorem dX6_riskOf_8 : decode cX6_riskOf 8 = .ok (.aload_n 0, 1) := dk_42 (dk_at dksX6_riskOf_0 8 rfl rfl)
theorem dX6_riskOf_9 : decode cX6_riskOf 9 = .ok (.getfield 52, 3) := dk_180 0 52 (dk_at dksX6_riskOf_0 9 rfl rfl)
theorem dX6_riskOf_12 : decode cX6_riskOf 12 = .ok (.iconst 0, 1) := dk_3 (dk_at dksX6_riskOf_0 12 rfl rfl)
theorem dX6_riskOf_13 : decode cX6_riskOf 13 = .ok (.iaload, 1) := dk_46 (dk_at dksX6_riskOf_0 13 rfl rfl)
theorem dX6_riskOf_14 : decode cX6_riskOf 14 = .ok (.ishl, 1) := dk_120 (dk_at dksX6_riskOf_0 14 rfl rfl)
theorem dX6_riskOf_15 : decode cX6_riskOf 15 = .ok (.if_icmp .ge 33, 3) := dk_162 0 33 (dk_at dksX6_riskOf_0 15 rfl rfl)
theorem dX6_riskOf_18 : decode cX6_riskOf 18 = .ok (.lload_n 2, 1) := dk_32 (dk_at dksX6_riskOf_0 18 rfl rfl)
theorem dX6_riskOf_19 : decode cX6_riskOf 19 = .ok (.iload 4, 2) := dk_21 4 (dk_at dksX6_riskOf_0 19 rfl rfl)
theorem dX6_riskOf_21 : decode cX6_riskOf 21 = .ok (.iload_n 1, 1) := dk_27 (dk_at dksX6_riskOf_0 21 rfl rfl)
theorem dX6_riskOf_22 : decode cX6_riskOf 22 = .ok (.ishr, 1) := dk_122 (dk_at dksX6_riskOf_0 22 rfl rfl)
theorem dX6_riskOf_23 : decode cX6_riskOf 23 = .ok (.iconst 1, 1) := dk_4 (dk_at dksX6_riskOf_0 23 rfl rfl)
theorem dX6_riskOf_24 : decode cX6_riskOf 24 = .ok (.iand, 1) := dk_126 (dk_at dksX6_riskOf_1 0 rfl rfl)
theorem dX6_riskOf_25 : decode cX6_riskOf 25 = .ok (.iconst 1, 1) := dk_4 (dk_at dksX6_riskOf_1 1 rfl rfl)
theorem dX6_riskOf_26 : decode cX6_riskOf 26 = .ok (.if_icmp .ne 13, 3) := dk_160 0 13 (dk_at dksX6_riskOf_1 2 rfl rfl)
theorem dX6_riskOf_29 : decode cX6_riskOf 29 = .ok (.aload_n 0, 1) := dk_42 (dk_at dksX6_riskOf_1 5 rfl rfl)
theorem dX6_riskOf_30 : decode cX6_riskOf 30 = .ok (.getfield 83, 3) := dk_180 0 83 (dk_at dksX6_riskOf_1 6 rfl rfl)
theorem dX6_riskOf_33 : decode cX6_riskOf 33 = .ok (.iload 4, 2) := dk_21 4 (dk_at dksX6_riskOf_1 9 rfl rfl)
theorem dX6_riskOf_35 : decode cX6_riskOf 35 = .ok (.laload, 1) := dk_47 (dk_at dksX6_riskOf_1 11 rfl rfl)
theorem dX6_riskOf_36 : decode cX6_riskOf 36 = .ok (.goto 4, 3) := dk_167 0 4 (dk_at dksX6_riskOf_1 12 rfl rfl)
theorem dX6_riskOf_39 : decode cX6_riskOf 39 = .ok (.lconst 0, 1) := dk_9 (dk_at dksX6_riskOf_1 15 rfl rfl)
theorem dX6_riskOf_40 : decode cX6_riskOf 40 = .ok (.ladd, 1) := dk_97 (dk_at dksX6_riskOf_1 16 rfl rfl)
theorem dX6_riskOf_41 : decode cX6_riskOf 41 = .ok (.lstore_n 2, 1) := dk_65 (dk_at dksX6_riskOf_1 17 rfl rfl)
theorem dX6_riskOf_42 : decode cX6_riskOf 42 = .ok (.iinc 4 1, 3) := dk_132 4 1 (dk_at dksX6_riskOf_1 18 rfl rfl)
theorem dX6_riskOf_45 : decode cX6_riskOf 45 = .ok (.goto (-40), 3) := dk_167 255 216 (dk_at dksX6_riskOf_1 21 rfl rfl)
theorem dX6_riskOf_48 : decode cX6_riskOf 48 = .ok (.lload_n 2, 1) := dk_32 (dk_at dksX6_riskOf_2 0 rfl rfl)
theorem dX6_riskOf_49 : decode cX6_riskOf 49 = .ok (.lreturn, 1) := dk_173 (dk_at dksX6_riskOf_2 1 rfl rfl)
abbrev cX6_has : ByteArray := prog_20_method_65_code
def yX6_has : MethodName := ⟨RX6, "has", "(II)J"⟩
def dkwX6_has_1 : List UInt8 := [173, 42, 182, 1, 106, 42, 180, 0, 89, 16, 10, 27, 104, 28, 96, 47, 173]
abbrev dktX6_has_1 : List UInt8 := dkwX6_has_1 ++ []
def dkwX6_has_0 : List UInt8 := [42, 3, 181, 0, 114, 42, 27, 182, 1, 74, 153, 0, 11, 42, 28, 182, 1, 62, 154, 0, 7, 20, 1, 104]
abbrev dktX6_has_0 : List UInt8 := dkwX6_has_0 ++ dktX6_has_1
theorem dksX6_has_0 : cX6_has.data.toList.drop 0 = dktX6_has_0 := by decide +kernel
theorem dksX6_has_1 : cX6_has.data.toList.drop 24 = dktX6_has_1 := dk_seg dksX6_has_0 24 rfl rfl
theorem dX6_has_0 : decode cX6_has 0 = .ok (.aload_n 0, 1) := dk_42 (dk_at dksX6_has_0 0 rfl rfl)
theorem dX6_has_1 : decode cX6_has 1 = .ok (.iconst 0, 1) := dk_3 (dk_at dksX6_has_0 1 rfl rfl)
theorem dX6_has_2 : decode cX6_has 2 = .ok (.putfield 114, 3) := dk_181 0 114 (dk_at dksX6_has_0 2 rfl rfl)
theorem dX6_has_5 : decode cX6_has 5 = .ok (.aload_n 0, 1) := dk_42 (dk_at dksX6_has_0 5 rfl rfl)
theorem dX6_has_6 : decode cX6_has 6 = .ok (.iload_n 1, 1) := dk_27 (dk_at dksX6_has_0 6 rfl rfl)
theorem dX6_has_7 : decode cX6_has 7 = .ok (.invokevirtual 330, 3) := dk_182 1 74 (dk_at dksX6_has_0 7 rfl rfl)
theorem dX6_has_10 : decode cX6_has 10 = .ok (.ifCond .eq 11, 3) := dk_153 0 11 (dk_at dksX6_has_0 10 rfl rfl)
theorem dX6_has_13 : decode cX6_has 13 = .ok (.aload_n 0, 1) := dk_42 (dk_at dksX6_has_0 13 rfl rfl)
theorem dX6_has_14 : decode cX6_has 14 = .ok (.iload_n 2, 1) := dk_28 (dk_at dksX6_has_0 14 rfl rfl)
theorem dX6_has_15 : decode cX6_has 15 = .ok (.invokevirtual 318, 3) := dk_182 1 62 (dk_at dksX6_has_0 15 rfl rfl)
theorem dX6_has_18 : decode cX6_has 18 = .ok (.ifCond .ne 7, 3) := dk_154 0 7 (dk_at dksX6_has_0 18 rfl rfl)
theorem dX6_has_21 : decode cX6_has 21 = .ok (.ldc2_w 360, 3) := dk_20 1 104 (dk_at dksX6_has_0 21 rfl rfl)
theorem dX6_has_24 : decode cX6_has 24 = .ok (.lreturn, 1) := dk_173 (dk_at dksX6_has_1 0 rfl rfl)
theorem dX6_has_25 : decode cX6_has 25 = .ok (.aload_n 0, 1) := dk_42 (dk_at dksX6_has_1 1 rfl rfl)
theorem dX6_has_26 : decode cX6_has 26 = .ok (.invokevirtual 362, 3) := dk_182 1 106 (dk_at dksX6_has_1 2 rfl rfl)
theorem dX6_has_29 : decode cX6_has 29 = .ok (.aload_n 0, 1) := dk_42 (dk_at dksX6_has_1 5 rfl rfl)
theorem dX6_has_30 : decode cX6_has 30 = .ok (.getfield 89, 3) := dk_180 0 89 (dk_at dksX6_has_1 6 rfl rfl)
theorem dX6_has_33 : decode cX6_has 33 = .ok (.bipush 10, 2) := dk_16 10 (dk_at dksX6_has_1 9 rfl rfl)
theorem dX6_has_35 : decode cX6_has 35 = .ok (.iload_n 1, 1) := dk_27 (dk_at dksX6_has_1 11 rfl rfl)
theorem dX6_has_36 : decode cX6_has 36 = .ok (.imul, 1) := dk_104 (dk_at dksX6_has_1 12 rfl rfl)
theorem dX6_has_37 : decode cX6_has 37 = .ok (.iload_n 2, 1) := dk_28 (dk_at dksX6_has_1 13 rfl rfl)
theorem dX6_has_38 : decode cX6_has 38 = .ok (.iadd, 1) := dk_96 (dk_at dksX6_has_1 14 rfl rfl)
theorem dX6_has_39 : decode cX6_has 39 = .ok (.laload, 1) := dk_47 (dk_at dksX6_has_1 15 rfl rfl)
theorem dX6_has_40 : decode cX6_has 40 = .ok (.lreturn, 1) := dk_173 (dk_at dksX6_has_1 16 rfl rfl)
abbrev cX6_cost : ByteArray := prog_20_method_71_code
def yX6_cost : MethodName := ⟨RX6, "cost", "(II)J"⟩
def dkwX6_cost_1 : List UInt8 := [154, 0, 7, 20, 1, 104, 173, 42, 182, 1, 106, 42, 27, 28, 182, 1, 138, 173]
abbrev dktX6_cost_1 : List UInt8 := dkwX6_cost_1 ++ []
def dkwX6_cost_0 : List UInt8 := [42, 3, 181, 0, 114, 42, 27, 182, 1, 62, 153, 0, 15, 28, 133, 9, 20, 1, 136, 184, 0, 119]
abbrev dktX6_cost_0 : List UInt8 := dkwX6_cost_0 ++ dktX6_cost_1
theorem dksX6_cost_0 : cX6_cost.data.toList.drop 0 = dktX6_cost_0 := by decide +kernel
theorem dksX6_cost_1 : cX6_cost.data.toList.drop 22 = dktX6_cost_1 := dk_seg dksX6_cost_0 22 rfl rfl
theorem dX6_cost_0 : decode cX6_cost 0 = .ok (.aload_n 0, 1) := dk_42 (dk_at dksX6_cost_0 0 rfl rfl)
theorem dX6_cost_1 : decode cX6_cost 1 = .ok (.iconst 0, 1) := dk_3 (dk_at dksX6_cost_0 1 rfl rfl)
theorem dX6_cost_2 : decode cX6_cost 2 = .ok (.putfield 114, 3) := dk_181 0 114 (dk_at dksX6_cost_0 2 rfl rfl)
theorem dX6_cost_5 : decode cX6_cost 5 = .ok (.aload_n 0, 1) := dk_42 (dk_at dksX6_cost_0 5 rfl rfl)
theorem dX6_cost_6 : decode cX6_cost 6 = .ok (.iload_n 1, 1) := dk_27 (dk_at dksX6_cost_0 6 rfl rfl)
theorem dX6_cost_7 : decode cX6_cost 7 = .ok (.invokevirtual 318, 3) := dk_182 1 62 (dk_at dksX6_cost_0 7 rfl rfl)
theorem dX6_cost_10 : decode cX6_cost 10 = .ok (.ifCond .eq 15, 3) := dk_153 0 15 (dk_at dksX6_cost_0 10 rfl rfl)
theorem dX6_cost_13 : decode cX6_cost 13 = .ok (.iload_n 2, 1) := dk_28 (dk_at dksX6_cost_0 13 rfl rfl)
theorem dX6_cost_14 : decode cX6_cost 14 = .ok (.i2l, 1) := dk_133 (dk_at dksX6_cost_0 14 rfl rfl)
theorem dX6_cost_15 : decode cX6_cost 15 = .ok (.lconst 0, 1) := dk_9 (dk_at dksX6_cost_0 15 rfl rfl)
theorem dX6_cost_16 : decode cX6_cost 16 = .ok (.ldc2_w 392, 3) := dk_20 1 136 (dk_at dksX6_cost_0 16 rfl rfl)
theorem dX6_cost_19 : decode cX6_cost 19 = .ok (.invokestatic 119, 3) := dk_184 0 119 (dk_at dksX6_cost_0 19 rfl rfl)
theorem dX6_cost_22 : decode cX6_cost 22 = .ok (.ifCond .ne 7, 3) := dk_154 0 7 (dk_at dksX6_cost_1 0 rfl rfl)
theorem dX6_cost_25 : decode cX6_cost 25 = .ok (.ldc2_w 360, 3) := dk_20 1 104 (dk_at dksX6_cost_1 3 rfl rfl)
theorem dX6_cost_28 : decode cX6_cost 28 = .ok (.lreturn, 1) := dk_173 (dk_at dksX6_cost_1 6 rfl rfl)
theorem dX6_cost_29 : decode cX6_cost 29 = .ok (.aload_n 0, 1) := dk_42 (dk_at dksX6_cost_1 7 rfl rfl)
theorem dX6_cost_30 : decode cX6_cost 30 = .ok (.invokevirtual 362, 3) := dk_182 1 106 (dk_at dksX6_cost_1 8 rfl rfl)
theorem dX6_cost_33 : decode cX6_cost 33 = .ok (.aload_n 0, 1) := dk_42 (dk_at dksX6_cost_1 11 rfl rfl)
theorem dX6_cost_34 : decode cX6_cost 34 = .ok (.iload_n 1, 1) := dk_27 (dk_at dksX6_cost_1 12 rfl rfl)
theorem dX6_cost_35 : decode cX6_cost 35 = .ok (.iload_n 2, 1) := dk_28 (dk_at dksX6_cost_1 13 rfl rfl)
theorem dX6_cost_36 : decode cX6_cost 36 = .ok (.invokevirtual 394, 3) := dk_182 1 138 (dk_at dksX6_cost_1 14 rfl rfl)
theorem dX6_cost_39 : decode cX6_cost 39 = .ok (.lreturn, 1) := dk_173 (dk_at dksX6_cost_1 17 rfl rfl)
abbrev cX6_whatOf : ByteArray := prog_20_method_70_code
def yX6_whatOf : MethodName := ⟨RX6, "whatOf", "(II)J"⟩
def dkwX6_whatOf_1 : List UInt8 := [167, 0, 8, 42, 27, 182, 1, 133, 173]
abbrev dktX6_whatOf_1 : List UInt8 := dkwX6_whatOf_1 ++ []
def dkwX6_whatOf_0 : List UInt8 := [28, 154, 0, 11, 42, 27, 182, 1, 123, 167, 0, 21, 28, 4, 160, 0, 11, 42, 27, 182, 1, 126]
abbrev dktX6_whatOf_0 : List UInt8 := dkwX6_whatOf_0 ++ dktX6_whatOf_1
theorem dksX6_whatOf_0 : cX6_whatOf.data.toList.drop 0 = dktX6_whatOf_0 := by decide +kernel
theorem dksX6_whatOf_1 : cX6_whatOf.data.toList.drop 22 = dktX6_whatOf_1 := dk_seg dksX6_whatOf_0 22 rfl rfl
theorem dX6_whatOf_0 : decode cX6_whatOf 0 = .ok (.iload_n 2, 1) := dk_28 (dk_at dksX6_whatOf_0 0 rfl rfl)
theorem dX6_whatOf_1 : decode cX6_whatOf 1 = .ok (.ifCond .ne 11, 3) := dk_154 0 11 (dk_at dksX6_whatOf_0 1 rfl rfl)
theorem dX6_whatOf_4 : decode cX6_whatOf 4 = .ok (.aload_n 0, 1) := dk_42 (dk_at dksX6_whatOf_0 4 rfl rfl)
theorem dX6_whatOf_5 : decode cX6_whatOf 5 = .ok (.iload_n 1, 1) := dk_27 (dk_at dksX6_whatOf_0 5 rfl rfl)
theorem dX6_whatOf_6 : decode cX6_whatOf 6 = .ok (.invokevirtual 379, 3) := dk_182 1 123 (dk_at dksX6_whatOf_0 6 rfl rfl)
theorem dX6_whatOf_9 : decode cX6_whatOf 9 = .ok (.goto 21, 3) := dk_167 0 21 (dk_at dksX6_whatOf_0 9 rfl rfl)
theorem dX6_whatOf_12 : decode cX6_whatOf 12 = .ok (.iload_n 2, 1) := dk_28 (dk_at dksX6_whatOf_0 12 rfl rfl)
theorem dX6_whatOf_13 : decode cX6_whatOf 13 = .ok (.iconst 1, 1) := dk_4 (dk_at dksX6_whatOf_0 13 rfl rfl)
theorem dX6_whatOf_14 : decode cX6_whatOf 14 = .ok (.if_icmp .ne 11, 3) := dk_160 0 11 (dk_at dksX6_whatOf_0 14 rfl rfl)
theorem dX6_whatOf_17 : decode cX6_whatOf 17 = .ok (.aload_n 0, 1) := dk_42 (dk_at dksX6_whatOf_0 17 rfl rfl)
theorem dX6_whatOf_18 : decode cX6_whatOf 18 = .ok (.iload_n 1, 1) := dk_27 (dk_at dksX6_whatOf_0 18 rfl rfl)
theorem dX6_whatOf_19 : decode cX6_whatOf 19 = .ok (.invokevirtual 382, 3) := dk_182 1 126 (dk_at dksX6_whatOf_0 19 rfl rfl)
theorem dX6_whatOf_22 : decode cX6_whatOf 22 = .ok (.goto 8, 3) := dk_167 0 8 (dk_at dksX6_whatOf_1 0 rfl rfl)
theorem dX6_whatOf_25 : decode cX6_whatOf 25 = .ok (.aload_n 0, 1) := dk_42 (dk_at dksX6_whatOf_1 3 rfl rfl)
theorem dX6_whatOf_26 : decode cX6_whatOf 26 = .ok (.iload_n 1, 1) := dk_27 (dk_at dksX6_whatOf_1 4 rfl rfl)
theorem dX6_whatOf_27 : decode cX6_whatOf 27 = .ok (.invokevirtual 389, 3) := dk_182 1 133 (dk_at dksX6_whatOf_1 5 rfl rfl)
theorem dX6_whatOf_30 : decode cX6_whatOf 30 = .ok (.lreturn, 1) := dk_173 (dk_at dksX6_whatOf_1 8 rfl rfl)
abbrev cX6_paidOf : ByteArray := prog_20_method_66_code
def yX6_paidOf : MethodName := ⟨RX6, "paidOf", "(I)J"⟩
def dkwX6_paidOf_2 : List UInt8 := [96, 46, 4, 160, 0, 12, 42, 180, 0, 64, 3, 46, 167, 0, 4, 3, 96, 133, 105, 173]
abbrev dktX6_paidOf_2 : List UInt8 := dkwX6_paidOf_2 ++ []
def dkwX6_paidOf_1 : List UInt8 := [167, 0, 18, 42, 180, 0, 49, 7, 42, 180, 0, 55, 28, 6, 96, 46, 104, 46, 42, 180, 0, 55, 28, 7]
abbrev dktX6_paidOf_1 : List UInt8 := dkwX6_paidOf_1 ++ dktX6_paidOf_2
def dkwX6_paidOf_0 : List UInt8 := [3, 27, 184, 1, 67, 61, 20, 1, 119, 42, 180, 0, 55, 28, 6, 96, 46, 2, 160, 0, 7, 3]
abbrev dktX6_paidOf_0 : List UInt8 := dkwX6_paidOf_0 ++ dktX6_paidOf_1
theorem dksX6_paidOf_0 : cX6_paidOf.data.toList.drop 0 = dktX6_paidOf_0 := by decide +kernel
theorem dksX6_paidOf_1 : cX6_paidOf.data.toList.drop 22 = dktX6_paidOf_1 := dk_seg dksX6_paidOf_0 22 rfl rfl
theorem dksX6_paidOf_2 : cX6_paidOf.data.toList.drop 46 = dktX6_paidOf_2 := dk_seg dksX6_paidOf_1 24 rfl rfl
theorem dX6_paidOf_0 : decode cX6_paidOf 0 = .ok (.iconst 0, 1) := dk_3 (dk_at dksX6_paidOf_0 0 rfl rfl)
theorem dX6_paidOf_1 : decode cX6_paidOf 1 = .ok (.iload_n 1, 1) := dk_27 (dk_at dksX6_paidOf_0 1 rfl rfl)
theorem dX6_paidOf_2 : decode cX6_paidOf 2 = .ok (.invokestatic 323, 3) := dk_184 1 67 (dk_at dksX6_paidOf_0 2 rfl rfl)
theorem dX6_paidOf_5 : decode cX6_paidOf 5 = .ok (.istore_n 2, 1) := dk_61 (dk_at dksX6_paidOf_0 5 rfl rfl)
theorem dX6_paidOf_6 : decode cX6_paidOf 6 = .ok (.ldc2_w 375, 3) := dk_20 1 119 (dk_at dksX6_paidOf_0 6 rfl rfl)
theorem dX6_paidOf_9 : decode cX6_paidOf 9 = .ok (.aload_n 0, 1) := dk_42 (dk_at dksX6_paidOf_0 9 rfl rfl)
theorem dX6_paidOf_10 : decode cX6_paidOf 10 = .ok (.getfield 55, 3) := dk_180 0 55 (dk_at dksX6_paidOf_0 10 rfl rfl)
theorem dX6_paidOf_13 : decode cX6_paidOf 13 = .ok (.iload_n 2, 1) := dk_28 (dk_at dksX6_paidOf_0 13 rfl rfl)
theorem dX6_paidOf_14 : decode cX6_paidOf 14 = .ok (.iconst 3, 1) := dk_6 (dk_at dksX6_paidOf_0 14 rfl rfl)
theorem dX6_paidOf_15 : decode cX6_paidOf 15 = .ok (.iadd, 1) := dk_96 (dk_at dksX6_paidOf_0 15 rfl rfl)
theorem dX6_paidOf_16 : decode cX6_paidOf 16 = .ok (.iaload, 1) := dk_46 (dk_at dksX6_paidOf_0 16 rfl rfl)
theorem dX6_paidOf_17 : decode cX6_paidOf 17 = .ok (.iconst (-1), 1) := dk_2 (dk_at dksX6_paidOf_0 17 rfl rfl)
theorem dX6_paidOf_18 : decode cX6_paidOf 18 = .ok (.if_icmp .ne 7, 3) := dk_160 0 7 (dk_at dksX6_paidOf_0 18 rfl rfl)
theorem dX6_paidOf_21 : decode cX6_paidOf 21 = .ok (.iconst 0, 1) := dk_3 (dk_at dksX6_paidOf_0 21 rfl rfl)
theorem dX6_paidOf_22 : decode cX6_paidOf 22 = .ok (.goto 18, 3) := dk_167 0 18 (dk_at dksX6_paidOf_1 0 rfl rfl)
theorem dX6_paidOf_25 : decode cX6_paidOf 25 = .ok (.aload_n 0, 1) := dk_42 (dk_at dksX6_paidOf_1 3 rfl rfl)
theorem dX6_paidOf_26 : decode cX6_paidOf 26 = .ok (.getfield 49, 3) := dk_180 0 49 (dk_at dksX6_paidOf_1 4 rfl rfl)
theorem dX6_paidOf_29 : decode cX6_paidOf 29 = .ok (.iconst 4, 1) := dk_7 (dk_at dksX6_paidOf_1 7 rfl rfl)
theorem dX6_paidOf_30 : decode cX6_paidOf 30 = .ok (.aload_n 0, 1) := dk_42 (dk_at dksX6_paidOf_1 8 rfl rfl)
theorem dX6_paidOf_31 : decode cX6_paidOf 31 = .ok (.getfield 55, 3) := dk_180 0 55 (dk_at dksX6_paidOf_1 9 rfl rfl)
theorem dX6_paidOf_34 : decode cX6_paidOf 34 = .ok (.iload_n 2, 1) := dk_28 (dk_at dksX6_paidOf_1 12 rfl rfl)
theorem dX6_paidOf_35 : decode cX6_paidOf 35 = .ok (.iconst 3, 1) := dk_6 (dk_at dksX6_paidOf_1 13 rfl rfl)
theorem dX6_paidOf_36 : decode cX6_paidOf 36 = .ok (.iadd, 1) := dk_96 (dk_at dksX6_paidOf_1 14 rfl rfl)
theorem dX6_paidOf_37 : decode cX6_paidOf 37 = .ok (.iaload, 1) := dk_46 (dk_at dksX6_paidOf_1 15 rfl rfl)
theorem dX6_paidOf_38 : decode cX6_paidOf 38 = .ok (.imul, 1) := dk_104 (dk_at dksX6_paidOf_1 16 rfl rfl)
theorem dX6_paidOf_39 : decode cX6_paidOf 39 = .ok (.iaload, 1) := dk_46 (dk_at dksX6_paidOf_1 17 rfl rfl)
theorem dX6_paidOf_40 : decode cX6_paidOf 40 = .ok (.aload_n 0, 1) := dk_42 (dk_at dksX6_paidOf_1 18 rfl rfl)
theorem dX6_paidOf_41 : decode cX6_paidOf 41 = .ok (.getfield 55, 3) := dk_180 0 55 (dk_at dksX6_paidOf_1 19 rfl rfl)
theorem dX6_paidOf_44 : decode cX6_paidOf 44 = .ok (.iload_n 2, 1) := dk_28 (dk_at dksX6_paidOf_1 22 rfl rfl)
theorem dX6_paidOf_45 : decode cX6_paidOf 45 = .ok (.iconst 4, 1) := dk_7 (dk_at dksX6_paidOf_1 23 rfl rfl)
theorem dX6_paidOf_46 : decode cX6_paidOf 46 = .ok (.iadd, 1) := dk_96 (dk_at dksX6_paidOf_2 0 rfl rfl)
theorem dX6_paidOf_47 : decode cX6_paidOf 47 = .ok (.iaload, 1) := dk_46 (dk_at dksX6_paidOf_2 1 rfl rfl)
theorem dX6_paidOf_48 : decode cX6_paidOf 48 = .ok (.iconst 1, 1) := dk_4 (dk_at dksX6_paidOf_2 2 rfl rfl)
theorem dX6_paidOf_49 : decode cX6_paidOf 49 = .ok (.if_icmp .ne 12, 3) := dk_160 0 12 (dk_at dksX6_paidOf_2 3 rfl rfl)
theorem dX6_paidOf_52 : decode cX6_paidOf 52 = .ok (.aload_n 0, 1) := dk_42 (dk_at dksX6_paidOf_2 6 rfl rfl)
theorem dX6_paidOf_53 : decode cX6_paidOf 53 = .ok (.getfield 64, 3) := dk_180 0 64 (dk_at dksX6_paidOf_2 7 rfl rfl)
theorem dX6_paidOf_56 : decode cX6_paidOf 56 = .ok (.iconst 0, 1) := dk_3 (dk_at dksX6_paidOf_2 10 rfl rfl)
theorem dX6_paidOf_57 : decode cX6_paidOf 57 = .ok (.iaload, 1) := dk_46 (dk_at dksX6_paidOf_2 11 rfl rfl)
theorem dX6_paidOf_58 : decode cX6_paidOf 58 = .ok (.goto 4, 3) := dk_167 0 4 (dk_at dksX6_paidOf_2 12 rfl rfl)
theorem dX6_paidOf_61 : decode cX6_paidOf 61 = .ok (.iconst 0, 1) := dk_3 (dk_at dksX6_paidOf_2 15 rfl rfl)
theorem dX6_paidOf_62 : decode cX6_paidOf 62 = .ok (.iadd, 1) := dk_96 (dk_at dksX6_paidOf_2 16 rfl rfl)
theorem dX6_paidOf_63 : decode cX6_paidOf 63 = .ok (.i2l, 1) := dk_133 (dk_at dksX6_paidOf_2 17 rfl rfl)
theorem dX6_paidOf_64 : decode cX6_paidOf 64 = .ok (.lmul, 1) := dk_105 (dk_at dksX6_paidOf_2 18 rfl rfl)
theorem dX6_paidOf_65 : decode cX6_paidOf 65 = .ok (.lreturn, 1) := dk_173 (dk_at dksX6_paidOf_2 19 rfl rfl)
abbrev cX6_lossOf : ByteArray := prog_20_method_67_code
def yX6_lossOf : MethodName := ⟨RX6, "lossOf", "(I)J"⟩
def dkwX6_lossOf_1 : List UInt8 := [20, 1, 121, 109, 173]
abbrev dktX6_lossOf_1 : List UInt8 := dkwX6_lossOf_1 ++ []
def dkwX6_lossOf_0 : List UInt8 := [42, 180, 0, 37, 3, 46, 42, 180, 0, 55, 3, 27, 184, 1, 67, 46, 104, 133, 42, 27, 182, 1, 112, 105]
abbrev dktX6_lossOf_0 : List UInt8 := dkwX6_lossOf_0 ++ dktX6_lossOf_1
theorem dksX6_lossOf_0 : cX6_lossOf.data.toList.drop 0 = dktX6_lossOf_0 := by decide +kernel
theorem dksX6_lossOf_1 : cX6_lossOf.data.toList.drop 24 = dktX6_lossOf_1 := dk_seg dksX6_lossOf_0 24 rfl rfl
theorem dX6_lossOf_0 : decode cX6_lossOf 0 = .ok (.aload_n 0, 1) := dk_42 (dk_at dksX6_lossOf_0 0 rfl rfl)
theorem dX6_lossOf_1 : decode cX6_lossOf 1 = .ok (.getfield 37, 3) := dk_180 0 37 (dk_at dksX6_lossOf_0 1 rfl rfl)
theorem dX6_lossOf_4 : decode cX6_lossOf 4 = .ok (.iconst 0, 1) := dk_3 (dk_at dksX6_lossOf_0 4 rfl rfl)
theorem dX6_lossOf_5 : decode cX6_lossOf 5 = .ok (.iaload, 1) := dk_46 (dk_at dksX6_lossOf_0 5 rfl rfl)
theorem dX6_lossOf_6 : decode cX6_lossOf 6 = .ok (.aload_n 0, 1) := dk_42 (dk_at dksX6_lossOf_0 6 rfl rfl)
theorem dX6_lossOf_7 : decode cX6_lossOf 7 = .ok (.getfield 55, 3) := dk_180 0 55 (dk_at dksX6_lossOf_0 7 rfl rfl)
theorem dX6_lossOf_10 : decode cX6_lossOf 10 = .ok (.iconst 0, 1) := dk_3 (dk_at dksX6_lossOf_0 10 rfl rfl)
theorem dX6_lossOf_11 : decode cX6_lossOf 11 = .ok (.iload_n 1, 1) := dk_27 (dk_at dksX6_lossOf_0 11 rfl rfl)
theorem dX6_lossOf_12 : decode cX6_lossOf 12 = .ok (.invokestatic 323, 3) := dk_184 1 67 (dk_at dksX6_lossOf_0 12 rfl rfl)
theorem dX6_lossOf_15 : decode cX6_lossOf 15 = .ok (.iaload, 1) := dk_46 (dk_at dksX6_lossOf_0 15 rfl rfl)
theorem dX6_lossOf_16 : decode cX6_lossOf 16 = .ok (.imul, 1) := dk_104 (dk_at dksX6_lossOf_0 16 rfl rfl)
theorem dX6_lossOf_17 : decode cX6_lossOf 17 = .ok (.i2l, 1) := dk_133 (dk_at dksX6_lossOf_0 17 rfl rfl)
theorem dX6_lossOf_18 : decode cX6_lossOf 18 = .ok (.aload_n 0, 1) := dk_42 (dk_at dksX6_lossOf_0 18 rfl rfl)
theorem dX6_lossOf_19 : decode cX6_lossOf 19 = .ok (.iload_n 1, 1) := dk_27 (dk_at dksX6_lossOf_0 19 rfl rfl)
theorem dX6_lossOf_20 : decode cX6_lossOf 20 = .ok (.invokevirtual 368, 3) := dk_182 1 112 (dk_at dksX6_lossOf_0 20 rfl rfl)
theorem dX6_lossOf_23 : decode cX6_lossOf 23 = .ok (.lmul, 1) := dk_105 (dk_at dksX6_lossOf_0 23 rfl rfl)
theorem dX6_lossOf_24 : decode cX6_lossOf 24 = .ok (.ldc2_w 377, 3) := dk_20 1 121 (dk_at dksX6_lossOf_1 0 rfl rfl)
theorem dX6_lossOf_27 : decode cX6_lossOf 27 = .ok (.ldiv, 1) := dk_109 (dk_at dksX6_lossOf_1 3 rfl rfl)
theorem dX6_lossOf_28 : decode cX6_lossOf 28 = .ok (.lreturn, 1) := dk_173 (dk_at dksX6_lossOf_1 4 rfl rfl)
abbrev cX6_costOf : ByteArray := prog_20_method_69_code
def yX6_costOf : MethodName := ⟨RX6, "costOf", "(I)J"⟩
def dkwX6_costOf_1 : List UInt8 := [182, 1, 129, 42, 180, 0, 52, 3, 46, 133, 109, 167, 0, 4, 9, 97, 173]
abbrev dktX6_costOf_1 : List UInt8 := dkwX6_costOf_1 ++ []
def dkwX6_costOf_0 : List UInt8 := [42, 27, 182, 1, 123, 42, 27, 182, 1, 126, 97, 42, 180, 0, 64, 16, 6, 46, 4, 160, 0, 18, 42]
abbrev dktX6_costOf_0 : List UInt8 := dkwX6_costOf_0 ++ dktX6_costOf_1
theorem dksX6_costOf_0 : cX6_costOf.data.toList.drop 0 = dktX6_costOf_0 := by decide +kernel
theorem dksX6_costOf_1 : cX6_costOf.data.toList.drop 23 = dktX6_costOf_1 := dk_seg dksX6_costOf_0 23 rfl rfl
theorem dX6_costOf_0 : decode cX6_costOf 0 = .ok (.aload_n 0, 1) := dk_42 (dk_at dksX6_costOf_0 0 rfl rfl)
theorem dX6_costOf_1 : decode cX6_costOf 1 = .ok (.iload_n 1, 1) := dk_27 (dk_at dksX6_costOf_0 1 rfl rfl)
theorem dX6_costOf_2 : decode cX6_costOf 2 = .ok (.invokevirtual 379, 3) := dk_182 1 123 (dk_at dksX6_costOf_0 2 rfl rfl)
theorem dX6_costOf_5 : decode cX6_costOf 5 = .ok (.aload_n 0, 1) := dk_42 (dk_at dksX6_costOf_0 5 rfl rfl)
theorem dX6_costOf_6 : decode cX6_costOf 6 = .ok (.iload_n 1, 1) := dk_27 (dk_at dksX6_costOf_0 6 rfl rfl)
theorem dX6_costOf_7 : decode cX6_costOf 7 = .ok (.invokevirtual 382, 3) := dk_182 1 126 (dk_at dksX6_costOf_0 7 rfl rfl)
theorem dX6_costOf_10 : decode cX6_costOf 10 = .ok (.ladd, 1) := dk_97 (dk_at dksX6_costOf_0 10 rfl rfl)
theorem dX6_costOf_11 : decode cX6_costOf 11 = .ok (.aload_n 0, 1) := dk_42 (dk_at dksX6_costOf_0 11 rfl rfl)
theorem dX6_costOf_12 : decode cX6_costOf 12 = .ok (.getfield 64, 3) := dk_180 0 64 (dk_at dksX6_costOf_0 12 rfl rfl)
theorem dX6_costOf_15 : decode cX6_costOf 15 = .ok (.bipush 6, 2) := dk_16 6 (dk_at dksX6_costOf_0 15 rfl rfl)
theorem dX6_costOf_17 : decode cX6_costOf 17 = .ok (.iaload, 1) := dk_46 (dk_at dksX6_costOf_0 17 rfl rfl)
theorem dX6_costOf_18 : decode cX6_costOf 18 = .ok (.iconst 1, 1) := dk_4 (dk_at dksX6_costOf_0 18 rfl rfl)
theorem dX6_costOf_19 : decode cX6_costOf 19 = .ok (.if_icmp .ne 18, 3) := dk_160 0 18 (dk_at dksX6_costOf_0 19 rfl rfl)
theorem dX6_costOf_22 : decode cX6_costOf 22 = .ok (.aload_n 0, 1) := dk_42 (dk_at dksX6_costOf_0 22 rfl rfl)
theorem dX6_costOf_23 : decode cX6_costOf 23 = .ok (.invokevirtual 385, 3) := dk_182 1 129 (dk_at dksX6_costOf_1 0 rfl rfl)
theorem dX6_costOf_26 : decode cX6_costOf 26 = .ok (.aload_n 0, 1) := dk_42 (dk_at dksX6_costOf_1 3 rfl rfl)
theorem dX6_costOf_27 : decode cX6_costOf 27 = .ok (.getfield 52, 3) := dk_180 0 52 (dk_at dksX6_costOf_1 4 rfl rfl)
theorem dX6_costOf_30 : decode cX6_costOf 30 = .ok (.iconst 0, 1) := dk_3 (dk_at dksX6_costOf_1 7 rfl rfl)
theorem dX6_costOf_31 : decode cX6_costOf 31 = .ok (.iaload, 1) := dk_46 (dk_at dksX6_costOf_1 8 rfl rfl)
theorem dX6_costOf_32 : decode cX6_costOf 32 = .ok (.i2l, 1) := dk_133 (dk_at dksX6_costOf_1 9 rfl rfl)
theorem dX6_costOf_33 : decode cX6_costOf 33 = .ok (.ldiv, 1) := dk_109 (dk_at dksX6_costOf_1 10 rfl rfl)
theorem dX6_costOf_34 : decode cX6_costOf 34 = .ok (.goto 4, 3) := dk_167 0 4 (dk_at dksX6_costOf_1 11 rfl rfl)
theorem dX6_costOf_37 : decode cX6_costOf 37 = .ok (.lconst 0, 1) := dk_9 (dk_at dksX6_costOf_1 14 rfl rfl)
theorem dX6_costOf_38 : decode cX6_costOf 38 = .ok (.ladd, 1) := dk_97 (dk_at dksX6_costOf_1 15 rfl rfl)
theorem dX6_costOf_39 : decode cX6_costOf 39 = .ok (.lreturn, 1) := dk_173 (dk_at dksX6_costOf_1 16 rfl rfl)
abbrev cX6_wages : ByteArray := prog_20_method_68_code
def yX6_wages : MethodName := ⟨RX6, "wages", "()J"⟩
def dkwX6_wages_0 : List UInt8 := [20, 1, 119, 42, 180, 0, 64, 7, 46, 133, 105, 42, 180, 0, 37, 3, 46, 133, 105, 173]
abbrev dktX6_wages_0 : List UInt8 := dkwX6_wages_0 ++ []
theorem dksX6_wages_0 : cX6_wages.data.toList.drop 0 = dktX6_wages_0 := by decide +kernel
theorem dX6_wages_0 : decode cX6_wages 0 = .ok (.ldc2_w 375, 3) := dk_20 1 119 (dk_at dksX6_wages_0 0 rfl rfl)
theorem dX6_wages_3 : decode cX6_wages 3 = .ok (.aload_n 0, 1) := dk_42 (dk_at dksX6_wages_0 3 rfl rfl)
theorem dX6_wages_4 : decode cX6_wages 4 = .ok (.getfield 64, 3) := dk_180 0 64 (dk_at dksX6_wages_0 4 rfl rfl)
theorem dX6_wages_7 : decode cX6_wages 7 = .ok (.iconst 4, 1) := dk_7 (dk_at dksX6_wages_0 7 rfl rfl)
theorem dX6_wages_8 : decode cX6_wages 8 = .ok (.iaload, 1) := dk_46 (dk_at dksX6_wages_0 8 rfl rfl)
theorem dX6_wages_9 : decode cX6_wages 9 = .ok (.i2l, 1) := dk_133 (dk_at dksX6_wages_0 9 rfl rfl)
theorem dX6_wages_10 : decode cX6_wages 10 = .ok (.lmul, 1) := dk_105 (dk_at dksX6_wages_0 10 rfl rfl)
theorem dX6_wages_11 : decode cX6_wages 11 = .ok (.aload_n 0, 1) := dk_42 (dk_at dksX6_wages_0 11 rfl rfl)
theorem dX6_wages_12 : decode cX6_wages 12 = .ok (.getfield 37, 3) := dk_180 0 37 (dk_at dksX6_wages_0 12 rfl rfl)
theorem dX6_wages_15 : decode cX6_wages 15 = .ok (.iconst 0, 1) := dk_3 (dk_at dksX6_wages_0 15 rfl rfl)
theorem dX6_wages_16 : decode cX6_wages 16 = .ok (.iaload, 1) := dk_46 (dk_at dksX6_wages_0 16 rfl rfl)
theorem dX6_wages_17 : decode cX6_wages 17 = .ok (.i2l, 1) := dk_133 (dk_at dksX6_wages_0 17 rfl rfl)
theorem dX6_wages_18 : decode cX6_wages 18 = .ok (.lmul, 1) := dk_105 (dk_at dksX6_wages_0 18 rfl rfl)
theorem dX6_wages_19 : decode cX6_wages 19 = .ok (.lreturn, 1) := dk_173 (dk_at dksX6_wages_0 19 rfl rfl)
abbrev cX6_all : ByteArray := prog_20_method_73_code
def yX6_all : MethodName := ⟨RX6, "all", "(I)J"⟩
def dkwX6_all_1 : List UInt8 := [42, 27, 182, 1, 142, 167, 0, 6, 20, 1, 104, 173]
abbrev dktX6_all_1 : List UInt8 := dkwX6_all_1 ++ []
def dkwX6_all_0 : List UInt8 := [42, 3, 181, 0, 114, 42, 182, 1, 98, 153, 0, 23, 27, 133, 9, 20, 1, 136, 184, 0, 119, 153, 0, 11]
abbrev dktX6_all_0 : List UInt8 := dkwX6_all_0 ++ dktX6_all_1
theorem dksX6_all_0 : cX6_all.data.toList.drop 0 = dktX6_all_0 := by decide +kernel
theorem dksX6_all_1 : cX6_all.data.toList.drop 24 = dktX6_all_1 := dk_seg dksX6_all_0 24 rfl rfl
theorem dX6_all_0 : decode cX6_all 0 = .ok (.aload_n 0, 1) := dk_42 (dk_at dksX6_all_0 0 rfl rfl)
theorem dX6_all_1 : decode cX6_all 1 = .ok (.iconst 0, 1) := dk_3 (dk_at dksX6_all_0 1 rfl rfl)
theorem dX6_all_2 : decode cX6_all 2 = .ok (.putfield 114, 3) := dk_181 0 114 (dk_at dksX6_all_0 2 rfl rfl)
theorem dX6_all_5 : decode cX6_all 5 = .ok (.aload_n 0, 1) := dk_42 (dk_at dksX6_all_0 5 rfl rfl)
theorem dX6_all_6 : decode cX6_all 6 = .ok (.invokevirtual 354, 3) := dk_182 1 98 (dk_at dksX6_all_0 6 rfl rfl)
theorem dX6_all_9 : decode cX6_all 9 = .ok (.ifCond .eq 23, 3) := dk_153 0 23 (dk_at dksX6_all_0 9 rfl rfl)
theorem dX6_all_12 : decode cX6_all 12 = .ok (.iload_n 1, 1) := dk_27 (dk_at dksX6_all_0 12 rfl rfl)
theorem dX6_all_13 : decode cX6_all 13 = .ok (.i2l, 1) := dk_133 (dk_at dksX6_all_0 13 rfl rfl)
theorem dX6_all_14 : decode cX6_all 14 = .ok (.lconst 0, 1) := dk_9 (dk_at dksX6_all_0 14 rfl rfl)
theorem dX6_all_15 : decode cX6_all 15 = .ok (.ldc2_w 392, 3) := dk_20 1 136 (dk_at dksX6_all_0 15 rfl rfl)
theorem dX6_all_18 : decode cX6_all 18 = .ok (.invokestatic 119, 3) := dk_184 0 119 (dk_at dksX6_all_0 18 rfl rfl)
theorem dX6_all_21 : decode cX6_all 21 = .ok (.ifCond .eq 11, 3) := dk_153 0 11 (dk_at dksX6_all_0 21 rfl rfl)
theorem dX6_all_24 : decode cX6_all 24 = .ok (.aload_n 0, 1) := dk_42 (dk_at dksX6_all_1 0 rfl rfl)
theorem dX6_all_25 : decode cX6_all 25 = .ok (.iload_n 1, 1) := dk_27 (dk_at dksX6_all_1 1 rfl rfl)
theorem dX6_all_26 : decode cX6_all 26 = .ok (.invokevirtual 398, 3) := dk_182 1 142 (dk_at dksX6_all_1 2 rfl rfl)
theorem dX6_all_29 : decode cX6_all 29 = .ok (.goto 6, 3) := dk_167 0 6 (dk_at dksX6_all_1 5 rfl rfl)
theorem dX6_all_32 : decode cX6_all 32 = .ok (.ldc2_w 360, 3) := dk_20 1 104 (dk_at dksX6_all_1 8 rfl rfl)
theorem dX6_all_35 : decode cX6_all 35 = .ok (.lreturn, 1) := dk_173 (dk_at dksX6_all_1 11 rfl rfl)
abbrev cX6_allNow : ByteArray := prog_20_method_72_code
def yX6_allNow : MethodName := ⟨RX6, "allNow", "(I)J"⟩
def dkwX6_allNow_1 : List UInt8 := [27, 182, 1, 138, 97, 65, 132, 4, 1, 167, 255, 232, 32, 173]
abbrev dktX6_allNow_1 : List UInt8 := dkwX6_allNow_1 ++ []
def dkwX6_allNow_0 : List UInt8 := [42, 182, 1, 106, 9, 65, 3, 54, 4, 21, 4, 42, 180, 0, 52, 3, 46, 162, 0, 19, 32, 42, 21, 4]
abbrev dktX6_allNow_0 : List UInt8 := dkwX6_allNow_0 ++ dktX6_allNow_1
theorem dksX6_allNow_0 : cX6_allNow.data.toList.drop 0 = dktX6_allNow_0 := by decide +kernel
theorem dksX6_allNow_1 : cX6_allNow.data.toList.drop 24 = dktX6_allNow_1 := dk_seg dksX6_allNow_0 24 rfl rfl
theorem dX6_allNow_0 : decode cX6_allNow 0 = .ok (.aload_n 0, 1) := dk_42 (dk_at dksX6_allNow_0 0 rfl rfl)
theorem dX6_allNow_1 : decode cX6_allNow 1 = .ok (.invokevirtual 362, 3) := dk_182 1 106 (dk_at dksX6_allNow_0 1 rfl rfl)
theorem dX6_allNow_4 : decode cX6_allNow 4 = .ok (.lconst 0, 1) := dk_9 (dk_at dksX6_allNow_0 4 rfl rfl)
theorem dX6_allNow_5 : decode cX6_allNow 5 = .ok (.lstore_n 2, 1) := dk_65 (dk_at dksX6_allNow_0 5 rfl rfl)
theorem dX6_allNow_6 : decode cX6_allNow 6 = .ok (.iconst 0, 1) := dk_3 (dk_at dksX6_allNow_0 6 rfl rfl)
theorem dX6_allNow_7 : decode cX6_allNow 7 = .ok (.istore 4, 2) := dk_54 4 (dk_at dksX6_allNow_0 7 rfl rfl)
theorem dX6_allNow_9 : decode cX6_allNow 9 = .ok (.iload 4, 2) := dk_21 4 (dk_at dksX6_allNow_0 9 rfl rfl)
theorem dX6_allNow_11 : decode cX6_allNow 11 = .ok (.aload_n 0, 1) := dk_42 (dk_at dksX6_allNow_0 11 rfl rfl)
theorem dX6_allNow_12 : decode cX6_allNow 12 = .ok (.getfield 52, 3) := dk_180 0 52 (dk_at dksX6_allNow_0 12 rfl rfl)
theorem dX6_allNow_15 : decode cX6_allNow 15 = .ok (.iconst 0, 1) := dk_3 (dk_at dksX6_allNow_0 15 rfl rfl)
theorem dX6_allNow_16 : decode cX6_allNow 16 = .ok (.iaload, 1) := dk_46 (dk_at dksX6_allNow_0 16 rfl rfl)
theorem dX6_allNow_17 : decode cX6_allNow 17 = .ok (.if_icmp .ge 19, 3) := dk_162 0 19 (dk_at dksX6_allNow_0 17 rfl rfl)
theorem dX6_allNow_20 : decode cX6_allNow 20 = .ok (.lload_n 2, 1) := dk_32 (dk_at dksX6_allNow_0 20 rfl rfl)
theorem dX6_allNow_21 : decode cX6_allNow 21 = .ok (.aload_n 0, 1) := dk_42 (dk_at dksX6_allNow_0 21 rfl rfl)
theorem dX6_allNow_22 : decode cX6_allNow 22 = .ok (.iload 4, 2) := dk_21 4 (dk_at dksX6_allNow_0 22 rfl rfl)
theorem dX6_allNow_24 : decode cX6_allNow 24 = .ok (.iload_n 1, 1) := dk_27 (dk_at dksX6_allNow_1 0 rfl rfl)
theorem dX6_allNow_25 : decode cX6_allNow 25 = .ok (.invokevirtual 394, 3) := dk_182 1 138 (dk_at dksX6_allNow_1 1 rfl rfl)
theorem dX6_allNow_28 : decode cX6_allNow 28 = .ok (.ladd, 1) := dk_97 (dk_at dksX6_allNow_1 4 rfl rfl)
theorem dX6_allNow_29 : decode cX6_allNow 29 = .ok (.lstore_n 2, 1) := dk_65 (dk_at dksX6_allNow_1 5 rfl rfl)
theorem dX6_allNow_30 : decode cX6_allNow 30 = .ok (.iinc 4 1, 3) := dk_132 4 1 (dk_at dksX6_allNow_1 6 rfl rfl)
theorem dX6_allNow_33 : decode cX6_allNow 33 = .ok (.goto (-24), 3) := dk_167 255 232 (dk_at dksX6_allNow_1 9 rfl rfl)
theorem dX6_allNow_36 : decode cX6_allNow 36 = .ok (.lload_n 2, 1) := dk_32 (dk_at dksX6_allNow_1 12 rfl rfl)
theorem dX6_allNow_37 : decode cX6_allNow 37 = .ok (.lreturn, 1) := dk_173 (dk_at dksX6_allNow_1 13 rfl rfl)
abbrev cX6_option : ByteArray := prog_20_method_79_code
def yX6_option : MethodName := ⟨RX6, "option", "(II)I"⟩
def dkwX6_option_1 : List UInt8 := [42, 27, 182, 1, 152, 62, 42, 27, 28, 182, 1, 155, 29, 172]
abbrev dktX6_option_1 : List UInt8 := dkwX6_option_1 ++ []
def dkwX6_option_0 : List UInt8 := [42, 3, 181, 0, 114, 42, 27, 182, 1, 62, 153, 0, 11, 42, 28, 182, 1, 149, 154, 0, 6, 16, 254, 172]
abbrev dktX6_option_0 : List UInt8 := dkwX6_option_0 ++ dktX6_option_1
theorem dksX6_option_0 : cX6_option.data.toList.drop 0 = dktX6_option_0 := by decide +kernel
theorem dksX6_option_1 : cX6_option.data.toList.drop 24 = dktX6_option_1 := dk_seg dksX6_option_0 24 rfl rfl
theorem dX6_option_0 : decode cX6_option 0 = .ok (.aload_n 0, 1) := dk_42 (dk_at dksX6_option_0 0 rfl rfl)
theorem dX6_option_1 : decode cX6_option 1 = .ok (.iconst 0, 1) := dk_3 (dk_at dksX6_option_0 1 rfl rfl)
theorem dX6_option_2 : decode cX6_option 2 = .ok (.putfield 114, 3) := dk_181 0 114 (dk_at dksX6_option_0 2 rfl rfl)
theorem dX6_option_5 : decode cX6_option 5 = .ok (.aload_n 0, 1) := dk_42 (dk_at dksX6_option_0 5 rfl rfl)
theorem dX6_option_6 : decode cX6_option 6 = .ok (.iload_n 1, 1) := dk_27 (dk_at dksX6_option_0 6 rfl rfl)
theorem dX6_option_7 : decode cX6_option 7 = .ok (.invokevirtual 318, 3) := dk_182 1 62 (dk_at dksX6_option_0 7 rfl rfl)
theorem dX6_option_10 : decode cX6_option 10 = .ok (.ifCond .eq 11, 3) := dk_153 0 11 (dk_at dksX6_option_0 10 rfl rfl)
theorem dX6_option_13 : decode cX6_option 13 = .ok (.aload_n 0, 1) := dk_42 (dk_at dksX6_option_0 13 rfl rfl)
theorem dX6_option_14 : decode cX6_option 14 = .ok (.iload_n 2, 1) := dk_28 (dk_at dksX6_option_0 14 rfl rfl)
theorem dX6_option_15 : decode cX6_option 15 = .ok (.invokevirtual 405, 3) := dk_182 1 149 (dk_at dksX6_option_0 15 rfl rfl)
theorem dX6_option_18 : decode cX6_option 18 = .ok (.ifCond .ne 6, 3) := dk_154 0 6 (dk_at dksX6_option_0 18 rfl rfl)
theorem dX6_option_21 : decode cX6_option 21 = .ok (.bipush (-2), 2) := dk_16 254 (dk_at dksX6_option_0 21 rfl rfl)
theorem dX6_option_23 : decode cX6_option 23 = .ok (.ireturn, 1) := dk_172 (dk_at dksX6_option_0 23 rfl rfl)
theorem dX6_option_24 : decode cX6_option 24 = .ok (.aload_n 0, 1) := dk_42 (dk_at dksX6_option_1 0 rfl rfl)
theorem dX6_option_25 : decode cX6_option 25 = .ok (.iload_n 1, 1) := dk_27 (dk_at dksX6_option_1 1 rfl rfl)
theorem dX6_option_26 : decode cX6_option 26 = .ok (.invokevirtual 408, 3) := dk_182 1 152 (dk_at dksX6_option_1 2 rfl rfl)
theorem dX6_option_29 : decode cX6_option 29 = .ok (.istore_n 3, 1) := dk_62 (dk_at dksX6_option_1 5 rfl rfl)
theorem dX6_option_30 : decode cX6_option 30 = .ok (.aload_n 0, 1) := dk_42 (dk_at dksX6_option_1 6 rfl rfl)
theorem dX6_option_31 : decode cX6_option 31 = .ok (.iload_n 1, 1) := dk_27 (dk_at dksX6_option_1 7 rfl rfl)
theorem dX6_option_32 : decode cX6_option 32 = .ok (.iload_n 2, 1) := dk_28 (dk_at dksX6_option_1 8 rfl rfl)
theorem dX6_option_33 : decode cX6_option 33 = .ok (.invokevirtual 411, 3) := dk_182 1 155 (dk_at dksX6_option_1 9 rfl rfl)
theorem dX6_option_36 : decode cX6_option 36 = .ok (.iload_n 3, 1) := dk_29 (dk_at dksX6_option_1 12 rfl rfl)
theorem dX6_option_37 : decode cX6_option 37 = .ok (.ireturn, 1) := dk_172 (dk_at dksX6_option_1 13 rfl rfl)
abbrev cX6_isOption : ByteArray := prog_20_method_76_code
def yX6_isOption : MethodName := ⟨RX6, "isOption", "(I)Z"⟩
def dkwX6_isOption_0 : List UInt8 := [27, 133, 9, 42, 182, 1, 145, 4, 100, 133, 184, 0, 119, 172]
abbrev dktX6_isOption_0 : List UInt8 := dkwX6_isOption_0 ++ []
theorem dksX6_isOption_0 : cX6_isOption.data.toList.drop 0 = dktX6_isOption_0 := by decide +kernel
theorem dX6_isOption_0 : decode cX6_isOption 0 = .ok (.iload_n 1, 1) := dk_27 (dk_at dksX6_isOption_0 0 rfl rfl)
theorem dX6_isOption_1 : decode cX6_isOption 1 = .ok (.i2l, 1) := dk_133 (dk_at dksX6_isOption_0 1 rfl rfl)
theorem dX6_isOption_2 : decode cX6_isOption 2 = .ok (.lconst 0, 1) := dk_9 (dk_at dksX6_isOption_0 2 rfl rfl)
theorem dX6_isOption_3 : decode cX6_isOption 3 = .ok (.aload_n 0, 1) := dk_42 (dk_at dksX6_isOption_0 3 rfl rfl)
theorem dX6_isOption_4 : decode cX6_isOption 4 = .ok (.invokevirtual 401, 3) := dk_182 1 145 (dk_at dksX6_isOption_0 4 rfl rfl)
theorem dX6_isOption_7 : decode cX6_isOption 7 = .ok (.iconst 1, 1) := dk_4 (dk_at dksX6_isOption_0 7 rfl rfl)
theorem dX6_isOption_8 : decode cX6_isOption 8 = .ok (.isub, 1) := dk_100 (dk_at dksX6_isOption_0 8 rfl rfl)
theorem dX6_isOption_9 : decode cX6_isOption 9 = .ok (.i2l, 1) := dk_133 (dk_at dksX6_isOption_0 9 rfl rfl)
theorem dX6_isOption_10 : decode cX6_isOption 10 = .ok (.invokestatic 119, 3) := dk_184 0 119 (dk_at dksX6_isOption_0 10 rfl rfl)
theorem dX6_isOption_13 : decode cX6_isOption 13 = .ok (.ireturn, 1) := dk_172 (dk_at dksX6_isOption_0 13 rfl rfl)
abbrev cX6_optionMany : ByteArray := prog_20_method_75_code
def yX6_optionMany : MethodName := ⟨RX6, "optionMany", "()I"⟩
def dkwX6_optionMany_0 : List UInt8 := [5, 42, 180, 0, 46, 3, 46, 4, 96, 104, 172]
abbrev dktX6_optionMany_0 : List UInt8 := dkwX6_optionMany_0 ++ []
theorem dksX6_optionMany_0 : cX6_optionMany.data.toList.drop 0 = dktX6_optionMany_0 := by decide +kernel
theorem dX6_optionMany_0 : decode cX6_optionMany 0 = .ok (.iconst 2, 1) := dk_5 (dk_at dksX6_optionMany_0 0 rfl rfl)
theorem dX6_optionMany_1 : decode cX6_optionMany 1 = .ok (.aload_n 0, 1) := dk_42 (dk_at dksX6_optionMany_0 1 rfl rfl)
theorem dX6_optionMany_2 : decode cX6_optionMany 2 = .ok (.getfield 46, 3) := dk_180 0 46 (dk_at dksX6_optionMany_0 2 rfl rfl)
theorem dX6_optionMany_5 : decode cX6_optionMany 5 = .ok (.iconst 0, 1) := dk_3 (dk_at dksX6_optionMany_0 5 rfl rfl)
theorem dX6_optionMany_6 : decode cX6_optionMany 6 = .ok (.iaload, 1) := dk_46 (dk_at dksX6_optionMany_0 6 rfl rfl)
theorem dX6_optionMany_7 : decode cX6_optionMany 7 = .ok (.iconst 1, 1) := dk_4 (dk_at dksX6_optionMany_0 7 rfl rfl)
theorem dX6_optionMany_8 : decode cX6_optionMany 8 = .ok (.iadd, 1) := dk_96 (dk_at dksX6_optionMany_0 8 rfl rfl)
theorem dX6_optionMany_9 : decode cX6_optionMany 9 = .ok (.imul, 1) := dk_104 (dk_at dksX6_optionMany_0 9 rfl rfl)
theorem dX6_optionMany_10 : decode cX6_optionMany 10 = .ok (.ireturn, 1) := dk_172 (dk_at dksX6_optionMany_0 10 rfl rfl)
abbrev cX6_optionOf : ByteArray := prog_20_method_77_code
def yX6_optionOf : MethodName := ⟨RX6, "optionOf", "(I)I"⟩
def dkwX6_optionOf_1 : List UInt8 := [184, 1, 67, 7, 96, 46, 96, 172]
abbrev dktX6_optionOf_1 : List UInt8 := dkwX6_optionOf_1 ++ []
def dkwX6_optionOf_0 : List UInt8 := [5, 42, 180, 0, 55, 3, 27, 184, 1, 67, 6, 96, 46, 4, 96, 104, 42, 180, 0, 55, 3, 27]
abbrev dktX6_optionOf_0 : List UInt8 := dkwX6_optionOf_0 ++ dktX6_optionOf_1
theorem dksX6_optionOf_0 : cX6_optionOf.data.toList.drop 0 = dktX6_optionOf_0 := by decide +kernel
theorem dksX6_optionOf_1 : cX6_optionOf.data.toList.drop 22 = dktX6_optionOf_1 := dk_seg dksX6_optionOf_0 22 rfl rfl
theorem dX6_optionOf_0 : decode cX6_optionOf 0 = .ok (.iconst 2, 1) := dk_5 (dk_at dksX6_optionOf_0 0 rfl rfl)
theorem dX6_optionOf_1 : decode cX6_optionOf 1 = .ok (.aload_n 0, 1) := dk_42 (dk_at dksX6_optionOf_0 1 rfl rfl)
theorem dX6_optionOf_2 : decode cX6_optionOf 2 = .ok (.getfield 55, 3) := dk_180 0 55 (dk_at dksX6_optionOf_0 2 rfl rfl)
theorem dX6_optionOf_5 : decode cX6_optionOf 5 = .ok (.iconst 0, 1) := dk_3 (dk_at dksX6_optionOf_0 5 rfl rfl)
theorem dX6_optionOf_6 : decode cX6_optionOf 6 = .ok (.iload_n 1, 1) := dk_27 (dk_at dksX6_optionOf_0 6 rfl rfl)
theorem dX6_optionOf_7 : decode cX6_optionOf 7 = .ok (.invokestatic 323, 3) := dk_184 1 67 (dk_at dksX6_optionOf_0 7 rfl rfl)
theorem dX6_optionOf_10 : decode cX6_optionOf 10 = .ok (.iconst 3, 1) := dk_6 (dk_at dksX6_optionOf_0 10 rfl rfl)
theorem dX6_optionOf_11 : decode cX6_optionOf 11 = .ok (.iadd, 1) := dk_96 (dk_at dksX6_optionOf_0 11 rfl rfl)
theorem dX6_optionOf_12 : decode cX6_optionOf 12 = .ok (.iaload, 1) := dk_46 (dk_at dksX6_optionOf_0 12 rfl rfl)
theorem dX6_optionOf_13 : decode cX6_optionOf 13 = .ok (.iconst 1, 1) := dk_4 (dk_at dksX6_optionOf_0 13 rfl rfl)
theorem dX6_optionOf_14 : decode cX6_optionOf 14 = .ok (.iadd, 1) := dk_96 (dk_at dksX6_optionOf_0 14 rfl rfl)
theorem dX6_optionOf_15 : decode cX6_optionOf 15 = .ok (.imul, 1) := dk_104 (dk_at dksX6_optionOf_0 15 rfl rfl)
theorem dX6_optionOf_16 : decode cX6_optionOf 16 = .ok (.aload_n 0, 1) := dk_42 (dk_at dksX6_optionOf_0 16 rfl rfl)
theorem dX6_optionOf_17 : decode cX6_optionOf 17 = .ok (.getfield 55, 3) := dk_180 0 55 (dk_at dksX6_optionOf_0 17 rfl rfl)
theorem dX6_optionOf_20 : decode cX6_optionOf 20 = .ok (.iconst 0, 1) := dk_3 (dk_at dksX6_optionOf_0 20 rfl rfl)
theorem dX6_optionOf_21 : decode cX6_optionOf 21 = .ok (.iload_n 1, 1) := dk_27 (dk_at dksX6_optionOf_0 21 rfl rfl)
theorem dX6_optionOf_22 : decode cX6_optionOf 22 = .ok (.invokestatic 323, 3) := dk_184 1 67 (dk_at dksX6_optionOf_1 0 rfl rfl)
theorem dX6_optionOf_25 : decode cX6_optionOf 25 = .ok (.iconst 4, 1) := dk_7 (dk_at dksX6_optionOf_1 3 rfl rfl)
theorem dX6_optionOf_26 : decode cX6_optionOf 26 = .ok (.iadd, 1) := dk_96 (dk_at dksX6_optionOf_1 4 rfl rfl)
theorem dX6_optionOf_27 : decode cX6_optionOf 27 = .ok (.iaload, 1) := dk_46 (dk_at dksX6_optionOf_1 5 rfl rfl)
theorem dX6_optionOf_28 : decode cX6_optionOf 28 = .ok (.iadd, 1) := dk_96 (dk_at dksX6_optionOf_1 6 rfl rfl)
theorem dX6_optionOf_29 : decode cX6_optionOf 29 = .ok (.ireturn, 1) := dk_172 (dk_at dksX6_optionOf_1 7 rfl rfl)
abbrev cX6_hasOption : ByteArray := prog_20_method_78_code
def yX6_hasOption : MethodName := ⟨RX6, "hasOption", "(II)V"⟩
def dkwX6_hasOption_1 : List UInt8 := [184, 1, 67, 7, 96, 28, 5, 112, 79, 177]
abbrev dktX6_hasOption_1 : List UInt8 := dkwX6_hasOption_1 ++ []
def dkwX6_hasOption_0 : List UInt8 := [42, 180, 0, 55, 3, 27, 184, 1, 67, 6, 96, 28, 5, 108, 4, 100, 79, 42, 180, 0, 55, 3, 27]
abbrev dktX6_hasOption_0 : List UInt8 := dkwX6_hasOption_0 ++ dktX6_hasOption_1
theorem dksX6_hasOption_0 : cX6_hasOption.data.toList.drop 0 = dktX6_hasOption_0 := by decide +kernel
theorem dksX6_hasOption_1 : cX6_hasOption.data.toList.drop 23 = dktX6_hasOption_1 := dk_seg dksX6_hasOption_0 23 rfl rfl
theorem dX6_hasOption_0 : decode cX6_hasOption 0 = .ok (.aload_n 0, 1) := dk_42 (dk_at dksX6_hasOption_0 0 rfl rfl)
theorem dX6_hasOption_1 : decode cX6_hasOption 1 = .ok (.getfield 55, 3) := dk_180 0 55 (dk_at dksX6_hasOption_0 1 rfl rfl)
theorem dX6_hasOption_4 : decode cX6_hasOption 4 = .ok (.iconst 0, 1) := dk_3 (dk_at dksX6_hasOption_0 4 rfl rfl)
theorem dX6_hasOption_5 : decode cX6_hasOption 5 = .ok (.iload_n 1, 1) := dk_27 (dk_at dksX6_hasOption_0 5 rfl rfl)
theorem dX6_hasOption_6 : decode cX6_hasOption 6 = .ok (.invokestatic 323, 3) := dk_184 1 67 (dk_at dksX6_hasOption_0 6 rfl rfl)
theorem dX6_hasOption_9 : decode cX6_hasOption 9 = .ok (.iconst 3, 1) := dk_6 (dk_at dksX6_hasOption_0 9 rfl rfl)
theorem dX6_hasOption_10 : decode cX6_hasOption 10 = .ok (.iadd, 1) := dk_96 (dk_at dksX6_hasOption_0 10 rfl rfl)
theorem dX6_hasOption_11 : decode cX6_hasOption 11 = .ok (.iload_n 2, 1) := dk_28 (dk_at dksX6_hasOption_0 11 rfl rfl)
theorem dX6_hasOption_12 : decode cX6_hasOption 12 = .ok (.iconst 2, 1) := dk_5 (dk_at dksX6_hasOption_0 12 rfl rfl)
theorem dX6_hasOption_13 : decode cX6_hasOption 13 = .ok (.idiv, 1) := dk_108 (dk_at dksX6_hasOption_0 13 rfl rfl)
theorem dX6_hasOption_14 : decode cX6_hasOption 14 = .ok (.iconst 1, 1) := dk_4 (dk_at dksX6_hasOption_0 14 rfl rfl)
theorem dX6_hasOption_15 : decode cX6_hasOption 15 = .ok (.isub, 1) := dk_100 (dk_at dksX6_hasOption_0 15 rfl rfl)
theorem dX6_hasOption_16 : decode cX6_hasOption 16 = .ok (.iastore, 1) := dk_79 (dk_at dksX6_hasOption_0 16 rfl rfl)
theorem dX6_hasOption_17 : decode cX6_hasOption 17 = .ok (.aload_n 0, 1) := dk_42 (dk_at dksX6_hasOption_0 17 rfl rfl)
theorem dX6_hasOption_18 : decode cX6_hasOption 18 = .ok (.getfield 55, 3) := dk_180 0 55 (dk_at dksX6_hasOption_0 18 rfl rfl)
theorem dX6_hasOption_21 : decode cX6_hasOption 21 = .ok (.iconst 0, 1) := dk_3 (dk_at dksX6_hasOption_0 21 rfl rfl)
theorem dX6_hasOption_22 : decode cX6_hasOption 22 = .ok (.iload_n 1, 1) := dk_27 (dk_at dksX6_hasOption_0 22 rfl rfl)
theorem dX6_hasOption_23 : decode cX6_hasOption 23 = .ok (.invokestatic 323, 3) := dk_184 1 67 (dk_at dksX6_hasOption_1 0 rfl rfl)
theorem dX6_hasOption_26 : decode cX6_hasOption 26 = .ok (.iconst 4, 1) := dk_7 (dk_at dksX6_hasOption_1 3 rfl rfl)
theorem dX6_hasOption_27 : decode cX6_hasOption 27 = .ok (.iadd, 1) := dk_96 (dk_at dksX6_hasOption_1 4 rfl rfl)
theorem dX6_hasOption_28 : decode cX6_hasOption 28 = .ok (.iload_n 2, 1) := dk_28 (dk_at dksX6_hasOption_1 5 rfl rfl)
theorem dX6_hasOption_29 : decode cX6_hasOption 29 = .ok (.iconst 2, 1) := dk_5 (dk_at dksX6_hasOption_1 6 rfl rfl)
theorem dX6_hasOption_30 : decode cX6_hasOption 30 = .ok (.irem, 1) := dk_112 (dk_at dksX6_hasOption_1 7 rfl rfl)
theorem dX6_hasOption_31 : decode cX6_hasOption 31 = .ok (.iastore, 1) := dk_79 (dk_at dksX6_hasOption_1 8 rfl rfl)
theorem dX6_hasOption_32 : decode cX6_hasOption 32 = .ok (.return_, 1) := dk_177 (dk_at dksX6_hasOption_1 9 rfl rfl)
abbrev cX6_would : ByteArray := prog_20_method_81_code
def yX6_would : MethodName := ⟨RX6, "would", "(II)J"⟩
def dkwX6_would_1 : List UInt8 := [182, 1, 161, 167, 0, 6, 20, 1, 104, 173]
abbrev dktX6_would_1 : List UInt8 := dkwX6_would_1 ++ []
def dkwX6_would_0 : List UInt8 := [42, 3, 181, 0, 114, 42, 27, 182, 1, 62, 153, 0, 20, 42, 28, 182, 1, 149, 153, 0, 12, 42, 27, 28]
abbrev dktX6_would_0 : List UInt8 := dkwX6_would_0 ++ dktX6_would_1
theorem dksX6_would_0 : cX6_would.data.toList.drop 0 = dktX6_would_0 := by decide +kernel
theorem dksX6_would_1 : cX6_would.data.toList.drop 24 = dktX6_would_1 := dk_seg dksX6_would_0 24 rfl rfl
theorem dX6_would_0 : decode cX6_would 0 = .ok (.aload_n 0, 1) := dk_42 (dk_at dksX6_would_0 0 rfl rfl)
theorem dX6_would_1 : decode cX6_would 1 = .ok (.iconst 0, 1) := dk_3 (dk_at dksX6_would_0 1 rfl rfl)
theorem dX6_would_2 : decode cX6_would 2 = .ok (.putfield 114, 3) := dk_181 0 114 (dk_at dksX6_would_0 2 rfl rfl)
theorem dX6_would_5 : decode cX6_would 5 = .ok (.aload_n 0, 1) := dk_42 (dk_at dksX6_would_0 5 rfl rfl)
theorem dX6_would_6 : decode cX6_would 6 = .ok (.iload_n 1, 1) := dk_27 (dk_at dksX6_would_0 6 rfl rfl)
theorem dX6_would_7 : decode cX6_would 7 = .ok (.invokevirtual 318, 3) := dk_182 1 62 (dk_at dksX6_would_0 7 rfl rfl)
theorem dX6_would_10 : decode cX6_would 10 = .ok (.ifCond .eq 20, 3) := dk_153 0 20 (dk_at dksX6_would_0 10 rfl rfl)
theorem dX6_would_13 : decode cX6_would 13 = .ok (.aload_n 0, 1) := dk_42 (dk_at dksX6_would_0 13 rfl rfl)
theorem dX6_would_14 : decode cX6_would 14 = .ok (.iload_n 2, 1) := dk_28 (dk_at dksX6_would_0 14 rfl rfl)
theorem dX6_would_15 : decode cX6_would 15 = .ok (.invokevirtual 405, 3) := dk_182 1 149 (dk_at dksX6_would_0 15 rfl rfl)
theorem dX6_would_18 : decode cX6_would 18 = .ok (.ifCond .eq 12, 3) := dk_153 0 12 (dk_at dksX6_would_0 18 rfl rfl)
theorem dX6_would_21 : decode cX6_would 21 = .ok (.aload_n 0, 1) := dk_42 (dk_at dksX6_would_0 21 rfl rfl)
theorem dX6_would_22 : decode cX6_would 22 = .ok (.iload_n 1, 1) := dk_27 (dk_at dksX6_would_0 22 rfl rfl)
theorem dX6_would_23 : decode cX6_would 23 = .ok (.iload_n 2, 1) := dk_28 (dk_at dksX6_would_0 23 rfl rfl)
theorem dX6_would_24 : decode cX6_would 24 = .ok (.invokevirtual 417, 3) := dk_182 1 161 (dk_at dksX6_would_1 0 rfl rfl)
theorem dX6_would_27 : decode cX6_would 27 = .ok (.goto 6, 3) := dk_167 0 6 (dk_at dksX6_would_1 3 rfl rfl)
theorem dX6_would_30 : decode cX6_would 30 = .ok (.ldc2_w 360, 3) := dk_20 1 104 (dk_at dksX6_would_1 6 rfl rfl)
theorem dX6_would_33 : decode cX6_would 33 = .ok (.lreturn, 1) := dk_173 (dk_at dksX6_would_1 9 rfl rfl)
abbrev cX6_wouldOf : ByteArray := prog_20_method_80_code
def yX6_wouldOf : MethodName := ⟨RX6, "wouldOf", "(II)J"⟩
def dkwX6_wouldOf_1 : List UInt8 := [182, 1, 155, 22, 4, 173]
abbrev dktX6_wouldOf_1 : List UInt8 := dkwX6_wouldOf_1 ++ []
def dkwX6_wouldOf_0 : List UInt8 := [42, 27, 182, 1, 152, 62, 42, 27, 28, 182, 1, 155, 42, 27, 182, 1, 158, 55, 4, 42, 27, 29]
abbrev dktX6_wouldOf_0 : List UInt8 := dkwX6_wouldOf_0 ++ dktX6_wouldOf_1
theorem dksX6_wouldOf_0 : cX6_wouldOf.data.toList.drop 0 = dktX6_wouldOf_0 := by decide +kernel
theorem dksX6_wouldOf_1 : cX6_wouldOf.data.toList.drop 22 = dktX6_wouldOf_1 := dk_seg dksX6_wouldOf_0 22 rfl rfl
theorem dX6_wouldOf_0 : decode cX6_wouldOf 0 = .ok (.aload_n 0, 1) := dk_42 (dk_at dksX6_wouldOf_0 0 rfl rfl)
theorem dX6_wouldOf_1 : decode cX6_wouldOf 1 = .ok (.iload_n 1, 1) := dk_27 (dk_at dksX6_wouldOf_0 1 rfl rfl)
theorem dX6_wouldOf_2 : decode cX6_wouldOf 2 = .ok (.invokevirtual 408, 3) := dk_182 1 152 (dk_at dksX6_wouldOf_0 2 rfl rfl)
theorem dX6_wouldOf_5 : decode cX6_wouldOf 5 = .ok (.istore_n 3, 1) := dk_62 (dk_at dksX6_wouldOf_0 5 rfl rfl)
theorem dX6_wouldOf_6 : decode cX6_wouldOf 6 = .ok (.aload_n 0, 1) := dk_42 (dk_at dksX6_wouldOf_0 6 rfl rfl)
theorem dX6_wouldOf_7 : decode cX6_wouldOf 7 = .ok (.iload_n 1, 1) := dk_27 (dk_at dksX6_wouldOf_0 7 rfl rfl)
theorem dX6_wouldOf_8 : decode cX6_wouldOf 8 = .ok (.iload_n 2, 1) := dk_28 (dk_at dksX6_wouldOf_0 8 rfl rfl)
theorem dX6_wouldOf_9 : decode cX6_wouldOf 9 = .ok (.invokevirtual 411, 3) := dk_182 1 155 (dk_at dksX6_wouldOf_0 9 rfl rfl)
theorem dX6_wouldOf_12 : decode cX6_wouldOf 12 = .ok (.aload_n 0, 1) := dk_42 (dk_at dksX6_wouldOf_0 12 rfl rfl)
theorem dX6_wouldOf_13 : decode cX6_wouldOf 13 = .ok (.iload_n 1, 1) := dk_27 (dk_at dksX6_wouldOf_0 13 rfl rfl)
theorem dX6_wouldOf_14 : decode cX6_wouldOf 14 = .ok (.invokevirtual 414, 3) := dk_182 1 158 (dk_at dksX6_wouldOf_0 14 rfl rfl)
theorem dX6_wouldOf_17 : decode cX6_wouldOf 17 = .ok (.lstore 4, 2) := dk_55 4 (dk_at dksX6_wouldOf_0 17 rfl rfl)
theorem dX6_wouldOf_19 : decode cX6_wouldOf 19 = .ok (.aload_n 0, 1) := dk_42 (dk_at dksX6_wouldOf_0 19 rfl rfl)
theorem dX6_wouldOf_20 : decode cX6_wouldOf 20 = .ok (.iload_n 1, 1) := dk_27 (dk_at dksX6_wouldOf_0 20 rfl rfl)
theorem dX6_wouldOf_21 : decode cX6_wouldOf 21 = .ok (.iload_n 3, 1) := dk_29 (dk_at dksX6_wouldOf_0 21 rfl rfl)
theorem dX6_wouldOf_22 : decode cX6_wouldOf 22 = .ok (.invokevirtual 411, 3) := dk_182 1 155 (dk_at dksX6_wouldOf_1 0 rfl rfl)
theorem dX6_wouldOf_25 : decode cX6_wouldOf 25 = .ok (.lload 4, 2) := dk_22 4 (dk_at dksX6_wouldOf_1 3 rfl rfl)
theorem dX6_wouldOf_27 : decode cX6_wouldOf 27 = .ok (.lreturn, 1) := dk_173 (dk_at dksX6_wouldOf_1 5 rfl rfl)
abbrev cX6_costNow : ByteArray := prog_20_method_74_code
def yX6_costNow : MethodName := ⟨RX6, "costNow", "(I)J"⟩
def dkwX6_costNow_0 : List UInt8 := [42, 182, 1, 106, 42, 27, 182, 1, 133, 173]
abbrev dktX6_costNow_0 : List UInt8 := dkwX6_costNow_0 ++ []
theorem dksX6_costNow_0 : cX6_costNow.data.toList.drop 0 = dktX6_costNow_0 := by decide +kernel
theorem dX6_costNow_0 : decode cX6_costNow 0 = .ok (.aload_n 0, 1) := dk_42 (dk_at dksX6_costNow_0 0 rfl rfl)
theorem dX6_costNow_1 : decode cX6_costNow 1 = .ok (.invokevirtual 362, 3) := dk_182 1 106 (dk_at dksX6_costNow_0 1 rfl rfl)
theorem dX6_costNow_4 : decode cX6_costNow 4 = .ok (.aload_n 0, 1) := dk_42 (dk_at dksX6_costNow_0 4 rfl rfl)
theorem dX6_costNow_5 : decode cX6_costNow 5 = .ok (.iload_n 1, 1) := dk_27 (dk_at dksX6_costNow_0 5 rfl rfl)
theorem dX6_costNow_6 : decode cX6_costNow 6 = .ok (.invokevirtual 389, 3) := dk_182 1 133 (dk_at dksX6_costNow_0 6 rfl rfl)
theorem dX6_costNow_9 : decode cX6_costNow 9 = .ok (.lreturn, 1) := dk_173 (dk_at dksX6_costNow_0 9 rfl rfl)
abbrev cX6_best : ByteArray := prog_20_method_83_code
def yX6_best : MethodName := ⟨RX6, "best", "(I)I"⟩
def dkwX6_best_0 : List UInt8 := [42, 3, 181, 0, 114, 42, 27, 182, 1, 62, 153, 0, 11, 42, 27, 182, 1, 167, 167, 0, 5, 16, 254, 172]
abbrev dktX6_best_0 : List UInt8 := dkwX6_best_0 ++ []
theorem dksX6_best_0 : cX6_best.data.toList.drop 0 = dktX6_best_0 := by decide +kernel
theorem dX6_best_0 : decode cX6_best 0 = .ok (.aload_n 0, 1) := dk_42 (dk_at dksX6_best_0 0 rfl rfl)
theorem dX6_best_1 : decode cX6_best 1 = .ok (.iconst 0, 1) := dk_3 (dk_at dksX6_best_0 1 rfl rfl)
theorem dX6_best_2 : decode cX6_best 2 = .ok (.putfield 114, 3) := dk_181 0 114 (dk_at dksX6_best_0 2 rfl rfl)
theorem dX6_best_5 : decode cX6_best 5 = .ok (.aload_n 0, 1) := dk_42 (dk_at dksX6_best_0 5 rfl rfl)
theorem dX6_best_6 : decode cX6_best 6 = .ok (.iload_n 1, 1) := dk_27 (dk_at dksX6_best_0 6 rfl rfl)
theorem dX6_best_7 : decode cX6_best 7 = .ok (.invokevirtual 318, 3) := dk_182 1 62 (dk_at dksX6_best_0 7 rfl rfl)
theorem dX6_best_10 : decode cX6_best 10 = .ok (.ifCond .eq 11, 3) := dk_153 0 11 (dk_at dksX6_best_0 10 rfl rfl)
theorem dX6_best_13 : decode cX6_best 13 = .ok (.aload_n 0, 1) := dk_42 (dk_at dksX6_best_0 13 rfl rfl)
theorem dX6_best_14 : decode cX6_best 14 = .ok (.iload_n 1, 1) := dk_27 (dk_at dksX6_best_0 14 rfl rfl)
theorem dX6_best_15 : decode cX6_best 15 = .ok (.invokevirtual 423, 3) := dk_182 1 167 (dk_at dksX6_best_0 15 rfl rfl)
theorem dX6_best_18 : decode cX6_best 18 = .ok (.goto 5, 3) := dk_167 0 5 (dk_at dksX6_best_0 18 rfl rfl)
theorem dX6_best_21 : decode cX6_best 21 = .ok (.bipush (-2), 2) := dk_16 254 (dk_at dksX6_best_0 21 rfl rfl)
theorem dX6_best_23 : decode cX6_best 23 = .ok (.ireturn, 1) := dk_172 (dk_at dksX6_best_0 23 rfl rfl)
abbrev cX6_bestOf : ByteArray := prog_20_method_82_code
def yX6_bestOf : MethodName := ⟨RX6, "bestOf", "(I)I"⟩
def dkwX6_bestOf_2 : List UInt8 := [181, 1, 164, 132, 3, 1, 167, 255, 216, 28, 172]
abbrev dktX6_bestOf_2 : List UInt8 := dkwX6_bestOf_2 ++ []
def dkwX6_bestOf_1 : List UInt8 := [29, 182, 1, 161, 55, 4, 22, 4, 42, 180, 1, 164, 148, 155, 0, 6, 167, 0, 11, 29, 61, 42, 22, 4]
abbrev dktX6_bestOf_1 : List UInt8 := dkwX6_bestOf_1 ++ dktX6_bestOf_2
def dkwX6_bestOf_0 : List UInt8 := [3, 61, 42, 42, 27, 3, 182, 1, 161, 181, 1, 164, 4, 62, 29, 42, 182, 1, 145, 162, 0, 38, 42, 27]
abbrev dktX6_bestOf_0 : List UInt8 := dkwX6_bestOf_0 ++ dktX6_bestOf_1
theorem dksX6_bestOf_0 : cX6_bestOf.data.toList.drop 0 = dktX6_bestOf_0 := by decide +kernel
theorem dksX6_bestOf_1 : cX6_bestOf.data.toList.drop 24 = dktX6_bestOf_1 := dk_seg dksX6_bestOf_0 24 rfl rfl
theorem dksX6_bestOf_2 : cX6_bestOf.data.toList.drop 48 = dktX6_bestOf_2 := dk_seg dksX6_bestOf_1 24 rfl rfl
theorem dX6_bestOf_0 : decode cX6_bestOf 0 = .ok (.iconst 0, 1) := dk_3 (dk_at dksX6_bestOf_0 0 rfl rfl)
theorem dX6_bestOf_1 : decode cX6_bestOf 1 = .ok (.istore_n 2, 1) := dk_61 (dk_at dksX6_bestOf_0 1 rfl rfl)
theorem dX6_bestOf_2 : decode cX6_bestOf 2 = .ok (.aload_n 0, 1) := dk_42 (dk_at dksX6_bestOf_0 2 rfl rfl)
theorem dX6_bestOf_3 : decode cX6_bestOf 3 = .ok (.aload_n 0, 1) := dk_42 (dk_at dksX6_bestOf_0 3 rfl rfl)
theorem dX6_bestOf_4 : decode cX6_bestOf 4 = .ok (.iload_n 1, 1) := dk_27 (dk_at dksX6_bestOf_0 4 rfl rfl)
theorem dX6_bestOf_5 : decode cX6_bestOf 5 = .ok (.iconst 0, 1) := dk_3 (dk_at dksX6_bestOf_0 5 rfl rfl)
theorem dX6_bestOf_6 : decode cX6_bestOf 6 = .ok (.invokevirtual 417, 3) := dk_182 1 161 (dk_at dksX6_bestOf_0 6 rfl rfl)
theorem dX6_bestOf_9 : decode cX6_bestOf 9 = .ok (.putfield 420, 3) := dk_181 1 164 (dk_at dksX6_bestOf_0 9 rfl rfl)
theorem dX6_bestOf_12 : decode cX6_bestOf 12 = .ok (.iconst 1, 1) := dk_4 (dk_at dksX6_bestOf_0 12 rfl rfl)
theorem dX6_bestOf_13 : decode cX6_bestOf 13 = .ok (.istore_n 3, 1) := dk_62 (dk_at dksX6_bestOf_0 13 rfl rfl)
theorem dX6_bestOf_14 : decode cX6_bestOf 14 = .ok (.iload_n 3, 1) := dk_29 (dk_at dksX6_bestOf_0 14 rfl rfl)
theorem dX6_bestOf_15 : decode cX6_bestOf 15 = .ok (.aload_n 0, 1) := dk_42 (dk_at dksX6_bestOf_0 15 rfl rfl)
theorem dX6_bestOf_16 : decode cX6_bestOf 16 = .ok (.invokevirtual 401, 3) := dk_182 1 145 (dk_at dksX6_bestOf_0 16 rfl rfl)
theorem dX6_bestOf_19 : decode cX6_bestOf 19 = .ok (.if_icmp .ge 38, 3) := dk_162 0 38 (dk_at dksX6_bestOf_0 19 rfl rfl)
theorem dX6_bestOf_22 : decode cX6_bestOf 22 = .ok (.aload_n 0, 1) := dk_42 (dk_at dksX6_bestOf_0 22 rfl rfl)
theorem dX6_bestOf_23 : decode cX6_bestOf 23 = .ok (.iload_n 1, 1) := dk_27 (dk_at dksX6_bestOf_0 23 rfl rfl)
theorem dX6_bestOf_24 : decode cX6_bestOf 24 = .ok (.iload_n 3, 1) := dk_29 (dk_at dksX6_bestOf_1 0 rfl rfl)
theorem dX6_bestOf_25 : decode cX6_bestOf 25 = .ok (.invokevirtual 417, 3) := dk_182 1 161 (dk_at dksX6_bestOf_1 1 rfl rfl)
theorem dX6_bestOf_28 : decode cX6_bestOf 28 = .ok (.lstore 4, 2) := dk_55 4 (dk_at dksX6_bestOf_1 4 rfl rfl)
theorem dX6_bestOf_30 : decode cX6_bestOf 30 = .ok (.lload 4, 2) := dk_22 4 (dk_at dksX6_bestOf_1 6 rfl rfl)
theorem dX6_bestOf_32 : decode cX6_bestOf 32 = .ok (.aload_n 0, 1) := dk_42 (dk_at dksX6_bestOf_1 8 rfl rfl)
theorem dX6_bestOf_33 : decode cX6_bestOf 33 = .ok (.getfield 420, 3) := dk_180 1 164 (dk_at dksX6_bestOf_1 9 rfl rfl)
theorem dX6_bestOf_36 : decode cX6_bestOf 36 = .ok (.lcmp, 1) := dk_148 (dk_at dksX6_bestOf_1 12 rfl rfl)
theorem dX6_bestOf_37 : decode cX6_bestOf 37 = .ok (.ifCond .lt 6, 3) := dk_155 0 6 (dk_at dksX6_bestOf_1 13 rfl rfl)
theorem dX6_bestOf_40 : decode cX6_bestOf 40 = .ok (.goto 11, 3) := dk_167 0 11 (dk_at dksX6_bestOf_1 16 rfl rfl)
theorem dX6_bestOf_43 : decode cX6_bestOf 43 = .ok (.iload_n 3, 1) := dk_29 (dk_at dksX6_bestOf_1 19 rfl rfl)
theorem dX6_bestOf_44 : decode cX6_bestOf 44 = .ok (.istore_n 2, 1) := dk_61 (dk_at dksX6_bestOf_1 20 rfl rfl)
theorem dX6_bestOf_45 : decode cX6_bestOf 45 = .ok (.aload_n 0, 1) := dk_42 (dk_at dksX6_bestOf_1 21 rfl rfl)
theorem dX6_bestOf_46 : decode cX6_bestOf 46 = .ok (.lload 4, 2) := dk_22 4 (dk_at dksX6_bestOf_1 22 rfl rfl)
theorem dX6_bestOf_48 : decode cX6_bestOf 48 = .ok (.putfield 420, 3) := dk_181 1 164 (dk_at dksX6_bestOf_2 0 rfl rfl)
theorem dX6_bestOf_51 : decode cX6_bestOf 51 = .ok (.iinc 3 1, 3) := dk_132 3 1 (dk_at dksX6_bestOf_2 3 rfl rfl)
theorem dX6_bestOf_54 : decode cX6_bestOf 54 = .ok (.goto (-40), 3) := dk_167 255 216 (dk_at dksX6_bestOf_2 6 rfl rfl)
theorem dX6_bestOf_57 : decode cX6_bestOf 57 = .ok (.iload_n 2, 1) := dk_28 (dk_at dksX6_bestOf_2 9 rfl rfl)
theorem dX6_bestOf_58 : decode cX6_bestOf 58 = .ok (.ireturn, 1) := dk_172 (dk_at dksX6_bestOf_2 10 rfl rfl)
abbrev cX6_restless : ByteArray := prog_20_method_84_code
def yX6_restless : MethodName := ⟨RX6, "restless", "()I"⟩
def dkwX6_restless_2 : List UInt8 := [156, 0, 7, 4, 167, 0, 4, 3, 96, 60, 132, 2, 1, 167, 255, 216, 27, 172]
abbrev dktX6_restless_2 : List UInt8 := dkwX6_restless_2 ++ []
def dkwX6_restless_1 : List UInt8 := [3, 46, 162, 0, 36, 42, 28, 182, 1, 167, 87, 27, 42, 180, 1, 164, 42, 28, 182, 1, 158, 148]
abbrev dktX6_restless_1 : List UInt8 := dkwX6_restless_1 ++ dktX6_restless_2
def dkwX6_restless_0 : List UInt8 := [42, 3, 181, 0, 114, 42, 182, 1, 98, 154, 0, 6, 16, 254, 172, 3, 60, 3, 61, 28, 42, 180, 0, 52]
abbrev dktX6_restless_0 : List UInt8 := dkwX6_restless_0 ++ dktX6_restless_1
theorem dksX6_restless_0 : cX6_restless.data.toList.drop 0 = dktX6_restless_0 := by decide +kernel
theorem dksX6_restless_1 : cX6_restless.data.toList.drop 24 = dktX6_restless_1 := dk_seg dksX6_restless_0 24 rfl rfl
theorem dksX6_restless_2 : cX6_restless.data.toList.drop 46 = dktX6_restless_2 := dk_seg dksX6_restless_1 22 rfl rfl
theorem dX6_restless_0 : decode cX6_restless 0 = .ok (.aload_n 0, 1) := dk_42 (dk_at dksX6_restless_0 0 rfl rfl)
theorem dX6_restless_1 : decode cX6_restless 1 = .ok (.iconst 0, 1) := dk_3 (dk_at dksX6_restless_0 1 rfl rfl)
theorem dX6_restless_2 : decode cX6_restless 2 = .ok (.putfield 114, 3) := dk_181 0 114 (dk_at dksX6_restless_0 2 rfl rfl)
theorem dX6_restless_5 : decode cX6_restless 5 = .ok (.aload_n 0, 1) := dk_42 (dk_at dksX6_restless_0 5 rfl rfl)
theorem dX6_restless_6 : decode cX6_restless 6 = .ok (.invokevirtual 354, 3) := dk_182 1 98 (dk_at dksX6_restless_0 6 rfl rfl)
theorem dX6_restless_9 : decode cX6_restless 9 = .ok (.ifCond .ne 6, 3) := dk_154 0 6 (dk_at dksX6_restless_0 9 rfl rfl)
theorem dX6_restless_12 : decode cX6_restless 12 = .ok (.bipush (-2), 2) := dk_16 254 (dk_at dksX6_restless_0 12 rfl rfl)
theorem dX6_restless_14 : decode cX6_restless 14 = .ok (.ireturn, 1) := dk_172 (dk_at dksX6_restless_0 14 rfl rfl)
theorem dX6_restless_15 : decode cX6_restless 15 = .ok (.iconst 0, 1) := dk_3 (dk_at dksX6_restless_0 15 rfl rfl)
theorem dX6_restless_16 : decode cX6_restless 16 = .ok (.istore_n 1, 1) := dk_60 (dk_at dksX6_restless_0 16 rfl rfl)
theorem dX6_restless_17 : decode cX6_restless 17 = .ok (.iconst 0, 1) := dk_3 (dk_at dksX6_restless_0 17 rfl rfl)
theorem dX6_restless_18 : decode cX6_restless 18 = .ok (.istore_n 2, 1) := dk_61 (dk_at dksX6_restless_0 18 rfl rfl)
theorem dX6_restless_19 : decode cX6_restless 19 = .ok (.iload_n 2, 1) := dk_28 (dk_at dksX6_restless_0 19 rfl rfl)
theorem dX6_restless_20 : decode cX6_restless 20 = .ok (.aload_n 0, 1) := dk_42 (dk_at dksX6_restless_0 20 rfl rfl)
theorem dX6_restless_21 : decode cX6_restless 21 = .ok (.getfield 52, 3) := dk_180 0 52 (dk_at dksX6_restless_0 21 rfl rfl)
theorem dX6_restless_24 : decode cX6_restless 24 = .ok (.iconst 0, 1) := dk_3 (dk_at dksX6_restless_1 0 rfl rfl)
theorem dX6_restless_25 : decode cX6_restless 25 = .ok (.iaload, 1) := dk_46 (dk_at dksX6_restless_1 1 rfl rfl)
theorem dX6_restless_26 : decode cX6_restless 26 = .ok (.if_icmp .ge 36, 3) := dk_162 0 36 (dk_at dksX6_restless_1 2 rfl rfl)
theorem dX6_restless_29 : decode cX6_restless 29 = .ok (.aload_n 0, 1) := dk_42 (dk_at dksX6_restless_1 5 rfl rfl)
theorem dX6_restless_30 : decode cX6_restless 30 = .ok (.iload_n 2, 1) := dk_28 (dk_at dksX6_restless_1 6 rfl rfl)
theorem dX6_restless_31 : decode cX6_restless 31 = .ok (.invokevirtual 423, 3) := dk_182 1 167 (dk_at dksX6_restless_1 7 rfl rfl)
theorem dX6_restless_34 : decode cX6_restless 34 = .ok (.pop, 1) := dk_87 (dk_at dksX6_restless_1 10 rfl rfl)
theorem dX6_restless_35 : decode cX6_restless 35 = .ok (.iload_n 1, 1) := dk_27 (dk_at dksX6_restless_1 11 rfl rfl)
theorem dX6_restless_36 : decode cX6_restless 36 = .ok (.aload_n 0, 1) := dk_42 (dk_at dksX6_restless_1 12 rfl rfl)
theorem dX6_restless_37 : decode cX6_restless 37 = .ok (.getfield 420, 3) := dk_180 1 164 (dk_at dksX6_restless_1 13 rfl rfl)
theorem dX6_restless_40 : decode cX6_restless 40 = .ok (.aload_n 0, 1) := dk_42 (dk_at dksX6_restless_1 16 rfl rfl)
theorem dX6_restless_41 : decode cX6_restless 41 = .ok (.iload_n 2, 1) := dk_28 (dk_at dksX6_restless_1 17 rfl rfl)
theorem dX6_restless_42 : decode cX6_restless 42 = .ok (.invokevirtual 414, 3) := dk_182 1 158 (dk_at dksX6_restless_1 18 rfl rfl)
theorem dX6_restless_45 : decode cX6_restless 45 = .ok (.lcmp, 1) := dk_148 (dk_at dksX6_restless_1 21 rfl rfl)
theorem dX6_restless_46 : decode cX6_restless 46 = .ok (.ifCond .ge 7, 3) := dk_156 0 7 (dk_at dksX6_restless_2 0 rfl rfl)
theorem dX6_restless_49 : decode cX6_restless 49 = .ok (.iconst 1, 1) := dk_4 (dk_at dksX6_restless_2 3 rfl rfl)
theorem dX6_restless_50 : decode cX6_restless 50 = .ok (.goto 4, 3) := dk_167 0 4 (dk_at dksX6_restless_2 4 rfl rfl)
theorem dX6_restless_53 : decode cX6_restless 53 = .ok (.iconst 0, 1) := dk_3 (dk_at dksX6_restless_2 7 rfl rfl)
theorem dX6_restless_54 : decode cX6_restless 54 = .ok (.iadd, 1) := dk_96 (dk_at dksX6_restless_2 8 rfl rfl)
theorem dX6_restless_55 : decode cX6_restless 55 = .ok (.istore_n 1, 1) := dk_60 (dk_at dksX6_restless_2 9 rfl rfl)
theorem dX6_restless_56 : decode cX6_restless 56 = .ok (.iinc 2 1, 3) := dk_132 2 1 (dk_at dksX6_restless_2 10 rfl rfl)
theorem dX6_restless_59 : decode cX6_restless 59 = .ok (.goto (-40), 3) := dk_167 255 216 (dk_at dksX6_restless_2 13 rfl rfl)
theorem dX6_restless_62 : decode cX6_restless 62 = .ok (.iload_n 1, 1) := dk_27 (dk_at dksX6_restless_2 16 rfl rfl)
theorem dX6_restless_63 : decode cX6_restless 63 = .ok (.ireturn, 1) := dk_172 (dk_at dksX6_restless_2 17 rfl rfl)
abbrev cX6_settle : ByteArray := prog_20_method_89_code
def yX6_settle : MethodName := ⟨RX6, "settle", "(I)I"⟩
def dkwX6_settle_1 : List UInt8 := [42, 27, 182, 1, 179, 167, 0, 5, 16, 254, 172]
abbrev dktX6_settle_1 : List UInt8 := dkwX6_settle_1 ++ []
def dkwX6_settle_0 : List UInt8 := [42, 3, 181, 0, 114, 42, 182, 1, 98, 153, 0, 23, 27, 133, 9, 20, 1, 177, 184, 0, 119, 153, 0, 11]
abbrev dktX6_settle_0 : List UInt8 := dkwX6_settle_0 ++ dktX6_settle_1
theorem dksX6_settle_0 : cX6_settle.data.toList.drop 0 = dktX6_settle_0 := by decide +kernel
theorem dksX6_settle_1 : cX6_settle.data.toList.drop 24 = dktX6_settle_1 := dk_seg dksX6_settle_0 24 rfl rfl
theorem dX6_settle_0 : decode cX6_settle 0 = .ok (.aload_n 0, 1) := dk_42 (dk_at dksX6_settle_0 0 rfl rfl)
theorem dX6_settle_1 : decode cX6_settle 1 = .ok (.iconst 0, 1) := dk_3 (dk_at dksX6_settle_0 1 rfl rfl)
theorem dX6_settle_2 : decode cX6_settle 2 = .ok (.putfield 114, 3) := dk_181 0 114 (dk_at dksX6_settle_0 2 rfl rfl)
theorem dX6_settle_5 : decode cX6_settle 5 = .ok (.aload_n 0, 1) := dk_42 (dk_at dksX6_settle_0 5 rfl rfl)
theorem dX6_settle_6 : decode cX6_settle 6 = .ok (.invokevirtual 354, 3) := dk_182 1 98 (dk_at dksX6_settle_0 6 rfl rfl)
theorem dX6_settle_9 : decode cX6_settle 9 = .ok (.ifCond .eq 23, 3) := dk_153 0 23 (dk_at dksX6_settle_0 9 rfl rfl)
theorem dX6_settle_12 : decode cX6_settle 12 = .ok (.iload_n 1, 1) := dk_27 (dk_at dksX6_settle_0 12 rfl rfl)
theorem dX6_settle_13 : decode cX6_settle 13 = .ok (.i2l, 1) := dk_133 (dk_at dksX6_settle_0 13 rfl rfl)
theorem dX6_settle_14 : decode cX6_settle 14 = .ok (.lconst 0, 1) := dk_9 (dk_at dksX6_settle_0 14 rfl rfl)
theorem dX6_settle_15 : decode cX6_settle 15 = .ok (.ldc2_w 433, 3) := dk_20 1 177 (dk_at dksX6_settle_0 15 rfl rfl)
theorem dX6_settle_18 : decode cX6_settle 18 = .ok (.invokestatic 119, 3) := dk_184 0 119 (dk_at dksX6_settle_0 18 rfl rfl)
theorem dX6_settle_21 : decode cX6_settle 21 = .ok (.ifCond .eq 11, 3) := dk_153 0 11 (dk_at dksX6_settle_0 21 rfl rfl)
theorem dX6_settle_24 : decode cX6_settle 24 = .ok (.aload_n 0, 1) := dk_42 (dk_at dksX6_settle_1 0 rfl rfl)
theorem dX6_settle_25 : decode cX6_settle 25 = .ok (.iload_n 1, 1) := dk_27 (dk_at dksX6_settle_1 1 rfl rfl)
theorem dX6_settle_26 : decode cX6_settle 26 = .ok (.invokevirtual 435, 3) := dk_182 1 179 (dk_at dksX6_settle_1 2 rfl rfl)
theorem dX6_settle_29 : decode cX6_settle 29 = .ok (.goto 5, 3) := dk_167 0 5 (dk_at dksX6_settle_1 5 rfl rfl)
theorem dX6_settle_32 : decode cX6_settle 32 = .ok (.bipush (-2), 2) := dk_16 254 (dk_at dksX6_settle_1 8 rfl rfl)
theorem dX6_settle_34 : decode cX6_settle 34 = .ok (.ireturn, 1) := dk_172 (dk_at dksX6_settle_1 10 rfl rfl)
abbrev cX6_settlesIn : ByteArray := prog_20_method_88_code
def yX6_settlesIn : MethodName := ⟨RX6, "settlesIn", "(I)I"⟩
def dkwX6_settlesIn_1 : List UInt8 := [154, 0, 7, 4, 167, 0, 4, 3, 181, 1, 170, 132, 2, 1, 167, 255, 225, 28, 172]
abbrev dktX6_settlesIn_1 : List UInt8 := dkwX6_settlesIn_1 ++ []
def dkwX6_settlesIn_0 : List UInt8 := [42, 3, 181, 1, 170, 3, 61, 28, 27, 162, 0, 32, 42, 180, 1, 170, 154, 0, 25, 42, 42, 182, 1, 174]
abbrev dktX6_settlesIn_0 : List UInt8 := dkwX6_settlesIn_0 ++ dktX6_settlesIn_1
theorem dksX6_settlesIn_0 : cX6_settlesIn.data.toList.drop 0 = dktX6_settlesIn_0 := by decide +kernel
theorem dksX6_settlesIn_1 : cX6_settlesIn.data.toList.drop 24 = dktX6_settlesIn_1 := dk_seg dksX6_settlesIn_0 24 rfl rfl
theorem dX6_settlesIn_0 : decode cX6_settlesIn 0 = .ok (.aload_n 0, 1) := dk_42 (dk_at dksX6_settlesIn_0 0 rfl rfl)
theorem dX6_settlesIn_1 : decode cX6_settlesIn 1 = .ok (.iconst 0, 1) := dk_3 (dk_at dksX6_settlesIn_0 1 rfl rfl)
theorem dX6_settlesIn_2 : decode cX6_settlesIn 2 = .ok (.putfield 426, 3) := dk_181 1 170 (dk_at dksX6_settlesIn_0 2 rfl rfl)
theorem dX6_settlesIn_5 : decode cX6_settlesIn 5 = .ok (.iconst 0, 1) := dk_3 (dk_at dksX6_settlesIn_0 5 rfl rfl)
theorem dX6_settlesIn_6 : decode cX6_settlesIn 6 = .ok (.istore_n 2, 1) := dk_61 (dk_at dksX6_settlesIn_0 6 rfl rfl)
theorem dX6_settlesIn_7 : decode cX6_settlesIn 7 = .ok (.iload_n 2, 1) := dk_28 (dk_at dksX6_settlesIn_0 7 rfl rfl)
theorem dX6_settlesIn_8 : decode cX6_settlesIn 8 = .ok (.iload_n 1, 1) := dk_27 (dk_at dksX6_settlesIn_0 8 rfl rfl)
theorem dX6_settlesIn_9 : decode cX6_settlesIn 9 = .ok (.if_icmp .ge 32, 3) := dk_162 0 32 (dk_at dksX6_settlesIn_0 9 rfl rfl)
theorem dX6_settlesIn_12 : decode cX6_settlesIn 12 = .ok (.aload_n 0, 1) := dk_42 (dk_at dksX6_settlesIn_0 12 rfl rfl)
theorem dX6_settlesIn_13 : decode cX6_settlesIn 13 = .ok (.getfield 426, 3) := dk_180 1 170 (dk_at dksX6_settlesIn_0 13 rfl rfl)
theorem dX6_settlesIn_16 : decode cX6_settlesIn 16 = .ok (.ifCond .ne 25, 3) := dk_154 0 25 (dk_at dksX6_settlesIn_0 16 rfl rfl)
theorem dX6_settlesIn_19 : decode cX6_settlesIn 19 = .ok (.aload_n 0, 1) := dk_42 (dk_at dksX6_settlesIn_0 19 rfl rfl)
theorem dX6_settlesIn_20 : decode cX6_settlesIn 20 = .ok (.aload_n 0, 1) := dk_42 (dk_at dksX6_settlesIn_0 20 rfl rfl)
theorem dX6_settlesIn_21 : decode cX6_settlesIn 21 = .ok (.invokevirtual 430, 3) := dk_182 1 174 (dk_at dksX6_settlesIn_0 21 rfl rfl)
theorem dX6_settlesIn_24 : decode cX6_settlesIn 24 = .ok (.ifCond .ne 7, 3) := dk_154 0 7 (dk_at dksX6_settlesIn_1 0 rfl rfl)
theorem dX6_settlesIn_27 : decode cX6_settlesIn 27 = .ok (.iconst 1, 1) := dk_4 (dk_at dksX6_settlesIn_1 3 rfl rfl)
theorem dX6_settlesIn_28 : decode cX6_settlesIn 28 = .ok (.goto 4, 3) := dk_167 0 4 (dk_at dksX6_settlesIn_1 4 rfl rfl)
theorem dX6_settlesIn_31 : decode cX6_settlesIn 31 = .ok (.iconst 0, 1) := dk_3 (dk_at dksX6_settlesIn_1 7 rfl rfl)
theorem dX6_settlesIn_32 : decode cX6_settlesIn 32 = .ok (.putfield 426, 3) := dk_181 1 170 (dk_at dksX6_settlesIn_1 8 rfl rfl)
theorem dX6_settlesIn_35 : decode cX6_settlesIn 35 = .ok (.iinc 2 1, 3) := dk_132 2 1 (dk_at dksX6_settlesIn_1 11 rfl rfl)
theorem dX6_settlesIn_38 : decode cX6_settlesIn 38 = .ok (.goto (-31), 3) := dk_167 255 225 (dk_at dksX6_settlesIn_1 14 rfl rfl)
theorem dX6_settlesIn_41 : decode cX6_settlesIn 41 = .ok (.iload_n 2, 1) := dk_28 (dk_at dksX6_settlesIn_1 17 rfl rfl)
theorem dX6_settlesIn_42 : decode cX6_settlesIn 42 = .ok (.ireturn, 1) := dk_172 (dk_at dksX6_settlesIn_1 18 rfl rfl)
abbrev cX6_round : ByteArray := prog_20_method_85_code
def yX6_round : MethodName := ⟨RX6, "round", "()Z"⟩
def dkwX6_round_2 : List UInt8 := [167, 255, 213, 27, 172]
abbrev dktX6_round_2 : List UInt8 := dkwX6_round_2 ++ []
def dkwX6_round_1 : List UInt8 := [42, 28, 182, 1, 158, 148, 155, 0, 6, 167, 0, 11, 42, 28, 29, 182, 1, 155, 4, 60, 132, 2, 1]
abbrev dktX6_round_1 : List UInt8 := dkwX6_round_1 ++ dktX6_round_2
def dkwX6_round_0 : List UInt8 := [3, 60, 3, 61, 28, 42, 180, 0, 52, 3, 46, 162, 0, 39, 42, 28, 182, 1, 167, 62, 42, 180, 1, 164]
abbrev dktX6_round_0 : List UInt8 := dkwX6_round_0 ++ dktX6_round_1
theorem dksX6_round_0 : cX6_round.data.toList.drop 0 = dktX6_round_0 := by decide +kernel
theorem dksX6_round_1 : cX6_round.data.toList.drop 24 = dktX6_round_1 := dk_seg dksX6_round_0 24 rfl rfl
theorem dksX6_round_2 : cX6_round.data.toList.drop 47 = dktX6_round_2 := dk_seg dksX6_round_1 23 rfl rfl
theorem dX6_round_0 : decode cX6_round 0 = .ok (.iconst 0, 1) := dk_3 (dk_at dksX6_round_0 0 rfl rfl)
theorem dX6_round_1 : decode cX6_round 1 = .ok (.istore_n 1, 1) := dk_60 (dk_at dksX6_round_0 1 rfl rfl)
theorem dX6_round_2 : decode cX6_round 2 = .ok (.iconst 0, 1) := dk_3 (dk_at dksX6_round_0 2 rfl rfl)
theorem dX6_round_3 : decode cX6_round 3 = .ok (.istore_n 2, 1) := dk_61 (dk_at dksX6_round_0 3 rfl rfl)
theorem dX6_round_4 : decode cX6_round 4 = .ok (.iload_n 2, 1) := dk_28 (dk_at dksX6_round_0 4 rfl rfl)
theorem dX6_round_5 : decode cX6_round 5 = .ok (.aload_n 0, 1) := dk_42 (dk_at dksX6_round_0 5 rfl rfl)
theorem dX6_round_6 : decode cX6_round 6 = .ok (.getfield 52, 3) := dk_180 0 52 (dk_at dksX6_round_0 6 rfl rfl)
theorem dX6_round_9 : decode cX6_round 9 = .ok (.iconst 0, 1) := dk_3 (dk_at dksX6_round_0 9 rfl rfl)
theorem dX6_round_10 : decode cX6_round 10 = .ok (.iaload, 1) := dk_46 (dk_at dksX6_round_0 10 rfl rfl)
theorem dX6_round_11 : decode cX6_round 11 = .ok (.if_icmp .ge 39, 3) := dk_162 0 39 (dk_at dksX6_round_0 11 rfl rfl)
theorem dX6_round_14 : decode cX6_round 14 = .ok (.aload_n 0, 1) := dk_42 (dk_at dksX6_round_0 14 rfl rfl)
theorem dX6_round_15 : decode cX6_round 15 = .ok (.iload_n 2, 1) := dk_28 (dk_at dksX6_round_0 15 rfl rfl)
theorem dX6_round_16 : decode cX6_round 16 = .ok (.invokevirtual 423, 3) := dk_182 1 167 (dk_at dksX6_round_0 16 rfl rfl)
theorem dX6_round_19 : decode cX6_round 19 = .ok (.istore_n 3, 1) := dk_62 (dk_at dksX6_round_0 19 rfl rfl)
theorem dX6_round_20 : decode cX6_round 20 = .ok (.aload_n 0, 1) := dk_42 (dk_at dksX6_round_0 20 rfl rfl)
theorem dX6_round_21 : decode cX6_round 21 = .ok (.getfield 420, 3) := dk_180 1 164 (dk_at dksX6_round_0 21 rfl rfl)
theorem dX6_round_24 : decode cX6_round 24 = .ok (.aload_n 0, 1) := dk_42 (dk_at dksX6_round_1 0 rfl rfl)
theorem dX6_round_25 : decode cX6_round 25 = .ok (.iload_n 2, 1) := dk_28 (dk_at dksX6_round_1 1 rfl rfl)
theorem dX6_round_26 : decode cX6_round 26 = .ok (.invokevirtual 414, 3) := dk_182 1 158 (dk_at dksX6_round_1 2 rfl rfl)
theorem dX6_round_29 : decode cX6_round 29 = .ok (.lcmp, 1) := dk_148 (dk_at dksX6_round_1 5 rfl rfl)
theorem dX6_round_30 : decode cX6_round 30 = .ok (.ifCond .lt 6, 3) := dk_155 0 6 (dk_at dksX6_round_1 6 rfl rfl)
theorem dX6_round_33 : decode cX6_round 33 = .ok (.goto 11, 3) := dk_167 0 11 (dk_at dksX6_round_1 9 rfl rfl)
theorem dX6_round_36 : decode cX6_round 36 = .ok (.aload_n 0, 1) := dk_42 (dk_at dksX6_round_1 12 rfl rfl)
theorem dX6_round_37 : decode cX6_round 37 = .ok (.iload_n 2, 1) := dk_28 (dk_at dksX6_round_1 13 rfl rfl)
theorem dX6_round_38 : decode cX6_round 38 = .ok (.iload_n 3, 1) := dk_29 (dk_at dksX6_round_1 14 rfl rfl)
theorem dX6_round_39 : decode cX6_round 39 = .ok (.invokevirtual 411, 3) := dk_182 1 155 (dk_at dksX6_round_1 15 rfl rfl)
theorem dX6_round_42 : decode cX6_round 42 = .ok (.iconst 1, 1) := dk_4 (dk_at dksX6_round_1 18 rfl rfl)
theorem dX6_round_43 : decode cX6_round 43 = .ok (.istore_n 1, 1) := dk_60 (dk_at dksX6_round_1 19 rfl rfl)
theorem dX6_round_44 : decode cX6_round 44 = .ok (.iinc 2 1, 3) := dk_132 2 1 (dk_at dksX6_round_1 20 rfl rfl)
theorem dX6_round_47 : decode cX6_round 47 = .ok (.goto (-43), 3) := dk_167 255 213 (dk_at dksX6_round_2 0 rfl rfl)
theorem dX6_round_50 : decode cX6_round 50 = .ok (.iload_n 1, 1) := dk_27 (dk_at dksX6_round_2 3 rfl rfl)
theorem dX6_round_51 : decode cX6_round 51 = .ok (.ireturn, 1) := dk_172 (dk_at dksX6_round_2 4 rfl rfl)
abbrev cX6_settles : ByteArray := prog_20_method_90_code
def yX6_settles : MethodName := ⟨RX6, "settles", "()I"⟩
def dkwX6_settles_1 : List UInt8 := [182, 1, 179, 60, 42, 182, 1, 185, 42, 180, 1, 170, 153, 0, 7, 27, 167, 0, 4, 2, 172]
abbrev dktX6_settles_1 : List UInt8 := dkwX6_settles_1 ++ []
def dkwX6_settles_0 : List UInt8 := [42, 3, 181, 0, 114, 42, 182, 1, 98, 154, 0, 6, 16, 254, 172, 42, 182, 1, 182, 42, 16, 30]
abbrev dktX6_settles_0 : List UInt8 := dkwX6_settles_0 ++ dktX6_settles_1
theorem dksX6_settles_0 : cX6_settles.data.toList.drop 0 = dktX6_settles_0 := by decide +kernel
theorem dksX6_settles_1 : cX6_settles.data.toList.drop 22 = dktX6_settles_1 := dk_seg dksX6_settles_0 22 rfl rfl
theorem dX6_settles_0 : decode cX6_settles 0 = .ok (.aload_n 0, 1) := dk_42 (dk_at dksX6_settles_0 0 rfl rfl)
theorem dX6_settles_1 : decode cX6_settles 1 = .ok (.iconst 0, 1) := dk_3 (dk_at dksX6_settles_0 1 rfl rfl)
theorem dX6_settles_2 : decode cX6_settles 2 = .ok (.putfield 114, 3) := dk_181 0 114 (dk_at dksX6_settles_0 2 rfl rfl)
theorem dX6_settles_5 : decode cX6_settles 5 = .ok (.aload_n 0, 1) := dk_42 (dk_at dksX6_settles_0 5 rfl rfl)
theorem dX6_settles_6 : decode cX6_settles 6 = .ok (.invokevirtual 354, 3) := dk_182 1 98 (dk_at dksX6_settles_0 6 rfl rfl)
theorem dX6_settles_9 : decode cX6_settles 9 = .ok (.ifCond .ne 6, 3) := dk_154 0 6 (dk_at dksX6_settles_0 9 rfl rfl)
theorem dX6_settles_12 : decode cX6_settles 12 = .ok (.bipush (-2), 2) := dk_16 254 (dk_at dksX6_settles_0 12 rfl rfl)
theorem dX6_settles_14 : decode cX6_settles 14 = .ok (.ireturn, 1) := dk_172 (dk_at dksX6_settles_0 14 rfl rfl)
theorem dX6_settles_15 : decode cX6_settles 15 = .ok (.aload_n 0, 1) := dk_42 (dk_at dksX6_settles_0 15 rfl rfl)
theorem dX6_settles_16 : decode cX6_settles 16 = .ok (.invokevirtual 438, 3) := dk_182 1 182 (dk_at dksX6_settles_0 16 rfl rfl)
theorem dX6_settles_19 : decode cX6_settles 19 = .ok (.aload_n 0, 1) := dk_42 (dk_at dksX6_settles_0 19 rfl rfl)
theorem dX6_settles_20 : decode cX6_settles 20 = .ok (.bipush 30, 2) := dk_16 30 (dk_at dksX6_settles_0 20 rfl rfl)
theorem dX6_settles_22 : decode cX6_settles 22 = .ok (.invokevirtual 435, 3) := dk_182 1 179 (dk_at dksX6_settles_1 0 rfl rfl)
theorem dX6_settles_25 : decode cX6_settles 25 = .ok (.istore_n 1, 1) := dk_60 (dk_at dksX6_settles_1 3 rfl rfl)
theorem dX6_settles_26 : decode cX6_settles 26 = .ok (.aload_n 0, 1) := dk_42 (dk_at dksX6_settles_1 4 rfl rfl)
theorem dX6_settles_27 : decode cX6_settles 27 = .ok (.invokevirtual 441, 3) := dk_182 1 185 (dk_at dksX6_settles_1 5 rfl rfl)
theorem dX6_settles_30 : decode cX6_settles 30 = .ok (.aload_n 0, 1) := dk_42 (dk_at dksX6_settles_1 8 rfl rfl)
theorem dX6_settles_31 : decode cX6_settles 31 = .ok (.getfield 426, 3) := dk_180 1 170 (dk_at dksX6_settles_1 9 rfl rfl)
theorem dX6_settles_34 : decode cX6_settles 34 = .ok (.ifCond .eq 7, 3) := dk_153 0 7 (dk_at dksX6_settles_1 12 rfl rfl)
theorem dX6_settles_37 : decode cX6_settles 37 = .ok (.iload_n 1, 1) := dk_27 (dk_at dksX6_settles_1 15 rfl rfl)
theorem dX6_settles_38 : decode cX6_settles 38 = .ok (.goto 4, 3) := dk_167 0 4 (dk_at dksX6_settles_1 16 rfl rfl)
theorem dX6_settles_41 : decode cX6_settles 41 = .ok (.iconst (-1), 1) := dk_2 (dk_at dksX6_settles_1 19 rfl rfl)
theorem dX6_settles_42 : decode cX6_settles 42 = .ok (.ireturn, 1) := dk_172 (dk_at dksX6_settles_1 20 rfl rfl)
abbrev cX6_laysAside : ByteArray := prog_20_method_86_code
def yX6_laysAside : MethodName := ⟨RX6, "laysAside", "()V"⟩
def dkwX6_laysAside_1 : List UInt8 := [132, 1, 1, 167, 255, 232, 177]
abbrev dktX6_laysAside_1 : List UInt8 := dkwX6_laysAside_1 ++ []
def dkwX6_laysAside_0 : List UInt8 := [3, 60, 27, 42, 180, 0, 52, 3, 46, 162, 0, 20, 42, 180, 0, 92, 27, 42, 27, 182, 1, 152, 79]
abbrev dktX6_laysAside_0 : List UInt8 := dkwX6_laysAside_0 ++ dktX6_laysAside_1
theorem dksX6_laysAside_0 : cX6_laysAside.data.toList.drop 0 = dktX6_laysAside_0 := by decide +kernel
theorem dksX6_laysAside_1 : cX6_laysAside.data.toList.drop 23 = dktX6_laysAside_1 := dk_seg dksX6_laysAside_0 23 rfl rfl
theorem dX6_laysAside_0 : decode cX6_laysAside 0 = .ok (.iconst 0, 1) := dk_3 (dk_at dksX6_laysAside_0 0 rfl rfl)
theorem dX6_laysAside_1 : decode cX6_laysAside 1 = .ok (.istore_n 1, 1) := dk_60 (dk_at dksX6_laysAside_0 1 rfl rfl)
theorem dX6_laysAside_2 : decode cX6_laysAside 2 = .ok (.iload_n 1, 1) := dk_27 (dk_at dksX6_laysAside_0 2 rfl rfl)
theorem dX6_laysAside_3 : decode cX6_laysAside 3 = .ok (.aload_n 0, 1) := dk_42 (dk_at dksX6_laysAside_0 3 rfl rfl)
theorem dX6_laysAside_4 : decode cX6_laysAside 4 = .ok (.getfield 52, 3) := dk_180 0 52 (dk_at dksX6_laysAside_0 4 rfl rfl)
theorem dX6_laysAside_7 : decode cX6_laysAside 7 = .ok (.iconst 0, 1) := dk_3 (dk_at dksX6_laysAside_0 7 rfl rfl)
theorem dX6_laysAside_8 : decode cX6_laysAside 8 = .ok (.iaload, 1) := dk_46 (dk_at dksX6_laysAside_0 8 rfl rfl)
theorem dX6_laysAside_9 : decode cX6_laysAside 9 = .ok (.if_icmp .ge 20, 3) := dk_162 0 20 (dk_at dksX6_laysAside_0 9 rfl rfl)
theorem dX6_laysAside_12 : decode cX6_laysAside 12 = .ok (.aload_n 0, 1) := dk_42 (dk_at dksX6_laysAside_0 12 rfl rfl)
theorem dX6_laysAside_13 : decode cX6_laysAside 13 = .ok (.getfield 92, 3) := dk_180 0 92 (dk_at dksX6_laysAside_0 13 rfl rfl)
theorem dX6_laysAside_16 : decode cX6_laysAside 16 = .ok (.iload_n 1, 1) := dk_27 (dk_at dksX6_laysAside_0 16 rfl rfl)
theorem dX6_laysAside_17 : decode cX6_laysAside 17 = .ok (.aload_n 0, 1) := dk_42 (dk_at dksX6_laysAside_0 17 rfl rfl)
theorem dX6_laysAside_18 : decode cX6_laysAside 18 = .ok (.iload_n 1, 1) := dk_27 (dk_at dksX6_laysAside_0 18 rfl rfl)
theorem dX6_laysAside_19 : decode cX6_laysAside 19 = .ok (.invokevirtual 408, 3) := dk_182 1 152 (dk_at dksX6_laysAside_0 19 rfl rfl)
theorem dX6_laysAside_22 : decode cX6_laysAside 22 = .ok (.iastore, 1) := dk_79 (dk_at dksX6_laysAside_0 22 rfl rfl)
theorem dX6_laysAside_23 : decode cX6_laysAside 23 = .ok (.iinc 1 1, 3) := dk_132 1 1 (dk_at dksX6_laysAside_1 0 rfl rfl)
theorem dX6_laysAside_26 : decode cX6_laysAside 26 = .ok (.goto (-24), 3) := dk_167 255 232 (dk_at dksX6_laysAside_1 3 rfl rfl)
theorem dX6_laysAside_29 : decode cX6_laysAside 29 = .ok (.return_, 1) := dk_177 (dk_at dksX6_laysAside_1 6 rfl rfl)
abbrev cX6_takesBack : ByteArray := prog_20_method_87_code
def yX6_takesBack : MethodName := ⟨RX6, "takesBack", "()V"⟩
def dkwX6_takesBack_1 : List UInt8 := [132, 1, 1, 167, 255, 232, 177]
abbrev dktX6_takesBack_1 : List UInt8 := dkwX6_takesBack_1 ++ []
def dkwX6_takesBack_0 : List UInt8 := [3, 60, 27, 42, 180, 0, 52, 3, 46, 162, 0, 20, 42, 27, 42, 180, 0, 92, 27, 46, 182, 1, 155]
abbrev dktX6_takesBack_0 : List UInt8 := dkwX6_takesBack_0 ++ dktX6_takesBack_1
theorem dksX6_takesBack_0 : cX6_takesBack.data.toList.drop 0 = dktX6_takesBack_0 := by decide +kernel
theorem dksX6_takesBack_1 : cX6_takesBack.data.toList.drop 23 = dktX6_takesBack_1 := dk_seg dksX6_takesBack_0 23 rfl rfl
theorem dX6_takesBack_0 : decode cX6_takesBack 0 = .ok (.iconst 0, 1) := dk_3 (dk_at dksX6_takesBack_0 0 rfl rfl)
theorem dX6_takesBack_1 : decode cX6_takesBack 1 = .ok (.istore_n 1, 1) := dk_60 (dk_at dksX6_takesBack_0 1 rfl rfl)
theorem dX6_takesBack_2 : decode cX6_takesBack 2 = .ok (.iload_n 1, 1) := dk_27 (dk_at dksX6_takesBack_0 2 rfl rfl)
theorem dX6_takesBack_3 : decode cX6_takesBack 3 = .ok (.aload_n 0, 1) := dk_42 (dk_at dksX6_takesBack_0 3 rfl rfl)
theorem dX6_takesBack_4 : decode cX6_takesBack 4 = .ok (.getfield 52, 3) := dk_180 0 52 (dk_at dksX6_takesBack_0 4 rfl rfl)
theorem dX6_takesBack_7 : decode cX6_takesBack 7 = .ok (.iconst 0, 1) := dk_3 (dk_at dksX6_takesBack_0 7 rfl rfl)
theorem dX6_takesBack_8 : decode cX6_takesBack 8 = .ok (.iaload, 1) := dk_46 (dk_at dksX6_takesBack_0 8 rfl rfl)
theorem dX6_takesBack_9 : decode cX6_takesBack 9 = .ok (.if_icmp .ge 20, 3) := dk_162 0 20 (dk_at dksX6_takesBack_0 9 rfl rfl)
theorem dX6_takesBack_12 : decode cX6_takesBack 12 = .ok (.aload_n 0, 1) := dk_42 (dk_at dksX6_takesBack_0 12 rfl rfl)
theorem dX6_takesBack_13 : decode cX6_takesBack 13 = .ok (.iload_n 1, 1) := dk_27 (dk_at dksX6_takesBack_0 13 rfl rfl)
theorem dX6_takesBack_14 : decode cX6_takesBack 14 = .ok (.aload_n 0, 1) := dk_42 (dk_at dksX6_takesBack_0 14 rfl rfl)
theorem dX6_takesBack_15 : decode cX6_takesBack 15 = .ok (.getfield 92, 3) := dk_180 0 92 (dk_at dksX6_takesBack_0 15 rfl rfl)
theorem dX6_takesBack_18 : decode cX6_takesBack 18 = .ok (.iload_n 1, 1) := dk_27 (dk_at dksX6_takesBack_0 18 rfl rfl)
theorem dX6_takesBack_19 : decode cX6_takesBack 19 = .ok (.iaload, 1) := dk_46 (dk_at dksX6_takesBack_0 19 rfl rfl)
theorem dX6_takesBack_20 : decode cX6_takesBack 20 = .ok (.invokevirtual 411, 3) := dk_182 1 155 (dk_at dksX6_takesBack_0 20 rfl rfl)
theorem dX6_takesBack_23 : decode cX6_takesBack 23 = .ok (.iinc 1 1, 3) := dk_132 1 1 (dk_at dksX6_takesBack_1 0 rfl rfl)
theorem dX6_takesBack_26 : decode cX6_takesBack 26 = .ok (.goto (-24), 3) := dk_167 255 232 (dk_at dksX6_takesBack_1 3 rfl rfl)
theorem dX6_takesBack_29 : decode cX6_takesBack 29 = .ok (.return_, 1) := dk_177 (dk_at dksX6_takesBack_1 6 rfl rfl)
abbrev cX6_settled : ByteArray := prog_20_method_91_code
def yX6_settled : MethodName := ⟨RX6, "settled", "()J"⟩
def dkwX6_settled_2 : List UInt8 := [167, 0, 6, 20, 0, 158, 173]
abbrev dktX6_settled_2 : List UInt8 := dkwX6_settled_2 ++ []
def dkwX6_settled_1 : List UInt8 := [182, 1, 179, 87, 42, 5, 182, 1, 142, 64, 42, 182, 1, 185, 42, 180, 1, 170, 153, 0, 7, 31]
abbrev dktX6_settled_1 : List UInt8 := dkwX6_settled_1 ++ dktX6_settled_2
def dkwX6_settled_0 : List UInt8 := [42, 3, 181, 0, 114, 42, 182, 1, 98, 154, 0, 7, 20, 1, 104, 173, 42, 182, 1, 182, 42, 16, 30]
abbrev dktX6_settled_0 : List UInt8 := dkwX6_settled_0 ++ dktX6_settled_1
theorem dksX6_settled_0 : cX6_settled.data.toList.drop 0 = dktX6_settled_0 := by decide +kernel
theorem dksX6_settled_1 : cX6_settled.data.toList.drop 23 = dktX6_settled_1 := dk_seg dksX6_settled_0 23 rfl rfl
theorem dksX6_settled_2 : cX6_settled.data.toList.drop 45 = dktX6_settled_2 := dk_seg dksX6_settled_1 22 rfl rfl
theorem dX6_settled_0 : decode cX6_settled 0 = .ok (.aload_n 0, 1) := dk_42 (dk_at dksX6_settled_0 0 rfl rfl)
theorem dX6_settled_1 : decode cX6_settled 1 = .ok (.iconst 0, 1) := dk_3 (dk_at dksX6_settled_0 1 rfl rfl)
theorem dX6_settled_2 : decode cX6_settled 2 = .ok (.putfield 114, 3) := dk_181 0 114 (dk_at dksX6_settled_0 2 rfl rfl)
theorem dX6_settled_5 : decode cX6_settled 5 = .ok (.aload_n 0, 1) := dk_42 (dk_at dksX6_settled_0 5 rfl rfl)
theorem dX6_settled_6 : decode cX6_settled 6 = .ok (.invokevirtual 354, 3) := dk_182 1 98 (dk_at dksX6_settled_0 6 rfl rfl)
theorem dX6_settled_9 : decode cX6_settled 9 = .ok (.ifCond .ne 7, 3) := dk_154 0 7 (dk_at dksX6_settled_0 9 rfl rfl)
theorem dX6_settled_12 : decode cX6_settled 12 = .ok (.ldc2_w 360, 3) := dk_20 1 104 (dk_at dksX6_settled_0 12 rfl rfl)
theorem dX6_settled_15 : decode cX6_settled 15 = .ok (.lreturn, 1) := dk_173 (dk_at dksX6_settled_0 15 rfl rfl)
theorem dX6_settled_16 : decode cX6_settled 16 = .ok (.aload_n 0, 1) := dk_42 (dk_at dksX6_settled_0 16 rfl rfl)
theorem dX6_settled_17 : decode cX6_settled 17 = .ok (.invokevirtual 438, 3) := dk_182 1 182 (dk_at dksX6_settled_0 17 rfl rfl)
theorem dX6_settled_20 : decode cX6_settled 20 = .ok (.aload_n 0, 1) := dk_42 (dk_at dksX6_settled_0 20 rfl rfl)
theorem dX6_settled_21 : decode cX6_settled 21 = .ok (.bipush 30, 2) := dk_16 30 (dk_at dksX6_settled_0 21 rfl rfl)
theorem dX6_settled_23 : decode cX6_settled 23 = .ok (.invokevirtual 435, 3) := dk_182 1 179 (dk_at dksX6_settled_1 0 rfl rfl)
theorem dX6_settled_26 : decode cX6_settled 26 = .ok (.pop, 1) := dk_87 (dk_at dksX6_settled_1 3 rfl rfl)
theorem dX6_settled_27 : decode cX6_settled 27 = .ok (.aload_n 0, 1) := dk_42 (dk_at dksX6_settled_1 4 rfl rfl)
theorem dX6_settled_28 : decode cX6_settled 28 = .ok (.iconst 2, 1) := dk_5 (dk_at dksX6_settled_1 5 rfl rfl)
theorem dX6_settled_29 : decode cX6_settled 29 = .ok (.invokevirtual 398, 3) := dk_182 1 142 (dk_at dksX6_settled_1 6 rfl rfl)
theorem dX6_settled_32 : decode cX6_settled 32 = .ok (.lstore_n 1, 1) := dk_64 (dk_at dksX6_settled_1 9 rfl rfl)
theorem dX6_settled_33 : decode cX6_settled 33 = .ok (.aload_n 0, 1) := dk_42 (dk_at dksX6_settled_1 10 rfl rfl)
theorem dX6_settled_34 : decode cX6_settled 34 = .ok (.invokevirtual 441, 3) := dk_182 1 185 (dk_at dksX6_settled_1 11 rfl rfl)
theorem dX6_settled_37 : decode cX6_settled 37 = .ok (.aload_n 0, 1) := dk_42 (dk_at dksX6_settled_1 14 rfl rfl)
theorem dX6_settled_38 : decode cX6_settled 38 = .ok (.getfield 426, 3) := dk_180 1 170 (dk_at dksX6_settled_1 15 rfl rfl)
theorem dX6_settled_41 : decode cX6_settled 41 = .ok (.ifCond .eq 7, 3) := dk_153 0 7 (dk_at dksX6_settled_1 18 rfl rfl)
theorem dX6_settled_44 : decode cX6_settled 44 = .ok (.lload_n 1, 1) := dk_31 (dk_at dksX6_settled_1 21 rfl rfl)
theorem dX6_settled_45 : decode cX6_settled 45 = .ok (.goto 6, 3) := dk_167 0 6 (dk_at dksX6_settled_2 0 rfl rfl)
theorem dX6_settled_48 : decode cX6_settled 48 = .ok (.ldc2_w 158, 3) := dk_20 0 158 (dk_at dksX6_settled_2 3 rfl rfl)
theorem dX6_settled_51 : decode cX6_settled 51 = .ok (.lreturn, 1) := dk_173 (dk_at dksX6_settled_2 6 rfl rfl)
abbrev cX6_better : ByteArray := prog_20_method_94_code
def yX6_better : MethodName := ⟨RX6, "better", "(I)I"⟩
def dkwX6_better_1 : List UInt8 := [42, 27, 182, 1, 193, 167, 0, 5, 16, 254, 172]
abbrev dktX6_better_1 : List UInt8 := dkwX6_better_1 ++ []
def dkwX6_better_0 : List UInt8 := [42, 3, 181, 0, 114, 42, 182, 1, 98, 153, 0, 23, 27, 133, 9, 20, 1, 191, 184, 0, 119, 153, 0, 11]
abbrev dktX6_better_0 : List UInt8 := dkwX6_better_0 ++ dktX6_better_1
theorem dksX6_better_0 : cX6_better.data.toList.drop 0 = dktX6_better_0 := by decide +kernel
theorem dksX6_better_1 : cX6_better.data.toList.drop 24 = dktX6_better_1 := dk_seg dksX6_better_0 24 rfl rfl
theorem dX6_better_0 : decode cX6_better 0 = .ok (.aload_n 0, 1) := dk_42 (dk_at dksX6_better_0 0 rfl rfl)
theorem dX6_better_1 : decode cX6_better 1 = .ok (.iconst 0, 1) := dk_3 (dk_at dksX6_better_0 1 rfl rfl)
theorem dX6_better_2 : decode cX6_better 2 = .ok (.putfield 114, 3) := dk_181 0 114 (dk_at dksX6_better_0 2 rfl rfl)
theorem dX6_better_5 : decode cX6_better 5 = .ok (.aload_n 0, 1) := dk_42 (dk_at dksX6_better_0 5 rfl rfl)
theorem dX6_better_6 : decode cX6_better 6 = .ok (.invokevirtual 354, 3) := dk_182 1 98 (dk_at dksX6_better_0 6 rfl rfl)
theorem dX6_better_9 : decode cX6_better 9 = .ok (.ifCond .eq 23, 3) := dk_153 0 23 (dk_at dksX6_better_0 9 rfl rfl)
theorem dX6_better_12 : decode cX6_better 12 = .ok (.iload_n 1, 1) := dk_27 (dk_at dksX6_better_0 12 rfl rfl)
theorem dX6_better_13 : decode cX6_better 13 = .ok (.i2l, 1) := dk_133 (dk_at dksX6_better_0 13 rfl rfl)
theorem dX6_better_14 : decode cX6_better 14 = .ok (.lconst 0, 1) := dk_9 (dk_at dksX6_better_0 14 rfl rfl)
theorem dX6_better_15 : decode cX6_better 15 = .ok (.ldc2_w 447, 3) := dk_20 1 191 (dk_at dksX6_better_0 15 rfl rfl)
theorem dX6_better_18 : decode cX6_better 18 = .ok (.invokestatic 119, 3) := dk_184 0 119 (dk_at dksX6_better_0 18 rfl rfl)
theorem dX6_better_21 : decode cX6_better 21 = .ok (.ifCond .eq 11, 3) := dk_153 0 11 (dk_at dksX6_better_0 21 rfl rfl)
theorem dX6_better_24 : decode cX6_better 24 = .ok (.aload_n 0, 1) := dk_42 (dk_at dksX6_better_1 0 rfl rfl)
theorem dX6_better_25 : decode cX6_better 25 = .ok (.iload_n 1, 1) := dk_27 (dk_at dksX6_better_1 1 rfl rfl)
theorem dX6_better_26 : decode cX6_better 26 = .ok (.invokevirtual 449, 3) := dk_182 1 193 (dk_at dksX6_better_1 2 rfl rfl)
theorem dX6_better_29 : decode cX6_better 29 = .ok (.goto 5, 3) := dk_167 0 5 (dk_at dksX6_better_1 5 rfl rfl)
theorem dX6_better_32 : decode cX6_better 32 = .ok (.bipush (-2), 2) := dk_16 254 (dk_at dksX6_better_1 8 rfl rfl)
theorem dX6_better_34 : decode cX6_better 34 = .ok (.ireturn, 1) := dk_172 (dk_at dksX6_better_1 10 rfl rfl)
abbrev cX6_betters : ByteArray := prog_20_method_93_code
def yX6_betters : MethodName := ⟨RX6, "betters", "(I)I"⟩
def dkwX6_betters_0 : List UInt8 := [3, 61, 28, 27, 162, 0, 16, 42, 182, 1, 188, 153, 0, 9, 132, 2, 1, 167, 255, 241, 28, 172]
abbrev dktX6_betters_0 : List UInt8 := dkwX6_betters_0 ++ []
theorem dksX6_betters_0 : cX6_betters.data.toList.drop 0 = dktX6_betters_0 := by decide +kernel
theorem dX6_betters_0 : decode cX6_betters 0 = .ok (.iconst 0, 1) := dk_3 (dk_at dksX6_betters_0 0 rfl rfl)
theorem dX6_betters_1 : decode cX6_betters 1 = .ok (.istore_n 2, 1) := dk_61 (dk_at dksX6_betters_0 1 rfl rfl)
theorem dX6_betters_2 : decode cX6_betters 2 = .ok (.iload_n 2, 1) := dk_28 (dk_at dksX6_betters_0 2 rfl rfl)
theorem dX6_betters_3 : decode cX6_betters 3 = .ok (.iload_n 1, 1) := dk_27 (dk_at dksX6_betters_0 3 rfl rfl)
theorem dX6_betters_4 : decode cX6_betters 4 = .ok (.if_icmp .ge 16, 3) := dk_162 0 16 (dk_at dksX6_betters_0 4 rfl rfl)
theorem dX6_betters_7 : decode cX6_betters 7 = .ok (.aload_n 0, 1) := dk_42 (dk_at dksX6_betters_0 7 rfl rfl)
theorem dX6_betters_8 : decode cX6_betters 8 = .ok (.invokevirtual 444, 3) := dk_182 1 188 (dk_at dksX6_betters_0 8 rfl rfl)
theorem dX6_betters_11 : decode cX6_betters 11 = .ok (.ifCond .eq 9, 3) := dk_153 0 9 (dk_at dksX6_betters_0 11 rfl rfl)
theorem dX6_betters_14 : decode cX6_betters 14 = .ok (.iinc 2 1, 3) := dk_132 2 1 (dk_at dksX6_betters_0 14 rfl rfl)
theorem dX6_betters_17 : decode cX6_betters 17 = .ok (.goto (-15), 3) := dk_167 255 241 (dk_at dksX6_betters_0 17 rfl rfl)
theorem dX6_betters_20 : decode cX6_betters 20 = .ok (.iload_n 2, 1) := dk_28 (dk_at dksX6_betters_0 20 rfl rfl)
theorem dX6_betters_21 : decode cX6_betters 21 = .ok (.ireturn, 1) := dk_172 (dk_at dksX6_betters_0 21 rfl rfl)
abbrev cX6_changes : ByteArray := prog_20_method_92_code
def yX6_changes : MethodName := ⟨RX6, "changes", "()Z"⟩
def dkwX6_changes_4 : List UInt8 := [132, 5, 1, 167, 255, 173, 29, 2, 160, 0, 5, 3, 172, 42, 29, 21, 4, 182, 1, 155, 4, 172]
abbrev dktX6_changes_4 : List UInt8 := dkwX6_changes_4 ++ []
def dkwX6_changes_3 : List UInt8 := [22, 8, 64, 21, 5, 62, 21, 7, 54, 4, 132, 7, 1, 167, 255, 209, 42, 21, 5, 21, 6, 182, 1, 155]
abbrev dktX6_changes_3 : List UInt8 := dkwX6_changes_3 ++ dktX6_changes_4
def dkwX6_changes_2 : List UInt8 := [21, 5, 21, 7, 182, 1, 155, 42, 5, 182, 1, 142, 55, 8, 22, 8, 31, 148, 155, 0, 6, 167, 0, 13]
abbrev dktX6_changes_2 : List UInt8 := dkwX6_changes_2 ++ dktX6_changes_3
def dkwX6_changes_1 : List UInt8 := [162, 0, 78, 42, 21, 5, 182, 1, 152, 54, 6, 3, 54, 7, 21, 7, 42, 182, 1, 145, 162, 0, 44, 42]
abbrev dktX6_changes_1 : List UInt8 := dkwX6_changes_1 ++ dktX6_changes_2
def dkwX6_changes_0 : List UInt8 := [42, 5, 182, 1, 142, 64, 2, 62, 3, 54, 4, 3, 54, 5, 21, 5, 42, 180, 0, 52, 3, 46]
abbrev dktX6_changes_0 : List UInt8 := dkwX6_changes_0 ++ dktX6_changes_1
theorem dksX6_changes_0 : cX6_changes.data.toList.drop 0 = dktX6_changes_0 := by decide +kernel
theorem dksX6_changes_1 : cX6_changes.data.toList.drop 22 = dktX6_changes_1 := dk_seg dksX6_changes_0 22 rfl rfl
theorem dksX6_changes_2 : cX6_changes.data.toList.drop 46 = dktX6_changes_2 := dk_seg dksX6_changes_1 24 rfl rfl
theorem dksX6_changes_3 : cX6_changes.data.toList.drop 70 = dktX6_changes_3 := dk_seg dksX6_changes_2 24 rfl rfl
theorem dksX6_changes_4 : cX6_changes.data.toList.drop 94 = dktX6_changes_4 := dk_seg dksX6_changes_3 24 rfl rfl
theorem dX6_changes_0 : decode cX6_changes 0 = .ok (.aload_n 0, 1) := dk_42 (dk_at dksX6_changes_0 0 rfl rfl)
theorem dX6_changes_1 : decode cX6_changes 1 = .ok (.iconst 2, 1) := dk_5 (dk_at dksX6_changes_0 1 rfl rfl)
theorem dX6_changes_2 : decode cX6_changes 2 = .ok (.invokevirtual 398, 3) := dk_182 1 142 (dk_at dksX6_changes_0 2 rfl rfl)
theorem dX6_changes_5 : decode cX6_changes 5 = .ok (.lstore_n 1, 1) := dk_64 (dk_at dksX6_changes_0 5 rfl rfl)
theorem dX6_changes_6 : decode cX6_changes 6 = .ok (.iconst (-1), 1) := dk_2 (dk_at dksX6_changes_0 6 rfl rfl)
theorem dX6_changes_7 : decode cX6_changes 7 = .ok (.istore_n 3, 1) := dk_62 (dk_at dksX6_changes_0 7 rfl rfl)
theorem dX6_changes_8 : decode cX6_changes 8 = .ok (.iconst 0, 1) := dk_3 (dk_at dksX6_changes_0 8 rfl rfl)
theorem dX6_changes_9 : decode cX6_changes 9 = .ok (.istore 4, 2) := dk_54 4 (dk_at dksX6_changes_0 9 rfl rfl)
theorem dX6_changes_11 : decode cX6_changes 11 = .ok (.iconst 0, 1) := dk_3 (dk_at dksX6_changes_0 11 rfl rfl)
theorem dX6_changes_12 : decode cX6_changes 12 = .ok (.istore 5, 2) := dk_54 5 (dk_at dksX6_changes_0 12 rfl rfl)
theorem dX6_changes_14 : decode cX6_changes 14 = .ok (.iload 5, 2) := dk_21 5 (dk_at dksX6_changes_0 14 rfl rfl)
theorem dX6_changes_16 : decode cX6_changes 16 = .ok (.aload_n 0, 1) := dk_42 (dk_at dksX6_changes_0 16 rfl rfl)
theorem dX6_changes_17 : decode cX6_changes 17 = .ok (.getfield 52, 3) := dk_180 0 52 (dk_at dksX6_changes_0 17 rfl rfl)
theorem dX6_changes_20 : decode cX6_changes 20 = .ok (.iconst 0, 1) := dk_3 (dk_at dksX6_changes_0 20 rfl rfl)
theorem dX6_changes_21 : decode cX6_changes 21 = .ok (.iaload, 1) := dk_46 (dk_at dksX6_changes_0 21 rfl rfl)
theorem dX6_changes_22 : decode cX6_changes 22 = .ok (.if_icmp .ge 78, 3) := dk_162 0 78 (dk_at dksX6_changes_1 0 rfl rfl)
theorem dX6_changes_25 : decode cX6_changes 25 = .ok (.aload_n 0, 1) := dk_42 (dk_at dksX6_changes_1 3 rfl rfl)
theorem dX6_changes_26 : decode cX6_changes 26 = .ok (.iload 5, 2) := dk_21 5 (dk_at dksX6_changes_1 4 rfl rfl)
theorem dX6_changes_28 : decode cX6_changes 28 = .ok (.invokevirtual 408, 3) := dk_182 1 152 (dk_at dksX6_changes_1 6 rfl rfl)
theorem dX6_changes_31 : decode cX6_changes 31 = .ok (.istore 6, 2) := dk_54 6 (dk_at dksX6_changes_1 9 rfl rfl)
theorem dX6_changes_33 : decode cX6_changes 33 = .ok (.iconst 0, 1) := dk_3 (dk_at dksX6_changes_1 11 rfl rfl)
theorem dX6_changes_34 : decode cX6_changes 34 = .ok (.istore 7, 2) := dk_54 7 (dk_at dksX6_changes_1 12 rfl rfl)
theorem dX6_changes_36 : decode cX6_changes 36 = .ok (.iload 7, 2) := dk_21 7 (dk_at dksX6_changes_1 14 rfl rfl)
theorem dX6_changes_38 : decode cX6_changes 38 = .ok (.aload_n 0, 1) := dk_42 (dk_at dksX6_changes_1 16 rfl rfl)
theorem dX6_changes_39 : decode cX6_changes 39 = .ok (.invokevirtual 401, 3) := dk_182 1 145 (dk_at dksX6_changes_1 17 rfl rfl)
theorem dX6_changes_42 : decode cX6_changes 42 = .ok (.if_icmp .ge 44, 3) := dk_162 0 44 (dk_at dksX6_changes_1 20 rfl rfl)
theorem dX6_changes_45 : decode cX6_changes 45 = .ok (.aload_n 0, 1) := dk_42 (dk_at dksX6_changes_1 23 rfl rfl)
theorem dX6_changes_46 : decode cX6_changes 46 = .ok (.iload 5, 2) := dk_21 5 (dk_at dksX6_changes_2 0 rfl rfl)
theorem dX6_changes_48 : decode cX6_changes 48 = .ok (.iload 7, 2) := dk_21 7 (dk_at dksX6_changes_2 2 rfl rfl)
theorem dX6_changes_50 : decode cX6_changes 50 = .ok (.invokevirtual 411, 3) := dk_182 1 155 (dk_at dksX6_changes_2 4 rfl rfl)
theorem dX6_changes_53 : decode cX6_changes 53 = .ok (.aload_n 0, 1) := dk_42 (dk_at dksX6_changes_2 7 rfl rfl)
theorem dX6_changes_54 : decode cX6_changes 54 = .ok (.iconst 2, 1) := dk_5 (dk_at dksX6_changes_2 8 rfl rfl)
theorem dX6_changes_55 : decode cX6_changes 55 = .ok (.invokevirtual 398, 3) := dk_182 1 142 (dk_at dksX6_changes_2 9 rfl rfl)
theorem dX6_changes_58 : decode cX6_changes 58 = .ok (.lstore 8, 2) := dk_55 8 (dk_at dksX6_changes_2 12 rfl rfl)
theorem dX6_changes_60 : decode cX6_changes 60 = .ok (.lload 8, 2) := dk_22 8 (dk_at dksX6_changes_2 14 rfl rfl)
theorem dX6_changes_62 : decode cX6_changes 62 = .ok (.lload_n 1, 1) := dk_31 (dk_at dksX6_changes_2 16 rfl rfl)
theorem dX6_changes_63 : decode cX6_changes 63 = .ok (.lcmp, 1) := dk_148 (dk_at dksX6_changes_2 17 rfl rfl)
theorem dX6_changes_64 : decode cX6_changes 64 = .ok (.ifCond .lt 6, 3) := dk_155 0 6 (dk_at dksX6_changes_2 18 rfl rfl)
theorem dX6_changes_67 : decode cX6_changes 67 = .ok (.goto 13, 3) := dk_167 0 13 (dk_at dksX6_changes_2 21 rfl rfl)
theorem dX6_changes_70 : decode cX6_changes 70 = .ok (.lload 8, 2) := dk_22 8 (dk_at dksX6_changes_3 0 rfl rfl)
theorem dX6_changes_72 : decode cX6_changes 72 = .ok (.lstore_n 1, 1) := dk_64 (dk_at dksX6_changes_3 2 rfl rfl)
theorem dX6_changes_73 : decode cX6_changes 73 = .ok (.iload 5, 2) := dk_21 5 (dk_at dksX6_changes_3 3 rfl rfl)
theorem dX6_changes_75 : decode cX6_changes 75 = .ok (.istore_n 3, 1) := dk_62 (dk_at dksX6_changes_3 5 rfl rfl)
theorem dX6_changes_76 : decode cX6_changes 76 = .ok (.iload 7, 2) := dk_21 7 (dk_at dksX6_changes_3 6 rfl rfl)
theorem dX6_changes_78 : decode cX6_changes 78 = .ok (.istore 4, 2) := dk_54 4 (dk_at dksX6_changes_3 8 rfl rfl)
theorem dX6_changes_80 : decode cX6_changes 80 = .ok (.iinc 7 1, 3) := dk_132 7 1 (dk_at dksX6_changes_3 10 rfl rfl)
theorem dX6_changes_83 : decode cX6_changes 83 = .ok (.goto (-47), 3) := dk_167 255 209 (dk_at dksX6_changes_3 13 rfl rfl)
theorem dX6_changes_86 : decode cX6_changes 86 = .ok (.aload_n 0, 1) := dk_42 (dk_at dksX6_changes_3 16 rfl rfl)
theorem dX6_changes_87 : decode cX6_changes 87 = .ok (.iload 5, 2) := dk_21 5 (dk_at dksX6_changes_3 17 rfl rfl)
theorem dX6_changes_89 : decode cX6_changes 89 = .ok (.iload 6, 2) := dk_21 6 (dk_at dksX6_changes_3 19 rfl rfl)
theorem dX6_changes_91 : decode cX6_changes 91 = .ok (.invokevirtual 411, 3) := dk_182 1 155 (dk_at dksX6_changes_3 21 rfl rfl)
theorem dX6_changes_94 : decode cX6_changes 94 = .ok (.iinc 5 1, 3) := dk_132 5 1 (dk_at dksX6_changes_4 0 rfl rfl)
theorem dX6_changes_97 : decode cX6_changes 97 = .ok (.goto (-83), 3) := dk_167 255 173 (dk_at dksX6_changes_4 3 rfl rfl)
theorem dX6_changes_100 : decode cX6_changes 100 = .ok (.iload_n 3, 1) := dk_29 (dk_at dksX6_changes_4 6 rfl rfl)
theorem dX6_changes_101 : decode cX6_changes 101 = .ok (.iconst (-1), 1) := dk_2 (dk_at dksX6_changes_4 7 rfl rfl)
theorem dX6_changes_102 : decode cX6_changes 102 = .ok (.if_icmp .ne 5, 3) := dk_160 0 5 (dk_at dksX6_changes_4 8 rfl rfl)
theorem dX6_changes_105 : decode cX6_changes 105 = .ok (.iconst 0, 1) := dk_3 (dk_at dksX6_changes_4 11 rfl rfl)
theorem dX6_changes_106 : decode cX6_changes 106 = .ok (.ireturn, 1) := dk_172 (dk_at dksX6_changes_4 12 rfl rfl)
theorem dX6_changes_107 : decode cX6_changes 107 = .ok (.aload_n 0, 1) := dk_42 (dk_at dksX6_changes_4 13 rfl rfl)
theorem dX6_changes_108 : decode cX6_changes 108 = .ok (.iload_n 3, 1) := dk_29 (dk_at dksX6_changes_4 14 rfl rfl)
theorem dX6_changes_109 : decode cX6_changes 109 = .ok (.iload 4, 2) := dk_21 4 (dk_at dksX6_changes_4 15 rfl rfl)
theorem dX6_changes_111 : decode cX6_changes 111 = .ok (.invokevirtual 411, 3) := dk_182 1 155 (dk_at dksX6_changes_4 17 rfl rfl)
theorem dX6_changes_114 : decode cX6_changes 114 = .ok (.iconst 1, 1) := dk_4 (dk_at dksX6_changes_4 20 rfl rfl)
theorem dX6_changes_115 : decode cX6_changes 115 = .ok (.ireturn, 1) := dk_172 (dk_at dksX6_changes_4 21 rfl rfl)
abbrev cX6_good : ByteArray := prog_20_method_95_code
def yX6_good : MethodName := ⟨RX6, "good", "()J"⟩
def dkwX6_good_1 : List UInt8 := [182, 1, 193, 87, 42, 5, 182, 1, 142, 64, 42, 182, 1, 185, 31, 173]
abbrev dktX6_good_1 : List UInt8 := dkwX6_good_1 ++ []
def dkwX6_good_0 : List UInt8 := [42, 3, 181, 0, 114, 42, 182, 1, 98, 154, 0, 7, 20, 1, 104, 173, 42, 182, 1, 182, 42, 16, 60]
abbrev dktX6_good_0 : List UInt8 := dkwX6_good_0 ++ dktX6_good_1
theorem dksX6_good_0 : cX6_good.data.toList.drop 0 = dktX6_good_0 := by decide +kernel
theorem dksX6_good_1 : cX6_good.data.toList.drop 23 = dktX6_good_1 := dk_seg dksX6_good_0 23 rfl rfl
theorem dX6_good_0 : decode cX6_good 0 = .ok (.aload_n 0, 1) := dk_42 (dk_at dksX6_good_0 0 rfl rfl)
theorem dX6_good_1 : decode cX6_good 1 = .ok (.iconst 0, 1) := dk_3 (dk_at dksX6_good_0 1 rfl rfl)
theorem dX6_good_2 : decode cX6_good 2 = .ok (.putfield 114, 3) := dk_181 0 114 (dk_at dksX6_good_0 2 rfl rfl)
theorem dX6_good_5 : decode cX6_good 5 = .ok (.aload_n 0, 1) := dk_42 (dk_at dksX6_good_0 5 rfl rfl)
theorem dX6_good_6 : decode cX6_good 6 = .ok (.invokevirtual 354, 3) := dk_182 1 98 (dk_at dksX6_good_0 6 rfl rfl)
theorem dX6_good_9 : decode cX6_good 9 = .ok (.ifCond .ne 7, 3) := dk_154 0 7 (dk_at dksX6_good_0 9 rfl rfl)
theorem dX6_good_12 : decode cX6_good 12 = .ok (.ldc2_w 360, 3) := dk_20 1 104 (dk_at dksX6_good_0 12 rfl rfl)
theorem dX6_good_15 : decode cX6_good 15 = .ok (.lreturn, 1) := dk_173 (dk_at dksX6_good_0 15 rfl rfl)
theorem dX6_good_16 : decode cX6_good 16 = .ok (.aload_n 0, 1) := dk_42 (dk_at dksX6_good_0 16 rfl rfl)
theorem dX6_good_17 : decode cX6_good 17 = .ok (.invokevirtual 438, 3) := dk_182 1 182 (dk_at dksX6_good_0 17 rfl rfl)
theorem dX6_good_20 : decode cX6_good 20 = .ok (.aload_n 0, 1) := dk_42 (dk_at dksX6_good_0 20 rfl rfl)
theorem dX6_good_21 : decode cX6_good 21 = .ok (.bipush 60, 2) := dk_16 60 (dk_at dksX6_good_0 21 rfl rfl)
theorem dX6_good_23 : decode cX6_good 23 = .ok (.invokevirtual 449, 3) := dk_182 1 193 (dk_at dksX6_good_1 0 rfl rfl)
theorem dX6_good_26 : decode cX6_good 26 = .ok (.pop, 1) := dk_87 (dk_at dksX6_good_1 3 rfl rfl)
theorem dX6_good_27 : decode cX6_good 27 = .ok (.aload_n 0, 1) := dk_42 (dk_at dksX6_good_1 4 rfl rfl)
theorem dX6_good_28 : decode cX6_good 28 = .ok (.iconst 2, 1) := dk_5 (dk_at dksX6_good_1 5 rfl rfl)
theorem dX6_good_29 : decode cX6_good 29 = .ok (.invokevirtual 398, 3) := dk_182 1 142 (dk_at dksX6_good_1 6 rfl rfl)
theorem dX6_good_32 : decode cX6_good 32 = .ok (.lstore_n 1, 1) := dk_64 (dk_at dksX6_good_1 9 rfl rfl)
theorem dX6_good_33 : decode cX6_good 33 = .ok (.aload_n 0, 1) := dk_42 (dk_at dksX6_good_1 10 rfl rfl)
theorem dX6_good_34 : decode cX6_good 34 = .ok (.invokevirtual 441, 3) := dk_182 1 185 (dk_at dksX6_good_1 11 rfl rfl)
theorem dX6_good_37 : decode cX6_good 37 = .ok (.lload_n 1, 1) := dk_31 (dk_at dksX6_good_1 14 rfl rfl)
theorem dX6_good_38 : decode cX6_good 38 = .ok (.lreturn, 1) := dk_173 (dk_at dksX6_good_1 15 rfl rfl)
abbrev cX6_pair : ByteArray := prog_20_method_97_code
def yX6_pair : MethodName := ⟨RX6, "pair", "(II)I"⟩
def dkwX6_pair_6 : List UInt8 := [21, 4, 182, 1, 155, 21, 5, 172]
abbrev dktX6_pair_6 : List UInt8 := dkwX6_pair_6 ++ []
def dkwX6_pair_5 : List UInt8 := [22, 10, 55, 6, 132, 9, 1, 167, 255, 182, 132, 8, 1, 167, 255, 164, 42, 27, 29, 182, 1, 155, 42, 28]
abbrev dktX6_pair_5 : List UInt8 := dkwX6_pair_5 ++ dktX6_pair_6
def dkwX6_pair_4 : List UInt8 := [159, 0, 14, 22, 10, 22, 6, 148, 155, 0, 6, 167, 0, 17, 16, 100, 21, 8, 104, 21, 9, 96, 54, 5]
abbrev dktX6_pair_4 : List UInt8 := dkwX6_pair_4 ++ dktX6_pair_5
def dkwX6_pair_3 : List UInt8 := [182, 1, 155, 42, 182, 1, 106, 42, 27, 182, 1, 133, 42, 28, 182, 1, 133, 97, 55, 10, 21, 5, 2]
abbrev dktX6_pair_3 : List UInt8 := dkwX6_pair_3 ++ dktX6_pair_4
def dkwX6_pair_2 : List UInt8 := [3, 54, 9, 21, 9, 42, 182, 1, 145, 162, 0, 71, 42, 27, 21, 8, 182, 1, 155, 42, 28, 21, 9]
abbrev dktX6_pair_2 : List UInt8 := dkwX6_pair_2 ++ dktX6_pair_3
def dkwX6_pair_1 : List UInt8 := [28, 182, 1, 152, 54, 4, 2, 54, 5, 9, 55, 6, 3, 54, 8, 21, 8, 42, 182, 1, 145, 162, 0, 89]
abbrev dktX6_pair_1 : List UInt8 := dkwX6_pair_1 ++ dktX6_pair_2
def dkwX6_pair_0 : List UInt8 := [42, 3, 181, 0, 114, 42, 27, 28, 182, 1, 196, 154, 0, 6, 16, 254, 172, 42, 27, 182, 1, 152, 62, 42]
abbrev dktX6_pair_0 : List UInt8 := dkwX6_pair_0 ++ dktX6_pair_1
theorem dksX6_pair_0 : cX6_pair.data.toList.drop 0 = dktX6_pair_0 := by decide +kernel
theorem dksX6_pair_1 : cX6_pair.data.toList.drop 24 = dktX6_pair_1 := dk_seg dksX6_pair_0 24 rfl rfl
theorem dksX6_pair_2 : cX6_pair.data.toList.drop 48 = dktX6_pair_2 := dk_seg dksX6_pair_1 24 rfl rfl
theorem dksX6_pair_3 : cX6_pair.data.toList.drop 71 = dktX6_pair_3 := dk_seg dksX6_pair_2 23 rfl rfl
theorem dksX6_pair_4 : cX6_pair.data.toList.drop 94 = dktX6_pair_4 := dk_seg dksX6_pair_3 23 rfl rfl
theorem dksX6_pair_5 : cX6_pair.data.toList.drop 118 = dktX6_pair_5 := dk_seg dksX6_pair_4 24 rfl rfl
theorem dksX6_pair_6 : cX6_pair.data.toList.drop 142 = dktX6_pair_6 := dk_seg dksX6_pair_5 24 rfl rfl
theorem dX6_pair_0 : decode cX6_pair 0 = .ok (.aload_n 0, 1) := dk_42 (dk_at dksX6_pair_0 0 rfl rfl)
theorem dX6_pair_1 : decode cX6_pair 1 = .ok (.iconst 0, 1) := dk_3 (dk_at dksX6_pair_0 1 rfl rfl)
theorem dX6_pair_2 : decode cX6_pair 2 = .ok (.putfield 114, 3) := dk_181 0 114 (dk_at dksX6_pair_0 2 rfl rfl)
theorem dX6_pair_5 : decode cX6_pair 5 = .ok (.aload_n 0, 1) := dk_42 (dk_at dksX6_pair_0 5 rfl rfl)
theorem dX6_pair_6 : decode cX6_pair 6 = .ok (.iload_n 1, 1) := dk_27 (dk_at dksX6_pair_0 6 rfl rfl)
theorem dX6_pair_7 : decode cX6_pair 7 = .ok (.iload_n 2, 1) := dk_28 (dk_at dksX6_pair_0 7 rfl rfl)
theorem dX6_pair_8 : decode cX6_pair 8 = .ok (.invokevirtual 452, 3) := dk_182 1 196 (dk_at dksX6_pair_0 8 rfl rfl)
theorem dX6_pair_11 : decode cX6_pair 11 = .ok (.ifCond .ne 6, 3) := dk_154 0 6 (dk_at dksX6_pair_0 11 rfl rfl)
theorem dX6_pair_14 : decode cX6_pair 14 = .ok (.bipush (-2), 2) := dk_16 254 (dk_at dksX6_pair_0 14 rfl rfl)
theorem dX6_pair_16 : decode cX6_pair 16 = .ok (.ireturn, 1) := dk_172 (dk_at dksX6_pair_0 16 rfl rfl)
theorem dX6_pair_17 : decode cX6_pair 17 = .ok (.aload_n 0, 1) := dk_42 (dk_at dksX6_pair_0 17 rfl rfl)
theorem dX6_pair_18 : decode cX6_pair 18 = .ok (.iload_n 1, 1) := dk_27 (dk_at dksX6_pair_0 18 rfl rfl)
theorem dX6_pair_19 : decode cX6_pair 19 = .ok (.invokevirtual 408, 3) := dk_182 1 152 (dk_at dksX6_pair_0 19 rfl rfl)
theorem dX6_pair_22 : decode cX6_pair 22 = .ok (.istore_n 3, 1) := dk_62 (dk_at dksX6_pair_0 22 rfl rfl)
theorem dX6_pair_23 : decode cX6_pair 23 = .ok (.aload_n 0, 1) := dk_42 (dk_at dksX6_pair_0 23 rfl rfl)
theorem dX6_pair_24 : decode cX6_pair 24 = .ok (.iload_n 2, 1) := dk_28 (dk_at dksX6_pair_1 0 rfl rfl)
theorem dX6_pair_25 : decode cX6_pair 25 = .ok (.invokevirtual 408, 3) := dk_182 1 152 (dk_at dksX6_pair_1 1 rfl rfl)
theorem dX6_pair_28 : decode cX6_pair 28 = .ok (.istore 4, 2) := dk_54 4 (dk_at dksX6_pair_1 4 rfl rfl)
theorem dX6_pair_30 : decode cX6_pair 30 = .ok (.iconst (-1), 1) := dk_2 (dk_at dksX6_pair_1 6 rfl rfl)
theorem dX6_pair_31 : decode cX6_pair 31 = .ok (.istore 5, 2) := dk_54 5 (dk_at dksX6_pair_1 7 rfl rfl)
theorem dX6_pair_33 : decode cX6_pair 33 = .ok (.lconst 0, 1) := dk_9 (dk_at dksX6_pair_1 9 rfl rfl)
theorem dX6_pair_34 : decode cX6_pair 34 = .ok (.lstore 6, 2) := dk_55 6 (dk_at dksX6_pair_1 10 rfl rfl)
theorem dX6_pair_36 : decode cX6_pair 36 = .ok (.iconst 0, 1) := dk_3 (dk_at dksX6_pair_1 12 rfl rfl)
theorem dX6_pair_37 : decode cX6_pair 37 = .ok (.istore 8, 2) := dk_54 8 (dk_at dksX6_pair_1 13 rfl rfl)
theorem dX6_pair_39 : decode cX6_pair 39 = .ok (.iload 8, 2) := dk_21 8 (dk_at dksX6_pair_1 15 rfl rfl)
theorem dX6_pair_41 : decode cX6_pair 41 = .ok (.aload_n 0, 1) := dk_42 (dk_at dksX6_pair_1 17 rfl rfl)
theorem dX6_pair_42 : decode cX6_pair 42 = .ok (.invokevirtual 401, 3) := dk_182 1 145 (dk_at dksX6_pair_1 18 rfl rfl)
theorem dX6_pair_45 : decode cX6_pair 45 = .ok (.if_icmp .ge 89, 3) := dk_162 0 89 (dk_at dksX6_pair_1 21 rfl rfl)
theorem dX6_pair_48 : decode cX6_pair 48 = .ok (.iconst 0, 1) := dk_3 (dk_at dksX6_pair_2 0 rfl rfl)
theorem dX6_pair_49 : decode cX6_pair 49 = .ok (.istore 9, 2) := dk_54 9 (dk_at dksX6_pair_2 1 rfl rfl)
theorem dX6_pair_51 : decode cX6_pair 51 = .ok (.iload 9, 2) := dk_21 9 (dk_at dksX6_pair_2 3 rfl rfl)
theorem dX6_pair_53 : decode cX6_pair 53 = .ok (.aload_n 0, 1) := dk_42 (dk_at dksX6_pair_2 5 rfl rfl)
theorem dX6_pair_54 : decode cX6_pair 54 = .ok (.invokevirtual 401, 3) := dk_182 1 145 (dk_at dksX6_pair_2 6 rfl rfl)
theorem dX6_pair_57 : decode cX6_pair 57 = .ok (.if_icmp .ge 71, 3) := dk_162 0 71 (dk_at dksX6_pair_2 9 rfl rfl)
theorem dX6_pair_60 : decode cX6_pair 60 = .ok (.aload_n 0, 1) := dk_42 (dk_at dksX6_pair_2 12 rfl rfl)
theorem dX6_pair_61 : decode cX6_pair 61 = .ok (.iload_n 1, 1) := dk_27 (dk_at dksX6_pair_2 13 rfl rfl)
theorem dX6_pair_62 : decode cX6_pair 62 = .ok (.iload 8, 2) := dk_21 8 (dk_at dksX6_pair_2 14 rfl rfl)
theorem dX6_pair_64 : decode cX6_pair 64 = .ok (.invokevirtual 411, 3) := dk_182 1 155 (dk_at dksX6_pair_2 16 rfl rfl)
theorem dX6_pair_67 : decode cX6_pair 67 = .ok (.aload_n 0, 1) := dk_42 (dk_at dksX6_pair_2 19 rfl rfl)
theorem dX6_pair_68 : decode cX6_pair 68 = .ok (.iload_n 2, 1) := dk_28 (dk_at dksX6_pair_2 20 rfl rfl)
theorem dX6_pair_69 : decode cX6_pair 69 = .ok (.iload 9, 2) := dk_21 9 (dk_at dksX6_pair_2 21 rfl rfl)
theorem dX6_pair_71 : decode cX6_pair 71 = .ok (.invokevirtual 411, 3) := dk_182 1 155 (dk_at dksX6_pair_3 0 rfl rfl)
theorem dX6_pair_74 : decode cX6_pair 74 = .ok (.aload_n 0, 1) := dk_42 (dk_at dksX6_pair_3 3 rfl rfl)
theorem dX6_pair_75 : decode cX6_pair 75 = .ok (.invokevirtual 362, 3) := dk_182 1 106 (dk_at dksX6_pair_3 4 rfl rfl)
theorem dX6_pair_78 : decode cX6_pair 78 = .ok (.aload_n 0, 1) := dk_42 (dk_at dksX6_pair_3 7 rfl rfl)
theorem dX6_pair_79 : decode cX6_pair 79 = .ok (.iload_n 1, 1) := dk_27 (dk_at dksX6_pair_3 8 rfl rfl)
theorem dX6_pair_80 : decode cX6_pair 80 = .ok (.invokevirtual 389, 3) := dk_182 1 133 (dk_at dksX6_pair_3 9 rfl rfl)
theorem dX6_pair_83 : decode cX6_pair 83 = .ok (.aload_n 0, 1) := dk_42 (dk_at dksX6_pair_3 12 rfl rfl)
theorem dX6_pair_84 : decode cX6_pair 84 = .ok (.iload_n 2, 1) := dk_28 (dk_at dksX6_pair_3 13 rfl rfl)
theorem dX6_pair_85 : decode cX6_pair 85 = .ok (.invokevirtual 389, 3) := dk_182 1 133 (dk_at dksX6_pair_3 14 rfl rfl)
theorem dX6_pair_88 : decode cX6_pair 88 = .ok (.ladd, 1) := dk_97 (dk_at dksX6_pair_3 17 rfl rfl)
theorem dX6_pair_89 : decode cX6_pair 89 = .ok (.lstore 10, 2) := dk_55 10 (dk_at dksX6_pair_3 18 rfl rfl)
theorem dX6_pair_91 : decode cX6_pair 91 = .ok (.iload 5, 2) := dk_21 5 (dk_at dksX6_pair_3 20 rfl rfl)
theorem dX6_pair_93 : decode cX6_pair 93 = .ok (.iconst (-1), 1) := dk_2 (dk_at dksX6_pair_3 22 rfl rfl)
theorem dX6_pair_94 : decode cX6_pair 94 = .ok (.if_icmp .eq 14, 3) := dk_159 0 14 (dk_at dksX6_pair_4 0 rfl rfl)
theorem dX6_pair_97 : decode cX6_pair 97 = .ok (.lload 10, 2) := dk_22 10 (dk_at dksX6_pair_4 3 rfl rfl)
theorem dX6_pair_99 : decode cX6_pair 99 = .ok (.lload 6, 2) := dk_22 6 (dk_at dksX6_pair_4 5 rfl rfl)
theorem dX6_pair_101 : decode cX6_pair 101 = .ok (.lcmp, 1) := dk_148 (dk_at dksX6_pair_4 7 rfl rfl)
theorem dX6_pair_102 : decode cX6_pair 102 = .ok (.ifCond .lt 6, 3) := dk_155 0 6 (dk_at dksX6_pair_4 8 rfl rfl)
theorem dX6_pair_105 : decode cX6_pair 105 = .ok (.goto 17, 3) := dk_167 0 17 (dk_at dksX6_pair_4 11 rfl rfl)
theorem dX6_pair_108 : decode cX6_pair 108 = .ok (.bipush 100, 2) := dk_16 100 (dk_at dksX6_pair_4 14 rfl rfl)
theorem dX6_pair_110 : decode cX6_pair 110 = .ok (.iload 8, 2) := dk_21 8 (dk_at dksX6_pair_4 16 rfl rfl)
theorem dX6_pair_112 : decode cX6_pair 112 = .ok (.imul, 1) := dk_104 (dk_at dksX6_pair_4 18 rfl rfl)
theorem dX6_pair_113 : decode cX6_pair 113 = .ok (.iload 9, 2) := dk_21 9 (dk_at dksX6_pair_4 19 rfl rfl)
theorem dX6_pair_115 : decode cX6_pair 115 = .ok (.iadd, 1) := dk_96 (dk_at dksX6_pair_4 21 rfl rfl)
theorem dX6_pair_116 : decode cX6_pair 116 = .ok (.istore 5, 2) := dk_54 5 (dk_at dksX6_pair_4 22 rfl rfl)
theorem dX6_pair_118 : decode cX6_pair 118 = .ok (.lload 10, 2) := dk_22 10 (dk_at dksX6_pair_5 0 rfl rfl)
theorem dX6_pair_120 : decode cX6_pair 120 = .ok (.lstore 6, 2) := dk_55 6 (dk_at dksX6_pair_5 2 rfl rfl)
theorem dX6_pair_122 : decode cX6_pair 122 = .ok (.iinc 9 1, 3) := dk_132 9 1 (dk_at dksX6_pair_5 4 rfl rfl)
theorem dX6_pair_125 : decode cX6_pair 125 = .ok (.goto (-74), 3) := dk_167 255 182 (dk_at dksX6_pair_5 7 rfl rfl)
theorem dX6_pair_128 : decode cX6_pair 128 = .ok (.iinc 8 1, 3) := dk_132 8 1 (dk_at dksX6_pair_5 10 rfl rfl)
theorem dX6_pair_131 : decode cX6_pair 131 = .ok (.goto (-92), 3) := dk_167 255 164 (dk_at dksX6_pair_5 13 rfl rfl)
theorem dX6_pair_134 : decode cX6_pair 134 = .ok (.aload_n 0, 1) := dk_42 (dk_at dksX6_pair_5 16 rfl rfl)
theorem dX6_pair_135 : decode cX6_pair 135 = .ok (.iload_n 1, 1) := dk_27 (dk_at dksX6_pair_5 17 rfl rfl)
theorem dX6_pair_136 : decode cX6_pair 136 = .ok (.iload_n 3, 1) := dk_29 (dk_at dksX6_pair_5 18 rfl rfl)
theorem dX6_pair_137 : decode cX6_pair 137 = .ok (.invokevirtual 411, 3) := dk_182 1 155 (dk_at dksX6_pair_5 19 rfl rfl)
theorem dX6_pair_140 : decode cX6_pair 140 = .ok (.aload_n 0, 1) := dk_42 (dk_at dksX6_pair_5 22 rfl rfl)
theorem dX6_pair_141 : decode cX6_pair 141 = .ok (.iload_n 2, 1) := dk_28 (dk_at dksX6_pair_5 23 rfl rfl)
theorem dX6_pair_142 : decode cX6_pair 142 = .ok (.iload 4, 2) := dk_21 4 (dk_at dksX6_pair_6 0 rfl rfl)
theorem dX6_pair_144 : decode cX6_pair 144 = .ok (.invokevirtual 411, 3) := dk_182 1 155 (dk_at dksX6_pair_6 2 rfl rfl)
theorem dX6_pair_147 : decode cX6_pair 147 = .ok (.iload 5, 2) := dk_21 5 (dk_at dksX6_pair_6 5 rfl rfl)
theorem dX6_pair_149 : decode cX6_pair 149 = .ok (.ireturn, 1) := dk_172 (dk_at dksX6_pair_6 7 rfl rfl)
abbrev cX6_areTwo : ByteArray := prog_20_method_96_code
def yX6_areTwo : MethodName := ⟨RX6, "areTwo", "(II)Z"⟩
def dkwX6_areTwo_1 : List UInt8 := [167, 0, 4, 3, 172]
abbrev dktX6_areTwo_1 : List UInt8 := dkwX6_areTwo_1 ++ []
def dkwX6_areTwo_0 : List UInt8 := [42, 27, 182, 1, 62, 153, 0, 20, 42, 28, 182, 1, 62, 153, 0, 12, 27, 28, 159, 0, 7, 4]
abbrev dktX6_areTwo_0 : List UInt8 := dkwX6_areTwo_0 ++ dktX6_areTwo_1
theorem dksX6_areTwo_0 : cX6_areTwo.data.toList.drop 0 = dktX6_areTwo_0 := by decide +kernel
theorem dksX6_areTwo_1 : cX6_areTwo.data.toList.drop 22 = dktX6_areTwo_1 := dk_seg dksX6_areTwo_0 22 rfl rfl
theorem dX6_areTwo_0 : decode cX6_areTwo 0 = .ok (.aload_n 0, 1) := dk_42 (dk_at dksX6_areTwo_0 0 rfl rfl)
theorem dX6_areTwo_1 : decode cX6_areTwo 1 = .ok (.iload_n 1, 1) := dk_27 (dk_at dksX6_areTwo_0 1 rfl rfl)
theorem dX6_areTwo_2 : decode cX6_areTwo 2 = .ok (.invokevirtual 318, 3) := dk_182 1 62 (dk_at dksX6_areTwo_0 2 rfl rfl)
theorem dX6_areTwo_5 : decode cX6_areTwo 5 = .ok (.ifCond .eq 20, 3) := dk_153 0 20 (dk_at dksX6_areTwo_0 5 rfl rfl)
theorem dX6_areTwo_8 : decode cX6_areTwo 8 = .ok (.aload_n 0, 1) := dk_42 (dk_at dksX6_areTwo_0 8 rfl rfl)
theorem dX6_areTwo_9 : decode cX6_areTwo 9 = .ok (.iload_n 2, 1) := dk_28 (dk_at dksX6_areTwo_0 9 rfl rfl)
theorem dX6_areTwo_10 : decode cX6_areTwo 10 = .ok (.invokevirtual 318, 3) := dk_182 1 62 (dk_at dksX6_areTwo_0 10 rfl rfl)
theorem dX6_areTwo_13 : decode cX6_areTwo 13 = .ok (.ifCond .eq 12, 3) := dk_153 0 12 (dk_at dksX6_areTwo_0 13 rfl rfl)
theorem dX6_areTwo_16 : decode cX6_areTwo 16 = .ok (.iload_n 1, 1) := dk_27 (dk_at dksX6_areTwo_0 16 rfl rfl)
theorem dX6_areTwo_17 : decode cX6_areTwo 17 = .ok (.iload_n 2, 1) := dk_28 (dk_at dksX6_areTwo_0 17 rfl rfl)
theorem dX6_areTwo_18 : decode cX6_areTwo 18 = .ok (.if_icmp .eq 7, 3) := dk_159 0 7 (dk_at dksX6_areTwo_0 18 rfl rfl)
theorem dX6_areTwo_21 : decode cX6_areTwo 21 = .ok (.iconst 1, 1) := dk_4 (dk_at dksX6_areTwo_0 21 rfl rfl)
theorem dX6_areTwo_22 : decode cX6_areTwo 22 = .ok (.goto 4, 3) := dk_167 0 4 (dk_at dksX6_areTwo_1 0 rfl rfl)
theorem dX6_areTwo_25 : decode cX6_areTwo 25 = .ok (.iconst 0, 1) := dk_3 (dk_at dksX6_areTwo_1 3 rfl rfl)
theorem dX6_areTwo_26 : decode cX6_areTwo 26 = .ok (.ireturn, 1) := dk_172 (dk_at dksX6_areTwo_1 4 rfl rfl)
abbrev cX6_wasted : ByteArray := prog_20_method_98_code
def yX6_wasted : MethodName := ⟨RX6, "wasted", "()J"⟩
def dkwX6_wasted_2 : List UInt8 := [167, 255, 237, 31, 42, 5, 182, 1, 142, 101, 66, 42, 182, 1, 185, 33, 173]
abbrev dktX6_wasted_2 : List UInt8 := dkwX6_wasted_2 ++ []
def dkwX6_wasted_1 : List UInt8 := [182, 1, 182, 3, 62, 29, 42, 180, 0, 52, 3, 46, 162, 0, 15, 42, 29, 3, 182, 1, 155, 132, 3, 1]
abbrev dktX6_wasted_1 : List UInt8 := dkwX6_wasted_1 ++ dktX6_wasted_2
def dkwX6_wasted_0 : List UInt8 := [42, 3, 181, 0, 114, 42, 182, 1, 98, 154, 0, 7, 20, 1, 200, 173, 42, 5, 182, 1, 142, 64, 42]
abbrev dktX6_wasted_0 : List UInt8 := dkwX6_wasted_0 ++ dktX6_wasted_1
theorem dksX6_wasted_0 : cX6_wasted.data.toList.drop 0 = dktX6_wasted_0 := by decide +kernel
theorem dksX6_wasted_1 : cX6_wasted.data.toList.drop 23 = dktX6_wasted_1 := dk_seg dksX6_wasted_0 23 rfl rfl
theorem dksX6_wasted_2 : cX6_wasted.data.toList.drop 47 = dktX6_wasted_2 := dk_seg dksX6_wasted_1 24 rfl rfl
theorem dX6_wasted_0 : decode cX6_wasted 0 = .ok (.aload_n 0, 1) := dk_42 (dk_at dksX6_wasted_0 0 rfl rfl)
theorem dX6_wasted_1 : decode cX6_wasted 1 = .ok (.iconst 0, 1) := dk_3 (dk_at dksX6_wasted_0 1 rfl rfl)
theorem dX6_wasted_2 : decode cX6_wasted 2 = .ok (.putfield 114, 3) := dk_181 0 114 (dk_at dksX6_wasted_0 2 rfl rfl)
theorem dX6_wasted_5 : decode cX6_wasted 5 = .ok (.aload_n 0, 1) := dk_42 (dk_at dksX6_wasted_0 5 rfl rfl)
theorem dX6_wasted_6 : decode cX6_wasted 6 = .ok (.invokevirtual 354, 3) := dk_182 1 98 (dk_at dksX6_wasted_0 6 rfl rfl)
theorem dX6_wasted_9 : decode cX6_wasted 9 = .ok (.ifCond .ne 7, 3) := dk_154 0 7 (dk_at dksX6_wasted_0 9 rfl rfl)
theorem dX6_wasted_12 : decode cX6_wasted 12 = .ok (.ldc2_w 456, 3) := dk_20 1 200 (dk_at dksX6_wasted_0 12 rfl rfl)
theorem dX6_wasted_15 : decode cX6_wasted 15 = .ok (.lreturn, 1) := dk_173 (dk_at dksX6_wasted_0 15 rfl rfl)
theorem dX6_wasted_16 : decode cX6_wasted 16 = .ok (.aload_n 0, 1) := dk_42 (dk_at dksX6_wasted_0 16 rfl rfl)
theorem dX6_wasted_17 : decode cX6_wasted 17 = .ok (.iconst 2, 1) := dk_5 (dk_at dksX6_wasted_0 17 rfl rfl)
theorem dX6_wasted_18 : decode cX6_wasted 18 = .ok (.invokevirtual 398, 3) := dk_182 1 142 (dk_at dksX6_wasted_0 18 rfl rfl)
theorem dX6_wasted_21 : decode cX6_wasted 21 = .ok (.lstore_n 1, 1) := dk_64 (dk_at dksX6_wasted_0 21 rfl rfl)
theorem dX6_wasted_22 : decode cX6_wasted 22 = .ok (.aload_n 0, 1) := dk_42 (dk_at dksX6_wasted_0 22 rfl rfl)
theorem dX6_wasted_23 : decode cX6_wasted 23 = .ok (.invokevirtual 438, 3) := dk_182 1 182 (dk_at dksX6_wasted_1 0 rfl rfl)
theorem dX6_wasted_26 : decode cX6_wasted 26 = .ok (.iconst 0, 1) := dk_3 (dk_at dksX6_wasted_1 3 rfl rfl)
theorem dX6_wasted_27 : decode cX6_wasted 27 = .ok (.istore_n 3, 1) := dk_62 (dk_at dksX6_wasted_1 4 rfl rfl)
theorem dX6_wasted_28 : decode cX6_wasted 28 = .ok (.iload_n 3, 1) := dk_29 (dk_at dksX6_wasted_1 5 rfl rfl)
theorem dX6_wasted_29 : decode cX6_wasted 29 = .ok (.aload_n 0, 1) := dk_42 (dk_at dksX6_wasted_1 6 rfl rfl)
theorem dX6_wasted_30 : decode cX6_wasted 30 = .ok (.getfield 52, 3) := dk_180 0 52 (dk_at dksX6_wasted_1 7 rfl rfl)
theorem dX6_wasted_33 : decode cX6_wasted 33 = .ok (.iconst 0, 1) := dk_3 (dk_at dksX6_wasted_1 10 rfl rfl)
theorem dX6_wasted_34 : decode cX6_wasted 34 = .ok (.iaload, 1) := dk_46 (dk_at dksX6_wasted_1 11 rfl rfl)
theorem dX6_wasted_35 : decode cX6_wasted 35 = .ok (.if_icmp .ge 15, 3) := dk_162 0 15 (dk_at dksX6_wasted_1 12 rfl rfl)
theorem dX6_wasted_38 : decode cX6_wasted 38 = .ok (.aload_n 0, 1) := dk_42 (dk_at dksX6_wasted_1 15 rfl rfl)
theorem dX6_wasted_39 : decode cX6_wasted 39 = .ok (.iload_n 3, 1) := dk_29 (dk_at dksX6_wasted_1 16 rfl rfl)
theorem dX6_wasted_40 : decode cX6_wasted 40 = .ok (.iconst 0, 1) := dk_3 (dk_at dksX6_wasted_1 17 rfl rfl)
theorem dX6_wasted_41 : decode cX6_wasted 41 = .ok (.invokevirtual 411, 3) := dk_182 1 155 (dk_at dksX6_wasted_1 18 rfl rfl)
theorem dX6_wasted_44 : decode cX6_wasted 44 = .ok (.iinc 3 1, 3) := dk_132 3 1 (dk_at dksX6_wasted_1 21 rfl rfl)
theorem dX6_wasted_47 : decode cX6_wasted 47 = .ok (.goto (-19), 3) := dk_167 255 237 (dk_at dksX6_wasted_2 0 rfl rfl)
theorem dX6_wasted_50 : decode cX6_wasted 50 = .ok (.lload_n 1, 1) := dk_31 (dk_at dksX6_wasted_2 3 rfl rfl)
theorem dX6_wasted_51 : decode cX6_wasted 51 = .ok (.aload_n 0, 1) := dk_42 (dk_at dksX6_wasted_2 4 rfl rfl)
theorem dX6_wasted_52 : decode cX6_wasted 52 = .ok (.iconst 2, 1) := dk_5 (dk_at dksX6_wasted_2 5 rfl rfl)
theorem dX6_wasted_53 : decode cX6_wasted 53 = .ok (.invokevirtual 398, 3) := dk_182 1 142 (dk_at dksX6_wasted_2 6 rfl rfl)
theorem dX6_wasted_56 : decode cX6_wasted 56 = .ok (.lsub, 1) := dk_101 (dk_at dksX6_wasted_2 9 rfl rfl)
theorem dX6_wasted_57 : decode cX6_wasted 57 = .ok (.lstore_n 3, 1) := dk_66 (dk_at dksX6_wasted_2 10 rfl rfl)
theorem dX6_wasted_58 : decode cX6_wasted 58 = .ok (.aload_n 0, 1) := dk_42 (dk_at dksX6_wasted_2 11 rfl rfl)
theorem dX6_wasted_59 : decode cX6_wasted 59 = .ok (.invokevirtual 441, 3) := dk_182 1 185 (dk_at dksX6_wasted_2 12 rfl rfl)
theorem dX6_wasted_62 : decode cX6_wasted 62 = .ok (.lload_n 3, 1) := dk_33 (dk_at dksX6_wasted_2 15 rfl rfl)
theorem dX6_wasted_63 : decode cX6_wasted 63 = .ok (.lreturn, 1) := dk_173 (dk_at dksX6_wasted_2 16 rfl rfl)
abbrev cX6_beside : ByteArray := prog_20_method_100_code
def yX6_beside : MethodName := ⟨RX6, "beside", "(III)J"⟩
def dkwX6_beside_1 : List UInt8 := [20, 1, 200, 173, 42, 27, 28, 182, 1, 202, 42, 180, 0, 95, 29, 47, 173]
abbrev dktX6_beside_1 : List UInt8 := dkwX6_beside_1 ++ []
def dkwX6_beside_0 : List UInt8 := [42, 3, 181, 0, 114, 42, 27, 29, 182, 1, 196, 153, 0, 11, 42, 28, 182, 1, 149, 154, 0, 7]
abbrev dktX6_beside_0 : List UInt8 := dkwX6_beside_0 ++ dktX6_beside_1
theorem dksX6_beside_0 : cX6_beside.data.toList.drop 0 = dktX6_beside_0 := by decide +kernel
theorem dksX6_beside_1 : cX6_beside.data.toList.drop 22 = dktX6_beside_1 := dk_seg dksX6_beside_0 22 rfl rfl
theorem dX6_beside_0 : decode cX6_beside 0 = .ok (.aload_n 0, 1) := dk_42 (dk_at dksX6_beside_0 0 rfl rfl)
theorem dX6_beside_1 : decode cX6_beside 1 = .ok (.iconst 0, 1) := dk_3 (dk_at dksX6_beside_0 1 rfl rfl)
theorem dX6_beside_2 : decode cX6_beside 2 = .ok (.putfield 114, 3) := dk_181 0 114 (dk_at dksX6_beside_0 2 rfl rfl)
theorem dX6_beside_5 : decode cX6_beside 5 = .ok (.aload_n 0, 1) := dk_42 (dk_at dksX6_beside_0 5 rfl rfl)
theorem dX6_beside_6 : decode cX6_beside 6 = .ok (.iload_n 1, 1) := dk_27 (dk_at dksX6_beside_0 6 rfl rfl)
theorem dX6_beside_7 : decode cX6_beside 7 = .ok (.iload_n 3, 1) := dk_29 (dk_at dksX6_beside_0 7 rfl rfl)
theorem dX6_beside_8 : decode cX6_beside 8 = .ok (.invokevirtual 452, 3) := dk_182 1 196 (dk_at dksX6_beside_0 8 rfl rfl)
theorem dX6_beside_11 : decode cX6_beside 11 = .ok (.ifCond .eq 11, 3) := dk_153 0 11 (dk_at dksX6_beside_0 11 rfl rfl)
theorem dX6_beside_14 : decode cX6_beside 14 = .ok (.aload_n 0, 1) := dk_42 (dk_at dksX6_beside_0 14 rfl rfl)
theorem dX6_beside_15 : decode cX6_beside 15 = .ok (.iload_n 2, 1) := dk_28 (dk_at dksX6_beside_0 15 rfl rfl)
theorem dX6_beside_16 : decode cX6_beside 16 = .ok (.invokevirtual 405, 3) := dk_182 1 149 (dk_at dksX6_beside_0 16 rfl rfl)
theorem dX6_beside_19 : decode cX6_beside 19 = .ok (.ifCond .ne 7, 3) := dk_154 0 7 (dk_at dksX6_beside_0 19 rfl rfl)
theorem dX6_beside_22 : decode cX6_beside 22 = .ok (.ldc2_w 456, 3) := dk_20 1 200 (dk_at dksX6_beside_1 0 rfl rfl)
theorem dX6_beside_25 : decode cX6_beside 25 = .ok (.lreturn, 1) := dk_173 (dk_at dksX6_beside_1 3 rfl rfl)
theorem dX6_beside_26 : decode cX6_beside 26 = .ok (.aload_n 0, 1) := dk_42 (dk_at dksX6_beside_1 4 rfl rfl)
theorem dX6_beside_27 : decode cX6_beside 27 = .ok (.iload_n 1, 1) := dk_27 (dk_at dksX6_beside_1 5 rfl rfl)
theorem dX6_beside_28 : decode cX6_beside 28 = .ok (.iload_n 2, 1) := dk_28 (dk_at dksX6_beside_1 6 rfl rfl)
theorem dX6_beside_29 : decode cX6_beside 29 = .ok (.invokevirtual 458, 3) := dk_182 1 202 (dk_at dksX6_beside_1 7 rfl rfl)
theorem dX6_beside_32 : decode cX6_beside 32 = .ok (.aload_n 0, 1) := dk_42 (dk_at dksX6_beside_1 10 rfl rfl)
theorem dX6_beside_33 : decode cX6_beside 33 = .ok (.getfield 95, 3) := dk_180 0 95 (dk_at dksX6_beside_1 11 rfl rfl)
theorem dX6_beside_36 : decode cX6_beside 36 = .ok (.iload_n 3, 1) := dk_29 (dk_at dksX6_beside_1 14 rfl rfl)
theorem dX6_beside_37 : decode cX6_beside 37 = .ok (.laload, 1) := dk_47 (dk_at dksX6_beside_1 15 rfl rfl)
theorem dX6_beside_38 : decode cX6_beside 38 = .ok (.lreturn, 1) := dk_173 (dk_at dksX6_beside_1 16 rfl rfl)
abbrev cX6_laysGrowth : ByteArray := prog_20_method_99_code
def yX6_laysGrowth : MethodName := ⟨RX6, "laysGrowth", "(II)V"⟩
def dkwX6_laysGrowth_3 : List UInt8 := [47, 42, 21, 4, 182, 1, 112, 97, 80, 132, 4, 1, 167, 255, 226, 42, 27, 29, 182, 1, 155, 177]
abbrev dktX6_laysGrowth_3 : List UInt8 := dkwX6_laysGrowth_3 ++ []
def dkwX6_laysGrowth_2 : List UInt8 := [182, 1, 106, 3, 54, 4, 21, 4, 42, 180, 0, 52, 3, 46, 162, 0, 25, 42, 180, 0, 95, 21, 4, 92]
abbrev dktX6_laysGrowth_2 : List UInt8 := dkwX6_laysGrowth_2 ++ dktX6_laysGrowth_3
def dkwX6_laysGrowth_1 : List UInt8 := [182, 1, 112, 117, 80, 132, 3, 1, 167, 255, 231, 42, 27, 182, 1, 152, 62, 42, 27, 28, 182, 1, 155, 42]
abbrev dktX6_laysGrowth_1 : List UInt8 := dkwX6_laysGrowth_1 ++ dktX6_laysGrowth_2
def dkwX6_laysGrowth_0 : List UInt8 := [42, 182, 1, 106, 3, 62, 29, 42, 180, 0, 52, 3, 46, 162, 0, 21, 42, 180, 0, 95, 29, 42, 29]
abbrev dktX6_laysGrowth_0 : List UInt8 := dkwX6_laysGrowth_0 ++ dktX6_laysGrowth_1
theorem dksX6_laysGrowth_0 : cX6_laysGrowth.data.toList.drop 0 = dktX6_laysGrowth_0 := by decide +kernel
theorem dksX6_laysGrowth_1 : cX6_laysGrowth.data.toList.drop 23 = dktX6_laysGrowth_1 := dk_seg dksX6_laysGrowth_0 23 rfl rfl
theorem dksX6_laysGrowth_2 : cX6_laysGrowth.data.toList.drop 47 = dktX6_laysGrowth_2 := dk_seg dksX6_laysGrowth_1 24 rfl rfl
theorem dksX6_laysGrowth_3 : cX6_laysGrowth.data.toList.drop 71 = dktX6_laysGrowth_3 := dk_seg dksX6_laysGrowth_2 24 rfl rfl
theorem dX6_laysGrowth_0 : decode cX6_laysGrowth 0 = .ok (.aload_n 0, 1) := dk_42 (dk_at dksX6_laysGrowth_0 0 rfl rfl)
theorem dX6_laysGrowth_1 : decode cX6_laysGrowth 1 = .ok (.invokevirtual 362, 3) := dk_182 1 106 (dk_at dksX6_laysGrowth_0 1 rfl rfl)
theorem dX6_laysGrowth_4 : decode cX6_laysGrowth 4 = .ok (.iconst 0, 1) := dk_3 (dk_at dksX6_laysGrowth_0 4 rfl rfl)
theorem dX6_laysGrowth_5 : decode cX6_laysGrowth 5 = .ok (.istore_n 3, 1) := dk_62 (dk_at dksX6_laysGrowth_0 5 rfl rfl)
theorem dX6_laysGrowth_6 : decode cX6_laysGrowth 6 = .ok (.iload_n 3, 1) := dk_29 (dk_at dksX6_laysGrowth_0 6 rfl rfl)
theorem dX6_laysGrowth_7 : decode cX6_laysGrowth 7 = .ok (.aload_n 0, 1) := dk_42 (dk_at dksX6_laysGrowth_0 7 rfl rfl)
theorem dX6_laysGrowth_8 : decode cX6_laysGrowth 8 = .ok (.getfield 52, 3) := dk_180 0 52 (dk_at dksX6_laysGrowth_0 8 rfl rfl)
theorem dX6_laysGrowth_11 : decode cX6_laysGrowth 11 = .ok (.iconst 0, 1) := dk_3 (dk_at dksX6_laysGrowth_0 11 rfl rfl)
theorem dX6_laysGrowth_12 : decode cX6_laysGrowth 12 = .ok (.iaload, 1) := dk_46 (dk_at dksX6_laysGrowth_0 12 rfl rfl)
theorem dX6_laysGrowth_13 : decode cX6_laysGrowth 13 = .ok (.if_icmp .ge 21, 3) := dk_162 0 21 (dk_at dksX6_laysGrowth_0 13 rfl rfl)
theorem dX6_laysGrowth_16 : decode cX6_laysGrowth 16 = .ok (.aload_n 0, 1) := dk_42 (dk_at dksX6_laysGrowth_0 16 rfl rfl)
theorem dX6_laysGrowth_17 : decode cX6_laysGrowth 17 = .ok (.getfield 95, 3) := dk_180 0 95 (dk_at dksX6_laysGrowth_0 17 rfl rfl)
theorem dX6_laysGrowth_20 : decode cX6_laysGrowth 20 = .ok (.iload_n 3, 1) := dk_29 (dk_at dksX6_laysGrowth_0 20 rfl rfl)
theorem dX6_laysGrowth_21 : decode cX6_laysGrowth 21 = .ok (.aload_n 0, 1) := dk_42 (dk_at dksX6_laysGrowth_0 21 rfl rfl)
theorem dX6_laysGrowth_22 : decode cX6_laysGrowth 22 = .ok (.iload_n 3, 1) := dk_29 (dk_at dksX6_laysGrowth_0 22 rfl rfl)
theorem dX6_laysGrowth_23 : decode cX6_laysGrowth 23 = .ok (.invokevirtual 368, 3) := dk_182 1 112 (dk_at dksX6_laysGrowth_1 0 rfl rfl)
theorem dX6_laysGrowth_26 : decode cX6_laysGrowth 26 = .ok (.lneg, 1) := dk_117 (dk_at dksX6_laysGrowth_1 3 rfl rfl)
theorem dX6_laysGrowth_27 : decode cX6_laysGrowth 27 = .ok (.lastore, 1) := dk_80 (dk_at dksX6_laysGrowth_1 4 rfl rfl)
theorem dX6_laysGrowth_28 : decode cX6_laysGrowth 28 = .ok (.iinc 3 1, 3) := dk_132 3 1 (dk_at dksX6_laysGrowth_1 5 rfl rfl)
theorem dX6_laysGrowth_31 : decode cX6_laysGrowth 31 = .ok (.goto (-25), 3) := dk_167 255 231 (dk_at dksX6_laysGrowth_1 8 rfl rfl)
theorem dX6_laysGrowth_34 : decode cX6_laysGrowth 34 = .ok (.aload_n 0, 1) := dk_42 (dk_at dksX6_laysGrowth_1 11 rfl rfl)
theorem dX6_laysGrowth_35 : decode cX6_laysGrowth 35 = .ok (.iload_n 1, 1) := dk_27 (dk_at dksX6_laysGrowth_1 12 rfl rfl)
theorem dX6_laysGrowth_36 : decode cX6_laysGrowth 36 = .ok (.invokevirtual 408, 3) := dk_182 1 152 (dk_at dksX6_laysGrowth_1 13 rfl rfl)
theorem dX6_laysGrowth_39 : decode cX6_laysGrowth 39 = .ok (.istore_n 3, 1) := dk_62 (dk_at dksX6_laysGrowth_1 16 rfl rfl)
theorem dX6_laysGrowth_40 : decode cX6_laysGrowth 40 = .ok (.aload_n 0, 1) := dk_42 (dk_at dksX6_laysGrowth_1 17 rfl rfl)
theorem dX6_laysGrowth_41 : decode cX6_laysGrowth 41 = .ok (.iload_n 1, 1) := dk_27 (dk_at dksX6_laysGrowth_1 18 rfl rfl)
theorem dX6_laysGrowth_42 : decode cX6_laysGrowth 42 = .ok (.iload_n 2, 1) := dk_28 (dk_at dksX6_laysGrowth_1 19 rfl rfl)
theorem dX6_laysGrowth_43 : decode cX6_laysGrowth 43 = .ok (.invokevirtual 411, 3) := dk_182 1 155 (dk_at dksX6_laysGrowth_1 20 rfl rfl)
theorem dX6_laysGrowth_46 : decode cX6_laysGrowth 46 = .ok (.aload_n 0, 1) := dk_42 (dk_at dksX6_laysGrowth_1 23 rfl rfl)
theorem dX6_laysGrowth_47 : decode cX6_laysGrowth 47 = .ok (.invokevirtual 362, 3) := dk_182 1 106 (dk_at dksX6_laysGrowth_2 0 rfl rfl)
theorem dX6_laysGrowth_50 : decode cX6_laysGrowth 50 = .ok (.iconst 0, 1) := dk_3 (dk_at dksX6_laysGrowth_2 3 rfl rfl)
theorem dX6_laysGrowth_51 : decode cX6_laysGrowth 51 = .ok (.istore 4, 2) := dk_54 4 (dk_at dksX6_laysGrowth_2 4 rfl rfl)
theorem dX6_laysGrowth_53 : decode cX6_laysGrowth 53 = .ok (.iload 4, 2) := dk_21 4 (dk_at dksX6_laysGrowth_2 6 rfl rfl)
theorem dX6_laysGrowth_55 : decode cX6_laysGrowth 55 = .ok (.aload_n 0, 1) := dk_42 (dk_at dksX6_laysGrowth_2 8 rfl rfl)
theorem dX6_laysGrowth_56 : decode cX6_laysGrowth 56 = .ok (.getfield 52, 3) := dk_180 0 52 (dk_at dksX6_laysGrowth_2 9 rfl rfl)
theorem dX6_laysGrowth_59 : decode cX6_laysGrowth 59 = .ok (.iconst 0, 1) := dk_3 (dk_at dksX6_laysGrowth_2 12 rfl rfl)
theorem dX6_laysGrowth_60 : decode cX6_laysGrowth 60 = .ok (.iaload, 1) := dk_46 (dk_at dksX6_laysGrowth_2 13 rfl rfl)
theorem dX6_laysGrowth_61 : decode cX6_laysGrowth 61 = .ok (.if_icmp .ge 25, 3) := dk_162 0 25 (dk_at dksX6_laysGrowth_2 14 rfl rfl)
theorem dX6_laysGrowth_64 : decode cX6_laysGrowth 64 = .ok (.aload_n 0, 1) := dk_42 (dk_at dksX6_laysGrowth_2 17 rfl rfl)
theorem dX6_laysGrowth_65 : decode cX6_laysGrowth 65 = .ok (.getfield 95, 3) := dk_180 0 95 (dk_at dksX6_laysGrowth_2 18 rfl rfl)
theorem dX6_laysGrowth_68 : decode cX6_laysGrowth 68 = .ok (.iload 4, 2) := dk_21 4 (dk_at dksX6_laysGrowth_2 21 rfl rfl)
theorem dX6_laysGrowth_70 : decode cX6_laysGrowth 70 = .ok (.dup2, 1) := dk_92 (dk_at dksX6_laysGrowth_2 23 rfl rfl)
theorem dX6_laysGrowth_71 : decode cX6_laysGrowth 71 = .ok (.laload, 1) := dk_47 (dk_at dksX6_laysGrowth_3 0 rfl rfl)
theorem dX6_laysGrowth_72 : decode cX6_laysGrowth 72 = .ok (.aload_n 0, 1) := dk_42 (dk_at dksX6_laysGrowth_3 1 rfl rfl)
theorem dX6_laysGrowth_73 : decode cX6_laysGrowth 73 = .ok (.iload 4, 2) := dk_21 4 (dk_at dksX6_laysGrowth_3 2 rfl rfl)
theorem dX6_laysGrowth_75 : decode cX6_laysGrowth 75 = .ok (.invokevirtual 368, 3) := dk_182 1 112 (dk_at dksX6_laysGrowth_3 4 rfl rfl)
theorem dX6_laysGrowth_78 : decode cX6_laysGrowth 78 = .ok (.ladd, 1) := dk_97 (dk_at dksX6_laysGrowth_3 7 rfl rfl)
theorem dX6_laysGrowth_79 : decode cX6_laysGrowth 79 = .ok (.lastore, 1) := dk_80 (dk_at dksX6_laysGrowth_3 8 rfl rfl)
theorem dX6_laysGrowth_80 : decode cX6_laysGrowth 80 = .ok (.iinc 4 1, 3) := dk_132 4 1 (dk_at dksX6_laysGrowth_3 9 rfl rfl)
theorem dX6_laysGrowth_83 : decode cX6_laysGrowth 83 = .ok (.goto (-30), 3) := dk_167 255 226 (dk_at dksX6_laysGrowth_3 12 rfl rfl)
theorem dX6_laysGrowth_86 : decode cX6_laysGrowth 86 = .ok (.aload_n 0, 1) := dk_42 (dk_at dksX6_laysGrowth_3 15 rfl rfl)
theorem dX6_laysGrowth_87 : decode cX6_laysGrowth 87 = .ok (.iload_n 1, 1) := dk_27 (dk_at dksX6_laysGrowth_3 16 rfl rfl)
theorem dX6_laysGrowth_88 : decode cX6_laysGrowth 88 = .ok (.iload_n 3, 1) := dk_29 (dk_at dksX6_laysGrowth_3 17 rfl rfl)
theorem dX6_laysGrowth_89 : decode cX6_laysGrowth 89 = .ok (.invokevirtual 411, 3) := dk_182 1 155 (dk_at dksX6_laysGrowth_3 18 rfl rfl)
theorem dX6_laysGrowth_92 : decode cX6_laysGrowth 92 = .ok (.return_, 1) := dk_177 (dk_at dksX6_laysGrowth_3 21 rfl rfl)
abbrev cX6_worse : ByteArray := prog_20_method_101_code
def yX6_worse : MethodName := ⟨RX6, "worse", "(II)I"⟩
def dkwX6_worse_3 : List UInt8 := [62, 132, 4, 1, 167, 255, 216, 29, 172]
abbrev dktX6_worse_3 : List UInt8 := dkwX6_worse_3 ++ []
def dkwX6_worse_2 : List UInt8 := [21, 4, 27, 159, 0, 19, 42, 180, 0, 95, 21, 4, 47, 9, 148, 158, 0, 7, 4, 167, 0, 4, 3, 96]
abbrev dktX6_worse_2 : List UInt8 := dkwX6_worse_2 ++ dktX6_worse_3
def dkwX6_worse_1 : List UInt8 := [42, 27, 28, 182, 1, 202, 3, 62, 3, 54, 4, 21, 4, 42, 180, 0, 52, 3, 46, 162, 0, 35, 29]
abbrev dktX6_worse_1 : List UInt8 := dkwX6_worse_1 ++ dktX6_worse_2
def dkwX6_worse_0 : List UInt8 := [42, 3, 181, 0, 114, 42, 27, 182, 1, 62, 153, 0, 11, 42, 28, 182, 1, 149, 154, 0, 6, 16, 254, 172]
abbrev dktX6_worse_0 : List UInt8 := dkwX6_worse_0 ++ dktX6_worse_1
theorem dksX6_worse_0 : cX6_worse.data.toList.drop 0 = dktX6_worse_0 := by decide +kernel
theorem dksX6_worse_1 : cX6_worse.data.toList.drop 24 = dktX6_worse_1 := dk_seg dksX6_worse_0 24 rfl rfl
theorem dksX6_worse_2 : cX6_worse.data.toList.drop 47 = dktX6_worse_2 := dk_seg dksX6_worse_1 23 rfl rfl
theorem dksX6_worse_3 : cX6_worse.data.toList.drop 71 = dktX6_worse_3 := dk_seg dksX6_worse_2 24 rfl rfl
theorem dX6_worse_0 : decode cX6_worse 0 = .ok (.aload_n 0, 1) := dk_42 (dk_at dksX6_worse_0 0 rfl rfl)
theorem dX6_worse_1 : decode cX6_worse 1 = .ok (.iconst 0, 1) := dk_3 (dk_at dksX6_worse_0 1 rfl rfl)
theorem dX6_worse_2 : decode cX6_worse 2 = .ok (.putfield 114, 3) := dk_181 0 114 (dk_at dksX6_worse_0 2 rfl rfl)
theorem dX6_worse_5 : decode cX6_worse 5 = .ok (.aload_n 0, 1) := dk_42 (dk_at dksX6_worse_0 5 rfl rfl)
theorem dX6_worse_6 : decode cX6_worse 6 = .ok (.iload_n 1, 1) := dk_27 (dk_at dksX6_worse_0 6 rfl rfl)
theorem dX6_worse_7 : decode cX6_worse 7 = .ok (.invokevirtual 318, 3) := dk_182 1 62 (dk_at dksX6_worse_0 7 rfl rfl)
theorem dX6_worse_10 : decode cX6_worse 10 = .ok (.ifCond .eq 11, 3) := dk_153 0 11 (dk_at dksX6_worse_0 10 rfl rfl)
theorem dX6_worse_13 : decode cX6_worse 13 = .ok (.aload_n 0, 1) := dk_42 (dk_at dksX6_worse_0 13 rfl rfl)
theorem dX6_worse_14 : decode cX6_worse 14 = .ok (.iload_n 2, 1) := dk_28 (dk_at dksX6_worse_0 14 rfl rfl)
theorem dX6_worse_15 : decode cX6_worse 15 = .ok (.invokevirtual 405, 3) := dk_182 1 149 (dk_at dksX6_worse_0 15 rfl rfl)
theorem dX6_worse_18 : decode cX6_worse 18 = .ok (.ifCond .ne 6, 3) := dk_154 0 6 (dk_at dksX6_worse_0 18 rfl rfl)
theorem dX6_worse_21 : decode cX6_worse 21 = .ok (.bipush (-2), 2) := dk_16 254 (dk_at dksX6_worse_0 21 rfl rfl)
theorem dX6_worse_23 : decode cX6_worse 23 = .ok (.ireturn, 1) := dk_172 (dk_at dksX6_worse_0 23 rfl rfl)
theorem dX6_worse_24 : decode cX6_worse 24 = .ok (.aload_n 0, 1) := dk_42 (dk_at dksX6_worse_1 0 rfl rfl)
theorem dX6_worse_25 : decode cX6_worse 25 = .ok (.iload_n 1, 1) := dk_27 (dk_at dksX6_worse_1 1 rfl rfl)
theorem dX6_worse_26 : decode cX6_worse 26 = .ok (.iload_n 2, 1) := dk_28 (dk_at dksX6_worse_1 2 rfl rfl)
theorem dX6_worse_27 : decode cX6_worse 27 = .ok (.invokevirtual 458, 3) := dk_182 1 202 (dk_at dksX6_worse_1 3 rfl rfl)
theorem dX6_worse_30 : decode cX6_worse 30 = .ok (.iconst 0, 1) := dk_3 (dk_at dksX6_worse_1 6 rfl rfl)
theorem dX6_worse_31 : decode cX6_worse 31 = .ok (.istore_n 3, 1) := dk_62 (dk_at dksX6_worse_1 7 rfl rfl)
theorem dX6_worse_32 : decode cX6_worse 32 = .ok (.iconst 0, 1) := dk_3 (dk_at dksX6_worse_1 8 rfl rfl)
theorem dX6_worse_33 : decode cX6_worse 33 = .ok (.istore 4, 2) := dk_54 4 (dk_at dksX6_worse_1 9 rfl rfl)
theorem dX6_worse_35 : decode cX6_worse 35 = .ok (.iload 4, 2) := dk_21 4 (dk_at dksX6_worse_1 11 rfl rfl)
theorem dX6_worse_37 : decode cX6_worse 37 = .ok (.aload_n 0, 1) := dk_42 (dk_at dksX6_worse_1 13 rfl rfl)
theorem dX6_worse_38 : decode cX6_worse 38 = .ok (.getfield 52, 3) := dk_180 0 52 (dk_at dksX6_worse_1 14 rfl rfl)
theorem dX6_worse_41 : decode cX6_worse 41 = .ok (.iconst 0, 1) := dk_3 (dk_at dksX6_worse_1 17 rfl rfl)
theorem dX6_worse_42 : decode cX6_worse 42 = .ok (.iaload, 1) := dk_46 (dk_at dksX6_worse_1 18 rfl rfl)
theorem dX6_worse_43 : decode cX6_worse 43 = .ok (.if_icmp .ge 35, 3) := dk_162 0 35 (dk_at dksX6_worse_1 19 rfl rfl)
theorem dX6_worse_46 : decode cX6_worse 46 = .ok (.iload_n 3, 1) := dk_29 (dk_at dksX6_worse_1 22 rfl rfl)
theorem dX6_worse_47 : decode cX6_worse 47 = .ok (.iload 4, 2) := dk_21 4 (dk_at dksX6_worse_2 0 rfl rfl)
theorem dX6_worse_49 : decode cX6_worse 49 = .ok (.iload_n 1, 1) := dk_27 (dk_at dksX6_worse_2 2 rfl rfl)
theorem dX6_worse_50 : decode cX6_worse 50 = .ok (.if_icmp .eq 19, 3) := dk_159 0 19 (dk_at dksX6_worse_2 3 rfl rfl)
theorem dX6_worse_53 : decode cX6_worse 53 = .ok (.aload_n 0, 1) := dk_42 (dk_at dksX6_worse_2 6 rfl rfl)
theorem dX6_worse_54 : decode cX6_worse 54 = .ok (.getfield 95, 3) := dk_180 0 95 (dk_at dksX6_worse_2 7 rfl rfl)
theorem dX6_worse_57 : decode cX6_worse 57 = .ok (.iload 4, 2) := dk_21 4 (dk_at dksX6_worse_2 10 rfl rfl)
theorem dX6_worse_59 : decode cX6_worse 59 = .ok (.laload, 1) := dk_47 (dk_at dksX6_worse_2 12 rfl rfl)
theorem dX6_worse_60 : decode cX6_worse 60 = .ok (.lconst 0, 1) := dk_9 (dk_at dksX6_worse_2 13 rfl rfl)
theorem dX6_worse_61 : decode cX6_worse 61 = .ok (.lcmp, 1) := dk_148 (dk_at dksX6_worse_2 14 rfl rfl)
theorem dX6_worse_62 : decode cX6_worse 62 = .ok (.ifCond .le 7, 3) := dk_158 0 7 (dk_at dksX6_worse_2 15 rfl rfl)
theorem dX6_worse_65 : decode cX6_worse 65 = .ok (.iconst 1, 1) := dk_4 (dk_at dksX6_worse_2 18 rfl rfl)
theorem dX6_worse_66 : decode cX6_worse 66 = .ok (.goto 4, 3) := dk_167 0 4 (dk_at dksX6_worse_2 19 rfl rfl)
theorem dX6_worse_69 : decode cX6_worse 69 = .ok (.iconst 0, 1) := dk_3 (dk_at dksX6_worse_2 22 rfl rfl)
theorem dX6_worse_70 : decode cX6_worse 70 = .ok (.iadd, 1) := dk_96 (dk_at dksX6_worse_2 23 rfl rfl)
theorem dX6_worse_71 : decode cX6_worse 71 = .ok (.istore_n 3, 1) := dk_62 (dk_at dksX6_worse_3 0 rfl rfl)
theorem dX6_worse_72 : decode cX6_worse 72 = .ok (.iinc 4 1, 3) := dk_132 4 1 (dk_at dksX6_worse_3 1 rfl rfl)
theorem dX6_worse_75 : decode cX6_worse 75 = .ok (.goto (-40), 3) := dk_167 255 216 (dk_at dksX6_worse_3 4 rfl rfl)
theorem dX6_worse_78 : decode cX6_worse 78 = .ok (.iload_n 3, 1) := dk_29 (dk_at dksX6_worse_3 7 rfl rfl)
theorem dX6_worse_79 : decode cX6_worse 79 = .ok (.ireturn, 1) := dk_172 (dk_at dksX6_worse_3 8 rfl rfl)
abbrev cX6_next_2 : ByteArray := prog_20_method_102_code
def yX6_next_2 : MethodName := ⟨RX6, "next", "(II)I"⟩
def dkwX6_next_2_3 : List UInt8 := [167, 0, 15, 21, 6, 62, 42, 180, 0, 95, 21, 6, 47, 55, 4, 132, 6, 1, 167, 255, 208, 29, 172]
abbrev dktX6_next_2_3 : List UInt8 := dkwX6_next_2_3 ++ []
def dkwX6_next_2_2 : List UInt8 := [162, 0, 43, 21, 6, 27, 159, 0, 31, 42, 180, 0, 95, 21, 6, 47, 22, 4, 148, 157, 0, 6]
abbrev dktX6_next_2_2 : List UInt8 := dkwX6_next_2_2 ++ dktX6_next_2_3
def dkwX6_next_2_1 : List UInt8 := [42, 27, 28, 182, 1, 202, 2, 62, 9, 55, 4, 3, 54, 6, 21, 6, 42, 180, 0, 52, 3, 46]
abbrev dktX6_next_2_1 : List UInt8 := dkwX6_next_2_1 ++ dktX6_next_2_2
def dkwX6_next_2_0 : List UInt8 := [42, 3, 181, 0, 114, 42, 27, 182, 1, 62, 153, 0, 11, 42, 28, 182, 1, 149, 154, 0, 6, 16, 254, 172]
abbrev dktX6_next_2_0 : List UInt8 := dkwX6_next_2_0 ++ dktX6_next_2_1
theorem dksX6_next_2_0 : cX6_next_2.data.toList.drop 0 = dktX6_next_2_0 := by decide +kernel
theorem dksX6_next_2_1 : cX6_next_2.data.toList.drop 24 = dktX6_next_2_1 := dk_seg dksX6_next_2_0 24 rfl rfl
theorem dksX6_next_2_2 : cX6_next_2.data.toList.drop 46 = dktX6_next_2_2 := dk_seg dksX6_next_2_1 22 rfl rfl
theorem dksX6_next_2_3 : cX6_next_2.data.toList.drop 68 = dktX6_next_2_3 := dk_seg dksX6_next_2_2 22 rfl rfl
theorem dX6_next_2_0 : decode cX6_next_2 0 = .ok (.aload_n 0, 1) := dk_42 (dk_at dksX6_next_2_0 0 rfl rfl)
theorem dX6_next_2_1 : decode cX6_next_2 1 = .ok (.iconst 0, 1) := dk_3 (dk_at dksX6_next_2_0 1 rfl rfl)
theorem dX6_next_2_2 : decode cX6_next_2 2 = .ok (.putfield 114, 3) := dk_181 0 114 (dk_at dksX6_next_2_0 2 rfl rfl)
theorem dX6_next_2_5 : decode cX6_next_2 5 = .ok (.aload_n 0, 1) := dk_42 (dk_at dksX6_next_2_0 5 rfl rfl)
theorem dX6_next_2_6 : decode cX6_next_2 6 = .ok (.iload_n 1, 1) := dk_27 (dk_at dksX6_next_2_0 6 rfl rfl)
theorem dX6_next_2_7 : decode cX6_next_2 7 = .ok (.invokevirtual 318, 3) := dk_182 1 62 (dk_at dksX6_next_2_0 7 rfl rfl)
theorem dX6_next_2_10 : decode cX6_next_2 10 = .ok (.ifCond .eq 11, 3) := dk_153 0 11 (dk_at dksX6_next_2_0 10 rfl rfl)
theorem dX6_next_2_13 : decode cX6_next_2 13 = .ok (.aload_n 0, 1) := dk_42 (dk_at dksX6_next_2_0 13 rfl rfl)
theorem dX6_next_2_14 : decode cX6_next_2 14 = .ok (.iload_n 2, 1) := dk_28 (dk_at dksX6_next_2_0 14 rfl rfl)
theorem dX6_next_2_15 : decode cX6_next_2 15 = .ok (.invokevirtual 405, 3) := dk_182 1 149 (dk_at dksX6_next_2_0 15 rfl rfl)
theorem dX6_next_2_18 : decode cX6_next_2 18 = .ok (.ifCond .ne 6, 3) := dk_154 0 6 (dk_at dksX6_next_2_0 18 rfl rfl)
theorem dX6_next_2_21 : decode cX6_next_2 21 = .ok (.bipush (-2), 2) := dk_16 254 (dk_at dksX6_next_2_0 21 rfl rfl)
theorem dX6_next_2_23 : decode cX6_next_2 23 = .ok (.ireturn, 1) := dk_172 (dk_at dksX6_next_2_0 23 rfl rfl)
theorem dX6_next_2_24 : decode cX6_next_2 24 = .ok (.aload_n 0, 1) := dk_42 (dk_at dksX6_next_2_1 0 rfl rfl)
theorem dX6_next_2_25 : decode cX6_next_2 25 = .ok (.iload_n 1, 1) := dk_27 (dk_at dksX6_next_2_1 1 rfl rfl)
theorem dX6_next_2_26 : decode cX6_next_2 26 = .ok (.iload_n 2, 1) := dk_28 (dk_at dksX6_next_2_1 2 rfl rfl)
theorem dX6_next_2_27 : decode cX6_next_2 27 = .ok (.invokevirtual 458, 3) := dk_182 1 202 (dk_at dksX6_next_2_1 3 rfl rfl)
theorem dX6_next_2_30 : decode cX6_next_2 30 = .ok (.iconst (-1), 1) := dk_2 (dk_at dksX6_next_2_1 6 rfl rfl)
theorem dX6_next_2_31 : decode cX6_next_2 31 = .ok (.istore_n 3, 1) := dk_62 (dk_at dksX6_next_2_1 7 rfl rfl)
theorem dX6_next_2_32 : decode cX6_next_2 32 = .ok (.lconst 0, 1) := dk_9 (dk_at dksX6_next_2_1 8 rfl rfl)
theorem dX6_next_2_33 : decode cX6_next_2 33 = .ok (.lstore 4, 2) := dk_55 4 (dk_at dksX6_next_2_1 9 rfl rfl)
theorem dX6_next_2_35 : decode cX6_next_2 35 = .ok (.iconst 0, 1) := dk_3 (dk_at dksX6_next_2_1 11 rfl rfl)
theorem dX6_next_2_36 : decode cX6_next_2 36 = .ok (.istore 6, 2) := dk_54 6 (dk_at dksX6_next_2_1 12 rfl rfl)
theorem dX6_next_2_38 : decode cX6_next_2 38 = .ok (.iload 6, 2) := dk_21 6 (dk_at dksX6_next_2_1 14 rfl rfl)
theorem dX6_next_2_40 : decode cX6_next_2 40 = .ok (.aload_n 0, 1) := dk_42 (dk_at dksX6_next_2_1 16 rfl rfl)
theorem dX6_next_2_41 : decode cX6_next_2 41 = .ok (.getfield 52, 3) := dk_180 0 52 (dk_at dksX6_next_2_1 17 rfl rfl)
theorem dX6_next_2_44 : decode cX6_next_2 44 = .ok (.iconst 0, 1) := dk_3 (dk_at dksX6_next_2_1 20 rfl rfl)
theorem dX6_next_2_45 : decode cX6_next_2 45 = .ok (.iaload, 1) := dk_46 (dk_at dksX6_next_2_1 21 rfl rfl)
theorem dX6_next_2_46 : decode cX6_next_2 46 = .ok (.if_icmp .ge 43, 3) := dk_162 0 43 (dk_at dksX6_next_2_2 0 rfl rfl)
theorem dX6_next_2_49 : decode cX6_next_2 49 = .ok (.iload 6, 2) := dk_21 6 (dk_at dksX6_next_2_2 3 rfl rfl)
theorem dX6_next_2_51 : decode cX6_next_2 51 = .ok (.iload_n 1, 1) := dk_27 (dk_at dksX6_next_2_2 5 rfl rfl)
theorem dX6_next_2_52 : decode cX6_next_2 52 = .ok (.if_icmp .eq 31, 3) := dk_159 0 31 (dk_at dksX6_next_2_2 6 rfl rfl)
theorem dX6_next_2_55 : decode cX6_next_2 55 = .ok (.aload_n 0, 1) := dk_42 (dk_at dksX6_next_2_2 9 rfl rfl)
theorem dX6_next_2_56 : decode cX6_next_2 56 = .ok (.getfield 95, 3) := dk_180 0 95 (dk_at dksX6_next_2_2 10 rfl rfl)
theorem dX6_next_2_59 : decode cX6_next_2 59 = .ok (.iload 6, 2) := dk_21 6 (dk_at dksX6_next_2_2 13 rfl rfl)
theorem dX6_next_2_61 : decode cX6_next_2 61 = .ok (.laload, 1) := dk_47 (dk_at dksX6_next_2_2 15 rfl rfl)
theorem dX6_next_2_62 : decode cX6_next_2 62 = .ok (.lload 4, 2) := dk_22 4 (dk_at dksX6_next_2_2 16 rfl rfl)
theorem dX6_next_2_64 : decode cX6_next_2 64 = .ok (.lcmp, 1) := dk_148 (dk_at dksX6_next_2_2 18 rfl rfl)
theorem dX6_next_2_65 : decode cX6_next_2 65 = .ok (.ifCond .gt 6, 3) := dk_157 0 6 (dk_at dksX6_next_2_2 19 rfl rfl)
theorem dX6_next_2_68 : decode cX6_next_2 68 = .ok (.goto 15, 3) := dk_167 0 15 (dk_at dksX6_next_2_3 0 rfl rfl)
theorem dX6_next_2_71 : decode cX6_next_2 71 = .ok (.iload 6, 2) := dk_21 6 (dk_at dksX6_next_2_3 3 rfl rfl)
theorem dX6_next_2_73 : decode cX6_next_2 73 = .ok (.istore_n 3, 1) := dk_62 (dk_at dksX6_next_2_3 5 rfl rfl)
theorem dX6_next_2_74 : decode cX6_next_2 74 = .ok (.aload_n 0, 1) := dk_42 (dk_at dksX6_next_2_3 6 rfl rfl)
theorem dX6_next_2_75 : decode cX6_next_2 75 = .ok (.getfield 95, 3) := dk_180 0 95 (dk_at dksX6_next_2_3 7 rfl rfl)
theorem dX6_next_2_78 : decode cX6_next_2 78 = .ok (.iload 6, 2) := dk_21 6 (dk_at dksX6_next_2_3 10 rfl rfl)
theorem dX6_next_2_80 : decode cX6_next_2 80 = .ok (.laload, 1) := dk_47 (dk_at dksX6_next_2_3 12 rfl rfl)
theorem dX6_next_2_81 : decode cX6_next_2 81 = .ok (.lstore 4, 2) := dk_55 4 (dk_at dksX6_next_2_3 13 rfl rfl)
theorem dX6_next_2_83 : decode cX6_next_2 83 = .ok (.iinc 6 1, 3) := dk_132 6 1 (dk_at dksX6_next_2_3 15 rfl rfl)
theorem dX6_next_2_86 : decode cX6_next_2 86 = .ok (.goto (-48), 3) := dk_167 255 208 (dk_at dksX6_next_2_3 18 rfl rfl)
theorem dX6_next_2_89 : decode cX6_next_2 89 = .ok (.iload_n 3, 1) := dk_29 (dk_at dksX6_next_2_3 21 rfl rfl)
theorem dX6_next_2_90 : decode cX6_next_2 90 = .ok (.ireturn, 1) := dk_172 (dk_at dksX6_next_2_3 22 rfl rfl)
abbrev cX6_move : ByteArray := prog_20_method_104_code
def yX6_move : MethodName := ⟨RX6, "move", "(II)I"⟩
def dkwX6_move_3 : List UInt8 := [172]
abbrev dktX6_move_3 : List UInt8 := dkwX6_move_3 ++ []
def dkwX6_move_2 : List UInt8 := [27, 184, 1, 67, 5, 96, 46, 54, 4, 42, 180, 0, 55, 3, 27, 184, 1, 67, 5, 96, 28, 79, 21, 4]
abbrev dktX6_move_2 : List UInt8 := dkwX6_move_2 ++ dktX6_move_3
def dkwX6_move_1 : List UInt8 := [42, 28, 182, 1, 205, 62, 29, 2, 159, 0, 11, 29, 27, 159, 0, 6, 16, 251, 172, 42, 180, 0, 55, 3]
abbrev dktX6_move_1 : List UInt8 := dkwX6_move_1 ++ dktX6_move_2
def dkwX6_move_0 : List UInt8 := [42, 3, 181, 0, 114, 42, 27, 182, 1, 62, 153, 0, 11, 42, 28, 182, 1, 56, 154, 0, 6, 16, 254, 172]
abbrev dktX6_move_0 : List UInt8 := dkwX6_move_0 ++ dktX6_move_1
theorem dksX6_move_0 : cX6_move.data.toList.drop 0 = dktX6_move_0 := by decide +kernel
theorem dksX6_move_1 : cX6_move.data.toList.drop 24 = dktX6_move_1 := dk_seg dksX6_move_0 24 rfl rfl
theorem dksX6_move_2 : cX6_move.data.toList.drop 48 = dktX6_move_2 := dk_seg dksX6_move_1 24 rfl rfl
theorem dksX6_move_3 : cX6_move.data.toList.drop 72 = dktX6_move_3 := dk_seg dksX6_move_2 24 rfl rfl
theorem dX6_move_0 : decode cX6_move 0 = .ok (.aload_n 0, 1) := dk_42 (dk_at dksX6_move_0 0 rfl rfl)
theorem dX6_move_1 : decode cX6_move 1 = .ok (.iconst 0, 1) := dk_3 (dk_at dksX6_move_0 1 rfl rfl)
theorem dX6_move_2 : decode cX6_move 2 = .ok (.putfield 114, 3) := dk_181 0 114 (dk_at dksX6_move_0 2 rfl rfl)
theorem dX6_move_5 : decode cX6_move 5 = .ok (.aload_n 0, 1) := dk_42 (dk_at dksX6_move_0 5 rfl rfl)
theorem dX6_move_6 : decode cX6_move 6 = .ok (.iload_n 1, 1) := dk_27 (dk_at dksX6_move_0 6 rfl rfl)
theorem dX6_move_7 : decode cX6_move 7 = .ok (.invokevirtual 318, 3) := dk_182 1 62 (dk_at dksX6_move_0 7 rfl rfl)
theorem dX6_move_10 : decode cX6_move 10 = .ok (.ifCond .eq 11, 3) := dk_153 0 11 (dk_at dksX6_move_0 10 rfl rfl)
theorem dX6_move_13 : decode cX6_move 13 = .ok (.aload_n 0, 1) := dk_42 (dk_at dksX6_move_0 13 rfl rfl)
theorem dX6_move_14 : decode cX6_move 14 = .ok (.iload_n 2, 1) := dk_28 (dk_at dksX6_move_0 14 rfl rfl)
theorem dX6_move_15 : decode cX6_move 15 = .ok (.invokevirtual 312, 3) := dk_182 1 56 (dk_at dksX6_move_0 15 rfl rfl)
theorem dX6_move_18 : decode cX6_move 18 = .ok (.ifCond .ne 6, 3) := dk_154 0 6 (dk_at dksX6_move_0 18 rfl rfl)
theorem dX6_move_21 : decode cX6_move 21 = .ok (.bipush (-2), 2) := dk_16 254 (dk_at dksX6_move_0 21 rfl rfl)
theorem dX6_move_23 : decode cX6_move 23 = .ok (.ireturn, 1) := dk_172 (dk_at dksX6_move_0 23 rfl rfl)
theorem dX6_move_24 : decode cX6_move 24 = .ok (.aload_n 0, 1) := dk_42 (dk_at dksX6_move_1 0 rfl rfl)
theorem dX6_move_25 : decode cX6_move 25 = .ok (.iload_n 2, 1) := dk_28 (dk_at dksX6_move_1 1 rfl rfl)
theorem dX6_move_26 : decode cX6_move 26 = .ok (.invokevirtual 461, 3) := dk_182 1 205 (dk_at dksX6_move_1 2 rfl rfl)
theorem dX6_move_29 : decode cX6_move 29 = .ok (.istore_n 3, 1) := dk_62 (dk_at dksX6_move_1 5 rfl rfl)
theorem dX6_move_30 : decode cX6_move 30 = .ok (.iload_n 3, 1) := dk_29 (dk_at dksX6_move_1 6 rfl rfl)
theorem dX6_move_31 : decode cX6_move 31 = .ok (.iconst (-1), 1) := dk_2 (dk_at dksX6_move_1 7 rfl rfl)
theorem dX6_move_32 : decode cX6_move 32 = .ok (.if_icmp .eq 11, 3) := dk_159 0 11 (dk_at dksX6_move_1 8 rfl rfl)
theorem dX6_move_35 : decode cX6_move 35 = .ok (.iload_n 3, 1) := dk_29 (dk_at dksX6_move_1 11 rfl rfl)
theorem dX6_move_36 : decode cX6_move 36 = .ok (.iload_n 1, 1) := dk_27 (dk_at dksX6_move_1 12 rfl rfl)
theorem dX6_move_37 : decode cX6_move 37 = .ok (.if_icmp .eq 6, 3) := dk_159 0 6 (dk_at dksX6_move_1 13 rfl rfl)
theorem dX6_move_40 : decode cX6_move 40 = .ok (.bipush (-5), 2) := dk_16 251 (dk_at dksX6_move_1 16 rfl rfl)
theorem dX6_move_42 : decode cX6_move 42 = .ok (.ireturn, 1) := dk_172 (dk_at dksX6_move_1 18 rfl rfl)
theorem dX6_move_43 : decode cX6_move 43 = .ok (.aload_n 0, 1) := dk_42 (dk_at dksX6_move_1 19 rfl rfl)
theorem dX6_move_44 : decode cX6_move 44 = .ok (.getfield 55, 3) := dk_180 0 55 (dk_at dksX6_move_1 20 rfl rfl)
theorem dX6_move_47 : decode cX6_move 47 = .ok (.iconst 0, 1) := dk_3 (dk_at dksX6_move_1 23 rfl rfl)
theorem dX6_move_48 : decode cX6_move 48 = .ok (.iload_n 1, 1) := dk_27 (dk_at dksX6_move_2 0 rfl rfl)
theorem dX6_move_49 : decode cX6_move 49 = .ok (.invokestatic 323, 3) := dk_184 1 67 (dk_at dksX6_move_2 1 rfl rfl)
theorem dX6_move_52 : decode cX6_move 52 = .ok (.iconst 2, 1) := dk_5 (dk_at dksX6_move_2 4 rfl rfl)
theorem dX6_move_53 : decode cX6_move 53 = .ok (.iadd, 1) := dk_96 (dk_at dksX6_move_2 5 rfl rfl)
theorem dX6_move_54 : decode cX6_move 54 = .ok (.iaload, 1) := dk_46 (dk_at dksX6_move_2 6 rfl rfl)
theorem dX6_move_55 : decode cX6_move 55 = .ok (.istore 4, 2) := dk_54 4 (dk_at dksX6_move_2 7 rfl rfl)
theorem dX6_move_57 : decode cX6_move 57 = .ok (.aload_n 0, 1) := dk_42 (dk_at dksX6_move_2 9 rfl rfl)
theorem dX6_move_58 : decode cX6_move 58 = .ok (.getfield 55, 3) := dk_180 0 55 (dk_at dksX6_move_2 10 rfl rfl)
theorem dX6_move_61 : decode cX6_move 61 = .ok (.iconst 0, 1) := dk_3 (dk_at dksX6_move_2 13 rfl rfl)
theorem dX6_move_62 : decode cX6_move 62 = .ok (.iload_n 1, 1) := dk_27 (dk_at dksX6_move_2 14 rfl rfl)
theorem dX6_move_63 : decode cX6_move 63 = .ok (.invokestatic 323, 3) := dk_184 1 67 (dk_at dksX6_move_2 15 rfl rfl)
theorem dX6_move_66 : decode cX6_move 66 = .ok (.iconst 2, 1) := dk_5 (dk_at dksX6_move_2 18 rfl rfl)
theorem dX6_move_67 : decode cX6_move 67 = .ok (.iadd, 1) := dk_96 (dk_at dksX6_move_2 19 rfl rfl)
theorem dX6_move_68 : decode cX6_move 68 = .ok (.iload_n 2, 1) := dk_28 (dk_at dksX6_move_2 20 rfl rfl)
theorem dX6_move_69 : decode cX6_move 69 = .ok (.iastore, 1) := dk_79 (dk_at dksX6_move_2 21 rfl rfl)
theorem dX6_move_70 : decode cX6_move 70 = .ok (.iload 4, 2) := dk_21 4 (dk_at dksX6_move_2 22 rfl rfl)
theorem dX6_move_72 : decode cX6_move 72 = .ok (.ireturn, 1) := dk_172 (dk_at dksX6_move_3 0 rfl rfl)
abbrev cX6_standsAt : ByteArray := prog_20_method_103_code
def yX6_standsAt : MethodName := ⟨RX6, "standsAt", "(I)I"⟩
def dkwX6_standsAt_1 : List UInt8 := [27, 160, 0, 5, 28, 172, 132, 2, 1, 167, 255, 225, 2, 172]
abbrev dktX6_standsAt_1 : List UInt8 := dkwX6_standsAt_1 ++ []
def dkwX6_standsAt_0 : List UInt8 := [3, 61, 28, 42, 180, 0, 52, 3, 46, 162, 0, 27, 42, 180, 0, 55, 3, 28, 184, 1, 67, 5, 96, 46]
abbrev dktX6_standsAt_0 : List UInt8 := dkwX6_standsAt_0 ++ dktX6_standsAt_1
theorem dksX6_standsAt_0 : cX6_standsAt.data.toList.drop 0 = dktX6_standsAt_0 := by decide +kernel
theorem dksX6_standsAt_1 : cX6_standsAt.data.toList.drop 24 = dktX6_standsAt_1 := dk_seg dksX6_standsAt_0 24 rfl rfl
theorem dX6_standsAt_0 : decode cX6_standsAt 0 = .ok (.iconst 0, 1) := dk_3 (dk_at dksX6_standsAt_0 0 rfl rfl)
theorem dX6_standsAt_1 : decode cX6_standsAt 1 = .ok (.istore_n 2, 1) := dk_61 (dk_at dksX6_standsAt_0 1 rfl rfl)
theorem dX6_standsAt_2 : decode cX6_standsAt 2 = .ok (.iload_n 2, 1) := dk_28 (dk_at dksX6_standsAt_0 2 rfl rfl)
theorem dX6_standsAt_3 : decode cX6_standsAt 3 = .ok (.aload_n 0, 1) := dk_42 (dk_at dksX6_standsAt_0 3 rfl rfl)
theorem dX6_standsAt_4 : decode cX6_standsAt 4 = .ok (.getfield 52, 3) := dk_180 0 52 (dk_at dksX6_standsAt_0 4 rfl rfl)
theorem dX6_standsAt_7 : decode cX6_standsAt 7 = .ok (.iconst 0, 1) := dk_3 (dk_at dksX6_standsAt_0 7 rfl rfl)
theorem dX6_standsAt_8 : decode cX6_standsAt 8 = .ok (.iaload, 1) := dk_46 (dk_at dksX6_standsAt_0 8 rfl rfl)
theorem dX6_standsAt_9 : decode cX6_standsAt 9 = .ok (.if_icmp .ge 27, 3) := dk_162 0 27 (dk_at dksX6_standsAt_0 9 rfl rfl)
theorem dX6_standsAt_12 : decode cX6_standsAt 12 = .ok (.aload_n 0, 1) := dk_42 (dk_at dksX6_standsAt_0 12 rfl rfl)
theorem dX6_standsAt_13 : decode cX6_standsAt 13 = .ok (.getfield 55, 3) := dk_180 0 55 (dk_at dksX6_standsAt_0 13 rfl rfl)
theorem dX6_standsAt_16 : decode cX6_standsAt 16 = .ok (.iconst 0, 1) := dk_3 (dk_at dksX6_standsAt_0 16 rfl rfl)
theorem dX6_standsAt_17 : decode cX6_standsAt 17 = .ok (.iload_n 2, 1) := dk_28 (dk_at dksX6_standsAt_0 17 rfl rfl)
theorem dX6_standsAt_18 : decode cX6_standsAt 18 = .ok (.invokestatic 323, 3) := dk_184 1 67 (dk_at dksX6_standsAt_0 18 rfl rfl)
theorem dX6_standsAt_21 : decode cX6_standsAt 21 = .ok (.iconst 2, 1) := dk_5 (dk_at dksX6_standsAt_0 21 rfl rfl)
theorem dX6_standsAt_22 : decode cX6_standsAt 22 = .ok (.iadd, 1) := dk_96 (dk_at dksX6_standsAt_0 22 rfl rfl)
theorem dX6_standsAt_23 : decode cX6_standsAt 23 = .ok (.iaload, 1) := dk_46 (dk_at dksX6_standsAt_0 23 rfl rfl)
theorem dX6_standsAt_24 : decode cX6_standsAt 24 = .ok (.iload_n 1, 1) := dk_27 (dk_at dksX6_standsAt_1 0 rfl rfl)
theorem dX6_standsAt_25 : decode cX6_standsAt 25 = .ok (.if_icmp .ne 5, 3) := dk_160 0 5 (dk_at dksX6_standsAt_1 1 rfl rfl)
theorem dX6_standsAt_28 : decode cX6_standsAt 28 = .ok (.iload_n 2, 1) := dk_28 (dk_at dksX6_standsAt_1 4 rfl rfl)
theorem dX6_standsAt_29 : decode cX6_standsAt 29 = .ok (.ireturn, 1) := dk_172 (dk_at dksX6_standsAt_1 5 rfl rfl)
theorem dX6_standsAt_30 : decode cX6_standsAt 30 = .ok (.iinc 2 1, 3) := dk_132 2 1 (dk_at dksX6_standsAt_1 6 rfl rfl)
theorem dX6_standsAt_33 : decode cX6_standsAt 33 = .ok (.goto (-31), 3) := dk_167 255 225 (dk_at dksX6_standsAt_1 9 rfl rfl)
theorem dX6_standsAt_36 : decode cX6_standsAt 36 = .ok (.iconst (-1), 1) := dk_2 (dk_at dksX6_standsAt_1 12 rfl rfl)
theorem dX6_standsAt_37 : decode cX6_standsAt 37 = .ok (.ireturn, 1) := dk_172 (dk_at dksX6_standsAt_1 13 rfl rfl)
abbrev cX6_swap : ByteArray := prog_20_method_105_code
def yX6_swap : MethodName := ⟨RX6, "swap", "(II)I"⟩
def dkwX6_swap_3 : List UInt8 := [21, 5, 79, 42, 4, 182, 1, 142, 33, 148, 156, 0, 7, 4, 167, 0, 4, 3, 172]
abbrev dktX6_swap_3 : List UInt8 := dkwX6_swap_3 ++ []
def dkwX6_swap_2 : List UInt8 := [42, 180, 0, 55, 3, 28, 184, 1, 67, 5, 96, 46, 79, 42, 180, 0, 55, 3, 28, 184, 1, 67, 5, 96]
abbrev dktX6_swap_2 : List UInt8 := dkwX6_swap_2 ++ dktX6_swap_3
def dkwX6_swap_1 : List UInt8 := [180, 0, 55, 3, 27, 184, 1, 67, 5, 96, 46, 54, 5, 42, 180, 0, 55, 3, 27, 184, 1, 67, 5, 96]
abbrev dktX6_swap_1 : List UInt8 := dkwX6_swap_1 ++ dktX6_swap_2
def dkwX6_swap_0 : List UInt8 := [42, 3, 181, 0, 114, 42, 27, 28, 182, 1, 196, 154, 0, 6, 16, 254, 172, 42, 4, 182, 1, 142, 66, 42]
abbrev dktX6_swap_0 : List UInt8 := dkwX6_swap_0 ++ dktX6_swap_1
theorem dksX6_swap_0 : cX6_swap.data.toList.drop 0 = dktX6_swap_0 := by decide +kernel
theorem dksX6_swap_1 : cX6_swap.data.toList.drop 24 = dktX6_swap_1 := dk_seg dksX6_swap_0 24 rfl rfl
theorem dksX6_swap_2 : cX6_swap.data.toList.drop 48 = dktX6_swap_2 := dk_seg dksX6_swap_1 24 rfl rfl
theorem dksX6_swap_3 : cX6_swap.data.toList.drop 72 = dktX6_swap_3 := dk_seg dksX6_swap_2 24 rfl rfl
theorem dX6_swap_0 : decode cX6_swap 0 = .ok (.aload_n 0, 1) := dk_42 (dk_at dksX6_swap_0 0 rfl rfl)
theorem dX6_swap_1 : decode cX6_swap 1 = .ok (.iconst 0, 1) := dk_3 (dk_at dksX6_swap_0 1 rfl rfl)
theorem dX6_swap_2 : decode cX6_swap 2 = .ok (.putfield 114, 3) := dk_181 0 114 (dk_at dksX6_swap_0 2 rfl rfl)
theorem dX6_swap_5 : decode cX6_swap 5 = .ok (.aload_n 0, 1) := dk_42 (dk_at dksX6_swap_0 5 rfl rfl)
theorem dX6_swap_6 : decode cX6_swap 6 = .ok (.iload_n 1, 1) := dk_27 (dk_at dksX6_swap_0 6 rfl rfl)
theorem dX6_swap_7 : decode cX6_swap 7 = .ok (.iload_n 2, 1) := dk_28 (dk_at dksX6_swap_0 7 rfl rfl)
theorem dX6_swap_8 : decode cX6_swap 8 = .ok (.invokevirtual 452, 3) := dk_182 1 196 (dk_at dksX6_swap_0 8 rfl rfl)
theorem dX6_swap_11 : decode cX6_swap 11 = .ok (.ifCond .ne 6, 3) := dk_154 0 6 (dk_at dksX6_swap_0 11 rfl rfl)
theorem dX6_swap_14 : decode cX6_swap 14 = .ok (.bipush (-2), 2) := dk_16 254 (dk_at dksX6_swap_0 14 rfl rfl)
theorem dX6_swap_16 : decode cX6_swap 16 = .ok (.ireturn, 1) := dk_172 (dk_at dksX6_swap_0 16 rfl rfl)
theorem dX6_swap_17 : decode cX6_swap 17 = .ok (.aload_n 0, 1) := dk_42 (dk_at dksX6_swap_0 17 rfl rfl)
theorem dX6_swap_18 : decode cX6_swap 18 = .ok (.iconst 1, 1) := dk_4 (dk_at dksX6_swap_0 18 rfl rfl)
theorem dX6_swap_19 : decode cX6_swap 19 = .ok (.invokevirtual 398, 3) := dk_182 1 142 (dk_at dksX6_swap_0 19 rfl rfl)
theorem dX6_swap_22 : decode cX6_swap 22 = .ok (.lstore_n 3, 1) := dk_66 (dk_at dksX6_swap_0 22 rfl rfl)
theorem dX6_swap_23 : decode cX6_swap 23 = .ok (.aload_n 0, 1) := dk_42 (dk_at dksX6_swap_0 23 rfl rfl)
theorem dX6_swap_24 : decode cX6_swap 24 = .ok (.getfield 55, 3) := dk_180 0 55 (dk_at dksX6_swap_1 0 rfl rfl)
theorem dX6_swap_27 : decode cX6_swap 27 = .ok (.iconst 0, 1) := dk_3 (dk_at dksX6_swap_1 3 rfl rfl)
theorem dX6_swap_28 : decode cX6_swap 28 = .ok (.iload_n 1, 1) := dk_27 (dk_at dksX6_swap_1 4 rfl rfl)
theorem dX6_swap_29 : decode cX6_swap 29 = .ok (.invokestatic 323, 3) := dk_184 1 67 (dk_at dksX6_swap_1 5 rfl rfl)
theorem dX6_swap_32 : decode cX6_swap 32 = .ok (.iconst 2, 1) := dk_5 (dk_at dksX6_swap_1 8 rfl rfl)
theorem dX6_swap_33 : decode cX6_swap 33 = .ok (.iadd, 1) := dk_96 (dk_at dksX6_swap_1 9 rfl rfl)
theorem dX6_swap_34 : decode cX6_swap 34 = .ok (.iaload, 1) := dk_46 (dk_at dksX6_swap_1 10 rfl rfl)
theorem dX6_swap_35 : decode cX6_swap 35 = .ok (.istore 5, 2) := dk_54 5 (dk_at dksX6_swap_1 11 rfl rfl)
theorem dX6_swap_37 : decode cX6_swap 37 = .ok (.aload_n 0, 1) := dk_42 (dk_at dksX6_swap_1 13 rfl rfl)
theorem dX6_swap_38 : decode cX6_swap 38 = .ok (.getfield 55, 3) := dk_180 0 55 (dk_at dksX6_swap_1 14 rfl rfl)
theorem dX6_swap_41 : decode cX6_swap 41 = .ok (.iconst 0, 1) := dk_3 (dk_at dksX6_swap_1 17 rfl rfl)
theorem dX6_swap_42 : decode cX6_swap 42 = .ok (.iload_n 1, 1) := dk_27 (dk_at dksX6_swap_1 18 rfl rfl)
theorem dX6_swap_43 : decode cX6_swap 43 = .ok (.invokestatic 323, 3) := dk_184 1 67 (dk_at dksX6_swap_1 19 rfl rfl)
theorem dX6_swap_46 : decode cX6_swap 46 = .ok (.iconst 2, 1) := dk_5 (dk_at dksX6_swap_1 22 rfl rfl)
theorem dX6_swap_47 : decode cX6_swap 47 = .ok (.iadd, 1) := dk_96 (dk_at dksX6_swap_1 23 rfl rfl)
theorem dX6_swap_48 : decode cX6_swap 48 = .ok (.aload_n 0, 1) := dk_42 (dk_at dksX6_swap_2 0 rfl rfl)
theorem dX6_swap_49 : decode cX6_swap 49 = .ok (.getfield 55, 3) := dk_180 0 55 (dk_at dksX6_swap_2 1 rfl rfl)
theorem dX6_swap_52 : decode cX6_swap 52 = .ok (.iconst 0, 1) := dk_3 (dk_at dksX6_swap_2 4 rfl rfl)
theorem dX6_swap_53 : decode cX6_swap 53 = .ok (.iload_n 2, 1) := dk_28 (dk_at dksX6_swap_2 5 rfl rfl)
theorem dX6_swap_54 : decode cX6_swap 54 = .ok (.invokestatic 323, 3) := dk_184 1 67 (dk_at dksX6_swap_2 6 rfl rfl)
theorem dX6_swap_57 : decode cX6_swap 57 = .ok (.iconst 2, 1) := dk_5 (dk_at dksX6_swap_2 9 rfl rfl)
theorem dX6_swap_58 : decode cX6_swap 58 = .ok (.iadd, 1) := dk_96 (dk_at dksX6_swap_2 10 rfl rfl)
theorem dX6_swap_59 : decode cX6_swap 59 = .ok (.iaload, 1) := dk_46 (dk_at dksX6_swap_2 11 rfl rfl)
theorem dX6_swap_60 : decode cX6_swap 60 = .ok (.iastore, 1) := dk_79 (dk_at dksX6_swap_2 12 rfl rfl)
theorem dX6_swap_61 : decode cX6_swap 61 = .ok (.aload_n 0, 1) := dk_42 (dk_at dksX6_swap_2 13 rfl rfl)
theorem dX6_swap_62 : decode cX6_swap 62 = .ok (.getfield 55, 3) := dk_180 0 55 (dk_at dksX6_swap_2 14 rfl rfl)
theorem dX6_swap_65 : decode cX6_swap 65 = .ok (.iconst 0, 1) := dk_3 (dk_at dksX6_swap_2 17 rfl rfl)
theorem dX6_swap_66 : decode cX6_swap 66 = .ok (.iload_n 2, 1) := dk_28 (dk_at dksX6_swap_2 18 rfl rfl)
theorem dX6_swap_67 : decode cX6_swap 67 = .ok (.invokestatic 323, 3) := dk_184 1 67 (dk_at dksX6_swap_2 19 rfl rfl)
theorem dX6_swap_70 : decode cX6_swap 70 = .ok (.iconst 2, 1) := dk_5 (dk_at dksX6_swap_2 22 rfl rfl)
theorem dX6_swap_71 : decode cX6_swap 71 = .ok (.iadd, 1) := dk_96 (dk_at dksX6_swap_2 23 rfl rfl)
theorem dX6_swap_72 : decode cX6_swap 72 = .ok (.iload 5, 2) := dk_21 5 (dk_at dksX6_swap_3 0 rfl rfl)
theorem dX6_swap_74 : decode cX6_swap 74 = .ok (.iastore, 1) := dk_79 (dk_at dksX6_swap_3 2 rfl rfl)
theorem dX6_swap_75 : decode cX6_swap 75 = .ok (.aload_n 0, 1) := dk_42 (dk_at dksX6_swap_3 3 rfl rfl)
theorem dX6_swap_76 : decode cX6_swap 76 = .ok (.iconst 1, 1) := dk_4 (dk_at dksX6_swap_3 4 rfl rfl)
theorem dX6_swap_77 : decode cX6_swap 77 = .ok (.invokevirtual 398, 3) := dk_182 1 142 (dk_at dksX6_swap_3 5 rfl rfl)
theorem dX6_swap_80 : decode cX6_swap 80 = .ok (.lload_n 3, 1) := dk_33 (dk_at dksX6_swap_3 8 rfl rfl)
theorem dX6_swap_81 : decode cX6_swap 81 = .ok (.lcmp, 1) := dk_148 (dk_at dksX6_swap_3 9 rfl rfl)
theorem dX6_swap_82 : decode cX6_swap 82 = .ok (.ifCond .ge 7, 3) := dk_156 0 7 (dk_at dksX6_swap_3 10 rfl rfl)
theorem dX6_swap_85 : decode cX6_swap 85 = .ok (.iconst 1, 1) := dk_4 (dk_at dksX6_swap_3 13 rfl rfl)
theorem dX6_swap_86 : decode cX6_swap 86 = .ok (.goto 4, 3) := dk_167 0 4 (dk_at dksX6_swap_3 14 rfl rfl)
theorem dX6_swap_89 : decode cX6_swap 89 = .ok (.iconst 0, 1) := dk_3 (dk_at dksX6_swap_3 17 rfl rfl)
theorem dX6_swap_90 : decode cX6_swap 90 = .ok (.ireturn, 1) := dk_172 (dk_at dksX6_swap_3 18 rfl rfl)
abbrev cX6_where : ByteArray := prog_20_method_106_code
def yX6_where : MethodName := ⟨RX6, "where", "(I)I"⟩
def dkwX6_where_6 : List UInt8 := [27, 184, 1, 67, 5, 96, 28, 79, 29, 172]
abbrev dktX6_where_6 : List UInt8 := dkwX6_where_6 ++ []
def dkwX6_where_5 : List UInt8 := [155, 0, 6, 167, 0, 10, 21, 6, 62, 22, 8, 55, 4, 132, 6, 1, 167, 255, 162, 42, 180, 0, 55, 3]
abbrev dktX6_where_5 : List UInt8 := dkwX6_where_5 ++ dktX6_where_6
def dkwX6_where_4 : List UInt8 := [5, 96, 21, 6, 79, 42, 27, 182, 1, 158, 55, 8, 29, 2, 159, 0, 14, 22, 8, 22, 4, 148]
abbrev dktX6_where_4 : List UInt8 := dkwX6_where_4 ++ dktX6_where_5
def dkwX6_where_3 : List UInt8 := [21, 7, 2, 159, 0, 12, 21, 7, 27, 159, 0, 6, 167, 0, 47, 42, 180, 0, 55, 3, 27, 184, 1, 67]
abbrev dktX6_where_3 : List UInt8 := dkwX6_where_3 ++ dktX6_where_4
def dkwX6_where_2 : List UInt8 := [162, 0, 89, 42, 180, 0, 55, 3, 27, 184, 1, 67, 5, 96, 28, 79, 42, 21, 6, 182, 1, 205, 54, 7]
abbrev dktX6_where_2 : List UInt8 := dkwX6_where_2 ++ dktX6_where_3
def dkwX6_where_1 : List UInt8 := [184, 1, 67, 5, 96, 46, 61, 2, 62, 9, 55, 4, 3, 54, 6, 21, 6, 42, 180, 0, 34, 3, 46]
abbrev dktX6_where_1 : List UInt8 := dkwX6_where_1 ++ dktX6_where_2
def dkwX6_where_0 : List UInt8 := [42, 3, 181, 0, 114, 42, 27, 182, 1, 62, 154, 0, 6, 16, 254, 172, 42, 180, 0, 55, 3, 27]
abbrev dktX6_where_0 : List UInt8 := dkwX6_where_0 ++ dktX6_where_1
theorem dksX6_where_0 : cX6_where.data.toList.drop 0 = dktX6_where_0 := by decide +kernel
theorem dksX6_where_1 : cX6_where.data.toList.drop 22 = dktX6_where_1 := dk_seg dksX6_where_0 22 rfl rfl
theorem dksX6_where_2 : cX6_where.data.toList.drop 45 = dktX6_where_2 := dk_seg dksX6_where_1 23 rfl rfl
theorem dksX6_where_3 : cX6_where.data.toList.drop 69 = dktX6_where_3 := dk_seg dksX6_where_2 24 rfl rfl
theorem dksX6_where_4 : cX6_where.data.toList.drop 93 = dktX6_where_4 := dk_seg dksX6_where_3 24 rfl rfl
theorem dksX6_where_5 : cX6_where.data.toList.drop 115 = dktX6_where_5 := dk_seg dksX6_where_4 22 rfl rfl
theorem dksX6_where_6 : cX6_where.data.toList.drop 139 = dktX6_where_6 := dk_seg dksX6_where_5 24 rfl rfl
theorem dX6_where_0 : decode cX6_where 0 = .ok (.aload_n 0, 1) := dk_42 (dk_at dksX6_where_0 0 rfl rfl)
theorem dX6_where_1 : decode cX6_where 1 = .ok (.iconst 0, 1) := dk_3 (dk_at dksX6_where_0 1 rfl rfl)
theorem dX6_where_2 : decode cX6_where 2 = .ok (.putfield 114, 3) := dk_181 0 114 (dk_at dksX6_where_0 2 rfl rfl)
theorem dX6_where_5 : decode cX6_where 5 = .ok (.aload_n 0, 1) := dk_42 (dk_at dksX6_where_0 5 rfl rfl)
theorem dX6_where_6 : decode cX6_where 6 = .ok (.iload_n 1, 1) := dk_27 (dk_at dksX6_where_0 6 rfl rfl)
theorem dX6_where_7 : decode cX6_where 7 = .ok (.invokevirtual 318, 3) := dk_182 1 62 (dk_at dksX6_where_0 7 rfl rfl)
theorem dX6_where_10 : decode cX6_where 10 = .ok (.ifCond .ne 6, 3) := dk_154 0 6 (dk_at dksX6_where_0 10 rfl rfl)
theorem dX6_where_13 : decode cX6_where 13 = .ok (.bipush (-2), 2) := dk_16 254 (dk_at dksX6_where_0 13 rfl rfl)
theorem dX6_where_15 : decode cX6_where 15 = .ok (.ireturn, 1) := dk_172 (dk_at dksX6_where_0 15 rfl rfl)
theorem dX6_where_16 : decode cX6_where 16 = .ok (.aload_n 0, 1) := dk_42 (dk_at dksX6_where_0 16 rfl rfl)
theorem dX6_where_17 : decode cX6_where 17 = .ok (.getfield 55, 3) := dk_180 0 55 (dk_at dksX6_where_0 17 rfl rfl)
theorem dX6_where_20 : decode cX6_where 20 = .ok (.iconst 0, 1) := dk_3 (dk_at dksX6_where_0 20 rfl rfl)
theorem dX6_where_21 : decode cX6_where 21 = .ok (.iload_n 1, 1) := dk_27 (dk_at dksX6_where_0 21 rfl rfl)
theorem dX6_where_22 : decode cX6_where 22 = .ok (.invokestatic 323, 3) := dk_184 1 67 (dk_at dksX6_where_1 0 rfl rfl)
theorem dX6_where_25 : decode cX6_where 25 = .ok (.iconst 2, 1) := dk_5 (dk_at dksX6_where_1 3 rfl rfl)
theorem dX6_where_26 : decode cX6_where 26 = .ok (.iadd, 1) := dk_96 (dk_at dksX6_where_1 4 rfl rfl)
theorem dX6_where_27 : decode cX6_where 27 = .ok (.iaload, 1) := dk_46 (dk_at dksX6_where_1 5 rfl rfl)
theorem dX6_where_28 : decode cX6_where 28 = .ok (.istore_n 2, 1) := dk_61 (dk_at dksX6_where_1 6 rfl rfl)
theorem dX6_where_29 : decode cX6_where 29 = .ok (.iconst (-1), 1) := dk_2 (dk_at dksX6_where_1 7 rfl rfl)
theorem dX6_where_30 : decode cX6_where 30 = .ok (.istore_n 3, 1) := dk_62 (dk_at dksX6_where_1 8 rfl rfl)
theorem dX6_where_31 : decode cX6_where 31 = .ok (.lconst 0, 1) := dk_9 (dk_at dksX6_where_1 9 rfl rfl)
theorem dX6_where_32 : decode cX6_where 32 = .ok (.lstore 4, 2) := dk_55 4 (dk_at dksX6_where_1 10 rfl rfl)
theorem dX6_where_34 : decode cX6_where 34 = .ok (.iconst 0, 1) := dk_3 (dk_at dksX6_where_1 12 rfl rfl)
theorem dX6_where_35 : decode cX6_where 35 = .ok (.istore 6, 2) := dk_54 6 (dk_at dksX6_where_1 13 rfl rfl)
theorem dX6_where_37 : decode cX6_where 37 = .ok (.iload 6, 2) := dk_21 6 (dk_at dksX6_where_1 15 rfl rfl)
theorem dX6_where_39 : decode cX6_where 39 = .ok (.aload_n 0, 1) := dk_42 (dk_at dksX6_where_1 17 rfl rfl)
theorem dX6_where_40 : decode cX6_where 40 = .ok (.getfield 34, 3) := dk_180 0 34 (dk_at dksX6_where_1 18 rfl rfl)
theorem dX6_where_43 : decode cX6_where 43 = .ok (.iconst 0, 1) := dk_3 (dk_at dksX6_where_1 21 rfl rfl)
theorem dX6_where_44 : decode cX6_where 44 = .ok (.iaload, 1) := dk_46 (dk_at dksX6_where_1 22 rfl rfl)
theorem dX6_where_45 : decode cX6_where 45 = .ok (.if_icmp .ge 89, 3) := dk_162 0 89 (dk_at dksX6_where_2 0 rfl rfl)
theorem dX6_where_48 : decode cX6_where 48 = .ok (.aload_n 0, 1) := dk_42 (dk_at dksX6_where_2 3 rfl rfl)
theorem dX6_where_49 : decode cX6_where 49 = .ok (.getfield 55, 3) := dk_180 0 55 (dk_at dksX6_where_2 4 rfl rfl)
theorem dX6_where_52 : decode cX6_where 52 = .ok (.iconst 0, 1) := dk_3 (dk_at dksX6_where_2 7 rfl rfl)
theorem dX6_where_53 : decode cX6_where 53 = .ok (.iload_n 1, 1) := dk_27 (dk_at dksX6_where_2 8 rfl rfl)
theorem dX6_where_54 : decode cX6_where 54 = .ok (.invokestatic 323, 3) := dk_184 1 67 (dk_at dksX6_where_2 9 rfl rfl)
theorem dX6_where_57 : decode cX6_where 57 = .ok (.iconst 2, 1) := dk_5 (dk_at dksX6_where_2 12 rfl rfl)
theorem dX6_where_58 : decode cX6_where 58 = .ok (.iadd, 1) := dk_96 (dk_at dksX6_where_2 13 rfl rfl)
theorem dX6_where_59 : decode cX6_where 59 = .ok (.iload_n 2, 1) := dk_28 (dk_at dksX6_where_2 14 rfl rfl)
theorem dX6_where_60 : decode cX6_where 60 = .ok (.iastore, 1) := dk_79 (dk_at dksX6_where_2 15 rfl rfl)
theorem dX6_where_61 : decode cX6_where 61 = .ok (.aload_n 0, 1) := dk_42 (dk_at dksX6_where_2 16 rfl rfl)
theorem dX6_where_62 : decode cX6_where 62 = .ok (.iload 6, 2) := dk_21 6 (dk_at dksX6_where_2 17 rfl rfl)
theorem dX6_where_64 : decode cX6_where 64 = .ok (.invokevirtual 461, 3) := dk_182 1 205 (dk_at dksX6_where_2 19 rfl rfl)
theorem dX6_where_67 : decode cX6_where 67 = .ok (.istore 7, 2) := dk_54 7 (dk_at dksX6_where_2 22 rfl rfl)
theorem dX6_where_69 : decode cX6_where 69 = .ok (.iload 7, 2) := dk_21 7 (dk_at dksX6_where_3 0 rfl rfl)
theorem dX6_where_71 : decode cX6_where 71 = .ok (.iconst (-1), 1) := dk_2 (dk_at dksX6_where_3 2 rfl rfl)
theorem dX6_where_72 : decode cX6_where 72 = .ok (.if_icmp .eq 12, 3) := dk_159 0 12 (dk_at dksX6_where_3 3 rfl rfl)
theorem dX6_where_75 : decode cX6_where 75 = .ok (.iload 7, 2) := dk_21 7 (dk_at dksX6_where_3 6 rfl rfl)
theorem dX6_where_77 : decode cX6_where 77 = .ok (.iload_n 1, 1) := dk_27 (dk_at dksX6_where_3 8 rfl rfl)
theorem dX6_where_78 : decode cX6_where 78 = .ok (.if_icmp .eq 6, 3) := dk_159 0 6 (dk_at dksX6_where_3 9 rfl rfl)
theorem dX6_where_81 : decode cX6_where 81 = .ok (.goto 47, 3) := dk_167 0 47 (dk_at dksX6_where_3 12 rfl rfl)
theorem dX6_where_84 : decode cX6_where 84 = .ok (.aload_n 0, 1) := dk_42 (dk_at dksX6_where_3 15 rfl rfl)
theorem dX6_where_85 : decode cX6_where 85 = .ok (.getfield 55, 3) := dk_180 0 55 (dk_at dksX6_where_3 16 rfl rfl)
theorem dX6_where_88 : decode cX6_where 88 = .ok (.iconst 0, 1) := dk_3 (dk_at dksX6_where_3 19 rfl rfl)
theorem dX6_where_89 : decode cX6_where 89 = .ok (.iload_n 1, 1) := dk_27 (dk_at dksX6_where_3 20 rfl rfl)
theorem dX6_where_90 : decode cX6_where 90 = .ok (.invokestatic 323, 3) := dk_184 1 67 (dk_at dksX6_where_3 21 rfl rfl)
theorem dX6_where_93 : decode cX6_where 93 = .ok (.iconst 2, 1) := dk_5 (dk_at dksX6_where_4 0 rfl rfl)
theorem dX6_where_94 : decode cX6_where 94 = .ok (.iadd, 1) := dk_96 (dk_at dksX6_where_4 1 rfl rfl)
theorem dX6_where_95 : decode cX6_where 95 = .ok (.iload 6, 2) := dk_21 6 (dk_at dksX6_where_4 2 rfl rfl)
theorem dX6_where_97 : decode cX6_where 97 = .ok (.iastore, 1) := dk_79 (dk_at dksX6_where_4 4 rfl rfl)
theorem dX6_where_98 : decode cX6_where 98 = .ok (.aload_n 0, 1) := dk_42 (dk_at dksX6_where_4 5 rfl rfl)
theorem dX6_where_99 : decode cX6_where 99 = .ok (.iload_n 1, 1) := dk_27 (dk_at dksX6_where_4 6 rfl rfl)
theorem dX6_where_100 : decode cX6_where 100 = .ok (.invokevirtual 414, 3) := dk_182 1 158 (dk_at dksX6_where_4 7 rfl rfl)
theorem dX6_where_103 : decode cX6_where 103 = .ok (.lstore 8, 2) := dk_55 8 (dk_at dksX6_where_4 10 rfl rfl)
theorem dX6_where_105 : decode cX6_where 105 = .ok (.iload_n 3, 1) := dk_29 (dk_at dksX6_where_4 12 rfl rfl)
theorem dX6_where_106 : decode cX6_where 106 = .ok (.iconst (-1), 1) := dk_2 (dk_at dksX6_where_4 13 rfl rfl)
theorem dX6_where_107 : decode cX6_where 107 = .ok (.if_icmp .eq 14, 3) := dk_159 0 14 (dk_at dksX6_where_4 14 rfl rfl)
theorem dX6_where_110 : decode cX6_where 110 = .ok (.lload 8, 2) := dk_22 8 (dk_at dksX6_where_4 17 rfl rfl)
theorem dX6_where_112 : decode cX6_where 112 = .ok (.lload 4, 2) := dk_22 4 (dk_at dksX6_where_4 19 rfl rfl)
theorem dX6_where_114 : decode cX6_where 114 = .ok (.lcmp, 1) := dk_148 (dk_at dksX6_where_4 21 rfl rfl)
theorem dX6_where_115 : decode cX6_where 115 = .ok (.ifCond .lt 6, 3) := dk_155 0 6 (dk_at dksX6_where_5 0 rfl rfl)
theorem dX6_where_118 : decode cX6_where 118 = .ok (.goto 10, 3) := dk_167 0 10 (dk_at dksX6_where_5 3 rfl rfl)
theorem dX6_where_121 : decode cX6_where 121 = .ok (.iload 6, 2) := dk_21 6 (dk_at dksX6_where_5 6 rfl rfl)
theorem dX6_where_123 : decode cX6_where 123 = .ok (.istore_n 3, 1) := dk_62 (dk_at dksX6_where_5 8 rfl rfl)
theorem dX6_where_124 : decode cX6_where 124 = .ok (.lload 8, 2) := dk_22 8 (dk_at dksX6_where_5 9 rfl rfl)
theorem dX6_where_126 : decode cX6_where 126 = .ok (.lstore 4, 2) := dk_55 4 (dk_at dksX6_where_5 11 rfl rfl)
theorem dX6_where_128 : decode cX6_where 128 = .ok (.iinc 6 1, 3) := dk_132 6 1 (dk_at dksX6_where_5 13 rfl rfl)
theorem dX6_where_131 : decode cX6_where 131 = .ok (.goto (-94), 3) := dk_167 255 162 (dk_at dksX6_where_5 16 rfl rfl)
theorem dX6_where_134 : decode cX6_where 134 = .ok (.aload_n 0, 1) := dk_42 (dk_at dksX6_where_5 19 rfl rfl)
theorem dX6_where_135 : decode cX6_where 135 = .ok (.getfield 55, 3) := dk_180 0 55 (dk_at dksX6_where_5 20 rfl rfl)
theorem dX6_where_138 : decode cX6_where 138 = .ok (.iconst 0, 1) := dk_3 (dk_at dksX6_where_5 23 rfl rfl)
theorem dX6_where_139 : decode cX6_where 139 = .ok (.iload_n 1, 1) := dk_27 (dk_at dksX6_where_6 0 rfl rfl)
theorem dX6_where_140 : decode cX6_where 140 = .ok (.invokestatic 323, 3) := dk_184 1 67 (dk_at dksX6_where_6 1 rfl rfl)
theorem dX6_where_143 : decode cX6_where 143 = .ok (.iconst 2, 1) := dk_5 (dk_at dksX6_where_6 4 rfl rfl)
theorem dX6_where_144 : decode cX6_where 144 = .ok (.iadd, 1) := dk_96 (dk_at dksX6_where_6 5 rfl rfl)
theorem dX6_where_145 : decode cX6_where 145 = .ok (.iload_n 2, 1) := dk_28 (dk_at dksX6_where_6 6 rfl rfl)
theorem dX6_where_146 : decode cX6_where 146 = .ok (.iastore, 1) := dk_79 (dk_at dksX6_where_6 7 rfl rfl)
theorem dX6_where_147 : decode cX6_where 147 = .ok (.iload_n 3, 1) := dk_29 (dk_at dksX6_where_6 8 rfl rfl)
theorem dX6_where_148 : decode cX6_where 148 = .ok (.ireturn, 1) := dk_172 (dk_at dksX6_where_6 9 rfl rfl)
abbrev cX6_lamp : ByteArray := prog_20_method_109_code
def yX6_lamp : MethodName := ⟨RX6, "lamp", "(I)I"⟩
def dkwX6_lamp_3 : List UInt8 := [132, 5, 1, 167, 255, 212, 28, 172]
abbrev dktX6_lamp_3 : List UInt8 := dkwX6_lamp_3 ++ []
def dkwX6_lamp_2 : List UInt8 := [55, 6, 28, 2, 159, 0, 13, 22, 6, 33, 148, 155, 0, 6, 167, 0, 9, 21, 5, 61, 22, 6, 66]
abbrev dktX6_lamp_2 : List UInt8 := dkwX6_lamp_2 ++ dktX6_lamp_3
def dkwX6_lamp_1 : List UInt8 := [9, 66, 3, 54, 5, 21, 5, 42, 180, 0, 34, 3, 46, 162, 0, 39, 42, 21, 5, 27, 182, 1, 213]
abbrev dktX6_lamp_1 : List UInt8 := dkwX6_lamp_1 ++ dktX6_lamp_2
def dkwX6_lamp_0 : List UInt8 := [42, 3, 181, 0, 114, 42, 182, 1, 98, 153, 0, 10, 27, 184, 1, 210, 154, 0, 6, 16, 254, 172, 2, 61]
abbrev dktX6_lamp_0 : List UInt8 := dkwX6_lamp_0 ++ dktX6_lamp_1
theorem dksX6_lamp_0 : cX6_lamp.data.toList.drop 0 = dktX6_lamp_0 := by decide +kernel
theorem dksX6_lamp_1 : cX6_lamp.data.toList.drop 24 = dktX6_lamp_1 := dk_seg dksX6_lamp_0 24 rfl rfl
theorem dksX6_lamp_2 : cX6_lamp.data.toList.drop 47 = dktX6_lamp_2 := dk_seg dksX6_lamp_1 23 rfl rfl
theorem dksX6_lamp_3 : cX6_lamp.data.toList.drop 70 = dktX6_lamp_3 := dk_seg dksX6_lamp_2 23 rfl rfl
theorem dX6_lamp_0 : decode cX6_lamp 0 = .ok (.aload_n 0, 1) := dk_42 (dk_at dksX6_lamp_0 0 rfl rfl)
theorem dX6_lamp_1 : decode cX6_lamp 1 = .ok (.iconst 0, 1) := dk_3 (dk_at dksX6_lamp_0 1 rfl rfl)
theorem dX6_lamp_2 : decode cX6_lamp 2 = .ok (.putfield 114, 3) := dk_181 0 114 (dk_at dksX6_lamp_0 2 rfl rfl)
theorem dX6_lamp_5 : decode cX6_lamp 5 = .ok (.aload_n 0, 1) := dk_42 (dk_at dksX6_lamp_0 5 rfl rfl)
theorem dX6_lamp_6 : decode cX6_lamp 6 = .ok (.invokevirtual 354, 3) := dk_182 1 98 (dk_at dksX6_lamp_0 6 rfl rfl)
theorem dX6_lamp_9 : decode cX6_lamp 9 = .ok (.ifCond .eq 10, 3) := dk_153 0 10 (dk_at dksX6_lamp_0 9 rfl rfl)
theorem dX6_lamp_12 : decode cX6_lamp 12 = .ok (.iload_n 1, 1) := dk_27 (dk_at dksX6_lamp_0 12 rfl rfl)
theorem dX6_lamp_13 : decode cX6_lamp 13 = .ok (.invokestatic 466, 3) := dk_184 1 210 (dk_at dksX6_lamp_0 13 rfl rfl)
theorem dX6_lamp_16 : decode cX6_lamp 16 = .ok (.ifCond .ne 6, 3) := dk_154 0 6 (dk_at dksX6_lamp_0 16 rfl rfl)
theorem dX6_lamp_19 : decode cX6_lamp 19 = .ok (.bipush (-2), 2) := dk_16 254 (dk_at dksX6_lamp_0 19 rfl rfl)
theorem dX6_lamp_21 : decode cX6_lamp 21 = .ok (.ireturn, 1) := dk_172 (dk_at dksX6_lamp_0 21 rfl rfl)
theorem dX6_lamp_22 : decode cX6_lamp 22 = .ok (.iconst (-1), 1) := dk_2 (dk_at dksX6_lamp_0 22 rfl rfl)
theorem dX6_lamp_23 : decode cX6_lamp 23 = .ok (.istore_n 2, 1) := dk_61 (dk_at dksX6_lamp_0 23 rfl rfl)
theorem dX6_lamp_24 : decode cX6_lamp 24 = .ok (.lconst 0, 1) := dk_9 (dk_at dksX6_lamp_1 0 rfl rfl)
theorem dX6_lamp_25 : decode cX6_lamp 25 = .ok (.lstore_n 3, 1) := dk_66 (dk_at dksX6_lamp_1 1 rfl rfl)
theorem dX6_lamp_26 : decode cX6_lamp 26 = .ok (.iconst 0, 1) := dk_3 (dk_at dksX6_lamp_1 2 rfl rfl)
theorem dX6_lamp_27 : decode cX6_lamp 27 = .ok (.istore 5, 2) := dk_54 5 (dk_at dksX6_lamp_1 3 rfl rfl)
theorem dX6_lamp_29 : decode cX6_lamp 29 = .ok (.iload 5, 2) := dk_21 5 (dk_at dksX6_lamp_1 5 rfl rfl)
theorem dX6_lamp_31 : decode cX6_lamp 31 = .ok (.aload_n 0, 1) := dk_42 (dk_at dksX6_lamp_1 7 rfl rfl)
theorem dX6_lamp_32 : decode cX6_lamp 32 = .ok (.getfield 34, 3) := dk_180 0 34 (dk_at dksX6_lamp_1 8 rfl rfl)
theorem dX6_lamp_35 : decode cX6_lamp 35 = .ok (.iconst 0, 1) := dk_3 (dk_at dksX6_lamp_1 11 rfl rfl)
theorem dX6_lamp_36 : decode cX6_lamp 36 = .ok (.iaload, 1) := dk_46 (dk_at dksX6_lamp_1 12 rfl rfl)
theorem dX6_lamp_37 : decode cX6_lamp 37 = .ok (.if_icmp .ge 39, 3) := dk_162 0 39 (dk_at dksX6_lamp_1 13 rfl rfl)
theorem dX6_lamp_40 : decode cX6_lamp 40 = .ok (.aload_n 0, 1) := dk_42 (dk_at dksX6_lamp_1 16 rfl rfl)
theorem dX6_lamp_41 : decode cX6_lamp 41 = .ok (.iload 5, 2) := dk_21 5 (dk_at dksX6_lamp_1 17 rfl rfl)
theorem dX6_lamp_43 : decode cX6_lamp 43 = .ok (.iload_n 1, 1) := dk_27 (dk_at dksX6_lamp_1 19 rfl rfl)
theorem dX6_lamp_44 : decode cX6_lamp 44 = .ok (.invokevirtual 469, 3) := dk_182 1 213 (dk_at dksX6_lamp_1 20 rfl rfl)
theorem dX6_lamp_47 : decode cX6_lamp 47 = .ok (.lstore 6, 2) := dk_55 6 (dk_at dksX6_lamp_2 0 rfl rfl)
theorem dX6_lamp_49 : decode cX6_lamp 49 = .ok (.iload_n 2, 1) := dk_28 (dk_at dksX6_lamp_2 2 rfl rfl)
theorem dX6_lamp_50 : decode cX6_lamp 50 = .ok (.iconst (-1), 1) := dk_2 (dk_at dksX6_lamp_2 3 rfl rfl)
theorem dX6_lamp_51 : decode cX6_lamp 51 = .ok (.if_icmp .eq 13, 3) := dk_159 0 13 (dk_at dksX6_lamp_2 4 rfl rfl)
theorem dX6_lamp_54 : decode cX6_lamp 54 = .ok (.lload 6, 2) := dk_22 6 (dk_at dksX6_lamp_2 7 rfl rfl)
theorem dX6_lamp_56 : decode cX6_lamp 56 = .ok (.lload_n 3, 1) := dk_33 (dk_at dksX6_lamp_2 9 rfl rfl)
theorem dX6_lamp_57 : decode cX6_lamp 57 = .ok (.lcmp, 1) := dk_148 (dk_at dksX6_lamp_2 10 rfl rfl)
theorem dX6_lamp_58 : decode cX6_lamp 58 = .ok (.ifCond .lt 6, 3) := dk_155 0 6 (dk_at dksX6_lamp_2 11 rfl rfl)
theorem dX6_lamp_61 : decode cX6_lamp 61 = .ok (.goto 9, 3) := dk_167 0 9 (dk_at dksX6_lamp_2 14 rfl rfl)
theorem dX6_lamp_64 : decode cX6_lamp 64 = .ok (.iload 5, 2) := dk_21 5 (dk_at dksX6_lamp_2 17 rfl rfl)
theorem dX6_lamp_66 : decode cX6_lamp 66 = .ok (.istore_n 2, 1) := dk_61 (dk_at dksX6_lamp_2 19 rfl rfl)
theorem dX6_lamp_67 : decode cX6_lamp 67 = .ok (.lload 6, 2) := dk_22 6 (dk_at dksX6_lamp_2 20 rfl rfl)
theorem dX6_lamp_69 : decode cX6_lamp 69 = .ok (.lstore_n 3, 1) := dk_66 (dk_at dksX6_lamp_2 22 rfl rfl)
theorem dX6_lamp_70 : decode cX6_lamp 70 = .ok (.iinc 5 1, 3) := dk_132 5 1 (dk_at dksX6_lamp_3 0 rfl rfl)
theorem dX6_lamp_73 : decode cX6_lamp 73 = .ok (.goto (-44), 3) := dk_167 255 212 (dk_at dksX6_lamp_3 3 rfl rfl)
theorem dX6_lamp_76 : decode cX6_lamp 76 = .ok (.iload_n 2, 1) := dk_28 (dk_at dksX6_lamp_3 6 rfl rfl)
theorem dX6_lamp_77 : decode cX6_lamp 77 = .ok (.ireturn, 1) := dk_172 (dk_at dksX6_lamp_3 7 rfl rfl)
abbrev cX6_isBright : ByteArray := prog_20_method_108_code
def yX6_isBright : MethodName := ⟨RX6, "isBright", "(I)Z"⟩
def dkwX6_isBright_0 : List UInt8 := [26, 133, 9, 20, 1, 208, 184, 0, 119, 172]
abbrev dktX6_isBright_0 : List UInt8 := dkwX6_isBright_0 ++ []
theorem dksX6_isBright_0 : cX6_isBright.data.toList.drop 0 = dktX6_isBright_0 := by decide +kernel
theorem dX6_isBright_0 : decode cX6_isBright 0 = .ok (.iload_n 0, 1) := dk_26 (dk_at dksX6_isBright_0 0 rfl rfl)
theorem dX6_isBright_1 : decode cX6_isBright 1 = .ok (.i2l, 1) := dk_133 (dk_at dksX6_isBright_0 1 rfl rfl)
theorem dX6_isBright_2 : decode cX6_isBright 2 = .ok (.lconst 0, 1) := dk_9 (dk_at dksX6_isBright_0 2 rfl rfl)
theorem dX6_isBright_3 : decode cX6_isBright 3 = .ok (.ldc2_w 464, 3) := dk_20 1 208 (dk_at dksX6_isBright_0 3 rfl rfl)
theorem dX6_isBright_6 : decode cX6_isBright 6 = .ok (.invokestatic 119, 3) := dk_184 0 119 (dk_at dksX6_isBright_0 6 rfl rfl)
theorem dX6_isBright_9 : decode cX6_isBright 9 = .ok (.ireturn, 1) := dk_172 (dk_at dksX6_isBright_0 9 rfl rfl)
abbrev cX6_litBy : ByteArray := prog_20_method_107_code
def yX6_litBy : MethodName := ⟨RX6, "litBy", "(II)J"⟩
def dkwX6_litBy_1 : List UInt8 := [181, 1, 53, 33, 173]
abbrev dktX6_litBy_1 : List UInt8 := dkwX6_litBy_1 ++ []
def dkwX6_litBy_0 : List UInt8 := [42, 27, 181, 1, 53, 42, 28, 181, 1, 50, 42, 4, 182, 1, 142, 66, 42, 3, 181, 1, 50, 42, 3]
abbrev dktX6_litBy_0 : List UInt8 := dkwX6_litBy_0 ++ dktX6_litBy_1
theorem dksX6_litBy_0 : cX6_litBy.data.toList.drop 0 = dktX6_litBy_0 := by decide +kernel
theorem dksX6_litBy_1 : cX6_litBy.data.toList.drop 23 = dktX6_litBy_1 := dk_seg dksX6_litBy_0 23 rfl rfl
theorem dX6_litBy_0 : decode cX6_litBy 0 = .ok (.aload_n 0, 1) := dk_42 (dk_at dksX6_litBy_0 0 rfl rfl)
theorem dX6_litBy_1 : decode cX6_litBy 1 = .ok (.iload_n 1, 1) := dk_27 (dk_at dksX6_litBy_0 1 rfl rfl)
theorem dX6_litBy_2 : decode cX6_litBy 2 = .ok (.putfield 309, 3) := dk_181 1 53 (dk_at dksX6_litBy_0 2 rfl rfl)
theorem dX6_litBy_5 : decode cX6_litBy 5 = .ok (.aload_n 0, 1) := dk_42 (dk_at dksX6_litBy_0 5 rfl rfl)
theorem dX6_litBy_6 : decode cX6_litBy 6 = .ok (.iload_n 2, 1) := dk_28 (dk_at dksX6_litBy_0 6 rfl rfl)
theorem dX6_litBy_7 : decode cX6_litBy 7 = .ok (.putfield 306, 3) := dk_181 1 50 (dk_at dksX6_litBy_0 7 rfl rfl)
theorem dX6_litBy_10 : decode cX6_litBy 10 = .ok (.aload_n 0, 1) := dk_42 (dk_at dksX6_litBy_0 10 rfl rfl)
theorem dX6_litBy_11 : decode cX6_litBy 11 = .ok (.iconst 1, 1) := dk_4 (dk_at dksX6_litBy_0 11 rfl rfl)
theorem dX6_litBy_12 : decode cX6_litBy 12 = .ok (.invokevirtual 398, 3) := dk_182 1 142 (dk_at dksX6_litBy_0 12 rfl rfl)
theorem dX6_litBy_15 : decode cX6_litBy 15 = .ok (.lstore_n 3, 1) := dk_66 (dk_at dksX6_litBy_0 15 rfl rfl)
theorem dX6_litBy_16 : decode cX6_litBy 16 = .ok (.aload_n 0, 1) := dk_42 (dk_at dksX6_litBy_0 16 rfl rfl)
theorem dX6_litBy_17 : decode cX6_litBy 17 = .ok (.iconst 0, 1) := dk_3 (dk_at dksX6_litBy_0 17 rfl rfl)
theorem dX6_litBy_18 : decode cX6_litBy 18 = .ok (.putfield 306, 3) := dk_181 1 50 (dk_at dksX6_litBy_0 18 rfl rfl)
theorem dX6_litBy_21 : decode cX6_litBy 21 = .ok (.aload_n 0, 1) := dk_42 (dk_at dksX6_litBy_0 21 rfl rfl)
theorem dX6_litBy_22 : decode cX6_litBy 22 = .ok (.iconst 0, 1) := dk_3 (dk_at dksX6_litBy_0 22 rfl rfl)
theorem dX6_litBy_23 : decode cX6_litBy 23 = .ok (.putfield 309, 3) := dk_181 1 53 (dk_at dksX6_litBy_1 0 rfl rfl)
theorem dX6_litBy_26 : decode cX6_litBy 26 = .ok (.lload_n 3, 1) := dk_33 (dk_at dksX6_litBy_1 3 rfl rfl)
theorem dX6_litBy_27 : decode cX6_litBy 27 = .ok (.lreturn, 1) := dk_173 (dk_at dksX6_litBy_1 4 rfl rfl)
abbrev cX6_lit : ByteArray := prog_20_method_110_code
def yX6_lit : MethodName := ⟨RX6, "lit", "(II)J"⟩
def dkwX6_lit_1 : List UInt8 := [182, 1, 213, 167, 0, 6, 20, 1, 104, 173]
abbrev dktX6_lit_1 : List UInt8 := dkwX6_lit_1 ++ []
def dkwX6_lit_0 : List UInt8 := [42, 3, 181, 0, 114, 42, 27, 182, 1, 56, 153, 0, 19, 28, 184, 1, 210, 153, 0, 12, 42, 27, 28]
abbrev dktX6_lit_0 : List UInt8 := dkwX6_lit_0 ++ dktX6_lit_1
theorem dksX6_lit_0 : cX6_lit.data.toList.drop 0 = dktX6_lit_0 := by decide +kernel
theorem dksX6_lit_1 : cX6_lit.data.toList.drop 23 = dktX6_lit_1 := dk_seg dksX6_lit_0 23 rfl rfl
theorem dX6_lit_0 : decode cX6_lit 0 = .ok (.aload_n 0, 1) := dk_42 (dk_at dksX6_lit_0 0 rfl rfl)
theorem dX6_lit_1 : decode cX6_lit 1 = .ok (.iconst 0, 1) := dk_3 (dk_at dksX6_lit_0 1 rfl rfl)
theorem dX6_lit_2 : decode cX6_lit 2 = .ok (.putfield 114, 3) := dk_181 0 114 (dk_at dksX6_lit_0 2 rfl rfl)
theorem dX6_lit_5 : decode cX6_lit 5 = .ok (.aload_n 0, 1) := dk_42 (dk_at dksX6_lit_0 5 rfl rfl)
theorem dX6_lit_6 : decode cX6_lit 6 = .ok (.iload_n 1, 1) := dk_27 (dk_at dksX6_lit_0 6 rfl rfl)
theorem dX6_lit_7 : decode cX6_lit 7 = .ok (.invokevirtual 312, 3) := dk_182 1 56 (dk_at dksX6_lit_0 7 rfl rfl)
theorem dX6_lit_10 : decode cX6_lit 10 = .ok (.ifCond .eq 19, 3) := dk_153 0 19 (dk_at dksX6_lit_0 10 rfl rfl)
theorem dX6_lit_13 : decode cX6_lit 13 = .ok (.iload_n 2, 1) := dk_28 (dk_at dksX6_lit_0 13 rfl rfl)
theorem dX6_lit_14 : decode cX6_lit 14 = .ok (.invokestatic 466, 3) := dk_184 1 210 (dk_at dksX6_lit_0 14 rfl rfl)
theorem dX6_lit_17 : decode cX6_lit 17 = .ok (.ifCond .eq 12, 3) := dk_153 0 12 (dk_at dksX6_lit_0 17 rfl rfl)
theorem dX6_lit_20 : decode cX6_lit 20 = .ok (.aload_n 0, 1) := dk_42 (dk_at dksX6_lit_0 20 rfl rfl)
theorem dX6_lit_21 : decode cX6_lit 21 = .ok (.iload_n 1, 1) := dk_27 (dk_at dksX6_lit_0 21 rfl rfl)
theorem dX6_lit_22 : decode cX6_lit 22 = .ok (.iload_n 2, 1) := dk_28 (dk_at dksX6_lit_0 22 rfl rfl)
theorem dX6_lit_23 : decode cX6_lit 23 = .ok (.invokevirtual 469, 3) := dk_182 1 213 (dk_at dksX6_lit_1 0 rfl rfl)
theorem dX6_lit_26 : decode cX6_lit 26 = .ok (.goto 6, 3) := dk_167 0 6 (dk_at dksX6_lit_1 3 rfl rfl)
theorem dX6_lit_29 : decode cX6_lit 29 = .ok (.ldc2_w 360, 3) := dk_20 1 104 (dk_at dksX6_lit_1 6 rfl rfl)
theorem dX6_lit_32 : decode cX6_lit 32 = .ok (.lreturn, 1) := dk_173 (dk_at dksX6_lit_1 9 rfl rfl)
abbrev cX6_watch : ByteArray := prog_20_method_111_code
def yX6_watch : MethodName := ⟨RX6, "watch", "(Z)I"⟩
def dkwX6_watch_1 : List UInt8 := [61, 42, 180, 0, 64, 16, 6, 27, 153, 0, 7, 4, 167, 0, 4, 3, 79, 28, 172]
abbrev dktX6_watch_1 : List UInt8 := dkwX6_watch_1 ++ []
def dkwX6_watch_0 : List UInt8 := [42, 3, 181, 0, 114, 42, 180, 0, 64, 6, 46, 154, 0, 6, 16, 254, 172, 42, 180, 0, 64, 16, 6, 46]
abbrev dktX6_watch_0 : List UInt8 := dkwX6_watch_0 ++ dktX6_watch_1
theorem dksX6_watch_0 : cX6_watch.data.toList.drop 0 = dktX6_watch_0 := by decide +kernel
theorem dksX6_watch_1 : cX6_watch.data.toList.drop 24 = dktX6_watch_1 := dk_seg dksX6_watch_0 24 rfl rfl
theorem dX6_watch_0 : decode cX6_watch 0 = .ok (.aload_n 0, 1) := dk_42 (dk_at dksX6_watch_0 0 rfl rfl)
theorem dX6_watch_1 : decode cX6_watch 1 = .ok (.iconst 0, 1) := dk_3 (dk_at dksX6_watch_0 1 rfl rfl)
theorem dX6_watch_2 : decode cX6_watch 2 = .ok (.putfield 114, 3) := dk_181 0 114 (dk_at dksX6_watch_0 2 rfl rfl)
theorem dX6_watch_5 : decode cX6_watch 5 = .ok (.aload_n 0, 1) := dk_42 (dk_at dksX6_watch_0 5 rfl rfl)
theorem dX6_watch_6 : decode cX6_watch 6 = .ok (.getfield 64, 3) := dk_180 0 64 (dk_at dksX6_watch_0 6 rfl rfl)
theorem dX6_watch_9 : decode cX6_watch 9 = .ok (.iconst 3, 1) := dk_6 (dk_at dksX6_watch_0 9 rfl rfl)
theorem dX6_watch_10 : decode cX6_watch 10 = .ok (.iaload, 1) := dk_46 (dk_at dksX6_watch_0 10 rfl rfl)
theorem dX6_watch_11 : decode cX6_watch 11 = .ok (.ifCond .ne 6, 3) := dk_154 0 6 (dk_at dksX6_watch_0 11 rfl rfl)
theorem dX6_watch_14 : decode cX6_watch 14 = .ok (.bipush (-2), 2) := dk_16 254 (dk_at dksX6_watch_0 14 rfl rfl)
theorem dX6_watch_16 : decode cX6_watch 16 = .ok (.ireturn, 1) := dk_172 (dk_at dksX6_watch_0 16 rfl rfl)
theorem dX6_watch_17 : decode cX6_watch 17 = .ok (.aload_n 0, 1) := dk_42 (dk_at dksX6_watch_0 17 rfl rfl)
theorem dX6_watch_18 : decode cX6_watch 18 = .ok (.getfield 64, 3) := dk_180 0 64 (dk_at dksX6_watch_0 18 rfl rfl)
theorem dX6_watch_21 : decode cX6_watch 21 = .ok (.bipush 6, 2) := dk_16 6 (dk_at dksX6_watch_0 21 rfl rfl)
theorem dX6_watch_23 : decode cX6_watch 23 = .ok (.iaload, 1) := dk_46 (dk_at dksX6_watch_0 23 rfl rfl)
theorem dX6_watch_24 : decode cX6_watch 24 = .ok (.istore_n 2, 1) := dk_61 (dk_at dksX6_watch_1 0 rfl rfl)
theorem dX6_watch_25 : decode cX6_watch 25 = .ok (.aload_n 0, 1) := dk_42 (dk_at dksX6_watch_1 1 rfl rfl)
theorem dX6_watch_26 : decode cX6_watch 26 = .ok (.getfield 64, 3) := dk_180 0 64 (dk_at dksX6_watch_1 2 rfl rfl)
theorem dX6_watch_29 : decode cX6_watch 29 = .ok (.bipush 6, 2) := dk_16 6 (dk_at dksX6_watch_1 5 rfl rfl)
theorem dX6_watch_31 : decode cX6_watch 31 = .ok (.iload_n 1, 1) := dk_27 (dk_at dksX6_watch_1 7 rfl rfl)
theorem dX6_watch_32 : decode cX6_watch 32 = .ok (.ifCond .eq 7, 3) := dk_153 0 7 (dk_at dksX6_watch_1 8 rfl rfl)
theorem dX6_watch_35 : decode cX6_watch 35 = .ok (.iconst 1, 1) := dk_4 (dk_at dksX6_watch_1 11 rfl rfl)
theorem dX6_watch_36 : decode cX6_watch 36 = .ok (.goto 4, 3) := dk_167 0 4 (dk_at dksX6_watch_1 12 rfl rfl)
theorem dX6_watch_39 : decode cX6_watch 39 = .ok (.iconst 0, 1) := dk_3 (dk_at dksX6_watch_1 15 rfl rfl)
theorem dX6_watch_40 : decode cX6_watch 40 = .ok (.iastore, 1) := dk_79 (dk_at dksX6_watch_1 16 rfl rfl)
theorem dX6_watch_41 : decode cX6_watch 41 = .ok (.iload_n 2, 1) := dk_28 (dk_at dksX6_watch_1 17 rfl rfl)
theorem dX6_watch_42 : decode cX6_watch 42 = .ok (.ireturn, 1) := dk_172 (dk_at dksX6_watch_1 18 rfl rfl)
abbrev cX6_penny : ByteArray := prog_20_method_113_code
def yX6_penny : MethodName := ⟨RX6, "penny", "()J"⟩
def dkwX6_penny_2 : List UInt8 := [97, 64, 132, 3, 1, 167, 255, 234, 31, 173]
abbrev dktX6_penny_2 : List UInt8 := dkwX6_penny_2 ++ []
def dkwX6_penny_1 : List UInt8 := [182, 1, 129, 117, 64, 3, 62, 29, 42, 180, 0, 52, 3, 46, 162, 0, 18, 31, 42, 180, 0, 98, 29, 47]
abbrev dktX6_penny_1 : List UInt8 := dkwX6_penny_1 ++ dktX6_penny_2
def dkwX6_penny_0 : List UInt8 := [42, 3, 181, 0, 114, 42, 180, 0, 64, 6, 46, 154, 0, 7, 20, 1, 200, 173, 42, 182, 1, 216, 42]
abbrev dktX6_penny_0 : List UInt8 := dkwX6_penny_0 ++ dktX6_penny_1
theorem dksX6_penny_0 : cX6_penny.data.toList.drop 0 = dktX6_penny_0 := by decide +kernel
theorem dksX6_penny_1 : cX6_penny.data.toList.drop 23 = dktX6_penny_1 := dk_seg dksX6_penny_0 23 rfl rfl
theorem dksX6_penny_2 : cX6_penny.data.toList.drop 47 = dktX6_penny_2 := dk_seg dksX6_penny_1 24 rfl rfl
theorem dX6_penny_0 : decode cX6_penny 0 = .ok (.aload_n 0, 1) := dk_42 (dk_at dksX6_penny_0 0 rfl rfl)
theorem dX6_penny_1 : decode cX6_penny 1 = .ok (.iconst 0, 1) := dk_3 (dk_at dksX6_penny_0 1 rfl rfl)
theorem dX6_penny_2 : decode cX6_penny 2 = .ok (.putfield 114, 3) := dk_181 0 114 (dk_at dksX6_penny_0 2 rfl rfl)
theorem dX6_penny_5 : decode cX6_penny 5 = .ok (.aload_n 0, 1) := dk_42 (dk_at dksX6_penny_0 5 rfl rfl)
theorem dX6_penny_6 : decode cX6_penny 6 = .ok (.getfield 64, 3) := dk_180 0 64 (dk_at dksX6_penny_0 6 rfl rfl)
theorem dX6_penny_9 : decode cX6_penny 9 = .ok (.iconst 3, 1) := dk_6 (dk_at dksX6_penny_0 9 rfl rfl)
theorem dX6_penny_10 : decode cX6_penny 10 = .ok (.iaload, 1) := dk_46 (dk_at dksX6_penny_0 10 rfl rfl)
theorem dX6_penny_11 : decode cX6_penny 11 = .ok (.ifCond .ne 7, 3) := dk_154 0 7 (dk_at dksX6_penny_0 11 rfl rfl)
theorem dX6_penny_14 : decode cX6_penny 14 = .ok (.ldc2_w 456, 3) := dk_20 1 200 (dk_at dksX6_penny_0 14 rfl rfl)
theorem dX6_penny_17 : decode cX6_penny 17 = .ok (.lreturn, 1) := dk_173 (dk_at dksX6_penny_0 17 rfl rfl)
theorem dX6_penny_18 : decode cX6_penny 18 = .ok (.aload_n 0, 1) := dk_42 (dk_at dksX6_penny_0 18 rfl rfl)
theorem dX6_penny_19 : decode cX6_penny 19 = .ok (.invokevirtual 472, 3) := dk_182 1 216 (dk_at dksX6_penny_0 19 rfl rfl)
theorem dX6_penny_22 : decode cX6_penny 22 = .ok (.aload_n 0, 1) := dk_42 (dk_at dksX6_penny_0 22 rfl rfl)
theorem dX6_penny_23 : decode cX6_penny 23 = .ok (.invokevirtual 385, 3) := dk_182 1 129 (dk_at dksX6_penny_1 0 rfl rfl)
theorem dX6_penny_26 : decode cX6_penny 26 = .ok (.lneg, 1) := dk_117 (dk_at dksX6_penny_1 3 rfl rfl)
theorem dX6_penny_27 : decode cX6_penny 27 = .ok (.lstore_n 1, 1) := dk_64 (dk_at dksX6_penny_1 4 rfl rfl)
theorem dX6_penny_28 : decode cX6_penny 28 = .ok (.iconst 0, 1) := dk_3 (dk_at dksX6_penny_1 5 rfl rfl)
theorem dX6_penny_29 : decode cX6_penny 29 = .ok (.istore_n 3, 1) := dk_62 (dk_at dksX6_penny_1 6 rfl rfl)
theorem dX6_penny_30 : decode cX6_penny 30 = .ok (.iload_n 3, 1) := dk_29 (dk_at dksX6_penny_1 7 rfl rfl)
theorem dX6_penny_31 : decode cX6_penny 31 = .ok (.aload_n 0, 1) := dk_42 (dk_at dksX6_penny_1 8 rfl rfl)
theorem dX6_penny_32 : decode cX6_penny 32 = .ok (.getfield 52, 3) := dk_180 0 52 (dk_at dksX6_penny_1 9 rfl rfl)
theorem dX6_penny_35 : decode cX6_penny 35 = .ok (.iconst 0, 1) := dk_3 (dk_at dksX6_penny_1 12 rfl rfl)
theorem dX6_penny_36 : decode cX6_penny 36 = .ok (.iaload, 1) := dk_46 (dk_at dksX6_penny_1 13 rfl rfl)
theorem dX6_penny_37 : decode cX6_penny 37 = .ok (.if_icmp .ge 18, 3) := dk_162 0 18 (dk_at dksX6_penny_1 14 rfl rfl)
theorem dX6_penny_40 : decode cX6_penny 40 = .ok (.lload_n 1, 1) := dk_31 (dk_at dksX6_penny_1 17 rfl rfl)
theorem dX6_penny_41 : decode cX6_penny 41 = .ok (.aload_n 0, 1) := dk_42 (dk_at dksX6_penny_1 18 rfl rfl)
theorem dX6_penny_42 : decode cX6_penny 42 = .ok (.getfield 98, 3) := dk_180 0 98 (dk_at dksX6_penny_1 19 rfl rfl)
theorem dX6_penny_45 : decode cX6_penny 45 = .ok (.iload_n 3, 1) := dk_29 (dk_at dksX6_penny_1 22 rfl rfl)
theorem dX6_penny_46 : decode cX6_penny 46 = .ok (.laload, 1) := dk_47 (dk_at dksX6_penny_1 23 rfl rfl)
theorem dX6_penny_47 : decode cX6_penny 47 = .ok (.ladd, 1) := dk_97 (dk_at dksX6_penny_2 0 rfl rfl)
theorem dX6_penny_48 : decode cX6_penny 48 = .ok (.lstore_n 1, 1) := dk_64 (dk_at dksX6_penny_2 1 rfl rfl)
theorem dX6_penny_49 : decode cX6_penny 49 = .ok (.iinc 3 1, 3) := dk_132 3 1 (dk_at dksX6_penny_2 2 rfl rfl)
theorem dX6_penny_52 : decode cX6_penny 52 = .ok (.goto (-22), 3) := dk_167 255 234 (dk_at dksX6_penny_2 5 rfl rfl)
theorem dX6_penny_55 : decode cX6_penny 55 = .ok (.lload_n 1, 1) := dk_31 (dk_at dksX6_penny_2 8 rfl rfl)
theorem dX6_penny_56 : decode cX6_penny 56 = .ok (.lreturn, 1) := dk_173 (dk_at dksX6_penny_2 9 rfl rfl)
abbrev cX6_laysWatch : ByteArray := prog_20_method_112_code
def yX6_laysWatch : MethodName := ⟨RX6, "laysWatch", "()V"⟩
def dkwX6_laysWatch_4 : List UInt8 := [180, 0, 64, 16, 6, 27, 79, 177]
abbrev dktX6_laysWatch_4 : List UInt8 := dkwX6_laysWatch_4 ++ []
def dkwX6_laysWatch_3 : List UInt8 := [162, 0, 23, 42, 180, 0, 98, 28, 92, 47, 42, 28, 182, 1, 126, 101, 80, 132, 2, 1, 167, 255, 229, 42]
abbrev dktX6_laysWatch_3 : List UInt8 := dkwX6_laysWatch_3 ++ dktX6_laysWatch_4
def dkwX6_laysWatch_2 : List UInt8 := [167, 255, 232, 42, 180, 0, 64, 16, 6, 4, 79, 42, 182, 1, 106, 3, 61, 28, 42, 180, 0, 52, 3, 46]
abbrev dktX6_laysWatch_2 : List UInt8 := dkwX6_laysWatch_2 ++ dktX6_laysWatch_3
def dkwX6_laysWatch_1 : List UInt8 := [180, 0, 52, 3, 46, 162, 0, 20, 42, 180, 0, 98, 28, 42, 28, 182, 1, 126, 80, 132, 2, 1]
abbrev dktX6_laysWatch_1 : List UInt8 := dkwX6_laysWatch_1 ++ dktX6_laysWatch_2
def dkwX6_laysWatch_0 : List UInt8 := [42, 180, 0, 64, 16, 6, 46, 60, 42, 180, 0, 64, 16, 6, 3, 79, 42, 182, 1, 106, 3, 61, 28, 42]
abbrev dktX6_laysWatch_0 : List UInt8 := dkwX6_laysWatch_0 ++ dktX6_laysWatch_1
theorem dksX6_laysWatch_0 : cX6_laysWatch.data.toList.drop 0 = dktX6_laysWatch_0 := by decide +kernel
theorem dksX6_laysWatch_1 : cX6_laysWatch.data.toList.drop 24 = dktX6_laysWatch_1 := dk_seg dksX6_laysWatch_0 24 rfl rfl
theorem dksX6_laysWatch_2 : cX6_laysWatch.data.toList.drop 46 = dktX6_laysWatch_2 := dk_seg dksX6_laysWatch_1 22 rfl rfl
theorem dksX6_laysWatch_3 : cX6_laysWatch.data.toList.drop 70 = dktX6_laysWatch_3 := dk_seg dksX6_laysWatch_2 24 rfl rfl
theorem dksX6_laysWatch_4 : cX6_laysWatch.data.toList.drop 94 = dktX6_laysWatch_4 := dk_seg dksX6_laysWatch_3 24 rfl rfl
theorem dX6_laysWatch_0 : decode cX6_laysWatch 0 = .ok (.aload_n 0, 1) := dk_42 (dk_at dksX6_laysWatch_0 0 rfl rfl)
theorem dX6_laysWatch_1 : decode cX6_laysWatch 1 = .ok (.getfield 64, 3) := dk_180 0 64 (dk_at dksX6_laysWatch_0 1 rfl rfl)
theorem dX6_laysWatch_4 : decode cX6_laysWatch 4 = .ok (.bipush 6, 2) := dk_16 6 (dk_at dksX6_laysWatch_0 4 rfl rfl)
theorem dX6_laysWatch_6 : decode cX6_laysWatch 6 = .ok (.iaload, 1) := dk_46 (dk_at dksX6_laysWatch_0 6 rfl rfl)
theorem dX6_laysWatch_7 : decode cX6_laysWatch 7 = .ok (.istore_n 1, 1) := dk_60 (dk_at dksX6_laysWatch_0 7 rfl rfl)
theorem dX6_laysWatch_8 : decode cX6_laysWatch 8 = .ok (.aload_n 0, 1) := dk_42 (dk_at dksX6_laysWatch_0 8 rfl rfl)
theorem dX6_laysWatch_9 : decode cX6_laysWatch 9 = .ok (.getfield 64, 3) := dk_180 0 64 (dk_at dksX6_laysWatch_0 9 rfl rfl)
theorem dX6_laysWatch_12 : decode cX6_laysWatch 12 = .ok (.bipush 6, 2) := dk_16 6 (dk_at dksX6_laysWatch_0 12 rfl rfl)
theorem dX6_laysWatch_14 : decode cX6_laysWatch 14 = .ok (.iconst 0, 1) := dk_3 (dk_at dksX6_laysWatch_0 14 rfl rfl)
theorem dX6_laysWatch_15 : decode cX6_laysWatch 15 = .ok (.iastore, 1) := dk_79 (dk_at dksX6_laysWatch_0 15 rfl rfl)
theorem dX6_laysWatch_16 : decode cX6_laysWatch 16 = .ok (.aload_n 0, 1) := dk_42 (dk_at dksX6_laysWatch_0 16 rfl rfl)
theorem dX6_laysWatch_17 : decode cX6_laysWatch 17 = .ok (.invokevirtual 362, 3) := dk_182 1 106 (dk_at dksX6_laysWatch_0 17 rfl rfl)
theorem dX6_laysWatch_20 : decode cX6_laysWatch 20 = .ok (.iconst 0, 1) := dk_3 (dk_at dksX6_laysWatch_0 20 rfl rfl)
theorem dX6_laysWatch_21 : decode cX6_laysWatch 21 = .ok (.istore_n 2, 1) := dk_61 (dk_at dksX6_laysWatch_0 21 rfl rfl)
theorem dX6_laysWatch_22 : decode cX6_laysWatch 22 = .ok (.iload_n 2, 1) := dk_28 (dk_at dksX6_laysWatch_0 22 rfl rfl)
theorem dX6_laysWatch_23 : decode cX6_laysWatch 23 = .ok (.aload_n 0, 1) := dk_42 (dk_at dksX6_laysWatch_0 23 rfl rfl)
theorem dX6_laysWatch_24 : decode cX6_laysWatch 24 = .ok (.getfield 52, 3) := dk_180 0 52 (dk_at dksX6_laysWatch_1 0 rfl rfl)
theorem dX6_laysWatch_27 : decode cX6_laysWatch 27 = .ok (.iconst 0, 1) := dk_3 (dk_at dksX6_laysWatch_1 3 rfl rfl)
theorem dX6_laysWatch_28 : decode cX6_laysWatch 28 = .ok (.iaload, 1) := dk_46 (dk_at dksX6_laysWatch_1 4 rfl rfl)
theorem dX6_laysWatch_29 : decode cX6_laysWatch 29 = .ok (.if_icmp .ge 20, 3) := dk_162 0 20 (dk_at dksX6_laysWatch_1 5 rfl rfl)
theorem dX6_laysWatch_32 : decode cX6_laysWatch 32 = .ok (.aload_n 0, 1) := dk_42 (dk_at dksX6_laysWatch_1 8 rfl rfl)
theorem dX6_laysWatch_33 : decode cX6_laysWatch 33 = .ok (.getfield 98, 3) := dk_180 0 98 (dk_at dksX6_laysWatch_1 9 rfl rfl)
theorem dX6_laysWatch_36 : decode cX6_laysWatch 36 = .ok (.iload_n 2, 1) := dk_28 (dk_at dksX6_laysWatch_1 12 rfl rfl)
theorem dX6_laysWatch_37 : decode cX6_laysWatch 37 = .ok (.aload_n 0, 1) := dk_42 (dk_at dksX6_laysWatch_1 13 rfl rfl)
theorem dX6_laysWatch_38 : decode cX6_laysWatch 38 = .ok (.iload_n 2, 1) := dk_28 (dk_at dksX6_laysWatch_1 14 rfl rfl)
theorem dX6_laysWatch_39 : decode cX6_laysWatch 39 = .ok (.invokevirtual 382, 3) := dk_182 1 126 (dk_at dksX6_laysWatch_1 15 rfl rfl)
theorem dX6_laysWatch_42 : decode cX6_laysWatch 42 = .ok (.lastore, 1) := dk_80 (dk_at dksX6_laysWatch_1 18 rfl rfl)
theorem dX6_laysWatch_43 : decode cX6_laysWatch 43 = .ok (.iinc 2 1, 3) := dk_132 2 1 (dk_at dksX6_laysWatch_1 19 rfl rfl)
theorem dX6_laysWatch_46 : decode cX6_laysWatch 46 = .ok (.goto (-24), 3) := dk_167 255 232 (dk_at dksX6_laysWatch_2 0 rfl rfl)
theorem dX6_laysWatch_49 : decode cX6_laysWatch 49 = .ok (.aload_n 0, 1) := dk_42 (dk_at dksX6_laysWatch_2 3 rfl rfl)
theorem dX6_laysWatch_50 : decode cX6_laysWatch 50 = .ok (.getfield 64, 3) := dk_180 0 64 (dk_at dksX6_laysWatch_2 4 rfl rfl)
theorem dX6_laysWatch_53 : decode cX6_laysWatch 53 = .ok (.bipush 6, 2) := dk_16 6 (dk_at dksX6_laysWatch_2 7 rfl rfl)
theorem dX6_laysWatch_55 : decode cX6_laysWatch 55 = .ok (.iconst 1, 1) := dk_4 (dk_at dksX6_laysWatch_2 9 rfl rfl)
theorem dX6_laysWatch_56 : decode cX6_laysWatch 56 = .ok (.iastore, 1) := dk_79 (dk_at dksX6_laysWatch_2 10 rfl rfl)
theorem dX6_laysWatch_57 : decode cX6_laysWatch 57 = .ok (.aload_n 0, 1) := dk_42 (dk_at dksX6_laysWatch_2 11 rfl rfl)
theorem dX6_laysWatch_58 : decode cX6_laysWatch 58 = .ok (.invokevirtual 362, 3) := dk_182 1 106 (dk_at dksX6_laysWatch_2 12 rfl rfl)
theorem dX6_laysWatch_61 : decode cX6_laysWatch 61 = .ok (.iconst 0, 1) := dk_3 (dk_at dksX6_laysWatch_2 15 rfl rfl)
theorem dX6_laysWatch_62 : decode cX6_laysWatch 62 = .ok (.istore_n 2, 1) := dk_61 (dk_at dksX6_laysWatch_2 16 rfl rfl)
theorem dX6_laysWatch_63 : decode cX6_laysWatch 63 = .ok (.iload_n 2, 1) := dk_28 (dk_at dksX6_laysWatch_2 17 rfl rfl)
theorem dX6_laysWatch_64 : decode cX6_laysWatch 64 = .ok (.aload_n 0, 1) := dk_42 (dk_at dksX6_laysWatch_2 18 rfl rfl)
theorem dX6_laysWatch_65 : decode cX6_laysWatch 65 = .ok (.getfield 52, 3) := dk_180 0 52 (dk_at dksX6_laysWatch_2 19 rfl rfl)
theorem dX6_laysWatch_68 : decode cX6_laysWatch 68 = .ok (.iconst 0, 1) := dk_3 (dk_at dksX6_laysWatch_2 22 rfl rfl)
theorem dX6_laysWatch_69 : decode cX6_laysWatch 69 = .ok (.iaload, 1) := dk_46 (dk_at dksX6_laysWatch_2 23 rfl rfl)
theorem dX6_laysWatch_70 : decode cX6_laysWatch 70 = .ok (.if_icmp .ge 23, 3) := dk_162 0 23 (dk_at dksX6_laysWatch_3 0 rfl rfl)
theorem dX6_laysWatch_73 : decode cX6_laysWatch 73 = .ok (.aload_n 0, 1) := dk_42 (dk_at dksX6_laysWatch_3 3 rfl rfl)
theorem dX6_laysWatch_74 : decode cX6_laysWatch 74 = .ok (.getfield 98, 3) := dk_180 0 98 (dk_at dksX6_laysWatch_3 4 rfl rfl)
theorem dX6_laysWatch_77 : decode cX6_laysWatch 77 = .ok (.iload_n 2, 1) := dk_28 (dk_at dksX6_laysWatch_3 7 rfl rfl)
theorem dX6_laysWatch_78 : decode cX6_laysWatch 78 = .ok (.dup2, 1) := dk_92 (dk_at dksX6_laysWatch_3 8 rfl rfl)
theorem dX6_laysWatch_79 : decode cX6_laysWatch 79 = .ok (.laload, 1) := dk_47 (dk_at dksX6_laysWatch_3 9 rfl rfl)
theorem dX6_laysWatch_80 : decode cX6_laysWatch 80 = .ok (.aload_n 0, 1) := dk_42 (dk_at dksX6_laysWatch_3 10 rfl rfl)
theorem dX6_laysWatch_81 : decode cX6_laysWatch 81 = .ok (.iload_n 2, 1) := dk_28 (dk_at dksX6_laysWatch_3 11 rfl rfl)
theorem dX6_laysWatch_82 : decode cX6_laysWatch 82 = .ok (.invokevirtual 382, 3) := dk_182 1 126 (dk_at dksX6_laysWatch_3 12 rfl rfl)
theorem dX6_laysWatch_85 : decode cX6_laysWatch 85 = .ok (.lsub, 1) := dk_101 (dk_at dksX6_laysWatch_3 15 rfl rfl)
theorem dX6_laysWatch_86 : decode cX6_laysWatch 86 = .ok (.lastore, 1) := dk_80 (dk_at dksX6_laysWatch_3 16 rfl rfl)
theorem dX6_laysWatch_87 : decode cX6_laysWatch 87 = .ok (.iinc 2 1, 3) := dk_132 2 1 (dk_at dksX6_laysWatch_3 17 rfl rfl)
theorem dX6_laysWatch_90 : decode cX6_laysWatch 90 = .ok (.goto (-27), 3) := dk_167 255 229 (dk_at dksX6_laysWatch_3 20 rfl rfl)
theorem dX6_laysWatch_93 : decode cX6_laysWatch 93 = .ok (.aload_n 0, 1) := dk_42 (dk_at dksX6_laysWatch_3 23 rfl rfl)
theorem dX6_laysWatch_94 : decode cX6_laysWatch 94 = .ok (.getfield 64, 3) := dk_180 0 64 (dk_at dksX6_laysWatch_4 0 rfl rfl)
theorem dX6_laysWatch_97 : decode cX6_laysWatch 97 = .ok (.bipush 6, 2) := dk_16 6 (dk_at dksX6_laysWatch_4 3 rfl rfl)
theorem dX6_laysWatch_99 : decode cX6_laysWatch 99 = .ok (.iload_n 1, 1) := dk_27 (dk_at dksX6_laysWatch_4 5 rfl rfl)
theorem dX6_laysWatch_100 : decode cX6_laysWatch 100 = .ok (.iastore, 1) := dk_79 (dk_at dksX6_laysWatch_4 6 rfl rfl)
theorem dX6_laysWatch_101 : decode cX6_laysWatch 101 = .ok (.return_, 1) := dk_177 (dk_at dksX6_laysWatch_4 7 rfl rfl)
abbrev cX6_enough : ByteArray := prog_20_method_114_code
def yX6_enough : MethodName := ⟨RX6, "enough", "()I"⟩
def dkwX6_enough_6 : List UInt8 := [132, 4, 1, 167, 255, 148, 2, 172]
abbrev dktX6_enough_6 : List UInt8 := dkwX6_enough_6 ++ []
def dkwX6_enough_5 : List UInt8 := [160, 0, 5, 2, 172, 29, 4, 21, 5, 120, 128, 62, 31, 42, 180, 0, 98, 21, 5, 47, 101, 64]
abbrev dktX6_enough_5 : List UInt8 := dkwX6_enough_5 ++ dktX6_enough_6
def dkwX6_enough_4 : List UInt8 := [180, 0, 98, 21, 5, 47, 148, 158, 0, 7, 21, 6, 54, 5, 132, 6, 1, 167, 255, 205, 21, 5, 2]
abbrev dktX6_enough_4 : List UInt8 := dkwX6_enough_4 ++ dktX6_enough_5
def dkwX6_enough_3 : List UInt8 := [21, 6, 122, 4, 126, 154, 0, 31, 21, 5, 2, 159, 0, 21, 42, 180, 0, 98, 21, 6, 47, 42]
abbrev dktX6_enough_3 : List UInt8 := dkwX6_enough_3 ++ dktX6_enough_4
def dkwX6_enough_2 : List UInt8 := [157, 0, 6, 21, 4, 172, 2, 54, 5, 3, 54, 6, 21, 6, 42, 180, 0, 52, 3, 46, 162, 0, 46, 29]
abbrev dktX6_enough_2 : List UInt8 := dkwX6_enough_2 ++ dktX6_enough_3
def dkwX6_enough_1 : List UInt8 := [182, 1, 129, 64, 3, 62, 3, 54, 4, 21, 4, 42, 180, 0, 52, 3, 46, 163, 0, 103, 31, 9, 148]
abbrev dktX6_enough_1 : List UInt8 := dkwX6_enough_1 ++ dktX6_enough_2
def dkwX6_enough_0 : List UInt8 := [42, 3, 181, 0, 114, 42, 180, 0, 64, 6, 46, 154, 0, 6, 16, 254, 172, 42, 182, 1, 216, 42]
abbrev dktX6_enough_0 : List UInt8 := dkwX6_enough_0 ++ dktX6_enough_1
theorem dksX6_enough_0 : cX6_enough.data.toList.drop 0 = dktX6_enough_0 := by decide +kernel
theorem dksX6_enough_1 : cX6_enough.data.toList.drop 22 = dktX6_enough_1 := dk_seg dksX6_enough_0 22 rfl rfl
theorem dksX6_enough_2 : cX6_enough.data.toList.drop 45 = dktX6_enough_2 := dk_seg dksX6_enough_1 23 rfl rfl
theorem dksX6_enough_3 : cX6_enough.data.toList.drop 69 = dktX6_enough_3 := dk_seg dksX6_enough_2 24 rfl rfl
theorem dksX6_enough_4 : cX6_enough.data.toList.drop 91 = dktX6_enough_4 := dk_seg dksX6_enough_3 22 rfl rfl
theorem dksX6_enough_5 : cX6_enough.data.toList.drop 114 = dktX6_enough_5 := dk_seg dksX6_enough_4 23 rfl rfl
theorem dksX6_enough_6 : cX6_enough.data.toList.drop 136 = dktX6_enough_6 := dk_seg dksX6_enough_5 22 rfl rfl
theorem dX6_enough_0 : decode cX6_enough 0 = .ok (.aload_n 0, 1) := dk_42 (dk_at dksX6_enough_0 0 rfl rfl)
theorem dX6_enough_1 : decode cX6_enough 1 = .ok (.iconst 0, 1) := dk_3 (dk_at dksX6_enough_0 1 rfl rfl)
theorem dX6_enough_2 : decode cX6_enough 2 = .ok (.putfield 114, 3) := dk_181 0 114 (dk_at dksX6_enough_0 2 rfl rfl)
theorem dX6_enough_5 : decode cX6_enough 5 = .ok (.aload_n 0, 1) := dk_42 (dk_at dksX6_enough_0 5 rfl rfl)
theorem dX6_enough_6 : decode cX6_enough 6 = .ok (.getfield 64, 3) := dk_180 0 64 (dk_at dksX6_enough_0 6 rfl rfl)
theorem dX6_enough_9 : decode cX6_enough 9 = .ok (.iconst 3, 1) := dk_6 (dk_at dksX6_enough_0 9 rfl rfl)
theorem dX6_enough_10 : decode cX6_enough 10 = .ok (.iaload, 1) := dk_46 (dk_at dksX6_enough_0 10 rfl rfl)
theorem dX6_enough_11 : decode cX6_enough 11 = .ok (.ifCond .ne 6, 3) := dk_154 0 6 (dk_at dksX6_enough_0 11 rfl rfl)
theorem dX6_enough_14 : decode cX6_enough 14 = .ok (.bipush (-2), 2) := dk_16 254 (dk_at dksX6_enough_0 14 rfl rfl)
theorem dX6_enough_16 : decode cX6_enough 16 = .ok (.ireturn, 1) := dk_172 (dk_at dksX6_enough_0 16 rfl rfl)
theorem dX6_enough_17 : decode cX6_enough 17 = .ok (.aload_n 0, 1) := dk_42 (dk_at dksX6_enough_0 17 rfl rfl)
theorem dX6_enough_18 : decode cX6_enough 18 = .ok (.invokevirtual 472, 3) := dk_182 1 216 (dk_at dksX6_enough_0 18 rfl rfl)
theorem dX6_enough_21 : decode cX6_enough 21 = .ok (.aload_n 0, 1) := dk_42 (dk_at dksX6_enough_0 21 rfl rfl)
theorem dX6_enough_22 : decode cX6_enough 22 = .ok (.invokevirtual 385, 3) := dk_182 1 129 (dk_at dksX6_enough_1 0 rfl rfl)
theorem dX6_enough_25 : decode cX6_enough 25 = .ok (.lstore_n 1, 1) := dk_64 (dk_at dksX6_enough_1 3 rfl rfl)
theorem dX6_enough_26 : decode cX6_enough 26 = .ok (.iconst 0, 1) := dk_3 (dk_at dksX6_enough_1 4 rfl rfl)
theorem dX6_enough_27 : decode cX6_enough 27 = .ok (.istore_n 3, 1) := dk_62 (dk_at dksX6_enough_1 5 rfl rfl)
theorem dX6_enough_28 : decode cX6_enough 28 = .ok (.iconst 0, 1) := dk_3 (dk_at dksX6_enough_1 6 rfl rfl)
theorem dX6_enough_29 : decode cX6_enough 29 = .ok (.istore 4, 2) := dk_54 4 (dk_at dksX6_enough_1 7 rfl rfl)
theorem dX6_enough_31 : decode cX6_enough 31 = .ok (.iload 4, 2) := dk_21 4 (dk_at dksX6_enough_1 9 rfl rfl)
theorem dX6_enough_33 : decode cX6_enough 33 = .ok (.aload_n 0, 1) := dk_42 (dk_at dksX6_enough_1 11 rfl rfl)
theorem dX6_enough_34 : decode cX6_enough 34 = .ok (.getfield 52, 3) := dk_180 0 52 (dk_at dksX6_enough_1 12 rfl rfl)
theorem dX6_enough_37 : decode cX6_enough 37 = .ok (.iconst 0, 1) := dk_3 (dk_at dksX6_enough_1 15 rfl rfl)
theorem dX6_enough_38 : decode cX6_enough 38 = .ok (.iaload, 1) := dk_46 (dk_at dksX6_enough_1 16 rfl rfl)
theorem dX6_enough_39 : decode cX6_enough 39 = .ok (.if_icmp .gt 103, 3) := dk_163 0 103 (dk_at dksX6_enough_1 17 rfl rfl)
theorem dX6_enough_42 : decode cX6_enough 42 = .ok (.lload_n 1, 1) := dk_31 (dk_at dksX6_enough_1 20 rfl rfl)
theorem dX6_enough_43 : decode cX6_enough 43 = .ok (.lconst 0, 1) := dk_9 (dk_at dksX6_enough_1 21 rfl rfl)
theorem dX6_enough_44 : decode cX6_enough 44 = .ok (.lcmp, 1) := dk_148 (dk_at dksX6_enough_1 22 rfl rfl)
theorem dX6_enough_45 : decode cX6_enough 45 = .ok (.ifCond .gt 6, 3) := dk_157 0 6 (dk_at dksX6_enough_2 0 rfl rfl)
theorem dX6_enough_48 : decode cX6_enough 48 = .ok (.iload 4, 2) := dk_21 4 (dk_at dksX6_enough_2 3 rfl rfl)
theorem dX6_enough_50 : decode cX6_enough 50 = .ok (.ireturn, 1) := dk_172 (dk_at dksX6_enough_2 5 rfl rfl)
theorem dX6_enough_51 : decode cX6_enough 51 = .ok (.iconst (-1), 1) := dk_2 (dk_at dksX6_enough_2 6 rfl rfl)
theorem dX6_enough_52 : decode cX6_enough 52 = .ok (.istore 5, 2) := dk_54 5 (dk_at dksX6_enough_2 7 rfl rfl)
theorem dX6_enough_54 : decode cX6_enough 54 = .ok (.iconst 0, 1) := dk_3 (dk_at dksX6_enough_2 9 rfl rfl)
theorem dX6_enough_55 : decode cX6_enough 55 = .ok (.istore 6, 2) := dk_54 6 (dk_at dksX6_enough_2 10 rfl rfl)
theorem dX6_enough_57 : decode cX6_enough 57 = .ok (.iload 6, 2) := dk_21 6 (dk_at dksX6_enough_2 12 rfl rfl)
theorem dX6_enough_59 : decode cX6_enough 59 = .ok (.aload_n 0, 1) := dk_42 (dk_at dksX6_enough_2 14 rfl rfl)
theorem dX6_enough_60 : decode cX6_enough 60 = .ok (.getfield 52, 3) := dk_180 0 52 (dk_at dksX6_enough_2 15 rfl rfl)
theorem dX6_enough_63 : decode cX6_enough 63 = .ok (.iconst 0, 1) := dk_3 (dk_at dksX6_enough_2 18 rfl rfl)
theorem dX6_enough_64 : decode cX6_enough 64 = .ok (.iaload, 1) := dk_46 (dk_at dksX6_enough_2 19 rfl rfl)
theorem dX6_enough_65 : decode cX6_enough 65 = .ok (.if_icmp .ge 46, 3) := dk_162 0 46 (dk_at dksX6_enough_2 20 rfl rfl)
theorem dX6_enough_68 : decode cX6_enough 68 = .ok (.iload_n 3, 1) := dk_29 (dk_at dksX6_enough_2 23 rfl rfl)
theorem dX6_enough_69 : decode cX6_enough 69 = .ok (.iload 6, 2) := dk_21 6 (dk_at dksX6_enough_3 0 rfl rfl)
theorem dX6_enough_71 : decode cX6_enough 71 = .ok (.ishr, 1) := dk_122 (dk_at dksX6_enough_3 2 rfl rfl)
theorem dX6_enough_72 : decode cX6_enough 72 = .ok (.iconst 1, 1) := dk_4 (dk_at dksX6_enough_3 3 rfl rfl)
theorem dX6_enough_73 : decode cX6_enough 73 = .ok (.iand, 1) := dk_126 (dk_at dksX6_enough_3 4 rfl rfl)
theorem dX6_enough_74 : decode cX6_enough 74 = .ok (.ifCond .ne 31, 3) := dk_154 0 31 (dk_at dksX6_enough_3 5 rfl rfl)
theorem dX6_enough_77 : decode cX6_enough 77 = .ok (.iload 5, 2) := dk_21 5 (dk_at dksX6_enough_3 8 rfl rfl)
theorem dX6_enough_79 : decode cX6_enough 79 = .ok (.iconst (-1), 1) := dk_2 (dk_at dksX6_enough_3 10 rfl rfl)
theorem dX6_enough_80 : decode cX6_enough 80 = .ok (.if_icmp .eq 21, 3) := dk_159 0 21 (dk_at dksX6_enough_3 11 rfl rfl)
theorem dX6_enough_83 : decode cX6_enough 83 = .ok (.aload_n 0, 1) := dk_42 (dk_at dksX6_enough_3 14 rfl rfl)
theorem dX6_enough_84 : decode cX6_enough 84 = .ok (.getfield 98, 3) := dk_180 0 98 (dk_at dksX6_enough_3 15 rfl rfl)
theorem dX6_enough_87 : decode cX6_enough 87 = .ok (.iload 6, 2) := dk_21 6 (dk_at dksX6_enough_3 18 rfl rfl)
theorem dX6_enough_89 : decode cX6_enough 89 = .ok (.laload, 1) := dk_47 (dk_at dksX6_enough_3 20 rfl rfl)
theorem dX6_enough_90 : decode cX6_enough 90 = .ok (.aload_n 0, 1) := dk_42 (dk_at dksX6_enough_3 21 rfl rfl)
theorem dX6_enough_91 : decode cX6_enough 91 = .ok (.getfield 98, 3) := dk_180 0 98 (dk_at dksX6_enough_4 0 rfl rfl)
theorem dX6_enough_94 : decode cX6_enough 94 = .ok (.iload 5, 2) := dk_21 5 (dk_at dksX6_enough_4 3 rfl rfl)
theorem dX6_enough_96 : decode cX6_enough 96 = .ok (.laload, 1) := dk_47 (dk_at dksX6_enough_4 5 rfl rfl)
theorem dX6_enough_97 : decode cX6_enough 97 = .ok (.lcmp, 1) := dk_148 (dk_at dksX6_enough_4 6 rfl rfl)
theorem dX6_enough_98 : decode cX6_enough 98 = .ok (.ifCond .le 7, 3) := dk_158 0 7 (dk_at dksX6_enough_4 7 rfl rfl)
theorem dX6_enough_101 : decode cX6_enough 101 = .ok (.iload 6, 2) := dk_21 6 (dk_at dksX6_enough_4 10 rfl rfl)
theorem dX6_enough_103 : decode cX6_enough 103 = .ok (.istore 5, 2) := dk_54 5 (dk_at dksX6_enough_4 12 rfl rfl)
theorem dX6_enough_105 : decode cX6_enough 105 = .ok (.iinc 6 1, 3) := dk_132 6 1 (dk_at dksX6_enough_4 14 rfl rfl)
theorem dX6_enough_108 : decode cX6_enough 108 = .ok (.goto (-51), 3) := dk_167 255 205 (dk_at dksX6_enough_4 17 rfl rfl)
theorem dX6_enough_111 : decode cX6_enough 111 = .ok (.iload 5, 2) := dk_21 5 (dk_at dksX6_enough_4 20 rfl rfl)
theorem dX6_enough_113 : decode cX6_enough 113 = .ok (.iconst (-1), 1) := dk_2 (dk_at dksX6_enough_4 22 rfl rfl)
theorem dX6_enough_114 : decode cX6_enough 114 = .ok (.if_icmp .ne 5, 3) := dk_160 0 5 (dk_at dksX6_enough_5 0 rfl rfl)
theorem dX6_enough_117 : decode cX6_enough 117 = .ok (.iconst (-1), 1) := dk_2 (dk_at dksX6_enough_5 3 rfl rfl)
theorem dX6_enough_118 : decode cX6_enough 118 = .ok (.ireturn, 1) := dk_172 (dk_at dksX6_enough_5 4 rfl rfl)
theorem dX6_enough_119 : decode cX6_enough 119 = .ok (.iload_n 3, 1) := dk_29 (dk_at dksX6_enough_5 5 rfl rfl)
theorem dX6_enough_120 : decode cX6_enough 120 = .ok (.iconst 1, 1) := dk_4 (dk_at dksX6_enough_5 6 rfl rfl)
theorem dX6_enough_121 : decode cX6_enough 121 = .ok (.iload 5, 2) := dk_21 5 (dk_at dksX6_enough_5 7 rfl rfl)
theorem dX6_enough_123 : decode cX6_enough 123 = .ok (.ishl, 1) := dk_120 (dk_at dksX6_enough_5 9 rfl rfl)
theorem dX6_enough_124 : decode cX6_enough 124 = .ok (.ior, 1) := dk_128 (dk_at dksX6_enough_5 10 rfl rfl)
theorem dX6_enough_125 : decode cX6_enough 125 = .ok (.istore_n 3, 1) := dk_62 (dk_at dksX6_enough_5 11 rfl rfl)
theorem dX6_enough_126 : decode cX6_enough 126 = .ok (.lload_n 1, 1) := dk_31 (dk_at dksX6_enough_5 12 rfl rfl)
theorem dX6_enough_127 : decode cX6_enough 127 = .ok (.aload_n 0, 1) := dk_42 (dk_at dksX6_enough_5 13 rfl rfl)
theorem dX6_enough_128 : decode cX6_enough 128 = .ok (.getfield 98, 3) := dk_180 0 98 (dk_at dksX6_enough_5 14 rfl rfl)
theorem dX6_enough_131 : decode cX6_enough 131 = .ok (.iload 5, 2) := dk_21 5 (dk_at dksX6_enough_5 17 rfl rfl)
theorem dX6_enough_133 : decode cX6_enough 133 = .ok (.laload, 1) := dk_47 (dk_at dksX6_enough_5 19 rfl rfl)
theorem dX6_enough_134 : decode cX6_enough 134 = .ok (.lsub, 1) := dk_101 (dk_at dksX6_enough_5 20 rfl rfl)
theorem dX6_enough_135 : decode cX6_enough 135 = .ok (.lstore_n 1, 1) := dk_64 (dk_at dksX6_enough_5 21 rfl rfl)
theorem dX6_enough_136 : decode cX6_enough 136 = .ok (.iinc 4 1, 3) := dk_132 4 1 (dk_at dksX6_enough_6 0 rfl rfl)
theorem dX6_enough_139 : decode cX6_enough 139 = .ok (.goto (-108), 3) := dk_167 255 148 (dk_at dksX6_enough_6 3 rfl rfl)
theorem dX6_enough_142 : decode cX6_enough 142 = .ok (.iconst (-1), 1) := dk_2 (dk_at dksX6_enough_6 6 rfl rfl)
theorem dX6_enough_143 : decode cX6_enough 143 = .ok (.ireturn, 1) := dk_172 (dk_at dksX6_enough_6 7 rfl rfl)
abbrev cX6_marks : ByteArray := prog_20_method_117_code
def yX6_marks : MethodName := ⟨RX6, "marks", "()I"⟩
def dkwX6_marks_2 : List UInt8 := [182, 1, 222, 153, 0, 7, 2, 167, 0, 4, 28, 60, 132, 2, 1, 167, 255, 216, 42, 182, 1, 185, 27, 172]
abbrev dktX6_marks_2 : List UInt8 := dkwX6_marks_2 ++ []
def dkwX6_marks_1 : List UInt8 := [42, 180, 0, 52, 3, 46, 163, 0, 36, 27, 2, 160, 0, 31, 42, 4, 28, 120, 4, 100, 182, 1, 219, 42]
abbrev dktX6_marks_1 : List UInt8 := dkwX6_marks_1 ++ dktX6_marks_2
def dkwX6_marks_0 : List UInt8 := [42, 3, 181, 0, 114, 42, 182, 1, 98, 154, 0, 6, 16, 254, 172, 42, 182, 1, 182, 2, 60, 3, 61, 28]
abbrev dktX6_marks_0 : List UInt8 := dkwX6_marks_0 ++ dktX6_marks_1
theorem dksX6_marks_0 : cX6_marks.data.toList.drop 0 = dktX6_marks_0 := by decide +kernel
theorem dksX6_marks_1 : cX6_marks.data.toList.drop 24 = dktX6_marks_1 := dk_seg dksX6_marks_0 24 rfl rfl
theorem dksX6_marks_2 : cX6_marks.data.toList.drop 48 = dktX6_marks_2 := dk_seg dksX6_marks_1 24 rfl rfl
theorem dX6_marks_0 : decode cX6_marks 0 = .ok (.aload_n 0, 1) := dk_42 (dk_at dksX6_marks_0 0 rfl rfl)
theorem dX6_marks_1 : decode cX6_marks 1 = .ok (.iconst 0, 1) := dk_3 (dk_at dksX6_marks_0 1 rfl rfl)
theorem dX6_marks_2 : decode cX6_marks 2 = .ok (.putfield 114, 3) := dk_181 0 114 (dk_at dksX6_marks_0 2 rfl rfl)
theorem dX6_marks_5 : decode cX6_marks 5 = .ok (.aload_n 0, 1) := dk_42 (dk_at dksX6_marks_0 5 rfl rfl)
theorem dX6_marks_6 : decode cX6_marks 6 = .ok (.invokevirtual 354, 3) := dk_182 1 98 (dk_at dksX6_marks_0 6 rfl rfl)
theorem dX6_marks_9 : decode cX6_marks 9 = .ok (.ifCond .ne 6, 3) := dk_154 0 6 (dk_at dksX6_marks_0 9 rfl rfl)
theorem dX6_marks_12 : decode cX6_marks 12 = .ok (.bipush (-2), 2) := dk_16 254 (dk_at dksX6_marks_0 12 rfl rfl)
theorem dX6_marks_14 : decode cX6_marks 14 = .ok (.ireturn, 1) := dk_172 (dk_at dksX6_marks_0 14 rfl rfl)
theorem dX6_marks_15 : decode cX6_marks 15 = .ok (.aload_n 0, 1) := dk_42 (dk_at dksX6_marks_0 15 rfl rfl)
theorem dX6_marks_16 : decode cX6_marks 16 = .ok (.invokevirtual 438, 3) := dk_182 1 182 (dk_at dksX6_marks_0 16 rfl rfl)
theorem dX6_marks_19 : decode cX6_marks 19 = .ok (.iconst (-1), 1) := dk_2 (dk_at dksX6_marks_0 19 rfl rfl)
theorem dX6_marks_20 : decode cX6_marks 20 = .ok (.istore_n 1, 1) := dk_60 (dk_at dksX6_marks_0 20 rfl rfl)
theorem dX6_marks_21 : decode cX6_marks 21 = .ok (.iconst 0, 1) := dk_3 (dk_at dksX6_marks_0 21 rfl rfl)
theorem dX6_marks_22 : decode cX6_marks 22 = .ok (.istore_n 2, 1) := dk_61 (dk_at dksX6_marks_0 22 rfl rfl)
theorem dX6_marks_23 : decode cX6_marks 23 = .ok (.iload_n 2, 1) := dk_28 (dk_at dksX6_marks_0 23 rfl rfl)
theorem dX6_marks_24 : decode cX6_marks 24 = .ok (.aload_n 0, 1) := dk_42 (dk_at dksX6_marks_1 0 rfl rfl)
theorem dX6_marks_25 : decode cX6_marks 25 = .ok (.getfield 52, 3) := dk_180 0 52 (dk_at dksX6_marks_1 1 rfl rfl)
theorem dX6_marks_28 : decode cX6_marks 28 = .ok (.iconst 0, 1) := dk_3 (dk_at dksX6_marks_1 4 rfl rfl)
theorem dX6_marks_29 : decode cX6_marks 29 = .ok (.iaload, 1) := dk_46 (dk_at dksX6_marks_1 5 rfl rfl)
theorem dX6_marks_30 : decode cX6_marks 30 = .ok (.if_icmp .gt 36, 3) := dk_163 0 36 (dk_at dksX6_marks_1 6 rfl rfl)
theorem dX6_marks_33 : decode cX6_marks 33 = .ok (.iload_n 1, 1) := dk_27 (dk_at dksX6_marks_1 9 rfl rfl)
theorem dX6_marks_34 : decode cX6_marks 34 = .ok (.iconst (-1), 1) := dk_2 (dk_at dksX6_marks_1 10 rfl rfl)
theorem dX6_marks_35 : decode cX6_marks 35 = .ok (.if_icmp .ne 31, 3) := dk_160 0 31 (dk_at dksX6_marks_1 11 rfl rfl)
theorem dX6_marks_38 : decode cX6_marks 38 = .ok (.aload_n 0, 1) := dk_42 (dk_at dksX6_marks_1 14 rfl rfl)
theorem dX6_marks_39 : decode cX6_marks 39 = .ok (.iconst 1, 1) := dk_4 (dk_at dksX6_marks_1 15 rfl rfl)
theorem dX6_marks_40 : decode cX6_marks 40 = .ok (.iload_n 2, 1) := dk_28 (dk_at dksX6_marks_1 16 rfl rfl)
theorem dX6_marks_41 : decode cX6_marks 41 = .ok (.ishl, 1) := dk_120 (dk_at dksX6_marks_1 17 rfl rfl)
theorem dX6_marks_42 : decode cX6_marks 42 = .ok (.iconst 1, 1) := dk_4 (dk_at dksX6_marks_1 18 rfl rfl)
theorem dX6_marks_43 : decode cX6_marks 43 = .ok (.isub, 1) := dk_100 (dk_at dksX6_marks_1 19 rfl rfl)
theorem dX6_marks_44 : decode cX6_marks 44 = .ok (.invokevirtual 475, 3) := dk_182 1 219 (dk_at dksX6_marks_1 20 rfl rfl)
theorem dX6_marks_47 : decode cX6_marks 47 = .ok (.aload_n 0, 1) := dk_42 (dk_at dksX6_marks_1 23 rfl rfl)
theorem dX6_marks_48 : decode cX6_marks 48 = .ok (.invokevirtual 478, 3) := dk_182 1 222 (dk_at dksX6_marks_2 0 rfl rfl)
theorem dX6_marks_51 : decode cX6_marks 51 = .ok (.ifCond .eq 7, 3) := dk_153 0 7 (dk_at dksX6_marks_2 3 rfl rfl)
theorem dX6_marks_54 : decode cX6_marks 54 = .ok (.iconst (-1), 1) := dk_2 (dk_at dksX6_marks_2 6 rfl rfl)
theorem dX6_marks_55 : decode cX6_marks 55 = .ok (.goto 4, 3) := dk_167 0 4 (dk_at dksX6_marks_2 7 rfl rfl)
theorem dX6_marks_58 : decode cX6_marks 58 = .ok (.iload_n 2, 1) := dk_28 (dk_at dksX6_marks_2 10 rfl rfl)
theorem dX6_marks_59 : decode cX6_marks 59 = .ok (.istore_n 1, 1) := dk_60 (dk_at dksX6_marks_2 11 rfl rfl)
theorem dX6_marks_60 : decode cX6_marks 60 = .ok (.iinc 2 1, 3) := dk_132 2 1 (dk_at dksX6_marks_2 12 rfl rfl)
theorem dX6_marks_63 : decode cX6_marks 63 = .ok (.goto (-40), 3) := dk_167 255 216 (dk_at dksX6_marks_2 15 rfl rfl)
theorem dX6_marks_66 : decode cX6_marks 66 = .ok (.aload_n 0, 1) := dk_42 (dk_at dksX6_marks_2 18 rfl rfl)
theorem dX6_marks_67 : decode cX6_marks 67 = .ok (.invokevirtual 441, 3) := dk_182 1 185 (dk_at dksX6_marks_2 19 rfl rfl)
theorem dX6_marks_70 : decode cX6_marks 70 = .ok (.iload_n 1, 1) := dk_27 (dk_at dksX6_marks_2 22 rfl rfl)
theorem dX6_marks_71 : decode cX6_marks 71 = .ok (.ireturn, 1) := dk_172 (dk_at dksX6_marks_2 23 rfl rfl)
abbrev cX6_marksSet : ByteArray := prog_20_method_115_code
def yX6_marksSet : MethodName := ⟨RX6, "marksSet", "(I)V"⟩
def dkwX6_marksSet_1 : List UInt8 := [28, 122, 4, 126, 79, 132, 2, 1, 167, 255, 226, 177]
abbrev dktX6_marksSet_1 : List UInt8 := dkwX6_marksSet_1 ++ []
def dkwX6_marksSet_0 : List UInt8 := [3, 61, 28, 42, 180, 0, 52, 3, 46, 162, 0, 26, 42, 180, 0, 55, 3, 28, 184, 1, 67, 7, 96, 27]
abbrev dktX6_marksSet_0 : List UInt8 := dkwX6_marksSet_0 ++ dktX6_marksSet_1
theorem dksX6_marksSet_0 : cX6_marksSet.data.toList.drop 0 = dktX6_marksSet_0 := by decide +kernel
theorem dksX6_marksSet_1 : cX6_marksSet.data.toList.drop 24 = dktX6_marksSet_1 := dk_seg dksX6_marksSet_0 24 rfl rfl
theorem dX6_marksSet_0 : decode cX6_marksSet 0 = .ok (.iconst 0, 1) := dk_3 (dk_at dksX6_marksSet_0 0 rfl rfl)
theorem dX6_marksSet_1 : decode cX6_marksSet 1 = .ok (.istore_n 2, 1) := dk_61 (dk_at dksX6_marksSet_0 1 rfl rfl)
theorem dX6_marksSet_2 : decode cX6_marksSet 2 = .ok (.iload_n 2, 1) := dk_28 (dk_at dksX6_marksSet_0 2 rfl rfl)
theorem dX6_marksSet_3 : decode cX6_marksSet 3 = .ok (.aload_n 0, 1) := dk_42 (dk_at dksX6_marksSet_0 3 rfl rfl)
theorem dX6_marksSet_4 : decode cX6_marksSet 4 = .ok (.getfield 52, 3) := dk_180 0 52 (dk_at dksX6_marksSet_0 4 rfl rfl)
theorem dX6_marksSet_7 : decode cX6_marksSet 7 = .ok (.iconst 0, 1) := dk_3 (dk_at dksX6_marksSet_0 7 rfl rfl)
theorem dX6_marksSet_8 : decode cX6_marksSet 8 = .ok (.iaload, 1) := dk_46 (dk_at dksX6_marksSet_0 8 rfl rfl)
theorem dX6_marksSet_9 : decode cX6_marksSet 9 = .ok (.if_icmp .ge 26, 3) := dk_162 0 26 (dk_at dksX6_marksSet_0 9 rfl rfl)
theorem dX6_marksSet_12 : decode cX6_marksSet 12 = .ok (.aload_n 0, 1) := dk_42 (dk_at dksX6_marksSet_0 12 rfl rfl)
theorem dX6_marksSet_13 : decode cX6_marksSet 13 = .ok (.getfield 55, 3) := dk_180 0 55 (dk_at dksX6_marksSet_0 13 rfl rfl)
theorem dX6_marksSet_16 : decode cX6_marksSet 16 = .ok (.iconst 0, 1) := dk_3 (dk_at dksX6_marksSet_0 16 rfl rfl)
theorem dX6_marksSet_17 : decode cX6_marksSet 17 = .ok (.iload_n 2, 1) := dk_28 (dk_at dksX6_marksSet_0 17 rfl rfl)
theorem dX6_marksSet_18 : decode cX6_marksSet 18 = .ok (.invokestatic 323, 3) := dk_184 1 67 (dk_at dksX6_marksSet_0 18 rfl rfl)
theorem dX6_marksSet_21 : decode cX6_marksSet 21 = .ok (.iconst 4, 1) := dk_7 (dk_at dksX6_marksSet_0 21 rfl rfl)
theorem dX6_marksSet_22 : decode cX6_marksSet 22 = .ok (.iadd, 1) := dk_96 (dk_at dksX6_marksSet_0 22 rfl rfl)
theorem dX6_marksSet_23 : decode cX6_marksSet 23 = .ok (.iload_n 1, 1) := dk_27 (dk_at dksX6_marksSet_0 23 rfl rfl)
theorem dX6_marksSet_24 : decode cX6_marksSet 24 = .ok (.iload_n 2, 1) := dk_28 (dk_at dksX6_marksSet_1 0 rfl rfl)
theorem dX6_marksSet_25 : decode cX6_marksSet 25 = .ok (.ishr, 1) := dk_122 (dk_at dksX6_marksSet_1 1 rfl rfl)
theorem dX6_marksSet_26 : decode cX6_marksSet 26 = .ok (.iconst 1, 1) := dk_4 (dk_at dksX6_marksSet_1 2 rfl rfl)
theorem dX6_marksSet_27 : decode cX6_marksSet 27 = .ok (.iand, 1) := dk_126 (dk_at dksX6_marksSet_1 3 rfl rfl)
theorem dX6_marksSet_28 : decode cX6_marksSet 28 = .ok (.iastore, 1) := dk_79 (dk_at dksX6_marksSet_1 4 rfl rfl)
theorem dX6_marksSet_29 : decode cX6_marksSet 29 = .ok (.iinc 2 1, 3) := dk_132 2 1 (dk_at dksX6_marksSet_1 5 rfl rfl)
theorem dX6_marksSet_32 : decode cX6_marksSet 32 = .ok (.goto (-30), 3) := dk_167 255 226 (dk_at dksX6_marksSet_1 8 rfl rfl)
theorem dX6_marksSet_35 : decode cX6_marksSet 35 = .ok (.return_, 1) := dk_177 (dk_at dksX6_marksSet_1 11 rfl rfl)
abbrev cX6_isWanted : ByteArray := prog_20_method_116_code
def yX6_isWanted : MethodName := ⟨RX6, "isWanted", "()Z"⟩
def dkwX6_isWanted_1 : List UInt8 := [158, 0, 5, 4, 172, 132, 1, 1, 167, 255, 233, 3, 172]
abbrev dktX6_isWanted_1 : List UInt8 := dkwX6_isWanted_1 ++ []
def dkwX6_isWanted_0 : List UInt8 := [42, 2, 182, 1, 87, 3, 60, 27, 42, 180, 0, 58, 3, 46, 162, 0, 19, 42, 27, 182, 1, 93]
abbrev dktX6_isWanted_0 : List UInt8 := dkwX6_isWanted_0 ++ dktX6_isWanted_1
theorem dksX6_isWanted_0 : cX6_isWanted.data.toList.drop 0 = dktX6_isWanted_0 := by decide +kernel
theorem dksX6_isWanted_1 : cX6_isWanted.data.toList.drop 22 = dktX6_isWanted_1 := dk_seg dksX6_isWanted_0 22 rfl rfl
theorem dX6_isWanted_0 : decode cX6_isWanted 0 = .ok (.aload_n 0, 1) := dk_42 (dk_at dksX6_isWanted_0 0 rfl rfl)
theorem dX6_isWanted_1 : decode cX6_isWanted 1 = .ok (.iconst (-1), 1) := dk_2 (dk_at dksX6_isWanted_0 1 rfl rfl)
theorem dX6_isWanted_2 : decode cX6_isWanted 2 = .ok (.invokevirtual 343, 3) := dk_182 1 87 (dk_at dksX6_isWanted_0 2 rfl rfl)
theorem dX6_isWanted_5 : decode cX6_isWanted 5 = .ok (.iconst 0, 1) := dk_3 (dk_at dksX6_isWanted_0 5 rfl rfl)
theorem dX6_isWanted_6 : decode cX6_isWanted 6 = .ok (.istore_n 1, 1) := dk_60 (dk_at dksX6_isWanted_0 6 rfl rfl)
theorem dX6_isWanted_7 : decode cX6_isWanted 7 = .ok (.iload_n 1, 1) := dk_27 (dk_at dksX6_isWanted_0 7 rfl rfl)
theorem dX6_isWanted_8 : decode cX6_isWanted 8 = .ok (.aload_n 0, 1) := dk_42 (dk_at dksX6_isWanted_0 8 rfl rfl)
theorem dX6_isWanted_9 : decode cX6_isWanted 9 = .ok (.getfield 58, 3) := dk_180 0 58 (dk_at dksX6_isWanted_0 9 rfl rfl)
theorem dX6_isWanted_12 : decode cX6_isWanted 12 = .ok (.iconst 0, 1) := dk_3 (dk_at dksX6_isWanted_0 12 rfl rfl)
theorem dX6_isWanted_13 : decode cX6_isWanted 13 = .ok (.iaload, 1) := dk_46 (dk_at dksX6_isWanted_0 13 rfl rfl)
theorem dX6_isWanted_14 : decode cX6_isWanted 14 = .ok (.if_icmp .ge 19, 3) := dk_162 0 19 (dk_at dksX6_isWanted_0 14 rfl rfl)
theorem dX6_isWanted_17 : decode cX6_isWanted 17 = .ok (.aload_n 0, 1) := dk_42 (dk_at dksX6_isWanted_0 17 rfl rfl)
theorem dX6_isWanted_18 : decode cX6_isWanted 18 = .ok (.iload_n 1, 1) := dk_27 (dk_at dksX6_isWanted_0 18 rfl rfl)
theorem dX6_isWanted_19 : decode cX6_isWanted 19 = .ok (.invokevirtual 349, 3) := dk_182 1 93 (dk_at dksX6_isWanted_0 19 rfl rfl)
theorem dX6_isWanted_22 : decode cX6_isWanted 22 = .ok (.ifCond .le 5, 3) := dk_158 0 5 (dk_at dksX6_isWanted_1 0 rfl rfl)
theorem dX6_isWanted_25 : decode cX6_isWanted 25 = .ok (.iconst 1, 1) := dk_4 (dk_at dksX6_isWanted_1 3 rfl rfl)
theorem dX6_isWanted_26 : decode cX6_isWanted 26 = .ok (.ireturn, 1) := dk_172 (dk_at dksX6_isWanted_1 4 rfl rfl)
theorem dX6_isWanted_27 : decode cX6_isWanted 27 = .ok (.iinc 1 1, 3) := dk_132 1 1 (dk_at dksX6_isWanted_1 5 rfl rfl)
theorem dX6_isWanted_30 : decode cX6_isWanted 30 = .ok (.goto (-23), 3) := dk_167 255 233 (dk_at dksX6_isWanted_1 8 rfl rfl)
theorem dX6_isWanted_33 : decode cX6_isWanted 33 = .ok (.iconst 0, 1) := dk_3 (dk_at dksX6_isWanted_1 11 rfl rfl)
theorem dX6_isWanted_34 : decode cX6_isWanted 34 = .ok (.ireturn, 1) := dk_172 (dk_at dksX6_isWanted_1 12 rfl rfl)
abbrev cX6_hides : ByteArray := prog_20_method_118_code
def yX6_hides : MethodName := ⟨RX6, "hides", "(I)J"⟩
def dkwX6_hides_3 : List UInt8 := [182, 1, 185, 32, 173]
abbrev dktX6_hides_3 : List UInt8 := dkwX6_hides_3 ++ []
def dkwX6_hides_2 : List UInt8 := [4, 27, 120, 2, 130, 126, 182, 1, 219, 42, 182, 1, 106, 32, 42, 27, 182, 1, 126, 101, 65, 42]
abbrev dktX6_hides_2 : List UInt8 := dkwX6_hides_2 ++ dktX6_hides_3
def dkwX6_hides_1 : List UInt8 := [182, 1, 219, 42, 182, 1, 106, 42, 27, 182, 1, 126, 65, 42, 4, 42, 180, 0, 52, 3, 46, 120, 4, 100]
abbrev dktX6_hides_1 : List UInt8 := dkwX6_hides_1 ++ dktX6_hides_2
def dkwX6_hides_0 : List UInt8 := [42, 3, 181, 0, 114, 42, 27, 182, 1, 62, 154, 0, 7, 20, 1, 200, 173, 42, 182, 1, 182, 42, 3]
abbrev dktX6_hides_0 : List UInt8 := dkwX6_hides_0 ++ dktX6_hides_1
theorem dksX6_hides_0 : cX6_hides.data.toList.drop 0 = dktX6_hides_0 := by decide +kernel
theorem dksX6_hides_1 : cX6_hides.data.toList.drop 23 = dktX6_hides_1 := dk_seg dksX6_hides_0 23 rfl rfl
theorem dksX6_hides_2 : cX6_hides.data.toList.drop 47 = dktX6_hides_2 := dk_seg dksX6_hides_1 24 rfl rfl
theorem dksX6_hides_3 : cX6_hides.data.toList.drop 69 = dktX6_hides_3 := dk_seg dksX6_hides_2 22 rfl rfl
theorem dX6_hides_0 : decode cX6_hides 0 = .ok (.aload_n 0, 1) := dk_42 (dk_at dksX6_hides_0 0 rfl rfl)
theorem dX6_hides_1 : decode cX6_hides 1 = .ok (.iconst 0, 1) := dk_3 (dk_at dksX6_hides_0 1 rfl rfl)
theorem dX6_hides_2 : decode cX6_hides 2 = .ok (.putfield 114, 3) := dk_181 0 114 (dk_at dksX6_hides_0 2 rfl rfl)
theorem dX6_hides_5 : decode cX6_hides 5 = .ok (.aload_n 0, 1) := dk_42 (dk_at dksX6_hides_0 5 rfl rfl)
theorem dX6_hides_6 : decode cX6_hides 6 = .ok (.iload_n 1, 1) := dk_27 (dk_at dksX6_hides_0 6 rfl rfl)
theorem dX6_hides_7 : decode cX6_hides 7 = .ok (.invokevirtual 318, 3) := dk_182 1 62 (dk_at dksX6_hides_0 7 rfl rfl)
theorem dX6_hides_10 : decode cX6_hides 10 = .ok (.ifCond .ne 7, 3) := dk_154 0 7 (dk_at dksX6_hides_0 10 rfl rfl)
theorem dX6_hides_13 : decode cX6_hides 13 = .ok (.ldc2_w 456, 3) := dk_20 1 200 (dk_at dksX6_hides_0 13 rfl rfl)
theorem dX6_hides_16 : decode cX6_hides 16 = .ok (.lreturn, 1) := dk_173 (dk_at dksX6_hides_0 16 rfl rfl)
theorem dX6_hides_17 : decode cX6_hides 17 = .ok (.aload_n 0, 1) := dk_42 (dk_at dksX6_hides_0 17 rfl rfl)
theorem dX6_hides_18 : decode cX6_hides 18 = .ok (.invokevirtual 438, 3) := dk_182 1 182 (dk_at dksX6_hides_0 18 rfl rfl)
theorem dX6_hides_21 : decode cX6_hides 21 = .ok (.aload_n 0, 1) := dk_42 (dk_at dksX6_hides_0 21 rfl rfl)
theorem dX6_hides_22 : decode cX6_hides 22 = .ok (.iconst 0, 1) := dk_3 (dk_at dksX6_hides_0 22 rfl rfl)
theorem dX6_hides_23 : decode cX6_hides 23 = .ok (.invokevirtual 475, 3) := dk_182 1 219 (dk_at dksX6_hides_1 0 rfl rfl)
theorem dX6_hides_26 : decode cX6_hides 26 = .ok (.aload_n 0, 1) := dk_42 (dk_at dksX6_hides_1 3 rfl rfl)
theorem dX6_hides_27 : decode cX6_hides 27 = .ok (.invokevirtual 362, 3) := dk_182 1 106 (dk_at dksX6_hides_1 4 rfl rfl)
theorem dX6_hides_30 : decode cX6_hides 30 = .ok (.aload_n 0, 1) := dk_42 (dk_at dksX6_hides_1 7 rfl rfl)
theorem dX6_hides_31 : decode cX6_hides 31 = .ok (.iload_n 1, 1) := dk_27 (dk_at dksX6_hides_1 8 rfl rfl)
theorem dX6_hides_32 : decode cX6_hides 32 = .ok (.invokevirtual 382, 3) := dk_182 1 126 (dk_at dksX6_hides_1 9 rfl rfl)
theorem dX6_hides_35 : decode cX6_hides 35 = .ok (.lstore_n 2, 1) := dk_65 (dk_at dksX6_hides_1 12 rfl rfl)
theorem dX6_hides_36 : decode cX6_hides 36 = .ok (.aload_n 0, 1) := dk_42 (dk_at dksX6_hides_1 13 rfl rfl)
theorem dX6_hides_37 : decode cX6_hides 37 = .ok (.iconst 1, 1) := dk_4 (dk_at dksX6_hides_1 14 rfl rfl)
theorem dX6_hides_38 : decode cX6_hides 38 = .ok (.aload_n 0, 1) := dk_42 (dk_at dksX6_hides_1 15 rfl rfl)
theorem dX6_hides_39 : decode cX6_hides 39 = .ok (.getfield 52, 3) := dk_180 0 52 (dk_at dksX6_hides_1 16 rfl rfl)
theorem dX6_hides_42 : decode cX6_hides 42 = .ok (.iconst 0, 1) := dk_3 (dk_at dksX6_hides_1 19 rfl rfl)
theorem dX6_hides_43 : decode cX6_hides 43 = .ok (.iaload, 1) := dk_46 (dk_at dksX6_hides_1 20 rfl rfl)
theorem dX6_hides_44 : decode cX6_hides 44 = .ok (.ishl, 1) := dk_120 (dk_at dksX6_hides_1 21 rfl rfl)
theorem dX6_hides_45 : decode cX6_hides 45 = .ok (.iconst 1, 1) := dk_4 (dk_at dksX6_hides_1 22 rfl rfl)
theorem dX6_hides_46 : decode cX6_hides 46 = .ok (.isub, 1) := dk_100 (dk_at dksX6_hides_1 23 rfl rfl)
theorem dX6_hides_47 : decode cX6_hides 47 = .ok (.iconst 1, 1) := dk_4 (dk_at dksX6_hides_2 0 rfl rfl)
theorem dX6_hides_48 : decode cX6_hides 48 = .ok (.iload_n 1, 1) := dk_27 (dk_at dksX6_hides_2 1 rfl rfl)
theorem dX6_hides_49 : decode cX6_hides 49 = .ok (.ishl, 1) := dk_120 (dk_at dksX6_hides_2 2 rfl rfl)
theorem dX6_hides_50 : decode cX6_hides 50 = .ok (.iconst (-1), 1) := dk_2 (dk_at dksX6_hides_2 3 rfl rfl)
theorem dX6_hides_51 : decode cX6_hides 51 = .ok (.ixor, 1) := dk_130 (dk_at dksX6_hides_2 4 rfl rfl)
theorem dX6_hides_52 : decode cX6_hides 52 = .ok (.iand, 1) := dk_126 (dk_at dksX6_hides_2 5 rfl rfl)
theorem dX6_hides_53 : decode cX6_hides 53 = .ok (.invokevirtual 475, 3) := dk_182 1 219 (dk_at dksX6_hides_2 6 rfl rfl)
theorem dX6_hides_56 : decode cX6_hides 56 = .ok (.aload_n 0, 1) := dk_42 (dk_at dksX6_hides_2 9 rfl rfl)
theorem dX6_hides_57 : decode cX6_hides 57 = .ok (.invokevirtual 362, 3) := dk_182 1 106 (dk_at dksX6_hides_2 10 rfl rfl)
theorem dX6_hides_60 : decode cX6_hides 60 = .ok (.lload_n 2, 1) := dk_32 (dk_at dksX6_hides_2 13 rfl rfl)
theorem dX6_hides_61 : decode cX6_hides 61 = .ok (.aload_n 0, 1) := dk_42 (dk_at dksX6_hides_2 14 rfl rfl)
theorem dX6_hides_62 : decode cX6_hides 62 = .ok (.iload_n 1, 1) := dk_27 (dk_at dksX6_hides_2 15 rfl rfl)
theorem dX6_hides_63 : decode cX6_hides 63 = .ok (.invokevirtual 382, 3) := dk_182 1 126 (dk_at dksX6_hides_2 16 rfl rfl)
theorem dX6_hides_66 : decode cX6_hides 66 = .ok (.lsub, 1) := dk_101 (dk_at dksX6_hides_2 19 rfl rfl)
theorem dX6_hides_67 : decode cX6_hides 67 = .ok (.lstore_n 2, 1) := dk_65 (dk_at dksX6_hides_2 20 rfl rfl)
theorem dX6_hides_68 : decode cX6_hides 68 = .ok (.aload_n 0, 1) := dk_42 (dk_at dksX6_hides_2 21 rfl rfl)
theorem dX6_hides_69 : decode cX6_hides 69 = .ok (.invokevirtual 441, 3) := dk_182 1 185 (dk_at dksX6_hides_3 0 rfl rfl)
theorem dX6_hides_72 : decode cX6_hides 72 = .ok (.lload_n 2, 1) := dk_32 (dk_at dksX6_hides_3 3 rfl rfl)
theorem dX6_hides_73 : decode cX6_hides 73 = .ok (.lreturn, 1) := dk_173 (dk_at dksX6_hides_3 4 rfl rfl)
abbrev cX6_bait : ByteArray := prog_20_method_123_code
def yX6_bait : MethodName := ⟨RX6, "bait", "(III)J"⟩
def dkwX6_bait_1 : List UInt8 := [27, 28, 29, 182, 1, 239, 42, 180, 1, 228, 20, 1, 121, 109, 173]
abbrev dktX6_bait_1 : List UInt8 := dkwX6_bait_1 ++ []
def dkwX6_bait_0 : List UInt8 := [42, 3, 181, 0, 114, 42, 27, 28, 29, 182, 1, 236, 54, 4, 21, 4, 153, 0, 7, 21, 4, 133, 173, 42]
abbrev dktX6_bait_0 : List UInt8 := dkwX6_bait_0 ++ dktX6_bait_1
theorem dksX6_bait_0 : cX6_bait.data.toList.drop 0 = dktX6_bait_0 := by decide +kernel
theorem dksX6_bait_1 : cX6_bait.data.toList.drop 24 = dktX6_bait_1 := dk_seg dksX6_bait_0 24 rfl rfl
theorem dX6_bait_0 : decode cX6_bait 0 = .ok (.aload_n 0, 1) := dk_42 (dk_at dksX6_bait_0 0 rfl rfl)
theorem dX6_bait_1 : decode cX6_bait 1 = .ok (.iconst 0, 1) := dk_3 (dk_at dksX6_bait_0 1 rfl rfl)
theorem dX6_bait_2 : decode cX6_bait 2 = .ok (.putfield 114, 3) := dk_181 0 114 (dk_at dksX6_bait_0 2 rfl rfl)
theorem dX6_bait_5 : decode cX6_bait 5 = .ok (.aload_n 0, 1) := dk_42 (dk_at dksX6_bait_0 5 rfl rfl)
theorem dX6_bait_6 : decode cX6_bait 6 = .ok (.iload_n 1, 1) := dk_27 (dk_at dksX6_bait_0 6 rfl rfl)
theorem dX6_bait_7 : decode cX6_bait 7 = .ok (.iload_n 2, 1) := dk_28 (dk_at dksX6_bait_0 7 rfl rfl)
theorem dX6_bait_8 : decode cX6_bait 8 = .ok (.iload_n 3, 1) := dk_29 (dk_at dksX6_bait_0 8 rfl rfl)
theorem dX6_bait_9 : decode cX6_bait 9 = .ok (.invokevirtual 492, 3) := dk_182 1 236 (dk_at dksX6_bait_0 9 rfl rfl)
theorem dX6_bait_12 : decode cX6_bait 12 = .ok (.istore 4, 2) := dk_54 4 (dk_at dksX6_bait_0 12 rfl rfl)
theorem dX6_bait_14 : decode cX6_bait 14 = .ok (.iload 4, 2) := dk_21 4 (dk_at dksX6_bait_0 14 rfl rfl)
theorem dX6_bait_16 : decode cX6_bait 16 = .ok (.ifCond .eq 7, 3) := dk_153 0 7 (dk_at dksX6_bait_0 16 rfl rfl)
theorem dX6_bait_19 : decode cX6_bait 19 = .ok (.iload 4, 2) := dk_21 4 (dk_at dksX6_bait_0 19 rfl rfl)
theorem dX6_bait_21 : decode cX6_bait 21 = .ok (.i2l, 1) := dk_133 (dk_at dksX6_bait_0 21 rfl rfl)
theorem dX6_bait_22 : decode cX6_bait 22 = .ok (.lreturn, 1) := dk_173 (dk_at dksX6_bait_0 22 rfl rfl)
theorem dX6_bait_23 : decode cX6_bait 23 = .ok (.aload_n 0, 1) := dk_42 (dk_at dksX6_bait_0 23 rfl rfl)
theorem dX6_bait_24 : decode cX6_bait 24 = .ok (.iload_n 1, 1) := dk_27 (dk_at dksX6_bait_1 0 rfl rfl)
theorem dX6_bait_25 : decode cX6_bait 25 = .ok (.iload_n 2, 1) := dk_28 (dk_at dksX6_bait_1 1 rfl rfl)
theorem dX6_bait_26 : decode cX6_bait 26 = .ok (.iload_n 3, 1) := dk_29 (dk_at dksX6_bait_1 2 rfl rfl)
theorem dX6_bait_27 : decode cX6_bait 27 = .ok (.invokevirtual 495, 3) := dk_182 1 239 (dk_at dksX6_bait_1 3 rfl rfl)
theorem dX6_bait_30 : decode cX6_bait 30 = .ok (.aload_n 0, 1) := dk_42 (dk_at dksX6_bait_1 6 rfl rfl)
theorem dX6_bait_31 : decode cX6_bait 31 = .ok (.getfield 484, 3) := dk_180 1 228 (dk_at dksX6_bait_1 7 rfl rfl)
theorem dX6_bait_34 : decode cX6_bait 34 = .ok (.ldc2_w 377, 3) := dk_20 1 121 (dk_at dksX6_bait_1 10 rfl rfl)
theorem dX6_bait_37 : decode cX6_bait 37 = .ok (.ldiv, 1) := dk_109 (dk_at dksX6_bait_1 13 rfl rfl)
theorem dX6_bait_38 : decode cX6_bait 38 = .ok (.lreturn, 1) := dk_173 (dk_at dksX6_bait_1 14 rfl rfl)
abbrev cX6_whyNot : ByteArray := prog_20_method_122_code
def yX6_whyNot : MethodName := ⟨RX6, "whyNot", "(III)I"⟩
def dkwX6_whyNot_2 : List UInt8 := [167, 0, 4, 3, 172]
abbrev dktX6_whyNot_2 : List UInt8 := dkwX6_whyNot_2 ++ []
def dkwX6_whyNot_1 : List UInt8 := [20, 1, 69, 184, 0, 119, 154, 0, 6, 16, 254, 172, 42, 27, 182, 1, 205, 2, 159, 0, 8, 16, 251]
abbrev dktX6_whyNot_1 : List UInt8 := dkwX6_whyNot_1 ++ dktX6_whyNot_2
def dkwX6_whyNot_0 : List UInt8 := [42, 27, 182, 1, 56, 153, 0, 27, 28, 133, 9, 20, 1, 234, 184, 0, 119, 153, 0, 15, 29, 133, 9]
abbrev dktX6_whyNot_0 : List UInt8 := dkwX6_whyNot_0 ++ dktX6_whyNot_1
theorem dksX6_whyNot_0 : cX6_whyNot.data.toList.drop 0 = dktX6_whyNot_0 := by decide +kernel
theorem dksX6_whyNot_1 : cX6_whyNot.data.toList.drop 23 = dktX6_whyNot_1 := dk_seg dksX6_whyNot_0 23 rfl rfl
theorem dksX6_whyNot_2 : cX6_whyNot.data.toList.drop 46 = dktX6_whyNot_2 := dk_seg dksX6_whyNot_1 23 rfl rfl
theorem dX6_whyNot_0 : decode cX6_whyNot 0 = .ok (.aload_n 0, 1) := dk_42 (dk_at dksX6_whyNot_0 0 rfl rfl)
theorem dX6_whyNot_1 : decode cX6_whyNot 1 = .ok (.iload_n 1, 1) := dk_27 (dk_at dksX6_whyNot_0 1 rfl rfl)
theorem dX6_whyNot_2 : decode cX6_whyNot 2 = .ok (.invokevirtual 312, 3) := dk_182 1 56 (dk_at dksX6_whyNot_0 2 rfl rfl)
theorem dX6_whyNot_5 : decode cX6_whyNot 5 = .ok (.ifCond .eq 27, 3) := dk_153 0 27 (dk_at dksX6_whyNot_0 5 rfl rfl)
theorem dX6_whyNot_8 : decode cX6_whyNot 8 = .ok (.iload_n 2, 1) := dk_28 (dk_at dksX6_whyNot_0 8 rfl rfl)
theorem dX6_whyNot_9 : decode cX6_whyNot 9 = .ok (.i2l, 1) := dk_133 (dk_at dksX6_whyNot_0 9 rfl rfl)
theorem dX6_whyNot_10 : decode cX6_whyNot 10 = .ok (.lconst 0, 1) := dk_9 (dk_at dksX6_whyNot_0 10 rfl rfl)
theorem dX6_whyNot_11 : decode cX6_whyNot 11 = .ok (.ldc2_w 490, 3) := dk_20 1 234 (dk_at dksX6_whyNot_0 11 rfl rfl)
theorem dX6_whyNot_14 : decode cX6_whyNot 14 = .ok (.invokestatic 119, 3) := dk_184 0 119 (dk_at dksX6_whyNot_0 14 rfl rfl)
theorem dX6_whyNot_17 : decode cX6_whyNot 17 = .ok (.ifCond .eq 15, 3) := dk_153 0 15 (dk_at dksX6_whyNot_0 17 rfl rfl)
theorem dX6_whyNot_20 : decode cX6_whyNot 20 = .ok (.iload_n 3, 1) := dk_29 (dk_at dksX6_whyNot_0 20 rfl rfl)
theorem dX6_whyNot_21 : decode cX6_whyNot 21 = .ok (.i2l, 1) := dk_133 (dk_at dksX6_whyNot_0 21 rfl rfl)
theorem dX6_whyNot_22 : decode cX6_whyNot 22 = .ok (.lconst 0, 1) := dk_9 (dk_at dksX6_whyNot_0 22 rfl rfl)
theorem dX6_whyNot_23 : decode cX6_whyNot 23 = .ok (.ldc2_w 325, 3) := dk_20 1 69 (dk_at dksX6_whyNot_1 0 rfl rfl)
theorem dX6_whyNot_26 : decode cX6_whyNot 26 = .ok (.invokestatic 119, 3) := dk_184 0 119 (dk_at dksX6_whyNot_1 3 rfl rfl)
theorem dX6_whyNot_29 : decode cX6_whyNot 29 = .ok (.ifCond .ne 6, 3) := dk_154 0 6 (dk_at dksX6_whyNot_1 6 rfl rfl)
theorem dX6_whyNot_32 : decode cX6_whyNot 32 = .ok (.bipush (-2), 2) := dk_16 254 (dk_at dksX6_whyNot_1 9 rfl rfl)
theorem dX6_whyNot_34 : decode cX6_whyNot 34 = .ok (.ireturn, 1) := dk_172 (dk_at dksX6_whyNot_1 11 rfl rfl)
theorem dX6_whyNot_35 : decode cX6_whyNot 35 = .ok (.aload_n 0, 1) := dk_42 (dk_at dksX6_whyNot_1 12 rfl rfl)
theorem dX6_whyNot_36 : decode cX6_whyNot 36 = .ok (.iload_n 1, 1) := dk_27 (dk_at dksX6_whyNot_1 13 rfl rfl)
theorem dX6_whyNot_37 : decode cX6_whyNot 37 = .ok (.invokevirtual 461, 3) := dk_182 1 205 (dk_at dksX6_whyNot_1 14 rfl rfl)
theorem dX6_whyNot_40 : decode cX6_whyNot 40 = .ok (.iconst (-1), 1) := dk_2 (dk_at dksX6_whyNot_1 17 rfl rfl)
theorem dX6_whyNot_41 : decode cX6_whyNot 41 = .ok (.if_icmp .eq 8, 3) := dk_159 0 8 (dk_at dksX6_whyNot_1 18 rfl rfl)
theorem dX6_whyNot_44 : decode cX6_whyNot 44 = .ok (.bipush (-5), 2) := dk_16 251 (dk_at dksX6_whyNot_1 21 rfl rfl)
theorem dX6_whyNot_46 : decode cX6_whyNot 46 = .ok (.goto 4, 3) := dk_167 0 4 (dk_at dksX6_whyNot_2 0 rfl rfl)
theorem dX6_whyNot_49 : decode cX6_whyNot 49 = .ok (.iconst 0, 1) := dk_3 (dk_at dksX6_whyNot_2 3 rfl rfl)
theorem dX6_whyNot_50 : decode cX6_whyNot 50 = .ok (.ireturn, 1) := dk_172 (dk_at dksX6_whyNot_2 4 rfl rfl)
abbrev cX6_baits : ByteArray := prog_20_method_121_code
def yX6_baits : MethodName := ⟨RX6, "baits", "(III)V"⟩
def dkwX6_baits_14 : List UInt8 := [167, 254, 254, 177]
abbrev dktX6_baits_14 : List UInt8 := dkwX6_baits_14 ++ []
def dkwX6_baits_13 : List UInt8 := [47, 21, 8, 133, 105, 97, 181, 1, 228, 132, 9, 1, 167, 255, 199, 132, 7, 1, 167, 255, 129, 132, 6, 1]
abbrev dktX6_baits_13 : List UInt8 := dkwX6_baits_13 ++ dktX6_baits_14
def dkwX6_baits_12 : List UInt8 := [21, 9, 184, 1, 225, 47, 97, 80, 42, 89, 180, 1, 228, 42, 180, 0, 102, 21, 7, 21, 9, 184, 1, 225]
abbrev dktX6_baits_12 : List UInt8 := dkwX6_baits_12 ++ dktX6_baits_13
def dkwX6_baits_11 : List UInt8 := [54, 9, 21, 9, 21, 5, 162, 0, 56, 42, 180, 0, 108, 21, 9, 92, 47, 42, 180, 0, 102, 21, 7]
abbrev dktX6_baits_11 : List UInt8 := dkwX6_baits_11 ++ dktX6_baits_12
def dkwX6_baits_10 : List UInt8 := [180, 0, 55, 3, 21, 9, 184, 1, 67, 46, 167, 0, 4, 3, 96, 54, 8, 132, 9, 1, 167, 255, 211, 3]
abbrev dktX6_baits_10 : List UInt8 := dkwX6_baits_10 ++ dktX6_baits_11
def dkwX6_baits_9 : List UInt8 := [180, 0, 52, 3, 46, 162, 0, 40, 21, 8, 21, 7, 21, 9, 122, 4, 126, 4, 160, 0, 17, 42]
abbrev dktX6_baits_9 : List UInt8 := dkwX6_baits_9 ++ dktX6_baits_10
def dkwX6_baits_8 : List UInt8 := [167, 255, 238, 3, 54, 7, 21, 7, 21, 4, 162, 0, 126, 3, 54, 8, 3, 54, 9, 21, 9, 42]
abbrev dktX6_baits_8 : List UInt8 := dkwX6_baits_8 ++ dktX6_baits_9
def dkwX6_baits_7 : List UInt8 := [167, 255, 235, 3, 54, 7, 21, 7, 21, 5, 162, 0, 17, 42, 180, 0, 108, 21, 7, 9, 80, 132, 7, 1]
abbrev dktX6_baits_7 : List UInt8 := dkwX6_baits_7 ++ dktX6_baits_8
def dkwX6_baits_6 : List UInt8 := [54, 7, 21, 7, 42, 180, 0, 58, 3, 46, 162, 0, 16, 42, 21, 7, 29, 182, 1, 231, 132, 7, 1]
abbrev dktX6_baits_6 : List UInt8 := dkwX6_baits_6 ++ dktX6_baits_7
def dkwX6_baits_5 : List UInt8 := [180, 0, 108, 21, 8, 47, 167, 0, 4, 9, 80, 132, 8, 1, 167, 255, 218, 132, 7, 1, 167, 255, 202, 3]
abbrev dktX6_baits_5 : List UInt8 := dkwX6_baits_5 ++ dktX6_baits_6
def dkwX6_baits_4 : List UInt8 := [21, 5, 162, 0, 37, 42, 180, 0, 102, 21, 7, 21, 8, 184, 1, 225, 21, 7, 154, 0, 13, 42]
abbrev dktX6_baits_4 : List UInt8 := dkwX6_baits_4 ++ dktX6_baits_5
def dkwX6_baits_3 : List UInt8 := [42, 180, 0, 37, 3, 46, 162, 0, 253, 3, 54, 7, 21, 7, 21, 4, 162, 0, 53, 3, 54, 8, 21, 8]
abbrev dktX6_baits_3 : List UInt8 := dkwX6_baits_3 ++ dktX6_baits_4
def dkwX6_baits_2 : List UInt8 := [21, 6, 154, 0, 9, 20, 1, 96, 167, 0, 4, 9, 80, 132, 6, 1, 167, 255, 227, 3, 54, 6, 21, 6]
abbrev dktX6_baits_2 : List UInt8 := dkwX6_baits_2 ++ dktX6_baits_3
def dkwX6_baits_1 : List UInt8 := [54, 5, 42, 9, 181, 1, 228, 3, 54, 6, 21, 6, 21, 5, 162, 0, 28, 42, 180, 0, 108, 21, 6]
abbrev dktX6_baits_1 : List UInt8 := dkwX6_baits_1 ++ dktX6_baits_2
def dkwX6_baits_0 : List UInt8 := [42, 28, 182, 1, 87, 5, 42, 180, 0, 52, 3, 46, 120, 54, 4, 4, 42, 180, 0, 58, 3, 46, 120]
abbrev dktX6_baits_0 : List UInt8 := dkwX6_baits_0 ++ dktX6_baits_1
theorem dksX6_baits_0 : cX6_baits.data.toList.drop 0 = dktX6_baits_0 := by decide +kernel
theorem dksX6_baits_1 : cX6_baits.data.toList.drop 23 = dktX6_baits_1 := dk_seg dksX6_baits_0 23 rfl rfl
theorem dksX6_baits_2 : cX6_baits.data.toList.drop 46 = dktX6_baits_2 := dk_seg dksX6_baits_1 23 rfl rfl
theorem dksX6_baits_3 : cX6_baits.data.toList.drop 70 = dktX6_baits_3 := dk_seg dksX6_baits_2 24 rfl rfl
theorem dksX6_baits_4 : cX6_baits.data.toList.drop 94 = dktX6_baits_4 := dk_seg dksX6_baits_3 24 rfl rfl
theorem dksX6_baits_5 : cX6_baits.data.toList.drop 116 = dktX6_baits_5 := dk_seg dksX6_baits_4 22 rfl rfl
theorem dksX6_baits_6 : cX6_baits.data.toList.drop 140 = dktX6_baits_6 := dk_seg dksX6_baits_5 24 rfl rfl
theorem dksX6_baits_7 : cX6_baits.data.toList.drop 163 = dktX6_baits_7 := dk_seg dksX6_baits_6 23 rfl rfl
theorem dksX6_baits_8 : cX6_baits.data.toList.drop 187 = dktX6_baits_8 := dk_seg dksX6_baits_7 24 rfl rfl
theorem dksX6_baits_9 : cX6_baits.data.toList.drop 209 = dktX6_baits_9 := dk_seg dksX6_baits_8 22 rfl rfl
theorem dksX6_baits_10 : cX6_baits.data.toList.drop 231 = dktX6_baits_10 := dk_seg dksX6_baits_9 22 rfl rfl
theorem dksX6_baits_11 : cX6_baits.data.toList.drop 255 = dktX6_baits_11 := dk_seg dksX6_baits_10 24 rfl rfl
theorem dksX6_baits_12 : cX6_baits.data.toList.drop 278 = dktX6_baits_12 := dk_seg dksX6_baits_11 23 rfl rfl
theorem dksX6_baits_13 : cX6_baits.data.toList.drop 302 = dktX6_baits_13 := dk_seg dksX6_baits_12 24 rfl rfl
theorem dksX6_baits_14 : cX6_baits.data.toList.drop 326 = dktX6_baits_14 := dk_seg dksX6_baits_13 24 rfl rfl
theorem dX6_baits_0 : decode cX6_baits 0 = .ok (.aload_n 0, 1) := dk_42 (dk_at dksX6_baits_0 0 rfl rfl)
theorem dX6_baits_1 : decode cX6_baits 1 = .ok (.iload_n 2, 1) := dk_28 (dk_at dksX6_baits_0 1 rfl rfl)
theorem dX6_baits_2 : decode cX6_baits 2 = .ok (.invokevirtual 343, 3) := dk_182 1 87 (dk_at dksX6_baits_0 2 rfl rfl)
theorem dX6_baits_5 : decode cX6_baits 5 = .ok (.iconst 2, 1) := dk_5 (dk_at dksX6_baits_0 5 rfl rfl)
theorem dX6_baits_6 : decode cX6_baits 6 = .ok (.aload_n 0, 1) := dk_42 (dk_at dksX6_baits_0 6 rfl rfl)
theorem dX6_baits_7 : decode cX6_baits 7 = .ok (.getfield 52, 3) := dk_180 0 52 (dk_at dksX6_baits_0 7 rfl rfl)
theorem dX6_baits_10 : decode cX6_baits 10 = .ok (.iconst 0, 1) := dk_3 (dk_at dksX6_baits_0 10 rfl rfl)
theorem dX6_baits_11 : decode cX6_baits 11 = .ok (.iaload, 1) := dk_46 (dk_at dksX6_baits_0 11 rfl rfl)
theorem dX6_baits_12 : decode cX6_baits 12 = .ok (.ishl, 1) := dk_120 (dk_at dksX6_baits_0 12 rfl rfl)
theorem dX6_baits_13 : decode cX6_baits 13 = .ok (.istore 4, 2) := dk_54 4 (dk_at dksX6_baits_0 13 rfl rfl)
theorem dX6_baits_15 : decode cX6_baits 15 = .ok (.iconst 1, 1) := dk_4 (dk_at dksX6_baits_0 15 rfl rfl)
theorem dX6_baits_16 : decode cX6_baits 16 = .ok (.aload_n 0, 1) := dk_42 (dk_at dksX6_baits_0 16 rfl rfl)
theorem dX6_baits_17 : decode cX6_baits 17 = .ok (.getfield 58, 3) := dk_180 0 58 (dk_at dksX6_baits_0 17 rfl rfl)
theorem dX6_baits_20 : decode cX6_baits 20 = .ok (.iconst 0, 1) := dk_3 (dk_at dksX6_baits_0 20 rfl rfl)
theorem dX6_baits_21 : decode cX6_baits 21 = .ok (.iaload, 1) := dk_46 (dk_at dksX6_baits_0 21 rfl rfl)
theorem dX6_baits_22 : decode cX6_baits 22 = .ok (.ishl, 1) := dk_120 (dk_at dksX6_baits_0 22 rfl rfl)
theorem dX6_baits_23 : decode cX6_baits 23 = .ok (.istore 5, 2) := dk_54 5 (dk_at dksX6_baits_1 0 rfl rfl)
theorem dX6_baits_25 : decode cX6_baits 25 = .ok (.aload_n 0, 1) := dk_42 (dk_at dksX6_baits_1 2 rfl rfl)
theorem dX6_baits_26 : decode cX6_baits 26 = .ok (.lconst 0, 1) := dk_9 (dk_at dksX6_baits_1 3 rfl rfl)
theorem dX6_baits_27 : decode cX6_baits 27 = .ok (.putfield 484, 3) := dk_181 1 228 (dk_at dksX6_baits_1 4 rfl rfl)
theorem dX6_baits_30 : decode cX6_baits 30 = .ok (.iconst 0, 1) := dk_3 (dk_at dksX6_baits_1 7 rfl rfl)
theorem dX6_baits_31 : decode cX6_baits 31 = .ok (.istore 6, 2) := dk_54 6 (dk_at dksX6_baits_1 8 rfl rfl)
theorem dX6_baits_33 : decode cX6_baits 33 = .ok (.iload 6, 2) := dk_21 6 (dk_at dksX6_baits_1 10 rfl rfl)
theorem dX6_baits_35 : decode cX6_baits 35 = .ok (.iload 5, 2) := dk_21 5 (dk_at dksX6_baits_1 12 rfl rfl)
theorem dX6_baits_37 : decode cX6_baits 37 = .ok (.if_icmp .ge 28, 3) := dk_162 0 28 (dk_at dksX6_baits_1 14 rfl rfl)
theorem dX6_baits_40 : decode cX6_baits 40 = .ok (.aload_n 0, 1) := dk_42 (dk_at dksX6_baits_1 17 rfl rfl)
theorem dX6_baits_41 : decode cX6_baits 41 = .ok (.getfield 108, 3) := dk_180 0 108 (dk_at dksX6_baits_1 18 rfl rfl)
theorem dX6_baits_44 : decode cX6_baits 44 = .ok (.iload 6, 2) := dk_21 6 (dk_at dksX6_baits_1 21 rfl rfl)
theorem dX6_baits_46 : decode cX6_baits 46 = .ok (.iload 6, 2) := dk_21 6 (dk_at dksX6_baits_2 0 rfl rfl)
theorem dX6_baits_48 : decode cX6_baits 48 = .ok (.ifCond .ne 9, 3) := dk_154 0 9 (dk_at dksX6_baits_2 2 rfl rfl)
theorem dX6_baits_51 : decode cX6_baits 51 = .ok (.ldc2_w 352, 3) := dk_20 1 96 (dk_at dksX6_baits_2 5 rfl rfl)
theorem dX6_baits_54 : decode cX6_baits 54 = .ok (.goto 4, 3) := dk_167 0 4 (dk_at dksX6_baits_2 8 rfl rfl)
theorem dX6_baits_57 : decode cX6_baits 57 = .ok (.lconst 0, 1) := dk_9 (dk_at dksX6_baits_2 11 rfl rfl)
theorem dX6_baits_58 : decode cX6_baits 58 = .ok (.lastore, 1) := dk_80 (dk_at dksX6_baits_2 12 rfl rfl)
theorem dX6_baits_59 : decode cX6_baits 59 = .ok (.iinc 6 1, 3) := dk_132 6 1 (dk_at dksX6_baits_2 13 rfl rfl)
theorem dX6_baits_62 : decode cX6_baits 62 = .ok (.goto (-29), 3) := dk_167 255 227 (dk_at dksX6_baits_2 16 rfl rfl)
theorem dX6_baits_65 : decode cX6_baits 65 = .ok (.iconst 0, 1) := dk_3 (dk_at dksX6_baits_2 19 rfl rfl)
theorem dX6_baits_66 : decode cX6_baits 66 = .ok (.istore 6, 2) := dk_54 6 (dk_at dksX6_baits_2 20 rfl rfl)
theorem dX6_baits_68 : decode cX6_baits 68 = .ok (.iload 6, 2) := dk_21 6 (dk_at dksX6_baits_2 22 rfl rfl)
theorem dX6_baits_70 : decode cX6_baits 70 = .ok (.aload_n 0, 1) := dk_42 (dk_at dksX6_baits_3 0 rfl rfl)
theorem dX6_baits_71 : decode cX6_baits 71 = .ok (.getfield 37, 3) := dk_180 0 37 (dk_at dksX6_baits_3 1 rfl rfl)
theorem dX6_baits_74 : decode cX6_baits 74 = .ok (.iconst 0, 1) := dk_3 (dk_at dksX6_baits_3 4 rfl rfl)
theorem dX6_baits_75 : decode cX6_baits 75 = .ok (.iaload, 1) := dk_46 (dk_at dksX6_baits_3 5 rfl rfl)
theorem dX6_baits_76 : decode cX6_baits 76 = .ok (.if_icmp .ge 253, 3) := dk_162 0 253 (dk_at dksX6_baits_3 6 rfl rfl)
theorem dX6_baits_79 : decode cX6_baits 79 = .ok (.iconst 0, 1) := dk_3 (dk_at dksX6_baits_3 9 rfl rfl)
theorem dX6_baits_80 : decode cX6_baits 80 = .ok (.istore 7, 2) := dk_54 7 (dk_at dksX6_baits_3 10 rfl rfl)
theorem dX6_baits_82 : decode cX6_baits 82 = .ok (.iload 7, 2) := dk_21 7 (dk_at dksX6_baits_3 12 rfl rfl)
theorem dX6_baits_84 : decode cX6_baits 84 = .ok (.iload 4, 2) := dk_21 4 (dk_at dksX6_baits_3 14 rfl rfl)
theorem dX6_baits_86 : decode cX6_baits 86 = .ok (.if_icmp .ge 53, 3) := dk_162 0 53 (dk_at dksX6_baits_3 16 rfl rfl)
theorem dX6_baits_89 : decode cX6_baits 89 = .ok (.iconst 0, 1) := dk_3 (dk_at dksX6_baits_3 19 rfl rfl)
theorem dX6_baits_90 : decode cX6_baits 90 = .ok (.istore 8, 2) := dk_54 8 (dk_at dksX6_baits_3 20 rfl rfl)
theorem dX6_baits_92 : decode cX6_baits 92 = .ok (.iload 8, 2) := dk_21 8 (dk_at dksX6_baits_3 22 rfl rfl)
theorem dX6_baits_94 : decode cX6_baits 94 = .ok (.iload 5, 2) := dk_21 5 (dk_at dksX6_baits_4 0 rfl rfl)
theorem dX6_baits_96 : decode cX6_baits 96 = .ok (.if_icmp .ge 37, 3) := dk_162 0 37 (dk_at dksX6_baits_4 2 rfl rfl)
theorem dX6_baits_99 : decode cX6_baits 99 = .ok (.aload_n 0, 1) := dk_42 (dk_at dksX6_baits_4 5 rfl rfl)
theorem dX6_baits_100 : decode cX6_baits 100 = .ok (.getfield 102, 3) := dk_180 0 102 (dk_at dksX6_baits_4 6 rfl rfl)
theorem dX6_baits_103 : decode cX6_baits 103 = .ok (.iload 7, 2) := dk_21 7 (dk_at dksX6_baits_4 9 rfl rfl)
theorem dX6_baits_105 : decode cX6_baits 105 = .ok (.iload 8, 2) := dk_21 8 (dk_at dksX6_baits_4 11 rfl rfl)
theorem dX6_baits_107 : decode cX6_baits 107 = .ok (.invokestatic 481, 3) := dk_184 1 225 (dk_at dksX6_baits_4 13 rfl rfl)
theorem dX6_baits_110 : decode cX6_baits 110 = .ok (.iload 7, 2) := dk_21 7 (dk_at dksX6_baits_4 16 rfl rfl)
theorem dX6_baits_112 : decode cX6_baits 112 = .ok (.ifCond .ne 13, 3) := dk_154 0 13 (dk_at dksX6_baits_4 18 rfl rfl)
theorem dX6_baits_115 : decode cX6_baits 115 = .ok (.aload_n 0, 1) := dk_42 (dk_at dksX6_baits_4 21 rfl rfl)
theorem dX6_baits_116 : decode cX6_baits 116 = .ok (.getfield 108, 3) := dk_180 0 108 (dk_at dksX6_baits_5 0 rfl rfl)
theorem dX6_baits_119 : decode cX6_baits 119 = .ok (.iload 8, 2) := dk_21 8 (dk_at dksX6_baits_5 3 rfl rfl)
theorem dX6_baits_121 : decode cX6_baits 121 = .ok (.laload, 1) := dk_47 (dk_at dksX6_baits_5 5 rfl rfl)
theorem dX6_baits_122 : decode cX6_baits 122 = .ok (.goto 4, 3) := dk_167 0 4 (dk_at dksX6_baits_5 6 rfl rfl)
theorem dX6_baits_125 : decode cX6_baits 125 = .ok (.lconst 0, 1) := dk_9 (dk_at dksX6_baits_5 9 rfl rfl)
theorem dX6_baits_126 : decode cX6_baits 126 = .ok (.lastore, 1) := dk_80 (dk_at dksX6_baits_5 10 rfl rfl)
theorem dX6_baits_127 : decode cX6_baits 127 = .ok (.iinc 8 1, 3) := dk_132 8 1 (dk_at dksX6_baits_5 11 rfl rfl)
theorem dX6_baits_130 : decode cX6_baits 130 = .ok (.goto (-38), 3) := dk_167 255 218 (dk_at dksX6_baits_5 14 rfl rfl)
theorem dX6_baits_133 : decode cX6_baits 133 = .ok (.iinc 7 1, 3) := dk_132 7 1 (dk_at dksX6_baits_5 17 rfl rfl)
theorem dX6_baits_136 : decode cX6_baits 136 = .ok (.goto (-54), 3) := dk_167 255 202 (dk_at dksX6_baits_5 20 rfl rfl)
theorem dX6_baits_139 : decode cX6_baits 139 = .ok (.iconst 0, 1) := dk_3 (dk_at dksX6_baits_5 23 rfl rfl)
theorem dX6_baits_140 : decode cX6_baits 140 = .ok (.istore 7, 2) := dk_54 7 (dk_at dksX6_baits_6 0 rfl rfl)
theorem dX6_baits_142 : decode cX6_baits 142 = .ok (.iload 7, 2) := dk_21 7 (dk_at dksX6_baits_6 2 rfl rfl)
theorem dX6_baits_144 : decode cX6_baits 144 = .ok (.aload_n 0, 1) := dk_42 (dk_at dksX6_baits_6 4 rfl rfl)
theorem dX6_baits_145 : decode cX6_baits 145 = .ok (.getfield 58, 3) := dk_180 0 58 (dk_at dksX6_baits_6 5 rfl rfl)
theorem dX6_baits_148 : decode cX6_baits 148 = .ok (.iconst 0, 1) := dk_3 (dk_at dksX6_baits_6 8 rfl rfl)
theorem dX6_baits_149 : decode cX6_baits 149 = .ok (.iaload, 1) := dk_46 (dk_at dksX6_baits_6 9 rfl rfl)
theorem dX6_baits_150 : decode cX6_baits 150 = .ok (.if_icmp .ge 16, 3) := dk_162 0 16 (dk_at dksX6_baits_6 10 rfl rfl)
theorem dX6_baits_153 : decode cX6_baits 153 = .ok (.aload_n 0, 1) := dk_42 (dk_at dksX6_baits_6 13 rfl rfl)
theorem dX6_baits_154 : decode cX6_baits 154 = .ok (.iload 7, 2) := dk_21 7 (dk_at dksX6_baits_6 14 rfl rfl)
theorem dX6_baits_156 : decode cX6_baits 156 = .ok (.iload_n 3, 1) := dk_29 (dk_at dksX6_baits_6 16 rfl rfl)
theorem dX6_baits_157 : decode cX6_baits 157 = .ok (.invokevirtual 487, 3) := dk_182 1 231 (dk_at dksX6_baits_6 17 rfl rfl)
theorem dX6_baits_160 : decode cX6_baits 160 = .ok (.iinc 7 1, 3) := dk_132 7 1 (dk_at dksX6_baits_6 20 rfl rfl)
theorem dX6_baits_163 : decode cX6_baits 163 = .ok (.goto (-21), 3) := dk_167 255 235 (dk_at dksX6_baits_7 0 rfl rfl)
theorem dX6_baits_166 : decode cX6_baits 166 = .ok (.iconst 0, 1) := dk_3 (dk_at dksX6_baits_7 3 rfl rfl)
theorem dX6_baits_167 : decode cX6_baits 167 = .ok (.istore 7, 2) := dk_54 7 (dk_at dksX6_baits_7 4 rfl rfl)
theorem dX6_baits_169 : decode cX6_baits 169 = .ok (.iload 7, 2) := dk_21 7 (dk_at dksX6_baits_7 6 rfl rfl)
theorem dX6_baits_171 : decode cX6_baits 171 = .ok (.iload 5, 2) := dk_21 5 (dk_at dksX6_baits_7 8 rfl rfl)
theorem dX6_baits_173 : decode cX6_baits 173 = .ok (.if_icmp .ge 17, 3) := dk_162 0 17 (dk_at dksX6_baits_7 10 rfl rfl)
theorem dX6_baits_176 : decode cX6_baits 176 = .ok (.aload_n 0, 1) := dk_42 (dk_at dksX6_baits_7 13 rfl rfl)
theorem dX6_baits_177 : decode cX6_baits 177 = .ok (.getfield 108, 3) := dk_180 0 108 (dk_at dksX6_baits_7 14 rfl rfl)
theorem dX6_baits_180 : decode cX6_baits 180 = .ok (.iload 7, 2) := dk_21 7 (dk_at dksX6_baits_7 17 rfl rfl)
theorem dX6_baits_182 : decode cX6_baits 182 = .ok (.lconst 0, 1) := dk_9 (dk_at dksX6_baits_7 19 rfl rfl)
theorem dX6_baits_183 : decode cX6_baits 183 = .ok (.lastore, 1) := dk_80 (dk_at dksX6_baits_7 20 rfl rfl)
theorem dX6_baits_184 : decode cX6_baits 184 = .ok (.iinc 7 1, 3) := dk_132 7 1 (dk_at dksX6_baits_7 21 rfl rfl)
theorem dX6_baits_187 : decode cX6_baits 187 = .ok (.goto (-18), 3) := dk_167 255 238 (dk_at dksX6_baits_8 0 rfl rfl)
theorem dX6_baits_190 : decode cX6_baits 190 = .ok (.iconst 0, 1) := dk_3 (dk_at dksX6_baits_8 3 rfl rfl)
theorem dX6_baits_191 : decode cX6_baits 191 = .ok (.istore 7, 2) := dk_54 7 (dk_at dksX6_baits_8 4 rfl rfl)
theorem dX6_baits_193 : decode cX6_baits 193 = .ok (.iload 7, 2) := dk_21 7 (dk_at dksX6_baits_8 6 rfl rfl)
theorem dX6_baits_195 : decode cX6_baits 195 = .ok (.iload 4, 2) := dk_21 4 (dk_at dksX6_baits_8 8 rfl rfl)
theorem dX6_baits_197 : decode cX6_baits 197 = .ok (.if_icmp .ge 126, 3) := dk_162 0 126 (dk_at dksX6_baits_8 10 rfl rfl)
theorem dX6_baits_200 : decode cX6_baits 200 = .ok (.iconst 0, 1) := dk_3 (dk_at dksX6_baits_8 13 rfl rfl)
theorem dX6_baits_201 : decode cX6_baits 201 = .ok (.istore 8, 2) := dk_54 8 (dk_at dksX6_baits_8 14 rfl rfl)
theorem dX6_baits_203 : decode cX6_baits 203 = .ok (.iconst 0, 1) := dk_3 (dk_at dksX6_baits_8 16 rfl rfl)
theorem dX6_baits_204 : decode cX6_baits 204 = .ok (.istore 9, 2) := dk_54 9 (dk_at dksX6_baits_8 17 rfl rfl)
theorem dX6_baits_206 : decode cX6_baits 206 = .ok (.iload 9, 2) := dk_21 9 (dk_at dksX6_baits_8 19 rfl rfl)
theorem dX6_baits_208 : decode cX6_baits 208 = .ok (.aload_n 0, 1) := dk_42 (dk_at dksX6_baits_8 21 rfl rfl)
theorem dX6_baits_209 : decode cX6_baits 209 = .ok (.getfield 52, 3) := dk_180 0 52 (dk_at dksX6_baits_9 0 rfl rfl)
theorem dX6_baits_212 : decode cX6_baits 212 = .ok (.iconst 0, 1) := dk_3 (dk_at dksX6_baits_9 3 rfl rfl)
theorem dX6_baits_213 : decode cX6_baits 213 = .ok (.iaload, 1) := dk_46 (dk_at dksX6_baits_9 4 rfl rfl)
theorem dX6_baits_214 : decode cX6_baits 214 = .ok (.if_icmp .ge 40, 3) := dk_162 0 40 (dk_at dksX6_baits_9 5 rfl rfl)
theorem dX6_baits_217 : decode cX6_baits 217 = .ok (.iload 8, 2) := dk_21 8 (dk_at dksX6_baits_9 8 rfl rfl)
theorem dX6_baits_219 : decode cX6_baits 219 = .ok (.iload 7, 2) := dk_21 7 (dk_at dksX6_baits_9 10 rfl rfl)
theorem dX6_baits_221 : decode cX6_baits 221 = .ok (.iload 9, 2) := dk_21 9 (dk_at dksX6_baits_9 12 rfl rfl)
theorem dX6_baits_223 : decode cX6_baits 223 = .ok (.ishr, 1) := dk_122 (dk_at dksX6_baits_9 14 rfl rfl)
theorem dX6_baits_224 : decode cX6_baits 224 = .ok (.iconst 1, 1) := dk_4 (dk_at dksX6_baits_9 15 rfl rfl)
theorem dX6_baits_225 : decode cX6_baits 225 = .ok (.iand, 1) := dk_126 (dk_at dksX6_baits_9 16 rfl rfl)
theorem dX6_baits_226 : decode cX6_baits 226 = .ok (.iconst 1, 1) := dk_4 (dk_at dksX6_baits_9 17 rfl rfl)
theorem dX6_baits_227 : decode cX6_baits 227 = .ok (.if_icmp .ne 17, 3) := dk_160 0 17 (dk_at dksX6_baits_9 18 rfl rfl)
theorem dX6_baits_230 : decode cX6_baits 230 = .ok (.aload_n 0, 1) := dk_42 (dk_at dksX6_baits_9 21 rfl rfl)
theorem dX6_baits_231 : decode cX6_baits 231 = .ok (.getfield 55, 3) := dk_180 0 55 (dk_at dksX6_baits_10 0 rfl rfl)
theorem dX6_baits_234 : decode cX6_baits 234 = .ok (.iconst 0, 1) := dk_3 (dk_at dksX6_baits_10 3 rfl rfl)
theorem dX6_baits_235 : decode cX6_baits 235 = .ok (.iload 9, 2) := dk_21 9 (dk_at dksX6_baits_10 4 rfl rfl)
theorem dX6_baits_237 : decode cX6_baits 237 = .ok (.invokestatic 323, 3) := dk_184 1 67 (dk_at dksX6_baits_10 6 rfl rfl)
theorem dX6_baits_240 : decode cX6_baits 240 = .ok (.iaload, 1) := dk_46 (dk_at dksX6_baits_10 9 rfl rfl)
theorem dX6_baits_241 : decode cX6_baits 241 = .ok (.goto 4, 3) := dk_167 0 4 (dk_at dksX6_baits_10 10 rfl rfl)
theorem dX6_baits_244 : decode cX6_baits 244 = .ok (.iconst 0, 1) := dk_3 (dk_at dksX6_baits_10 13 rfl rfl)
theorem dX6_baits_245 : decode cX6_baits 245 = .ok (.iadd, 1) := dk_96 (dk_at dksX6_baits_10 14 rfl rfl)
theorem dX6_baits_246 : decode cX6_baits 246 = .ok (.istore 8, 2) := dk_54 8 (dk_at dksX6_baits_10 15 rfl rfl)
theorem dX6_baits_248 : decode cX6_baits 248 = .ok (.iinc 9 1, 3) := dk_132 9 1 (dk_at dksX6_baits_10 17 rfl rfl)
theorem dX6_baits_251 : decode cX6_baits 251 = .ok (.goto (-45), 3) := dk_167 255 211 (dk_at dksX6_baits_10 20 rfl rfl)
theorem dX6_baits_254 : decode cX6_baits 254 = .ok (.iconst 0, 1) := dk_3 (dk_at dksX6_baits_10 23 rfl rfl)
theorem dX6_baits_255 : decode cX6_baits 255 = .ok (.istore 9, 2) := dk_54 9 (dk_at dksX6_baits_11 0 rfl rfl)
theorem dX6_baits_257 : decode cX6_baits 257 = .ok (.iload 9, 2) := dk_21 9 (dk_at dksX6_baits_11 2 rfl rfl)
theorem dX6_baits_259 : decode cX6_baits 259 = .ok (.iload 5, 2) := dk_21 5 (dk_at dksX6_baits_11 4 rfl rfl)
theorem dX6_baits_261 : decode cX6_baits 261 = .ok (.if_icmp .ge 56, 3) := dk_162 0 56 (dk_at dksX6_baits_11 6 rfl rfl)
theorem dX6_baits_264 : decode cX6_baits 264 = .ok (.aload_n 0, 1) := dk_42 (dk_at dksX6_baits_11 9 rfl rfl)
theorem dX6_baits_265 : decode cX6_baits 265 = .ok (.getfield 108, 3) := dk_180 0 108 (dk_at dksX6_baits_11 10 rfl rfl)
theorem dX6_baits_268 : decode cX6_baits 268 = .ok (.iload 9, 2) := dk_21 9 (dk_at dksX6_baits_11 13 rfl rfl)
theorem dX6_baits_270 : decode cX6_baits 270 = .ok (.dup2, 1) := dk_92 (dk_at dksX6_baits_11 15 rfl rfl)
theorem dX6_baits_271 : decode cX6_baits 271 = .ok (.laload, 1) := dk_47 (dk_at dksX6_baits_11 16 rfl rfl)
theorem dX6_baits_272 : decode cX6_baits 272 = .ok (.aload_n 0, 1) := dk_42 (dk_at dksX6_baits_11 17 rfl rfl)
theorem dX6_baits_273 : decode cX6_baits 273 = .ok (.getfield 102, 3) := dk_180 0 102 (dk_at dksX6_baits_11 18 rfl rfl)
theorem dX6_baits_276 : decode cX6_baits 276 = .ok (.iload 7, 2) := dk_21 7 (dk_at dksX6_baits_11 21 rfl rfl)
theorem dX6_baits_278 : decode cX6_baits 278 = .ok (.iload 9, 2) := dk_21 9 (dk_at dksX6_baits_12 0 rfl rfl)
theorem dX6_baits_280 : decode cX6_baits 280 = .ok (.invokestatic 481, 3) := dk_184 1 225 (dk_at dksX6_baits_12 2 rfl rfl)
theorem dX6_baits_283 : decode cX6_baits 283 = .ok (.laload, 1) := dk_47 (dk_at dksX6_baits_12 5 rfl rfl)
theorem dX6_baits_284 : decode cX6_baits 284 = .ok (.ladd, 1) := dk_97 (dk_at dksX6_baits_12 6 rfl rfl)
theorem dX6_baits_285 : decode cX6_baits 285 = .ok (.lastore, 1) := dk_80 (dk_at dksX6_baits_12 7 rfl rfl)
theorem dX6_baits_286 : decode cX6_baits 286 = .ok (.aload_n 0, 1) := dk_42 (dk_at dksX6_baits_12 8 rfl rfl)
theorem dX6_baits_287 : decode cX6_baits 287 = .ok (.dup, 1) := dk_89 (dk_at dksX6_baits_12 9 rfl rfl)
theorem dX6_baits_288 : decode cX6_baits 288 = .ok (.getfield 484, 3) := dk_180 1 228 (dk_at dksX6_baits_12 10 rfl rfl)
theorem dX6_baits_291 : decode cX6_baits 291 = .ok (.aload_n 0, 1) := dk_42 (dk_at dksX6_baits_12 13 rfl rfl)
theorem dX6_baits_292 : decode cX6_baits 292 = .ok (.getfield 102, 3) := dk_180 0 102 (dk_at dksX6_baits_12 14 rfl rfl)
theorem dX6_baits_295 : decode cX6_baits 295 = .ok (.iload 7, 2) := dk_21 7 (dk_at dksX6_baits_12 17 rfl rfl)
theorem dX6_baits_297 : decode cX6_baits 297 = .ok (.iload 9, 2) := dk_21 9 (dk_at dksX6_baits_12 19 rfl rfl)
theorem dX6_baits_299 : decode cX6_baits 299 = .ok (.invokestatic 481, 3) := dk_184 1 225 (dk_at dksX6_baits_12 21 rfl rfl)
theorem dX6_baits_302 : decode cX6_baits 302 = .ok (.laload, 1) := dk_47 (dk_at dksX6_baits_13 0 rfl rfl)
theorem dX6_baits_303 : decode cX6_baits 303 = .ok (.iload 8, 2) := dk_21 8 (dk_at dksX6_baits_13 1 rfl rfl)
theorem dX6_baits_305 : decode cX6_baits 305 = .ok (.i2l, 1) := dk_133 (dk_at dksX6_baits_13 3 rfl rfl)
theorem dX6_baits_306 : decode cX6_baits 306 = .ok (.lmul, 1) := dk_105 (dk_at dksX6_baits_13 4 rfl rfl)
theorem dX6_baits_307 : decode cX6_baits 307 = .ok (.ladd, 1) := dk_97 (dk_at dksX6_baits_13 5 rfl rfl)
theorem dX6_baits_308 : decode cX6_baits 308 = .ok (.putfield 484, 3) := dk_181 1 228 (dk_at dksX6_baits_13 6 rfl rfl)
theorem dX6_baits_311 : decode cX6_baits 311 = .ok (.iinc 9 1, 3) := dk_132 9 1 (dk_at dksX6_baits_13 9 rfl rfl)
theorem dX6_baits_314 : decode cX6_baits 314 = .ok (.goto (-57), 3) := dk_167 255 199 (dk_at dksX6_baits_13 12 rfl rfl)
theorem dX6_baits_317 : decode cX6_baits 317 = .ok (.iinc 7 1, 3) := dk_132 7 1 (dk_at dksX6_baits_13 15 rfl rfl)
theorem dX6_baits_320 : decode cX6_baits 320 = .ok (.goto (-127), 3) := dk_167 255 129 (dk_at dksX6_baits_13 18 rfl rfl)
theorem dX6_baits_323 : decode cX6_baits 323 = .ok (.iinc 6 1, 3) := dk_132 6 1 (dk_at dksX6_baits_13 21 rfl rfl)
theorem dX6_baits_326 : decode cX6_baits 326 = .ok (.goto (-258), 3) := dk_167 254 254 (dk_at dksX6_baits_14 0 rfl rfl)
theorem dX6_baits_329 : decode cX6_baits 329 = .ok (.return_, 1) := dk_177 (dk_at dksX6_baits_14 3 rfl rfl)
abbrev cX6_state : ByteArray := prog_20_method_119_code
def yX6_state : MethodName := ⟨RX6, "state", "(II)I"⟩
def dkwX6_state_0 : List UInt8 := [16, 64, 26, 104, 27, 96, 172]
abbrev dktX6_state_0 : List UInt8 := dkwX6_state_0 ++ []
theorem dksX6_state_0 : cX6_state.data.toList.drop 0 = dktX6_state_0 := by decide +kernel
theorem dX6_state_0 : decode cX6_state 0 = .ok (.bipush 64, 2) := dk_16 64 (dk_at dksX6_state_0 0 rfl rfl)
theorem dX6_state_2 : decode cX6_state 2 = .ok (.iload_n 0, 1) := dk_26 (dk_at dksX6_state_0 2 rfl rfl)
theorem dX6_state_3 : decode cX6_state 3 = .ok (.imul, 1) := dk_104 (dk_at dksX6_state_0 3 rfl rfl)
theorem dX6_state_4 : decode cX6_state 4 = .ok (.iload_n 1, 1) := dk_27 (dk_at dksX6_state_0 4 rfl rfl)
theorem dX6_state_5 : decode cX6_state 5 = .ok (.iadd, 1) := dk_96 (dk_at dksX6_state_0 5 rfl rfl)
theorem dX6_state_6 : decode cX6_state 6 = .ok (.ireturn, 1) := dk_172 (dk_at dksX6_state_0 6 rfl rfl)
abbrev cX6_thiefGoes : ByteArray := prog_20_method_120_code
def yX6_thiefGoes : MethodName := ⟨RX6, "thiefGoes", "(II)V"⟩
def dkwX6_thiefGoes_11 : List UInt8 := [97, 80, 132, 7, 1, 167, 255, 128, 132, 5, 1, 167, 255, 95, 177]
abbrev dktX6_thiefGoes_11 : List UInt8 := dkwX6_thiefGoes_11 ++ []
def dkwX6_thiefGoes_10 : List UInt8 := [80, 42, 180, 0, 102, 21, 5, 4, 21, 6, 120, 128, 21, 7, 184, 1, 225, 92, 47, 22, 8, 22, 10, 101]
abbrev dktX6_thiefGoes_10 : List UInt8 := dkwX6_thiefGoes_10 ++ dktX6_thiefGoes_11
def dkwX6_thiefGoes_9 : List UInt8 := [180, 0, 102, 21, 5, 4, 21, 6, 120, 128, 21, 7, 4, 27, 120, 128, 184, 1, 225, 92, 47, 22, 10, 97]
abbrev dktX6_thiefGoes_9 : List UInt8 := dkwX6_thiefGoes_9 ++ dktX6_thiefGoes_10
def dkwX6_thiefGoes_8 : List UInt8 := [167, 0, 4, 9, 55, 10, 42, 180, 0, 102, 21, 5, 21, 7, 184, 1, 225, 92, 47, 22, 8, 101, 80, 42]
abbrev dktX6_thiefGoes_8 : List UInt8 := dkwX6_thiefGoes_8 ++ dktX6_thiefGoes_9
def dkwX6_thiefGoes_7 : List UInt8 := [167, 0, 97, 21, 6, 42, 180, 0, 52, 3, 46, 160, 0, 15, 22, 8, 28, 133, 105, 20, 1, 69, 109]
abbrev dktX6_thiefGoes_7 : List UInt8 := dkwX6_thiefGoes_7 ++ dktX6_thiefGoes_8
def dkwX6_thiefGoes_6 : List UInt8 := [162, 0, 127, 42, 180, 0, 105, 21, 5, 21, 7, 184, 1, 225, 47, 55, 8, 22, 8, 9, 148, 154, 0, 6]
abbrev dktX6_thiefGoes_6 : List UInt8 := dkwX6_thiefGoes_6 ++ dktX6_thiefGoes_7
def dkwX6_thiefGoes_5 : List UInt8 := [21, 5, 182, 1, 90, 54, 6, 21, 6, 2, 160, 0, 6, 167, 0, 137, 3, 54, 7, 21, 7, 21, 4]
abbrev dktX6_thiefGoes_5 : List UInt8 := dkwX6_thiefGoes_5 ++ dktX6_thiefGoes_6
def dkwX6_thiefGoes_4 : List UInt8 := [132, 6, 1, 167, 255, 192, 132, 5, 1, 167, 255, 177, 3, 54, 5, 21, 5, 29, 162, 0, 161, 42, 27]
abbrev dktX6_thiefGoes_4 : List UInt8 := dkwX6_thiefGoes_4 ++ dktX6_thiefGoes_5
def dkwX6_thiefGoes_3 : List UInt8 := [21, 6, 184, 1, 225, 47, 42, 180, 0, 61, 8, 27, 104, 4, 96, 46, 133, 105, 20, 1, 69, 109, 80]
abbrev dktX6_thiefGoes_3 : List UInt8 := dkwX6_thiefGoes_3 ++ dktX6_thiefGoes_4
def dkwX6_thiefGoes_2 : List UInt8 := [184, 1, 225, 21, 6, 27, 122, 4, 126, 4, 160, 0, 7, 9, 167, 0, 31, 42, 180, 0, 102, 21, 5]
abbrev dktX6_thiefGoes_2 : List UInt8 := dkwX6_thiefGoes_2 ++ dktX6_thiefGoes_3
def dkwX6_thiefGoes_1 : List UInt8 := [29, 162, 0, 79, 3, 54, 6, 21, 6, 21, 4, 162, 0, 63, 42, 180, 0, 105, 21, 5, 21, 6]
abbrev dktX6_thiefGoes_1 : List UInt8 := dkwX6_thiefGoes_1 ++ dktX6_thiefGoes_2
def dkwX6_thiefGoes_0 : List UInt8 := [5, 42, 180, 0, 52, 3, 46, 120, 62, 4, 42, 180, 0, 58, 3, 46, 120, 54, 4, 3, 54, 5, 21, 5]
abbrev dktX6_thiefGoes_0 : List UInt8 := dkwX6_thiefGoes_0 ++ dktX6_thiefGoes_1
theorem dksX6_thiefGoes_0 : cX6_thiefGoes.data.toList.drop 0 = dktX6_thiefGoes_0 := by decide +kernel
theorem dksX6_thiefGoes_1 : cX6_thiefGoes.data.toList.drop 24 = dktX6_thiefGoes_1 := dk_seg dksX6_thiefGoes_0 24 rfl rfl
theorem dksX6_thiefGoes_2 : cX6_thiefGoes.data.toList.drop 46 = dktX6_thiefGoes_2 := dk_seg dksX6_thiefGoes_1 22 rfl rfl
theorem dksX6_thiefGoes_3 : cX6_thiefGoes.data.toList.drop 69 = dktX6_thiefGoes_3 := dk_seg dksX6_thiefGoes_2 23 rfl rfl
theorem dksX6_thiefGoes_4 : cX6_thiefGoes.data.toList.drop 92 = dktX6_thiefGoes_4 := dk_seg dksX6_thiefGoes_3 23 rfl rfl
theorem dksX6_thiefGoes_5 : cX6_thiefGoes.data.toList.drop 115 = dktX6_thiefGoes_5 := dk_seg dksX6_thiefGoes_4 23 rfl rfl
theorem dksX6_thiefGoes_6 : cX6_thiefGoes.data.toList.drop 138 = dktX6_thiefGoes_6 := dk_seg dksX6_thiefGoes_5 23 rfl rfl
theorem dksX6_thiefGoes_7 : cX6_thiefGoes.data.toList.drop 162 = dktX6_thiefGoes_7 := dk_seg dksX6_thiefGoes_6 24 rfl rfl
theorem dksX6_thiefGoes_8 : cX6_thiefGoes.data.toList.drop 185 = dktX6_thiefGoes_8 := dk_seg dksX6_thiefGoes_7 23 rfl rfl
theorem dksX6_thiefGoes_9 : cX6_thiefGoes.data.toList.drop 209 = dktX6_thiefGoes_9 := dk_seg dksX6_thiefGoes_8 24 rfl rfl
theorem dksX6_thiefGoes_10 : cX6_thiefGoes.data.toList.drop 233 = dktX6_thiefGoes_10 := dk_seg dksX6_thiefGoes_9 24 rfl rfl
theorem dksX6_thiefGoes_11 : cX6_thiefGoes.data.toList.drop 257 = dktX6_thiefGoes_11 := dk_seg dksX6_thiefGoes_10 24 rfl rfl
theorem dX6_thiefGoes_0 : decode cX6_thiefGoes 0 = .ok (.iconst 2, 1) := dk_5 (dk_at dksX6_thiefGoes_0 0 rfl rfl)
theorem dX6_thiefGoes_1 : decode cX6_thiefGoes 1 = .ok (.aload_n 0, 1) := dk_42 (dk_at dksX6_thiefGoes_0 1 rfl rfl)
theorem dX6_thiefGoes_2 : decode cX6_thiefGoes 2 = .ok (.getfield 52, 3) := dk_180 0 52 (dk_at dksX6_thiefGoes_0 2 rfl rfl)
theorem dX6_thiefGoes_5 : decode cX6_thiefGoes 5 = .ok (.iconst 0, 1) := dk_3 (dk_at dksX6_thiefGoes_0 5 rfl rfl)
theorem dX6_thiefGoes_6 : decode cX6_thiefGoes 6 = .ok (.iaload, 1) := dk_46 (dk_at dksX6_thiefGoes_0 6 rfl rfl)
theorem dX6_thiefGoes_7 : decode cX6_thiefGoes 7 = .ok (.ishl, 1) := dk_120 (dk_at dksX6_thiefGoes_0 7 rfl rfl)
theorem dX6_thiefGoes_8 : decode cX6_thiefGoes 8 = .ok (.istore_n 3, 1) := dk_62 (dk_at dksX6_thiefGoes_0 8 rfl rfl)
theorem dX6_thiefGoes_9 : decode cX6_thiefGoes 9 = .ok (.iconst 1, 1) := dk_4 (dk_at dksX6_thiefGoes_0 9 rfl rfl)
theorem dX6_thiefGoes_10 : decode cX6_thiefGoes 10 = .ok (.aload_n 0, 1) := dk_42 (dk_at dksX6_thiefGoes_0 10 rfl rfl)
theorem dX6_thiefGoes_11 : decode cX6_thiefGoes 11 = .ok (.getfield 58, 3) := dk_180 0 58 (dk_at dksX6_thiefGoes_0 11 rfl rfl)
theorem dX6_thiefGoes_14 : decode cX6_thiefGoes 14 = .ok (.iconst 0, 1) := dk_3 (dk_at dksX6_thiefGoes_0 14 rfl rfl)
theorem dX6_thiefGoes_15 : decode cX6_thiefGoes 15 = .ok (.iaload, 1) := dk_46 (dk_at dksX6_thiefGoes_0 15 rfl rfl)
theorem dX6_thiefGoes_16 : decode cX6_thiefGoes 16 = .ok (.ishl, 1) := dk_120 (dk_at dksX6_thiefGoes_0 16 rfl rfl)
theorem dX6_thiefGoes_17 : decode cX6_thiefGoes 17 = .ok (.istore 4, 2) := dk_54 4 (dk_at dksX6_thiefGoes_0 17 rfl rfl)
theorem dX6_thiefGoes_19 : decode cX6_thiefGoes 19 = .ok (.iconst 0, 1) := dk_3 (dk_at dksX6_thiefGoes_0 19 rfl rfl)
theorem dX6_thiefGoes_20 : decode cX6_thiefGoes 20 = .ok (.istore 5, 2) := dk_54 5 (dk_at dksX6_thiefGoes_0 20 rfl rfl)
theorem dX6_thiefGoes_22 : decode cX6_thiefGoes 22 = .ok (.iload 5, 2) := dk_21 5 (dk_at dksX6_thiefGoes_0 22 rfl rfl)
theorem dX6_thiefGoes_24 : decode cX6_thiefGoes 24 = .ok (.iload_n 3, 1) := dk_29 (dk_at dksX6_thiefGoes_1 0 rfl rfl)
theorem dX6_thiefGoes_25 : decode cX6_thiefGoes 25 = .ok (.if_icmp .ge 79, 3) := dk_162 0 79 (dk_at dksX6_thiefGoes_1 1 rfl rfl)
theorem dX6_thiefGoes_28 : decode cX6_thiefGoes 28 = .ok (.iconst 0, 1) := dk_3 (dk_at dksX6_thiefGoes_1 4 rfl rfl)
theorem dX6_thiefGoes_29 : decode cX6_thiefGoes 29 = .ok (.istore 6, 2) := dk_54 6 (dk_at dksX6_thiefGoes_1 5 rfl rfl)
theorem dX6_thiefGoes_31 : decode cX6_thiefGoes 31 = .ok (.iload 6, 2) := dk_21 6 (dk_at dksX6_thiefGoes_1 7 rfl rfl)
theorem dX6_thiefGoes_33 : decode cX6_thiefGoes 33 = .ok (.iload 4, 2) := dk_21 4 (dk_at dksX6_thiefGoes_1 9 rfl rfl)
theorem dX6_thiefGoes_35 : decode cX6_thiefGoes 35 = .ok (.if_icmp .ge 63, 3) := dk_162 0 63 (dk_at dksX6_thiefGoes_1 11 rfl rfl)
theorem dX6_thiefGoes_38 : decode cX6_thiefGoes 38 = .ok (.aload_n 0, 1) := dk_42 (dk_at dksX6_thiefGoes_1 14 rfl rfl)
theorem dX6_thiefGoes_39 : decode cX6_thiefGoes 39 = .ok (.getfield 105, 3) := dk_180 0 105 (dk_at dksX6_thiefGoes_1 15 rfl rfl)
theorem dX6_thiefGoes_42 : decode cX6_thiefGoes 42 = .ok (.iload 5, 2) := dk_21 5 (dk_at dksX6_thiefGoes_1 18 rfl rfl)
theorem dX6_thiefGoes_44 : decode cX6_thiefGoes 44 = .ok (.iload 6, 2) := dk_21 6 (dk_at dksX6_thiefGoes_1 20 rfl rfl)
theorem dX6_thiefGoes_46 : decode cX6_thiefGoes 46 = .ok (.invokestatic 481, 3) := dk_184 1 225 (dk_at dksX6_thiefGoes_2 0 rfl rfl)
theorem dX6_thiefGoes_49 : decode cX6_thiefGoes 49 = .ok (.iload 6, 2) := dk_21 6 (dk_at dksX6_thiefGoes_2 3 rfl rfl)
theorem dX6_thiefGoes_51 : decode cX6_thiefGoes 51 = .ok (.iload_n 1, 1) := dk_27 (dk_at dksX6_thiefGoes_2 5 rfl rfl)
theorem dX6_thiefGoes_52 : decode cX6_thiefGoes 52 = .ok (.ishr, 1) := dk_122 (dk_at dksX6_thiefGoes_2 6 rfl rfl)
theorem dX6_thiefGoes_53 : decode cX6_thiefGoes 53 = .ok (.iconst 1, 1) := dk_4 (dk_at dksX6_thiefGoes_2 7 rfl rfl)
theorem dX6_thiefGoes_54 : decode cX6_thiefGoes 54 = .ok (.iand, 1) := dk_126 (dk_at dksX6_thiefGoes_2 8 rfl rfl)
theorem dX6_thiefGoes_55 : decode cX6_thiefGoes 55 = .ok (.iconst 1, 1) := dk_4 (dk_at dksX6_thiefGoes_2 9 rfl rfl)
theorem dX6_thiefGoes_56 : decode cX6_thiefGoes 56 = .ok (.if_icmp .ne 7, 3) := dk_160 0 7 (dk_at dksX6_thiefGoes_2 10 rfl rfl)
theorem dX6_thiefGoes_59 : decode cX6_thiefGoes 59 = .ok (.lconst 0, 1) := dk_9 (dk_at dksX6_thiefGoes_2 13 rfl rfl)
theorem dX6_thiefGoes_60 : decode cX6_thiefGoes 60 = .ok (.goto 31, 3) := dk_167 0 31 (dk_at dksX6_thiefGoes_2 14 rfl rfl)
theorem dX6_thiefGoes_63 : decode cX6_thiefGoes 63 = .ok (.aload_n 0, 1) := dk_42 (dk_at dksX6_thiefGoes_2 17 rfl rfl)
theorem dX6_thiefGoes_64 : decode cX6_thiefGoes 64 = .ok (.getfield 102, 3) := dk_180 0 102 (dk_at dksX6_thiefGoes_2 18 rfl rfl)
theorem dX6_thiefGoes_67 : decode cX6_thiefGoes 67 = .ok (.iload 5, 2) := dk_21 5 (dk_at dksX6_thiefGoes_2 21 rfl rfl)
theorem dX6_thiefGoes_69 : decode cX6_thiefGoes 69 = .ok (.iload 6, 2) := dk_21 6 (dk_at dksX6_thiefGoes_3 0 rfl rfl)
theorem dX6_thiefGoes_71 : decode cX6_thiefGoes 71 = .ok (.invokestatic 481, 3) := dk_184 1 225 (dk_at dksX6_thiefGoes_3 2 rfl rfl)
theorem dX6_thiefGoes_74 : decode cX6_thiefGoes 74 = .ok (.laload, 1) := dk_47 (dk_at dksX6_thiefGoes_3 5 rfl rfl)
theorem dX6_thiefGoes_75 : decode cX6_thiefGoes 75 = .ok (.aload_n 0, 1) := dk_42 (dk_at dksX6_thiefGoes_3 6 rfl rfl)
theorem dX6_thiefGoes_76 : decode cX6_thiefGoes 76 = .ok (.getfield 61, 3) := dk_180 0 61 (dk_at dksX6_thiefGoes_3 7 rfl rfl)
theorem dX6_thiefGoes_79 : decode cX6_thiefGoes 79 = .ok (.iconst 5, 1) := dk_8 (dk_at dksX6_thiefGoes_3 10 rfl rfl)
theorem dX6_thiefGoes_80 : decode cX6_thiefGoes 80 = .ok (.iload_n 1, 1) := dk_27 (dk_at dksX6_thiefGoes_3 11 rfl rfl)
theorem dX6_thiefGoes_81 : decode cX6_thiefGoes 81 = .ok (.imul, 1) := dk_104 (dk_at dksX6_thiefGoes_3 12 rfl rfl)
theorem dX6_thiefGoes_82 : decode cX6_thiefGoes 82 = .ok (.iconst 1, 1) := dk_4 (dk_at dksX6_thiefGoes_3 13 rfl rfl)
theorem dX6_thiefGoes_83 : decode cX6_thiefGoes 83 = .ok (.iadd, 1) := dk_96 (dk_at dksX6_thiefGoes_3 14 rfl rfl)
theorem dX6_thiefGoes_84 : decode cX6_thiefGoes 84 = .ok (.iaload, 1) := dk_46 (dk_at dksX6_thiefGoes_3 15 rfl rfl)
theorem dX6_thiefGoes_85 : decode cX6_thiefGoes 85 = .ok (.i2l, 1) := dk_133 (dk_at dksX6_thiefGoes_3 16 rfl rfl)
theorem dX6_thiefGoes_86 : decode cX6_thiefGoes 86 = .ok (.lmul, 1) := dk_105 (dk_at dksX6_thiefGoes_3 17 rfl rfl)
theorem dX6_thiefGoes_87 : decode cX6_thiefGoes 87 = .ok (.ldc2_w 325, 3) := dk_20 1 69 (dk_at dksX6_thiefGoes_3 18 rfl rfl)
theorem dX6_thiefGoes_90 : decode cX6_thiefGoes 90 = .ok (.ldiv, 1) := dk_109 (dk_at dksX6_thiefGoes_3 21 rfl rfl)
theorem dX6_thiefGoes_91 : decode cX6_thiefGoes 91 = .ok (.lastore, 1) := dk_80 (dk_at dksX6_thiefGoes_3 22 rfl rfl)
theorem dX6_thiefGoes_92 : decode cX6_thiefGoes 92 = .ok (.iinc 6 1, 3) := dk_132 6 1 (dk_at dksX6_thiefGoes_4 0 rfl rfl)
theorem dX6_thiefGoes_95 : decode cX6_thiefGoes 95 = .ok (.goto (-64), 3) := dk_167 255 192 (dk_at dksX6_thiefGoes_4 3 rfl rfl)
theorem dX6_thiefGoes_98 : decode cX6_thiefGoes 98 = .ok (.iinc 5 1, 3) := dk_132 5 1 (dk_at dksX6_thiefGoes_4 6 rfl rfl)
theorem dX6_thiefGoes_101 : decode cX6_thiefGoes 101 = .ok (.goto (-79), 3) := dk_167 255 177 (dk_at dksX6_thiefGoes_4 9 rfl rfl)
theorem dX6_thiefGoes_104 : decode cX6_thiefGoes 104 = .ok (.iconst 0, 1) := dk_3 (dk_at dksX6_thiefGoes_4 12 rfl rfl)
theorem dX6_thiefGoes_105 : decode cX6_thiefGoes 105 = .ok (.istore 5, 2) := dk_54 5 (dk_at dksX6_thiefGoes_4 13 rfl rfl)
theorem dX6_thiefGoes_107 : decode cX6_thiefGoes 107 = .ok (.iload 5, 2) := dk_21 5 (dk_at dksX6_thiefGoes_4 15 rfl rfl)
theorem dX6_thiefGoes_109 : decode cX6_thiefGoes 109 = .ok (.iload_n 3, 1) := dk_29 (dk_at dksX6_thiefGoes_4 17 rfl rfl)
theorem dX6_thiefGoes_110 : decode cX6_thiefGoes 110 = .ok (.if_icmp .ge 161, 3) := dk_162 0 161 (dk_at dksX6_thiefGoes_4 18 rfl rfl)
theorem dX6_thiefGoes_113 : decode cX6_thiefGoes 113 = .ok (.aload_n 0, 1) := dk_42 (dk_at dksX6_thiefGoes_4 21 rfl rfl)
theorem dX6_thiefGoes_114 : decode cX6_thiefGoes 114 = .ok (.iload_n 1, 1) := dk_27 (dk_at dksX6_thiefGoes_4 22 rfl rfl)
theorem dX6_thiefGoes_115 : decode cX6_thiefGoes 115 = .ok (.iload 5, 2) := dk_21 5 (dk_at dksX6_thiefGoes_5 0 rfl rfl)
theorem dX6_thiefGoes_117 : decode cX6_thiefGoes 117 = .ok (.invokevirtual 346, 3) := dk_182 1 90 (dk_at dksX6_thiefGoes_5 2 rfl rfl)
theorem dX6_thiefGoes_120 : decode cX6_thiefGoes 120 = .ok (.istore 6, 2) := dk_54 6 (dk_at dksX6_thiefGoes_5 5 rfl rfl)
theorem dX6_thiefGoes_122 : decode cX6_thiefGoes 122 = .ok (.iload 6, 2) := dk_21 6 (dk_at dksX6_thiefGoes_5 7 rfl rfl)
theorem dX6_thiefGoes_124 : decode cX6_thiefGoes 124 = .ok (.iconst (-1), 1) := dk_2 (dk_at dksX6_thiefGoes_5 9 rfl rfl)
theorem dX6_thiefGoes_125 : decode cX6_thiefGoes 125 = .ok (.if_icmp .ne 6, 3) := dk_160 0 6 (dk_at dksX6_thiefGoes_5 10 rfl rfl)
theorem dX6_thiefGoes_128 : decode cX6_thiefGoes 128 = .ok (.goto 137, 3) := dk_167 0 137 (dk_at dksX6_thiefGoes_5 13 rfl rfl)
theorem dX6_thiefGoes_131 : decode cX6_thiefGoes 131 = .ok (.iconst 0, 1) := dk_3 (dk_at dksX6_thiefGoes_5 16 rfl rfl)
theorem dX6_thiefGoes_132 : decode cX6_thiefGoes 132 = .ok (.istore 7, 2) := dk_54 7 (dk_at dksX6_thiefGoes_5 17 rfl rfl)
theorem dX6_thiefGoes_134 : decode cX6_thiefGoes 134 = .ok (.iload 7, 2) := dk_21 7 (dk_at dksX6_thiefGoes_5 19 rfl rfl)
theorem dX6_thiefGoes_136 : decode cX6_thiefGoes 136 = .ok (.iload 4, 2) := dk_21 4 (dk_at dksX6_thiefGoes_5 21 rfl rfl)
theorem dX6_thiefGoes_138 : decode cX6_thiefGoes 138 = .ok (.if_icmp .ge 127, 3) := dk_162 0 127 (dk_at dksX6_thiefGoes_6 0 rfl rfl)
theorem dX6_thiefGoes_141 : decode cX6_thiefGoes 141 = .ok (.aload_n 0, 1) := dk_42 (dk_at dksX6_thiefGoes_6 3 rfl rfl)
theorem dX6_thiefGoes_142 : decode cX6_thiefGoes 142 = .ok (.getfield 105, 3) := dk_180 0 105 (dk_at dksX6_thiefGoes_6 4 rfl rfl)
theorem dX6_thiefGoes_145 : decode cX6_thiefGoes 145 = .ok (.iload 5, 2) := dk_21 5 (dk_at dksX6_thiefGoes_6 7 rfl rfl)
theorem dX6_thiefGoes_147 : decode cX6_thiefGoes 147 = .ok (.iload 7, 2) := dk_21 7 (dk_at dksX6_thiefGoes_6 9 rfl rfl)
theorem dX6_thiefGoes_149 : decode cX6_thiefGoes 149 = .ok (.invokestatic 481, 3) := dk_184 1 225 (dk_at dksX6_thiefGoes_6 11 rfl rfl)
theorem dX6_thiefGoes_152 : decode cX6_thiefGoes 152 = .ok (.laload, 1) := dk_47 (dk_at dksX6_thiefGoes_6 14 rfl rfl)
theorem dX6_thiefGoes_153 : decode cX6_thiefGoes 153 = .ok (.lstore 8, 2) := dk_55 8 (dk_at dksX6_thiefGoes_6 15 rfl rfl)
theorem dX6_thiefGoes_155 : decode cX6_thiefGoes 155 = .ok (.lload 8, 2) := dk_22 8 (dk_at dksX6_thiefGoes_6 17 rfl rfl)
theorem dX6_thiefGoes_157 : decode cX6_thiefGoes 157 = .ok (.lconst 0, 1) := dk_9 (dk_at dksX6_thiefGoes_6 19 rfl rfl)
theorem dX6_thiefGoes_158 : decode cX6_thiefGoes 158 = .ok (.lcmp, 1) := dk_148 (dk_at dksX6_thiefGoes_6 20 rfl rfl)
theorem dX6_thiefGoes_159 : decode cX6_thiefGoes 159 = .ok (.ifCond .ne 6, 3) := dk_154 0 6 (dk_at dksX6_thiefGoes_6 21 rfl rfl)
theorem dX6_thiefGoes_162 : decode cX6_thiefGoes 162 = .ok (.goto 97, 3) := dk_167 0 97 (dk_at dksX6_thiefGoes_7 0 rfl rfl)
theorem dX6_thiefGoes_165 : decode cX6_thiefGoes 165 = .ok (.iload 6, 2) := dk_21 6 (dk_at dksX6_thiefGoes_7 3 rfl rfl)
theorem dX6_thiefGoes_167 : decode cX6_thiefGoes 167 = .ok (.aload_n 0, 1) := dk_42 (dk_at dksX6_thiefGoes_7 5 rfl rfl)
theorem dX6_thiefGoes_168 : decode cX6_thiefGoes 168 = .ok (.getfield 52, 3) := dk_180 0 52 (dk_at dksX6_thiefGoes_7 6 rfl rfl)
theorem dX6_thiefGoes_171 : decode cX6_thiefGoes 171 = .ok (.iconst 0, 1) := dk_3 (dk_at dksX6_thiefGoes_7 9 rfl rfl)
theorem dX6_thiefGoes_172 : decode cX6_thiefGoes 172 = .ok (.iaload, 1) := dk_46 (dk_at dksX6_thiefGoes_7 10 rfl rfl)
theorem dX6_thiefGoes_173 : decode cX6_thiefGoes 173 = .ok (.if_icmp .ne 15, 3) := dk_160 0 15 (dk_at dksX6_thiefGoes_7 11 rfl rfl)
theorem dX6_thiefGoes_176 : decode cX6_thiefGoes 176 = .ok (.lload 8, 2) := dk_22 8 (dk_at dksX6_thiefGoes_7 14 rfl rfl)
theorem dX6_thiefGoes_178 : decode cX6_thiefGoes 178 = .ok (.iload_n 2, 1) := dk_28 (dk_at dksX6_thiefGoes_7 16 rfl rfl)
theorem dX6_thiefGoes_179 : decode cX6_thiefGoes 179 = .ok (.i2l, 1) := dk_133 (dk_at dksX6_thiefGoes_7 17 rfl rfl)
theorem dX6_thiefGoes_180 : decode cX6_thiefGoes 180 = .ok (.lmul, 1) := dk_105 (dk_at dksX6_thiefGoes_7 18 rfl rfl)
theorem dX6_thiefGoes_181 : decode cX6_thiefGoes 181 = .ok (.ldc2_w 325, 3) := dk_20 1 69 (dk_at dksX6_thiefGoes_7 19 rfl rfl)
theorem dX6_thiefGoes_184 : decode cX6_thiefGoes 184 = .ok (.ldiv, 1) := dk_109 (dk_at dksX6_thiefGoes_7 22 rfl rfl)
theorem dX6_thiefGoes_185 : decode cX6_thiefGoes 185 = .ok (.goto 4, 3) := dk_167 0 4 (dk_at dksX6_thiefGoes_8 0 rfl rfl)
theorem dX6_thiefGoes_188 : decode cX6_thiefGoes 188 = .ok (.lconst 0, 1) := dk_9 (dk_at dksX6_thiefGoes_8 3 rfl rfl)
theorem dX6_thiefGoes_189 : decode cX6_thiefGoes 189 = .ok (.lstore 10, 2) := dk_55 10 (dk_at dksX6_thiefGoes_8 4 rfl rfl)
theorem dX6_thiefGoes_191 : decode cX6_thiefGoes 191 = .ok (.aload_n 0, 1) := dk_42 (dk_at dksX6_thiefGoes_8 6 rfl rfl)
theorem dX6_thiefGoes_192 : decode cX6_thiefGoes 192 = .ok (.getfield 102, 3) := dk_180 0 102 (dk_at dksX6_thiefGoes_8 7 rfl rfl)
theorem dX6_thiefGoes_195 : decode cX6_thiefGoes 195 = .ok (.iload 5, 2) := dk_21 5 (dk_at dksX6_thiefGoes_8 10 rfl rfl)
theorem dX6_thiefGoes_197 : decode cX6_thiefGoes 197 = .ok (.iload 7, 2) := dk_21 7 (dk_at dksX6_thiefGoes_8 12 rfl rfl)
theorem dX6_thiefGoes_199 : decode cX6_thiefGoes 199 = .ok (.invokestatic 481, 3) := dk_184 1 225 (dk_at dksX6_thiefGoes_8 14 rfl rfl)
theorem dX6_thiefGoes_202 : decode cX6_thiefGoes 202 = .ok (.dup2, 1) := dk_92 (dk_at dksX6_thiefGoes_8 17 rfl rfl)
theorem dX6_thiefGoes_203 : decode cX6_thiefGoes 203 = .ok (.laload, 1) := dk_47 (dk_at dksX6_thiefGoes_8 18 rfl rfl)
theorem dX6_thiefGoes_204 : decode cX6_thiefGoes 204 = .ok (.lload 8, 2) := dk_22 8 (dk_at dksX6_thiefGoes_8 19 rfl rfl)
theorem dX6_thiefGoes_206 : decode cX6_thiefGoes 206 = .ok (.lsub, 1) := dk_101 (dk_at dksX6_thiefGoes_8 21 rfl rfl)
theorem dX6_thiefGoes_207 : decode cX6_thiefGoes 207 = .ok (.lastore, 1) := dk_80 (dk_at dksX6_thiefGoes_8 22 rfl rfl)
theorem dX6_thiefGoes_208 : decode cX6_thiefGoes 208 = .ok (.aload_n 0, 1) := dk_42 (dk_at dksX6_thiefGoes_8 23 rfl rfl)
theorem dX6_thiefGoes_209 : decode cX6_thiefGoes 209 = .ok (.getfield 102, 3) := dk_180 0 102 (dk_at dksX6_thiefGoes_9 0 rfl rfl)
theorem dX6_thiefGoes_212 : decode cX6_thiefGoes 212 = .ok (.iload 5, 2) := dk_21 5 (dk_at dksX6_thiefGoes_9 3 rfl rfl)
theorem dX6_thiefGoes_214 : decode cX6_thiefGoes 214 = .ok (.iconst 1, 1) := dk_4 (dk_at dksX6_thiefGoes_9 5 rfl rfl)
theorem dX6_thiefGoes_215 : decode cX6_thiefGoes 215 = .ok (.iload 6, 2) := dk_21 6 (dk_at dksX6_thiefGoes_9 6 rfl rfl)
theorem dX6_thiefGoes_217 : decode cX6_thiefGoes 217 = .ok (.ishl, 1) := dk_120 (dk_at dksX6_thiefGoes_9 8 rfl rfl)
theorem dX6_thiefGoes_218 : decode cX6_thiefGoes 218 = .ok (.ior, 1) := dk_128 (dk_at dksX6_thiefGoes_9 9 rfl rfl)
theorem dX6_thiefGoes_219 : decode cX6_thiefGoes 219 = .ok (.iload 7, 2) := dk_21 7 (dk_at dksX6_thiefGoes_9 10 rfl rfl)
theorem dX6_thiefGoes_221 : decode cX6_thiefGoes 221 = .ok (.iconst 1, 1) := dk_4 (dk_at dksX6_thiefGoes_9 12 rfl rfl)
theorem dX6_thiefGoes_222 : decode cX6_thiefGoes 222 = .ok (.iload_n 1, 1) := dk_27 (dk_at dksX6_thiefGoes_9 13 rfl rfl)
theorem dX6_thiefGoes_223 : decode cX6_thiefGoes 223 = .ok (.ishl, 1) := dk_120 (dk_at dksX6_thiefGoes_9 14 rfl rfl)
theorem dX6_thiefGoes_224 : decode cX6_thiefGoes 224 = .ok (.ior, 1) := dk_128 (dk_at dksX6_thiefGoes_9 15 rfl rfl)
theorem dX6_thiefGoes_225 : decode cX6_thiefGoes 225 = .ok (.invokestatic 481, 3) := dk_184 1 225 (dk_at dksX6_thiefGoes_9 16 rfl rfl)
theorem dX6_thiefGoes_228 : decode cX6_thiefGoes 228 = .ok (.dup2, 1) := dk_92 (dk_at dksX6_thiefGoes_9 19 rfl rfl)
theorem dX6_thiefGoes_229 : decode cX6_thiefGoes 229 = .ok (.laload, 1) := dk_47 (dk_at dksX6_thiefGoes_9 20 rfl rfl)
theorem dX6_thiefGoes_230 : decode cX6_thiefGoes 230 = .ok (.lload 10, 2) := dk_22 10 (dk_at dksX6_thiefGoes_9 21 rfl rfl)
theorem dX6_thiefGoes_232 : decode cX6_thiefGoes 232 = .ok (.ladd, 1) := dk_97 (dk_at dksX6_thiefGoes_9 23 rfl rfl)
theorem dX6_thiefGoes_233 : decode cX6_thiefGoes 233 = .ok (.lastore, 1) := dk_80 (dk_at dksX6_thiefGoes_10 0 rfl rfl)
theorem dX6_thiefGoes_234 : decode cX6_thiefGoes 234 = .ok (.aload_n 0, 1) := dk_42 (dk_at dksX6_thiefGoes_10 1 rfl rfl)
theorem dX6_thiefGoes_235 : decode cX6_thiefGoes 235 = .ok (.getfield 102, 3) := dk_180 0 102 (dk_at dksX6_thiefGoes_10 2 rfl rfl)
theorem dX6_thiefGoes_238 : decode cX6_thiefGoes 238 = .ok (.iload 5, 2) := dk_21 5 (dk_at dksX6_thiefGoes_10 5 rfl rfl)
theorem dX6_thiefGoes_240 : decode cX6_thiefGoes 240 = .ok (.iconst 1, 1) := dk_4 (dk_at dksX6_thiefGoes_10 7 rfl rfl)
theorem dX6_thiefGoes_241 : decode cX6_thiefGoes 241 = .ok (.iload 6, 2) := dk_21 6 (dk_at dksX6_thiefGoes_10 8 rfl rfl)
theorem dX6_thiefGoes_243 : decode cX6_thiefGoes 243 = .ok (.ishl, 1) := dk_120 (dk_at dksX6_thiefGoes_10 10 rfl rfl)
theorem dX6_thiefGoes_244 : decode cX6_thiefGoes 244 = .ok (.ior, 1) := dk_128 (dk_at dksX6_thiefGoes_10 11 rfl rfl)
theorem dX6_thiefGoes_245 : decode cX6_thiefGoes 245 = .ok (.iload 7, 2) := dk_21 7 (dk_at dksX6_thiefGoes_10 12 rfl rfl)
theorem dX6_thiefGoes_247 : decode cX6_thiefGoes 247 = .ok (.invokestatic 481, 3) := dk_184 1 225 (dk_at dksX6_thiefGoes_10 14 rfl rfl)
theorem dX6_thiefGoes_250 : decode cX6_thiefGoes 250 = .ok (.dup2, 1) := dk_92 (dk_at dksX6_thiefGoes_10 17 rfl rfl)
theorem dX6_thiefGoes_251 : decode cX6_thiefGoes 251 = .ok (.laload, 1) := dk_47 (dk_at dksX6_thiefGoes_10 18 rfl rfl)
theorem dX6_thiefGoes_252 : decode cX6_thiefGoes 252 = .ok (.lload 8, 2) := dk_22 8 (dk_at dksX6_thiefGoes_10 19 rfl rfl)
theorem dX6_thiefGoes_254 : decode cX6_thiefGoes 254 = .ok (.lload 10, 2) := dk_22 10 (dk_at dksX6_thiefGoes_10 21 rfl rfl)
theorem dX6_thiefGoes_256 : decode cX6_thiefGoes 256 = .ok (.lsub, 1) := dk_101 (dk_at dksX6_thiefGoes_10 23 rfl rfl)
theorem dX6_thiefGoes_257 : decode cX6_thiefGoes 257 = .ok (.ladd, 1) := dk_97 (dk_at dksX6_thiefGoes_11 0 rfl rfl)
theorem dX6_thiefGoes_258 : decode cX6_thiefGoes 258 = .ok (.lastore, 1) := dk_80 (dk_at dksX6_thiefGoes_11 1 rfl rfl)
theorem dX6_thiefGoes_259 : decode cX6_thiefGoes 259 = .ok (.iinc 7 1, 3) := dk_132 7 1 (dk_at dksX6_thiefGoes_11 2 rfl rfl)
theorem dX6_thiefGoes_262 : decode cX6_thiefGoes 262 = .ok (.goto (-128), 3) := dk_167 255 128 (dk_at dksX6_thiefGoes_11 5 rfl rfl)
theorem dX6_thiefGoes_265 : decode cX6_thiefGoes 265 = .ok (.iinc 5 1, 3) := dk_132 5 1 (dk_at dksX6_thiefGoes_11 8 rfl rfl)
theorem dX6_thiefGoes_268 : decode cX6_thiefGoes 268 = .ok (.goto (-161), 3) := dk_167 255 95 (dk_at dksX6_thiefGoes_11 11 rfl rfl)
theorem dX6_thiefGoes_271 : decode cX6_thiefGoes 271 = .ok (.return_, 1) := dk_177 (dk_at dksX6_thiefGoes_11 14 rfl rfl)
abbrev cX6_caught : ByteArray := prog_20_method_124_code
def yX6_caught : MethodName := ⟨RX6, "caught", "(IIII)J"⟩
def dkwX6_caught_4 : List UInt8 := [167, 255, 214, 22, 6, 173]
abbrev dktX6_caught_4 : List UInt8 := dkwX6_caught_4 ++ []
def dkwX6_caught_3 : List UInt8 := [4, 126, 4, 160, 0, 13, 42, 180, 0, 108, 21, 8, 47, 167, 0, 4, 9, 97, 55, 6, 132, 8, 1]
abbrev dktX6_caught_3 : List UInt8 := dkwX6_caught_3 ++ dktX6_caught_4
def dkwX6_caught_2 : List UInt8 := [55, 6, 3, 54, 8, 21, 8, 4, 42, 180, 0, 58, 3, 46, 120, 162, 0, 35, 22, 6, 21, 8, 27, 122]
abbrev dktX6_caught_2 : List UInt8 := dkwX6_caught_2 ++ dktX6_caught_3
def dkwX6_caught_1 : List UInt8 := [182, 1, 236, 54, 5, 21, 5, 153, 0, 7, 21, 5, 133, 173, 42, 28, 29, 21, 4, 182, 1, 239, 9]
abbrev dktX6_caught_1 : List UInt8 := dkwX6_caught_1 ++ dktX6_caught_2
def dkwX6_caught_0 : List UInt8 := [42, 3, 181, 0, 114, 42, 27, 182, 1, 74, 154, 0, 7, 20, 1, 104, 173, 42, 28, 29, 21, 4]
abbrev dktX6_caught_0 : List UInt8 := dkwX6_caught_0 ++ dktX6_caught_1
theorem dksX6_caught_0 : cX6_caught.data.toList.drop 0 = dktX6_caught_0 := by decide +kernel
theorem dksX6_caught_1 : cX6_caught.data.toList.drop 22 = dktX6_caught_1 := dk_seg dksX6_caught_0 22 rfl rfl
theorem dksX6_caught_2 : cX6_caught.data.toList.drop 45 = dktX6_caught_2 := dk_seg dksX6_caught_1 23 rfl rfl
theorem dksX6_caught_3 : cX6_caught.data.toList.drop 69 = dktX6_caught_3 := dk_seg dksX6_caught_2 24 rfl rfl
theorem dksX6_caught_4 : cX6_caught.data.toList.drop 92 = dktX6_caught_4 := dk_seg dksX6_caught_3 23 rfl rfl
theorem dX6_caught_0 : decode cX6_caught 0 = .ok (.aload_n 0, 1) := dk_42 (dk_at dksX6_caught_0 0 rfl rfl)
theorem dX6_caught_1 : decode cX6_caught 1 = .ok (.iconst 0, 1) := dk_3 (dk_at dksX6_caught_0 1 rfl rfl)
theorem dX6_caught_2 : decode cX6_caught 2 = .ok (.putfield 114, 3) := dk_181 0 114 (dk_at dksX6_caught_0 2 rfl rfl)
theorem dX6_caught_5 : decode cX6_caught 5 = .ok (.aload_n 0, 1) := dk_42 (dk_at dksX6_caught_0 5 rfl rfl)
theorem dX6_caught_6 : decode cX6_caught 6 = .ok (.iload_n 1, 1) := dk_27 (dk_at dksX6_caught_0 6 rfl rfl)
theorem dX6_caught_7 : decode cX6_caught 7 = .ok (.invokevirtual 330, 3) := dk_182 1 74 (dk_at dksX6_caught_0 7 rfl rfl)
theorem dX6_caught_10 : decode cX6_caught 10 = .ok (.ifCond .ne 7, 3) := dk_154 0 7 (dk_at dksX6_caught_0 10 rfl rfl)
theorem dX6_caught_13 : decode cX6_caught 13 = .ok (.ldc2_w 360, 3) := dk_20 1 104 (dk_at dksX6_caught_0 13 rfl rfl)
theorem dX6_caught_16 : decode cX6_caught 16 = .ok (.lreturn, 1) := dk_173 (dk_at dksX6_caught_0 16 rfl rfl)
theorem dX6_caught_17 : decode cX6_caught 17 = .ok (.aload_n 0, 1) := dk_42 (dk_at dksX6_caught_0 17 rfl rfl)
theorem dX6_caught_18 : decode cX6_caught 18 = .ok (.iload_n 2, 1) := dk_28 (dk_at dksX6_caught_0 18 rfl rfl)
theorem dX6_caught_19 : decode cX6_caught 19 = .ok (.iload_n 3, 1) := dk_29 (dk_at dksX6_caught_0 19 rfl rfl)
theorem dX6_caught_20 : decode cX6_caught 20 = .ok (.iload 4, 2) := dk_21 4 (dk_at dksX6_caught_0 20 rfl rfl)
theorem dX6_caught_22 : decode cX6_caught 22 = .ok (.invokevirtual 492, 3) := dk_182 1 236 (dk_at dksX6_caught_1 0 rfl rfl)
theorem dX6_caught_25 : decode cX6_caught 25 = .ok (.istore 5, 2) := dk_54 5 (dk_at dksX6_caught_1 3 rfl rfl)
theorem dX6_caught_27 : decode cX6_caught 27 = .ok (.iload 5, 2) := dk_21 5 (dk_at dksX6_caught_1 5 rfl rfl)
theorem dX6_caught_29 : decode cX6_caught 29 = .ok (.ifCond .eq 7, 3) := dk_153 0 7 (dk_at dksX6_caught_1 7 rfl rfl)
theorem dX6_caught_32 : decode cX6_caught 32 = .ok (.iload 5, 2) := dk_21 5 (dk_at dksX6_caught_1 10 rfl rfl)
theorem dX6_caught_34 : decode cX6_caught 34 = .ok (.i2l, 1) := dk_133 (dk_at dksX6_caught_1 12 rfl rfl)
theorem dX6_caught_35 : decode cX6_caught 35 = .ok (.lreturn, 1) := dk_173 (dk_at dksX6_caught_1 13 rfl rfl)
theorem dX6_caught_36 : decode cX6_caught 36 = .ok (.aload_n 0, 1) := dk_42 (dk_at dksX6_caught_1 14 rfl rfl)
theorem dX6_caught_37 : decode cX6_caught 37 = .ok (.iload_n 2, 1) := dk_28 (dk_at dksX6_caught_1 15 rfl rfl)
theorem dX6_caught_38 : decode cX6_caught 38 = .ok (.iload_n 3, 1) := dk_29 (dk_at dksX6_caught_1 16 rfl rfl)
theorem dX6_caught_39 : decode cX6_caught 39 = .ok (.iload 4, 2) := dk_21 4 (dk_at dksX6_caught_1 17 rfl rfl)
theorem dX6_caught_41 : decode cX6_caught 41 = .ok (.invokevirtual 495, 3) := dk_182 1 239 (dk_at dksX6_caught_1 19 rfl rfl)
theorem dX6_caught_44 : decode cX6_caught 44 = .ok (.lconst 0, 1) := dk_9 (dk_at dksX6_caught_1 22 rfl rfl)
theorem dX6_caught_45 : decode cX6_caught 45 = .ok (.lstore 6, 2) := dk_55 6 (dk_at dksX6_caught_2 0 rfl rfl)
theorem dX6_caught_47 : decode cX6_caught 47 = .ok (.iconst 0, 1) := dk_3 (dk_at dksX6_caught_2 2 rfl rfl)
theorem dX6_caught_48 : decode cX6_caught 48 = .ok (.istore 8, 2) := dk_54 8 (dk_at dksX6_caught_2 3 rfl rfl)
theorem dX6_caught_50 : decode cX6_caught 50 = .ok (.iload 8, 2) := dk_21 8 (dk_at dksX6_caught_2 5 rfl rfl)
theorem dX6_caught_52 : decode cX6_caught 52 = .ok (.iconst 1, 1) := dk_4 (dk_at dksX6_caught_2 7 rfl rfl)
theorem dX6_caught_53 : decode cX6_caught 53 = .ok (.aload_n 0, 1) := dk_42 (dk_at dksX6_caught_2 8 rfl rfl)
theorem dX6_caught_54 : decode cX6_caught 54 = .ok (.getfield 58, 3) := dk_180 0 58 (dk_at dksX6_caught_2 9 rfl rfl)
theorem dX6_caught_57 : decode cX6_caught 57 = .ok (.iconst 0, 1) := dk_3 (dk_at dksX6_caught_2 12 rfl rfl)
theorem dX6_caught_58 : decode cX6_caught 58 = .ok (.iaload, 1) := dk_46 (dk_at dksX6_caught_2 13 rfl rfl)
theorem dX6_caught_59 : decode cX6_caught 59 = .ok (.ishl, 1) := dk_120 (dk_at dksX6_caught_2 14 rfl rfl)
theorem dX6_caught_60 : decode cX6_caught 60 = .ok (.if_icmp .ge 35, 3) := dk_162 0 35 (dk_at dksX6_caught_2 15 rfl rfl)
theorem dX6_caught_63 : decode cX6_caught 63 = .ok (.lload 6, 2) := dk_22 6 (dk_at dksX6_caught_2 18 rfl rfl)
theorem dX6_caught_65 : decode cX6_caught 65 = .ok (.iload 8, 2) := dk_21 8 (dk_at dksX6_caught_2 20 rfl rfl)
theorem dX6_caught_67 : decode cX6_caught 67 = .ok (.iload_n 1, 1) := dk_27 (dk_at dksX6_caught_2 22 rfl rfl)
theorem dX6_caught_68 : decode cX6_caught 68 = .ok (.ishr, 1) := dk_122 (dk_at dksX6_caught_2 23 rfl rfl)
theorem dX6_caught_69 : decode cX6_caught 69 = .ok (.iconst 1, 1) := dk_4 (dk_at dksX6_caught_3 0 rfl rfl)
theorem dX6_caught_70 : decode cX6_caught 70 = .ok (.iand, 1) := dk_126 (dk_at dksX6_caught_3 1 rfl rfl)
theorem dX6_caught_71 : decode cX6_caught 71 = .ok (.iconst 1, 1) := dk_4 (dk_at dksX6_caught_3 2 rfl rfl)
theorem dX6_caught_72 : decode cX6_caught 72 = .ok (.if_icmp .ne 13, 3) := dk_160 0 13 (dk_at dksX6_caught_3 3 rfl rfl)
theorem dX6_caught_75 : decode cX6_caught 75 = .ok (.aload_n 0, 1) := dk_42 (dk_at dksX6_caught_3 6 rfl rfl)
theorem dX6_caught_76 : decode cX6_caught 76 = .ok (.getfield 108, 3) := dk_180 0 108 (dk_at dksX6_caught_3 7 rfl rfl)
theorem dX6_caught_79 : decode cX6_caught 79 = .ok (.iload 8, 2) := dk_21 8 (dk_at dksX6_caught_3 10 rfl rfl)
theorem dX6_caught_81 : decode cX6_caught 81 = .ok (.laload, 1) := dk_47 (dk_at dksX6_caught_3 12 rfl rfl)
theorem dX6_caught_82 : decode cX6_caught 82 = .ok (.goto 4, 3) := dk_167 0 4 (dk_at dksX6_caught_3 13 rfl rfl)
theorem dX6_caught_85 : decode cX6_caught 85 = .ok (.lconst 0, 1) := dk_9 (dk_at dksX6_caught_3 16 rfl rfl)
theorem dX6_caught_86 : decode cX6_caught 86 = .ok (.ladd, 1) := dk_97 (dk_at dksX6_caught_3 17 rfl rfl)
theorem dX6_caught_87 : decode cX6_caught 87 = .ok (.lstore 6, 2) := dk_55 6 (dk_at dksX6_caught_3 18 rfl rfl)
theorem dX6_caught_89 : decode cX6_caught 89 = .ok (.iinc 8 1, 3) := dk_132 8 1 (dk_at dksX6_caught_3 20 rfl rfl)
theorem dX6_caught_92 : decode cX6_caught 92 = .ok (.goto (-42), 3) := dk_167 255 214 (dk_at dksX6_caught_4 0 rfl rfl)
theorem dX6_caught_95 : decode cX6_caught 95 = .ok (.lload 6, 2) := dk_22 6 (dk_at dksX6_caught_4 3 rfl rfl)
theorem dX6_caught_97 : decode cX6_caught 97 = .ok (.lreturn, 1) := dk_173 (dk_at dksX6_caught_4 5 rfl rfl)
abbrev cX6_lures : ByteArray := prog_20_method_125_code
def yX6_lures : MethodName := ⟨RX6, "lures", "(I)I"⟩
def dkwX6_lures_4 : List UInt8 := [172]
abbrev dktX6_lures_4 : List UInt8 := dkwX6_lures_4 ++ []
def dkwX6_lures_3 : List UInt8 := [42, 180, 0, 52, 3, 46, 160, 0, 5, 29, 172, 132, 4, 1, 167, 255, 206, 132, 3, 1, 167, 255, 190, 2]
abbrev dktX6_lures_3 : List UInt8 := dkwX6_lures_3 ++ dktX6_lures_4
def dkwX6_lures_2 : List UInt8 := [180, 0, 80, 16, 11, 21, 4, 104, 42, 180, 0, 52, 3, 46, 96, 29, 79, 42, 21, 4, 3, 182, 1, 90]
abbrev dktX6_lures_2 : List UInt8 := dkwX6_lures_2 ++ dktX6_lures_3
def dkwX6_lures_1 : List UInt8 := [3, 62, 29, 17, 39, 15, 163, 0, 65, 3, 54, 4, 21, 4, 42, 180, 0, 58, 3, 46, 162, 0, 45, 42]
abbrev dktX6_lures_1 : List UInt8 := dkwX6_lures_1 ++ dktX6_lures_2
def dkwX6_lures_0 : List UInt8 := [42, 3, 181, 0, 114, 42, 27, 3, 3, 182, 1, 236, 61, 28, 153, 0, 5, 28, 172, 42, 3, 182, 1, 87]
abbrev dktX6_lures_0 : List UInt8 := dkwX6_lures_0 ++ dktX6_lures_1
theorem dksX6_lures_0 : cX6_lures.data.toList.drop 0 = dktX6_lures_0 := by decide +kernel
theorem dksX6_lures_1 : cX6_lures.data.toList.drop 24 = dktX6_lures_1 := dk_seg dksX6_lures_0 24 rfl rfl
theorem dksX6_lures_2 : cX6_lures.data.toList.drop 48 = dktX6_lures_2 := dk_seg dksX6_lures_1 24 rfl rfl
theorem dksX6_lures_3 : cX6_lures.data.toList.drop 72 = dktX6_lures_3 := dk_seg dksX6_lures_2 24 rfl rfl
theorem dksX6_lures_4 : cX6_lures.data.toList.drop 96 = dktX6_lures_4 := dk_seg dksX6_lures_3 24 rfl rfl
theorem dX6_lures_0 : decode cX6_lures 0 = .ok (.aload_n 0, 1) := dk_42 (dk_at dksX6_lures_0 0 rfl rfl)
theorem dX6_lures_1 : decode cX6_lures 1 = .ok (.iconst 0, 1) := dk_3 (dk_at dksX6_lures_0 1 rfl rfl)
theorem dX6_lures_2 : decode cX6_lures 2 = .ok (.putfield 114, 3) := dk_181 0 114 (dk_at dksX6_lures_0 2 rfl rfl)
theorem dX6_lures_5 : decode cX6_lures 5 = .ok (.aload_n 0, 1) := dk_42 (dk_at dksX6_lures_0 5 rfl rfl)
theorem dX6_lures_6 : decode cX6_lures 6 = .ok (.iload_n 1, 1) := dk_27 (dk_at dksX6_lures_0 6 rfl rfl)
theorem dX6_lures_7 : decode cX6_lures 7 = .ok (.iconst 0, 1) := dk_3 (dk_at dksX6_lures_0 7 rfl rfl)
theorem dX6_lures_8 : decode cX6_lures 8 = .ok (.iconst 0, 1) := dk_3 (dk_at dksX6_lures_0 8 rfl rfl)
theorem dX6_lures_9 : decode cX6_lures 9 = .ok (.invokevirtual 492, 3) := dk_182 1 236 (dk_at dksX6_lures_0 9 rfl rfl)
theorem dX6_lures_12 : decode cX6_lures 12 = .ok (.istore_n 2, 1) := dk_61 (dk_at dksX6_lures_0 12 rfl rfl)
theorem dX6_lures_13 : decode cX6_lures 13 = .ok (.iload_n 2, 1) := dk_28 (dk_at dksX6_lures_0 13 rfl rfl)
theorem dX6_lures_14 : decode cX6_lures 14 = .ok (.ifCond .eq 5, 3) := dk_153 0 5 (dk_at dksX6_lures_0 14 rfl rfl)
theorem dX6_lures_17 : decode cX6_lures 17 = .ok (.iload_n 2, 1) := dk_28 (dk_at dksX6_lures_0 17 rfl rfl)
theorem dX6_lures_18 : decode cX6_lures 18 = .ok (.ireturn, 1) := dk_172 (dk_at dksX6_lures_0 18 rfl rfl)
theorem dX6_lures_19 : decode cX6_lures 19 = .ok (.aload_n 0, 1) := dk_42 (dk_at dksX6_lures_0 19 rfl rfl)
theorem dX6_lures_20 : decode cX6_lures 20 = .ok (.iconst 0, 1) := dk_3 (dk_at dksX6_lures_0 20 rfl rfl)
theorem dX6_lures_21 : decode cX6_lures 21 = .ok (.invokevirtual 343, 3) := dk_182 1 87 (dk_at dksX6_lures_0 21 rfl rfl)
theorem dX6_lures_24 : decode cX6_lures 24 = .ok (.iconst 0, 1) := dk_3 (dk_at dksX6_lures_1 0 rfl rfl)
theorem dX6_lures_25 : decode cX6_lures 25 = .ok (.istore_n 3, 1) := dk_62 (dk_at dksX6_lures_1 1 rfl rfl)
theorem dX6_lures_26 : decode cX6_lures 26 = .ok (.iload_n 3, 1) := dk_29 (dk_at dksX6_lures_1 2 rfl rfl)
theorem dX6_lures_27 : decode cX6_lures 27 = .ok (.sipush 9999, 3) := dk_17 39 15 (dk_at dksX6_lures_1 3 rfl rfl)
theorem dX6_lures_30 : decode cX6_lures 30 = .ok (.if_icmp .gt 65, 3) := dk_163 0 65 (dk_at dksX6_lures_1 6 rfl rfl)
theorem dX6_lures_33 : decode cX6_lures 33 = .ok (.iconst 0, 1) := dk_3 (dk_at dksX6_lures_1 9 rfl rfl)
theorem dX6_lures_34 : decode cX6_lures 34 = .ok (.istore 4, 2) := dk_54 4 (dk_at dksX6_lures_1 10 rfl rfl)
theorem dX6_lures_36 : decode cX6_lures 36 = .ok (.iload 4, 2) := dk_21 4 (dk_at dksX6_lures_1 12 rfl rfl)
theorem dX6_lures_38 : decode cX6_lures 38 = .ok (.aload_n 0, 1) := dk_42 (dk_at dksX6_lures_1 14 rfl rfl)
theorem dX6_lures_39 : decode cX6_lures 39 = .ok (.getfield 58, 3) := dk_180 0 58 (dk_at dksX6_lures_1 15 rfl rfl)
theorem dX6_lures_42 : decode cX6_lures 42 = .ok (.iconst 0, 1) := dk_3 (dk_at dksX6_lures_1 18 rfl rfl)
theorem dX6_lures_43 : decode cX6_lures 43 = .ok (.iaload, 1) := dk_46 (dk_at dksX6_lures_1 19 rfl rfl)
theorem dX6_lures_44 : decode cX6_lures 44 = .ok (.if_icmp .ge 45, 3) := dk_162 0 45 (dk_at dksX6_lures_1 20 rfl rfl)
theorem dX6_lures_47 : decode cX6_lures 47 = .ok (.aload_n 0, 1) := dk_42 (dk_at dksX6_lures_1 23 rfl rfl)
theorem dX6_lures_48 : decode cX6_lures 48 = .ok (.getfield 80, 3) := dk_180 0 80 (dk_at dksX6_lures_2 0 rfl rfl)
theorem dX6_lures_51 : decode cX6_lures 51 = .ok (.bipush 11, 2) := dk_16 11 (dk_at dksX6_lures_2 3 rfl rfl)
theorem dX6_lures_53 : decode cX6_lures 53 = .ok (.iload 4, 2) := dk_21 4 (dk_at dksX6_lures_2 5 rfl rfl)
theorem dX6_lures_55 : decode cX6_lures 55 = .ok (.imul, 1) := dk_104 (dk_at dksX6_lures_2 7 rfl rfl)
theorem dX6_lures_56 : decode cX6_lures 56 = .ok (.aload_n 0, 1) := dk_42 (dk_at dksX6_lures_2 8 rfl rfl)
theorem dX6_lures_57 : decode cX6_lures 57 = .ok (.getfield 52, 3) := dk_180 0 52 (dk_at dksX6_lures_2 9 rfl rfl)
theorem dX6_lures_60 : decode cX6_lures 60 = .ok (.iconst 0, 1) := dk_3 (dk_at dksX6_lures_2 12 rfl rfl)
theorem dX6_lures_61 : decode cX6_lures 61 = .ok (.iaload, 1) := dk_46 (dk_at dksX6_lures_2 13 rfl rfl)
theorem dX6_lures_62 : decode cX6_lures 62 = .ok (.iadd, 1) := dk_96 (dk_at dksX6_lures_2 14 rfl rfl)
theorem dX6_lures_63 : decode cX6_lures 63 = .ok (.iload_n 3, 1) := dk_29 (dk_at dksX6_lures_2 15 rfl rfl)
theorem dX6_lures_64 : decode cX6_lures 64 = .ok (.iastore, 1) := dk_79 (dk_at dksX6_lures_2 16 rfl rfl)
theorem dX6_lures_65 : decode cX6_lures 65 = .ok (.aload_n 0, 1) := dk_42 (dk_at dksX6_lures_2 17 rfl rfl)
theorem dX6_lures_66 : decode cX6_lures 66 = .ok (.iload 4, 2) := dk_21 4 (dk_at dksX6_lures_2 18 rfl rfl)
theorem dX6_lures_68 : decode cX6_lures 68 = .ok (.iconst 0, 1) := dk_3 (dk_at dksX6_lures_2 20 rfl rfl)
theorem dX6_lures_69 : decode cX6_lures 69 = .ok (.invokevirtual 346, 3) := dk_182 1 90 (dk_at dksX6_lures_2 21 rfl rfl)
theorem dX6_lures_72 : decode cX6_lures 72 = .ok (.aload_n 0, 1) := dk_42 (dk_at dksX6_lures_3 0 rfl rfl)
theorem dX6_lures_73 : decode cX6_lures 73 = .ok (.getfield 52, 3) := dk_180 0 52 (dk_at dksX6_lures_3 1 rfl rfl)
theorem dX6_lures_76 : decode cX6_lures 76 = .ok (.iconst 0, 1) := dk_3 (dk_at dksX6_lures_3 4 rfl rfl)
theorem dX6_lures_77 : decode cX6_lures 77 = .ok (.iaload, 1) := dk_46 (dk_at dksX6_lures_3 5 rfl rfl)
theorem dX6_lures_78 : decode cX6_lures 78 = .ok (.if_icmp .ne 5, 3) := dk_160 0 5 (dk_at dksX6_lures_3 6 rfl rfl)
theorem dX6_lures_81 : decode cX6_lures 81 = .ok (.iload_n 3, 1) := dk_29 (dk_at dksX6_lures_3 9 rfl rfl)
theorem dX6_lures_82 : decode cX6_lures 82 = .ok (.ireturn, 1) := dk_172 (dk_at dksX6_lures_3 10 rfl rfl)
theorem dX6_lures_83 : decode cX6_lures 83 = .ok (.iinc 4 1, 3) := dk_132 4 1 (dk_at dksX6_lures_3 11 rfl rfl)
theorem dX6_lures_86 : decode cX6_lures 86 = .ok (.goto (-50), 3) := dk_167 255 206 (dk_at dksX6_lures_3 14 rfl rfl)
theorem dX6_lures_89 : decode cX6_lures 89 = .ok (.iinc 3 1, 3) := dk_132 3 1 (dk_at dksX6_lures_3 17 rfl rfl)
theorem dX6_lures_92 : decode cX6_lures 92 = .ok (.goto (-66), 3) := dk_167 255 190 (dk_at dksX6_lures_3 20 rfl rfl)
theorem dX6_lures_95 : decode cX6_lures 95 = .ok (.iconst (-1), 1) := dk_2 (dk_at dksX6_lures_3 23 rfl rfl)
theorem dX6_lures_96 : decode cX6_lures 96 = .ok (.ireturn, 1) := dk_172 (dk_at dksX6_lures_4 0 rfl rfl)
abbrev cX6_cover : ByteArray := prog_20_method_128_code
def yX6_cover : MethodName := ⟨RX6, "cover", "(III)J"⟩
def dkwX6_cover_1 : List UInt8 := [182, 1, 249, 87, 42, 180, 1, 243, 173]
abbrev dktX6_cover_1 : List UInt8 := dkwX6_cover_1 ++ []
def dkwX6_cover_0 : List UInt8 := [42, 3, 181, 0, 114, 42, 27, 28, 29, 182, 1, 246, 154, 0, 7, 20, 1, 104, 173, 42, 27, 28, 29]
abbrev dktX6_cover_0 : List UInt8 := dkwX6_cover_0 ++ dktX6_cover_1
theorem dksX6_cover_0 : cX6_cover.data.toList.drop 0 = dktX6_cover_0 := by decide +kernel
theorem dksX6_cover_1 : cX6_cover.data.toList.drop 23 = dktX6_cover_1 := dk_seg dksX6_cover_0 23 rfl rfl
theorem dX6_cover_0 : decode cX6_cover 0 = .ok (.aload_n 0, 1) := dk_42 (dk_at dksX6_cover_0 0 rfl rfl)
theorem dX6_cover_1 : decode cX6_cover 1 = .ok (.iconst 0, 1) := dk_3 (dk_at dksX6_cover_0 1 rfl rfl)
theorem dX6_cover_2 : decode cX6_cover 2 = .ok (.putfield 114, 3) := dk_181 0 114 (dk_at dksX6_cover_0 2 rfl rfl)
theorem dX6_cover_5 : decode cX6_cover 5 = .ok (.aload_n 0, 1) := dk_42 (dk_at dksX6_cover_0 5 rfl rfl)
theorem dX6_cover_6 : decode cX6_cover 6 = .ok (.iload_n 1, 1) := dk_27 (dk_at dksX6_cover_0 6 rfl rfl)
theorem dX6_cover_7 : decode cX6_cover 7 = .ok (.iload_n 2, 1) := dk_28 (dk_at dksX6_cover_0 7 rfl rfl)
theorem dX6_cover_8 : decode cX6_cover 8 = .ok (.iload_n 3, 1) := dk_29 (dk_at dksX6_cover_0 8 rfl rfl)
theorem dX6_cover_9 : decode cX6_cover 9 = .ok (.invokevirtual 502, 3) := dk_182 1 246 (dk_at dksX6_cover_0 9 rfl rfl)
theorem dX6_cover_12 : decode cX6_cover 12 = .ok (.ifCond .ne 7, 3) := dk_154 0 7 (dk_at dksX6_cover_0 12 rfl rfl)
theorem dX6_cover_15 : decode cX6_cover 15 = .ok (.ldc2_w 360, 3) := dk_20 1 104 (dk_at dksX6_cover_0 15 rfl rfl)
theorem dX6_cover_18 : decode cX6_cover 18 = .ok (.lreturn, 1) := dk_173 (dk_at dksX6_cover_0 18 rfl rfl)
theorem dX6_cover_19 : decode cX6_cover 19 = .ok (.aload_n 0, 1) := dk_42 (dk_at dksX6_cover_0 19 rfl rfl)
theorem dX6_cover_20 : decode cX6_cover 20 = .ok (.iload_n 1, 1) := dk_27 (dk_at dksX6_cover_0 20 rfl rfl)
theorem dX6_cover_21 : decode cX6_cover 21 = .ok (.iload_n 2, 1) := dk_28 (dk_at dksX6_cover_0 21 rfl rfl)
theorem dX6_cover_22 : decode cX6_cover 22 = .ok (.iload_n 3, 1) := dk_29 (dk_at dksX6_cover_0 22 rfl rfl)
theorem dX6_cover_23 : decode cX6_cover 23 = .ok (.invokevirtual 505, 3) := dk_182 1 249 (dk_at dksX6_cover_1 0 rfl rfl)
theorem dX6_cover_26 : decode cX6_cover 26 = .ok (.pop, 1) := dk_87 (dk_at dksX6_cover_1 3 rfl rfl)
theorem dX6_cover_27 : decode cX6_cover 27 = .ok (.aload_n 0, 1) := dk_42 (dk_at dksX6_cover_1 4 rfl rfl)
theorem dX6_cover_28 : decode cX6_cover 28 = .ok (.getfield 499, 3) := dk_180 1 243 (dk_at dksX6_cover_1 5 rfl rfl)
theorem dX6_cover_31 : decode cX6_cover 31 = .ok (.lreturn, 1) := dk_173 (dk_at dksX6_cover_1 8 rfl rfl)
abbrev cX6_isCover : ByteArray := prog_20_method_127_code
def yX6_isCover : MethodName := ⟨RX6, "isCover", "(III)Z"⟩
def dkwX6_isCover_1 : List UInt8 := [20, 1, 69, 184, 0, 119, 153, 0, 7, 4, 167, 0, 4, 3, 172]
abbrev dktX6_isCover_1 : List UInt8 := dkwX6_isCover_1 ++ []
def dkwX6_isCover_0 : List UInt8 := [42, 27, 182, 1, 62, 153, 0, 31, 28, 133, 9, 20, 1, 234, 184, 0, 119, 153, 0, 19, 29, 133, 9]
abbrev dktX6_isCover_0 : List UInt8 := dkwX6_isCover_0 ++ dktX6_isCover_1
theorem dksX6_isCover_0 : cX6_isCover.data.toList.drop 0 = dktX6_isCover_0 := by decide +kernel
theorem dksX6_isCover_1 : cX6_isCover.data.toList.drop 23 = dktX6_isCover_1 := dk_seg dksX6_isCover_0 23 rfl rfl
theorem dX6_isCover_0 : decode cX6_isCover 0 = .ok (.aload_n 0, 1) := dk_42 (dk_at dksX6_isCover_0 0 rfl rfl)
theorem dX6_isCover_1 : decode cX6_isCover 1 = .ok (.iload_n 1, 1) := dk_27 (dk_at dksX6_isCover_0 1 rfl rfl)
theorem dX6_isCover_2 : decode cX6_isCover 2 = .ok (.invokevirtual 318, 3) := dk_182 1 62 (dk_at dksX6_isCover_0 2 rfl rfl)
theorem dX6_isCover_5 : decode cX6_isCover 5 = .ok (.ifCond .eq 31, 3) := dk_153 0 31 (dk_at dksX6_isCover_0 5 rfl rfl)
theorem dX6_isCover_8 : decode cX6_isCover 8 = .ok (.iload_n 2, 1) := dk_28 (dk_at dksX6_isCover_0 8 rfl rfl)
theorem dX6_isCover_9 : decode cX6_isCover 9 = .ok (.i2l, 1) := dk_133 (dk_at dksX6_isCover_0 9 rfl rfl)
theorem dX6_isCover_10 : decode cX6_isCover 10 = .ok (.lconst 0, 1) := dk_9 (dk_at dksX6_isCover_0 10 rfl rfl)
theorem dX6_isCover_11 : decode cX6_isCover 11 = .ok (.ldc2_w 490, 3) := dk_20 1 234 (dk_at dksX6_isCover_0 11 rfl rfl)
theorem dX6_isCover_14 : decode cX6_isCover 14 = .ok (.invokestatic 119, 3) := dk_184 0 119 (dk_at dksX6_isCover_0 14 rfl rfl)
theorem dX6_isCover_17 : decode cX6_isCover 17 = .ok (.ifCond .eq 19, 3) := dk_153 0 19 (dk_at dksX6_isCover_0 17 rfl rfl)
theorem dX6_isCover_20 : decode cX6_isCover 20 = .ok (.iload_n 3, 1) := dk_29 (dk_at dksX6_isCover_0 20 rfl rfl)
theorem dX6_isCover_21 : decode cX6_isCover 21 = .ok (.i2l, 1) := dk_133 (dk_at dksX6_isCover_0 21 rfl rfl)
theorem dX6_isCover_22 : decode cX6_isCover 22 = .ok (.lconst 0, 1) := dk_9 (dk_at dksX6_isCover_0 22 rfl rfl)
theorem dX6_isCover_23 : decode cX6_isCover 23 = .ok (.ldc2_w 325, 3) := dk_20 1 69 (dk_at dksX6_isCover_1 0 rfl rfl)
theorem dX6_isCover_26 : decode cX6_isCover 26 = .ok (.invokestatic 119, 3) := dk_184 0 119 (dk_at dksX6_isCover_1 3 rfl rfl)
theorem dX6_isCover_29 : decode cX6_isCover 29 = .ok (.ifCond .eq 7, 3) := dk_153 0 7 (dk_at dksX6_isCover_1 6 rfl rfl)
theorem dX6_isCover_32 : decode cX6_isCover 32 = .ok (.iconst 1, 1) := dk_4 (dk_at dksX6_isCover_1 9 rfl rfl)
theorem dX6_isCover_33 : decode cX6_isCover 33 = .ok (.goto 4, 3) := dk_167 0 4 (dk_at dksX6_isCover_1 10 rfl rfl)
theorem dX6_isCover_36 : decode cX6_isCover 36 = .ok (.iconst 0, 1) := dk_3 (dk_at dksX6_isCover_1 13 rfl rfl)
theorem dX6_isCover_37 : decode cX6_isCover 37 = .ok (.ireturn, 1) := dk_172 (dk_at dksX6_isCover_1 14 rfl rfl)
abbrev cX6_covers : ByteArray := prog_20_method_126_code
def yX6_covers : MethodName := ⟨RX6, "covers", "(III)I"⟩
def dkwX6_covers_4 : List UInt8 := [167, 255, 174, 42, 27, 21, 4, 182, 1, 155, 21, 5, 172]
abbrev dktX6_covers_4 : List UInt8 := dkwX6_covers_4 ++ []
def dkwX6_covers_3 : List UInt8 := [180, 1, 243, 148, 155, 0, 6, 167, 0, 13, 21, 6, 54, 5, 42, 22, 7, 181, 1, 243, 132, 6, 1]
abbrev dktX6_covers_3 : List UInt8 := dkwX6_covers_3 ++ dktX6_covers_4
def dkwX6_covers_2 : List UInt8 := [100, 133, 42, 27, 182, 1, 126, 105, 20, 1, 69, 109, 97, 55, 7, 21, 5, 2, 159, 0, 16, 22, 7, 42]
abbrev dktX6_covers_2 : List UInt8 := dkwX6_covers_2 ++ dktX6_covers_3
def dkwX6_covers_1 : List UInt8 := [21, 6, 182, 1, 155, 42, 182, 1, 106, 20, 1, 119, 28, 133, 105, 42, 27, 182, 1, 123, 97, 16, 100, 29]
abbrev dktX6_covers_1 : List UInt8 := dkwX6_covers_1 ++ dktX6_covers_2
def dkwX6_covers_0 : List UInt8 := [42, 27, 182, 1, 152, 54, 4, 2, 54, 5, 3, 54, 6, 21, 6, 42, 182, 1, 145, 162, 0, 79, 42, 27]
abbrev dktX6_covers_0 : List UInt8 := dkwX6_covers_0 ++ dktX6_covers_1
theorem dksX6_covers_0 : cX6_covers.data.toList.drop 0 = dktX6_covers_0 := by decide +kernel
theorem dksX6_covers_1 : cX6_covers.data.toList.drop 24 = dktX6_covers_1 := dk_seg dksX6_covers_0 24 rfl rfl
theorem dksX6_covers_2 : cX6_covers.data.toList.drop 48 = dktX6_covers_2 := dk_seg dksX6_covers_1 24 rfl rfl
theorem dksX6_covers_3 : cX6_covers.data.toList.drop 72 = dktX6_covers_3 := dk_seg dksX6_covers_2 24 rfl rfl
theorem dksX6_covers_4 : cX6_covers.data.toList.drop 95 = dktX6_covers_4 := dk_seg dksX6_covers_3 23 rfl rfl
theorem dX6_covers_0 : decode cX6_covers 0 = .ok (.aload_n 0, 1) := dk_42 (dk_at dksX6_covers_0 0 rfl rfl)
theorem dX6_covers_1 : decode cX6_covers 1 = .ok (.iload_n 1, 1) := dk_27 (dk_at dksX6_covers_0 1 rfl rfl)
theorem dX6_covers_2 : decode cX6_covers 2 = .ok (.invokevirtual 408, 3) := dk_182 1 152 (dk_at dksX6_covers_0 2 rfl rfl)
theorem dX6_covers_5 : decode cX6_covers 5 = .ok (.istore 4, 2) := dk_54 4 (dk_at dksX6_covers_0 5 rfl rfl)
theorem dX6_covers_7 : decode cX6_covers 7 = .ok (.iconst (-1), 1) := dk_2 (dk_at dksX6_covers_0 7 rfl rfl)
theorem dX6_covers_8 : decode cX6_covers 8 = .ok (.istore 5, 2) := dk_54 5 (dk_at dksX6_covers_0 8 rfl rfl)
theorem dX6_covers_10 : decode cX6_covers 10 = .ok (.iconst 0, 1) := dk_3 (dk_at dksX6_covers_0 10 rfl rfl)
theorem dX6_covers_11 : decode cX6_covers 11 = .ok (.istore 6, 2) := dk_54 6 (dk_at dksX6_covers_0 11 rfl rfl)
theorem dX6_covers_13 : decode cX6_covers 13 = .ok (.iload 6, 2) := dk_21 6 (dk_at dksX6_covers_0 13 rfl rfl)
theorem dX6_covers_15 : decode cX6_covers 15 = .ok (.aload_n 0, 1) := dk_42 (dk_at dksX6_covers_0 15 rfl rfl)
theorem dX6_covers_16 : decode cX6_covers 16 = .ok (.invokevirtual 401, 3) := dk_182 1 145 (dk_at dksX6_covers_0 16 rfl rfl)
theorem dX6_covers_19 : decode cX6_covers 19 = .ok (.if_icmp .ge 79, 3) := dk_162 0 79 (dk_at dksX6_covers_0 19 rfl rfl)
theorem dX6_covers_22 : decode cX6_covers 22 = .ok (.aload_n 0, 1) := dk_42 (dk_at dksX6_covers_0 22 rfl rfl)
theorem dX6_covers_23 : decode cX6_covers 23 = .ok (.iload_n 1, 1) := dk_27 (dk_at dksX6_covers_0 23 rfl rfl)
theorem dX6_covers_24 : decode cX6_covers 24 = .ok (.iload 6, 2) := dk_21 6 (dk_at dksX6_covers_1 0 rfl rfl)
theorem dX6_covers_26 : decode cX6_covers 26 = .ok (.invokevirtual 411, 3) := dk_182 1 155 (dk_at dksX6_covers_1 2 rfl rfl)
theorem dX6_covers_29 : decode cX6_covers 29 = .ok (.aload_n 0, 1) := dk_42 (dk_at dksX6_covers_1 5 rfl rfl)
theorem dX6_covers_30 : decode cX6_covers 30 = .ok (.invokevirtual 362, 3) := dk_182 1 106 (dk_at dksX6_covers_1 6 rfl rfl)
theorem dX6_covers_33 : decode cX6_covers 33 = .ok (.ldc2_w 375, 3) := dk_20 1 119 (dk_at dksX6_covers_1 9 rfl rfl)
theorem dX6_covers_36 : decode cX6_covers 36 = .ok (.iload_n 2, 1) := dk_28 (dk_at dksX6_covers_1 12 rfl rfl)
theorem dX6_covers_37 : decode cX6_covers 37 = .ok (.i2l, 1) := dk_133 (dk_at dksX6_covers_1 13 rfl rfl)
theorem dX6_covers_38 : decode cX6_covers 38 = .ok (.lmul, 1) := dk_105 (dk_at dksX6_covers_1 14 rfl rfl)
theorem dX6_covers_39 : decode cX6_covers 39 = .ok (.aload_n 0, 1) := dk_42 (dk_at dksX6_covers_1 15 rfl rfl)
theorem dX6_covers_40 : decode cX6_covers 40 = .ok (.iload_n 1, 1) := dk_27 (dk_at dksX6_covers_1 16 rfl rfl)
theorem dX6_covers_41 : decode cX6_covers 41 = .ok (.invokevirtual 379, 3) := dk_182 1 123 (dk_at dksX6_covers_1 17 rfl rfl)
theorem dX6_covers_44 : decode cX6_covers 44 = .ok (.ladd, 1) := dk_97 (dk_at dksX6_covers_1 20 rfl rfl)
theorem dX6_covers_45 : decode cX6_covers 45 = .ok (.bipush 100, 2) := dk_16 100 (dk_at dksX6_covers_1 21 rfl rfl)
theorem dX6_covers_47 : decode cX6_covers 47 = .ok (.iload_n 3, 1) := dk_29 (dk_at dksX6_covers_1 23 rfl rfl)
theorem dX6_covers_48 : decode cX6_covers 48 = .ok (.isub, 1) := dk_100 (dk_at dksX6_covers_2 0 rfl rfl)
theorem dX6_covers_49 : decode cX6_covers 49 = .ok (.i2l, 1) := dk_133 (dk_at dksX6_covers_2 1 rfl rfl)
theorem dX6_covers_50 : decode cX6_covers 50 = .ok (.aload_n 0, 1) := dk_42 (dk_at dksX6_covers_2 2 rfl rfl)
theorem dX6_covers_51 : decode cX6_covers 51 = .ok (.iload_n 1, 1) := dk_27 (dk_at dksX6_covers_2 3 rfl rfl)
theorem dX6_covers_52 : decode cX6_covers 52 = .ok (.invokevirtual 382, 3) := dk_182 1 126 (dk_at dksX6_covers_2 4 rfl rfl)
theorem dX6_covers_55 : decode cX6_covers 55 = .ok (.lmul, 1) := dk_105 (dk_at dksX6_covers_2 7 rfl rfl)
theorem dX6_covers_56 : decode cX6_covers 56 = .ok (.ldc2_w 325, 3) := dk_20 1 69 (dk_at dksX6_covers_2 8 rfl rfl)
theorem dX6_covers_59 : decode cX6_covers 59 = .ok (.ldiv, 1) := dk_109 (dk_at dksX6_covers_2 11 rfl rfl)
theorem dX6_covers_60 : decode cX6_covers 60 = .ok (.ladd, 1) := dk_97 (dk_at dksX6_covers_2 12 rfl rfl)
theorem dX6_covers_61 : decode cX6_covers 61 = .ok (.lstore 7, 2) := dk_55 7 (dk_at dksX6_covers_2 13 rfl rfl)
theorem dX6_covers_63 : decode cX6_covers 63 = .ok (.iload 5, 2) := dk_21 5 (dk_at dksX6_covers_2 15 rfl rfl)
theorem dX6_covers_65 : decode cX6_covers 65 = .ok (.iconst (-1), 1) := dk_2 (dk_at dksX6_covers_2 17 rfl rfl)
theorem dX6_covers_66 : decode cX6_covers 66 = .ok (.if_icmp .eq 16, 3) := dk_159 0 16 (dk_at dksX6_covers_2 18 rfl rfl)
theorem dX6_covers_69 : decode cX6_covers 69 = .ok (.lload 7, 2) := dk_22 7 (dk_at dksX6_covers_2 21 rfl rfl)
theorem dX6_covers_71 : decode cX6_covers 71 = .ok (.aload_n 0, 1) := dk_42 (dk_at dksX6_covers_2 23 rfl rfl)
theorem dX6_covers_72 : decode cX6_covers 72 = .ok (.getfield 499, 3) := dk_180 1 243 (dk_at dksX6_covers_3 0 rfl rfl)
theorem dX6_covers_75 : decode cX6_covers 75 = .ok (.lcmp, 1) := dk_148 (dk_at dksX6_covers_3 3 rfl rfl)
theorem dX6_covers_76 : decode cX6_covers 76 = .ok (.ifCond .lt 6, 3) := dk_155 0 6 (dk_at dksX6_covers_3 4 rfl rfl)
theorem dX6_covers_79 : decode cX6_covers 79 = .ok (.goto 13, 3) := dk_167 0 13 (dk_at dksX6_covers_3 7 rfl rfl)
theorem dX6_covers_82 : decode cX6_covers 82 = .ok (.iload 6, 2) := dk_21 6 (dk_at dksX6_covers_3 10 rfl rfl)
theorem dX6_covers_84 : decode cX6_covers 84 = .ok (.istore 5, 2) := dk_54 5 (dk_at dksX6_covers_3 12 rfl rfl)
theorem dX6_covers_86 : decode cX6_covers 86 = .ok (.aload_n 0, 1) := dk_42 (dk_at dksX6_covers_3 14 rfl rfl)
theorem dX6_covers_87 : decode cX6_covers 87 = .ok (.lload 7, 2) := dk_22 7 (dk_at dksX6_covers_3 15 rfl rfl)
theorem dX6_covers_89 : decode cX6_covers 89 = .ok (.putfield 499, 3) := dk_181 1 243 (dk_at dksX6_covers_3 17 rfl rfl)
theorem dX6_covers_92 : decode cX6_covers 92 = .ok (.iinc 6 1, 3) := dk_132 6 1 (dk_at dksX6_covers_3 20 rfl rfl)
theorem dX6_covers_95 : decode cX6_covers 95 = .ok (.goto (-82), 3) := dk_167 255 174 (dk_at dksX6_covers_4 0 rfl rfl)
theorem dX6_covers_98 : decode cX6_covers 98 = .ok (.aload_n 0, 1) := dk_42 (dk_at dksX6_covers_4 3 rfl rfl)
theorem dX6_covers_99 : decode cX6_covers 99 = .ok (.iload_n 1, 1) := dk_27 (dk_at dksX6_covers_4 4 rfl rfl)
theorem dX6_covers_100 : decode cX6_covers 100 = .ok (.iload 4, 2) := dk_21 4 (dk_at dksX6_covers_4 5 rfl rfl)
theorem dX6_covers_102 : decode cX6_covers 102 = .ok (.invokevirtual 411, 3) := dk_182 1 155 (dk_at dksX6_covers_4 7 rfl rfl)
theorem dX6_covers_105 : decode cX6_covers 105 = .ok (.iload 5, 2) := dk_21 5 (dk_at dksX6_covers_4 10 rfl rfl)
theorem dX6_covers_107 : decode cX6_covers 107 = .ok (.ireturn, 1) := dk_172 (dk_at dksX6_covers_4 12 rfl rfl)
abbrev cX6_careless : ByteArray := prog_20_method_129_code
def yX6_careless : MethodName := ⟨RX6, "careless", "(III)I"⟩
def dkwX6_careless_1 : List UInt8 := [167, 0, 5, 16, 254, 172]
abbrev dktX6_careless_1 : List UInt8 := dkwX6_careless_1 ++ []
def dkwX6_careless_0 : List UInt8 := [42, 3, 181, 0, 114, 42, 27, 28, 29, 182, 1, 246, 153, 0, 13, 42, 27, 28, 29, 182, 1, 249]
abbrev dktX6_careless_0 : List UInt8 := dkwX6_careless_0 ++ dktX6_careless_1
theorem dksX6_careless_0 : cX6_careless.data.toList.drop 0 = dktX6_careless_0 := by decide +kernel
theorem dksX6_careless_1 : cX6_careless.data.toList.drop 22 = dktX6_careless_1 := dk_seg dksX6_careless_0 22 rfl rfl
theorem dX6_careless_0 : decode cX6_careless 0 = .ok (.aload_n 0, 1) := dk_42 (dk_at dksX6_careless_0 0 rfl rfl)
theorem dX6_careless_1 : decode cX6_careless 1 = .ok (.iconst 0, 1) := dk_3 (dk_at dksX6_careless_0 1 rfl rfl)
theorem dX6_careless_2 : decode cX6_careless 2 = .ok (.putfield 114, 3) := dk_181 0 114 (dk_at dksX6_careless_0 2 rfl rfl)
theorem dX6_careless_5 : decode cX6_careless 5 = .ok (.aload_n 0, 1) := dk_42 (dk_at dksX6_careless_0 5 rfl rfl)
theorem dX6_careless_6 : decode cX6_careless 6 = .ok (.iload_n 1, 1) := dk_27 (dk_at dksX6_careless_0 6 rfl rfl)
theorem dX6_careless_7 : decode cX6_careless 7 = .ok (.iload_n 2, 1) := dk_28 (dk_at dksX6_careless_0 7 rfl rfl)
theorem dX6_careless_8 : decode cX6_careless 8 = .ok (.iload_n 3, 1) := dk_29 (dk_at dksX6_careless_0 8 rfl rfl)
theorem dX6_careless_9 : decode cX6_careless 9 = .ok (.invokevirtual 502, 3) := dk_182 1 246 (dk_at dksX6_careless_0 9 rfl rfl)
theorem dX6_careless_12 : decode cX6_careless 12 = .ok (.ifCond .eq 13, 3) := dk_153 0 13 (dk_at dksX6_careless_0 12 rfl rfl)
theorem dX6_careless_15 : decode cX6_careless 15 = .ok (.aload_n 0, 1) := dk_42 (dk_at dksX6_careless_0 15 rfl rfl)
theorem dX6_careless_16 : decode cX6_careless 16 = .ok (.iload_n 1, 1) := dk_27 (dk_at dksX6_careless_0 16 rfl rfl)
theorem dX6_careless_17 : decode cX6_careless 17 = .ok (.iload_n 2, 1) := dk_28 (dk_at dksX6_careless_0 17 rfl rfl)
theorem dX6_careless_18 : decode cX6_careless 18 = .ok (.iload_n 3, 1) := dk_29 (dk_at dksX6_careless_0 18 rfl rfl)
theorem dX6_careless_19 : decode cX6_careless 19 = .ok (.invokevirtual 505, 3) := dk_182 1 249 (dk_at dksX6_careless_0 19 rfl rfl)
theorem dX6_careless_22 : decode cX6_careless 22 = .ok (.goto 5, 3) := dk_167 0 5 (dk_at dksX6_careless_1 0 rfl rfl)
theorem dX6_careless_25 : decode cX6_careless 25 = .ok (.bipush (-2), 2) := dk_16 254 (dk_at dksX6_careless_1 3 rfl rfl)
theorem dX6_careless_27 : decode cX6_careless 27 = .ok (.ireturn, 1) := dk_172 (dk_at dksX6_careless_1 5 rfl rfl)
abbrev cX6_law : ByteArray := prog_20_method_131_code
def yX6_law : MethodName := ⟨RX6, "law", "(I)J"⟩
def dkwX6_law_1 : List UInt8 := [100, 133, 184, 0, 119, 153, 0, 11, 42, 27, 182, 1, 252, 167, 0, 6, 20, 1, 104, 173]
abbrev dktX6_law_1 : List UInt8 := dkwX6_law_1 ++ []
def dkwX6_law_0 : List UInt8 := [42, 3, 181, 0, 114, 42, 182, 1, 98, 153, 0, 31, 27, 133, 20, 0, 158, 42, 180, 0, 46, 3, 46, 4]
abbrev dktX6_law_0 : List UInt8 := dkwX6_law_0 ++ dktX6_law_1
theorem dksX6_law_0 : cX6_law.data.toList.drop 0 = dktX6_law_0 := by decide +kernel
theorem dksX6_law_1 : cX6_law.data.toList.drop 24 = dktX6_law_1 := dk_seg dksX6_law_0 24 rfl rfl
theorem dX6_law_0 : decode cX6_law 0 = .ok (.aload_n 0, 1) := dk_42 (dk_at dksX6_law_0 0 rfl rfl)
theorem dX6_law_1 : decode cX6_law 1 = .ok (.iconst 0, 1) := dk_3 (dk_at dksX6_law_0 1 rfl rfl)
theorem dX6_law_2 : decode cX6_law 2 = .ok (.putfield 114, 3) := dk_181 0 114 (dk_at dksX6_law_0 2 rfl rfl)
theorem dX6_law_5 : decode cX6_law 5 = .ok (.aload_n 0, 1) := dk_42 (dk_at dksX6_law_0 5 rfl rfl)
theorem dX6_law_6 : decode cX6_law 6 = .ok (.invokevirtual 354, 3) := dk_182 1 98 (dk_at dksX6_law_0 6 rfl rfl)
theorem dX6_law_9 : decode cX6_law 9 = .ok (.ifCond .eq 31, 3) := dk_153 0 31 (dk_at dksX6_law_0 9 rfl rfl)
theorem dX6_law_12 : decode cX6_law 12 = .ok (.iload_n 1, 1) := dk_27 (dk_at dksX6_law_0 12 rfl rfl)
theorem dX6_law_13 : decode cX6_law 13 = .ok (.i2l, 1) := dk_133 (dk_at dksX6_law_0 13 rfl rfl)
theorem dX6_law_14 : decode cX6_law 14 = .ok (.ldc2_w 158, 3) := dk_20 0 158 (dk_at dksX6_law_0 14 rfl rfl)
theorem dX6_law_17 : decode cX6_law 17 = .ok (.aload_n 0, 1) := dk_42 (dk_at dksX6_law_0 17 rfl rfl)
theorem dX6_law_18 : decode cX6_law 18 = .ok (.getfield 46, 3) := dk_180 0 46 (dk_at dksX6_law_0 18 rfl rfl)
theorem dX6_law_21 : decode cX6_law 21 = .ok (.iconst 0, 1) := dk_3 (dk_at dksX6_law_0 21 rfl rfl)
theorem dX6_law_22 : decode cX6_law 22 = .ok (.iaload, 1) := dk_46 (dk_at dksX6_law_0 22 rfl rfl)
theorem dX6_law_23 : decode cX6_law 23 = .ok (.iconst 1, 1) := dk_4 (dk_at dksX6_law_0 23 rfl rfl)
theorem dX6_law_24 : decode cX6_law 24 = .ok (.isub, 1) := dk_100 (dk_at dksX6_law_1 0 rfl rfl)
theorem dX6_law_25 : decode cX6_law 25 = .ok (.i2l, 1) := dk_133 (dk_at dksX6_law_1 1 rfl rfl)
theorem dX6_law_26 : decode cX6_law 26 = .ok (.invokestatic 119, 3) := dk_184 0 119 (dk_at dksX6_law_1 2 rfl rfl)
theorem dX6_law_29 : decode cX6_law 29 = .ok (.ifCond .eq 11, 3) := dk_153 0 11 (dk_at dksX6_law_1 5 rfl rfl)
theorem dX6_law_32 : decode cX6_law 32 = .ok (.aload_n 0, 1) := dk_42 (dk_at dksX6_law_1 8 rfl rfl)
theorem dX6_law_33 : decode cX6_law 33 = .ok (.iload_n 1, 1) := dk_27 (dk_at dksX6_law_1 9 rfl rfl)
theorem dX6_law_34 : decode cX6_law 34 = .ok (.invokevirtual 508, 3) := dk_182 1 252 (dk_at dksX6_law_1 10 rfl rfl)
theorem dX6_law_37 : decode cX6_law 37 = .ok (.goto 6, 3) := dk_167 0 6 (dk_at dksX6_law_1 13 rfl rfl)
theorem dX6_law_40 : decode cX6_law 40 = .ok (.ldc2_w 360, 3) := dk_20 1 104 (dk_at dksX6_law_1 16 rfl rfl)
theorem dX6_law_43 : decode cX6_law 43 = .ok (.lreturn, 1) := dk_173 (dk_at dksX6_law_1 19 rfl rfl)
abbrev cX6_byLaw : ByteArray := prog_20_method_130_code
def yX6_byLaw : MethodName := ⟨RX6, "byLaw", "(I)J"⟩
def dkwX6_byLaw_2 : List UInt8 := [132, 2, 1, 167, 255, 214, 42, 5, 182, 1, 142, 65, 42, 182, 1, 185, 32, 173]
abbrev dktX6_byLaw_2 : List UInt8 := dkwX6_byLaw_2 ++ []
def dkwX6_byLaw_1 : List UInt8 := [184, 1, 67, 6, 96, 46, 27, 162, 0, 16, 42, 180, 0, 55, 3, 28, 184, 1, 67, 6, 96, 27, 79]
abbrev dktX6_byLaw_1 : List UInt8 := dkwX6_byLaw_1 ++ dktX6_byLaw_2
def dkwX6_byLaw_0 : List UInt8 := [42, 182, 1, 182, 3, 61, 28, 42, 180, 0, 52, 3, 46, 162, 0, 38, 42, 180, 0, 55, 3, 28]
abbrev dktX6_byLaw_0 : List UInt8 := dkwX6_byLaw_0 ++ dktX6_byLaw_1
theorem dksX6_byLaw_0 : cX6_byLaw.data.toList.drop 0 = dktX6_byLaw_0 := by decide +kernel
theorem dksX6_byLaw_1 : cX6_byLaw.data.toList.drop 22 = dktX6_byLaw_1 := dk_seg dksX6_byLaw_0 22 rfl rfl
theorem dksX6_byLaw_2 : cX6_byLaw.data.toList.drop 45 = dktX6_byLaw_2 := dk_seg dksX6_byLaw_1 23 rfl rfl
theorem dX6_byLaw_0 : decode cX6_byLaw 0 = .ok (.aload_n 0, 1) := dk_42 (dk_at dksX6_byLaw_0 0 rfl rfl)
theorem dX6_byLaw_1 : decode cX6_byLaw 1 = .ok (.invokevirtual 438, 3) := dk_182 1 182 (dk_at dksX6_byLaw_0 1 rfl rfl)
theorem dX6_byLaw_4 : decode cX6_byLaw 4 = .ok (.iconst 0, 1) := dk_3 (dk_at dksX6_byLaw_0 4 rfl rfl)
theorem dX6_byLaw_5 : decode cX6_byLaw 5 = .ok (.istore_n 2, 1) := dk_61 (dk_at dksX6_byLaw_0 5 rfl rfl)
theorem dX6_byLaw_6 : decode cX6_byLaw 6 = .ok (.iload_n 2, 1) := dk_28 (dk_at dksX6_byLaw_0 6 rfl rfl)
theorem dX6_byLaw_7 : decode cX6_byLaw 7 = .ok (.aload_n 0, 1) := dk_42 (dk_at dksX6_byLaw_0 7 rfl rfl)
theorem dX6_byLaw_8 : decode cX6_byLaw 8 = .ok (.getfield 52, 3) := dk_180 0 52 (dk_at dksX6_byLaw_0 8 rfl rfl)
theorem dX6_byLaw_11 : decode cX6_byLaw 11 = .ok (.iconst 0, 1) := dk_3 (dk_at dksX6_byLaw_0 11 rfl rfl)
theorem dX6_byLaw_12 : decode cX6_byLaw 12 = .ok (.iaload, 1) := dk_46 (dk_at dksX6_byLaw_0 12 rfl rfl)
theorem dX6_byLaw_13 : decode cX6_byLaw 13 = .ok (.if_icmp .ge 38, 3) := dk_162 0 38 (dk_at dksX6_byLaw_0 13 rfl rfl)
theorem dX6_byLaw_16 : decode cX6_byLaw 16 = .ok (.aload_n 0, 1) := dk_42 (dk_at dksX6_byLaw_0 16 rfl rfl)
theorem dX6_byLaw_17 : decode cX6_byLaw 17 = .ok (.getfield 55, 3) := dk_180 0 55 (dk_at dksX6_byLaw_0 17 rfl rfl)
theorem dX6_byLaw_20 : decode cX6_byLaw 20 = .ok (.iconst 0, 1) := dk_3 (dk_at dksX6_byLaw_0 20 rfl rfl)
theorem dX6_byLaw_21 : decode cX6_byLaw 21 = .ok (.iload_n 2, 1) := dk_28 (dk_at dksX6_byLaw_0 21 rfl rfl)
theorem dX6_byLaw_22 : decode cX6_byLaw 22 = .ok (.invokestatic 323, 3) := dk_184 1 67 (dk_at dksX6_byLaw_1 0 rfl rfl)
theorem dX6_byLaw_25 : decode cX6_byLaw 25 = .ok (.iconst 3, 1) := dk_6 (dk_at dksX6_byLaw_1 3 rfl rfl)
theorem dX6_byLaw_26 : decode cX6_byLaw 26 = .ok (.iadd, 1) := dk_96 (dk_at dksX6_byLaw_1 4 rfl rfl)
theorem dX6_byLaw_27 : decode cX6_byLaw 27 = .ok (.iaload, 1) := dk_46 (dk_at dksX6_byLaw_1 5 rfl rfl)
theorem dX6_byLaw_28 : decode cX6_byLaw 28 = .ok (.iload_n 1, 1) := dk_27 (dk_at dksX6_byLaw_1 6 rfl rfl)
theorem dX6_byLaw_29 : decode cX6_byLaw 29 = .ok (.if_icmp .ge 16, 3) := dk_162 0 16 (dk_at dksX6_byLaw_1 7 rfl rfl)
theorem dX6_byLaw_32 : decode cX6_byLaw 32 = .ok (.aload_n 0, 1) := dk_42 (dk_at dksX6_byLaw_1 10 rfl rfl)
theorem dX6_byLaw_33 : decode cX6_byLaw 33 = .ok (.getfield 55, 3) := dk_180 0 55 (dk_at dksX6_byLaw_1 11 rfl rfl)
theorem dX6_byLaw_36 : decode cX6_byLaw 36 = .ok (.iconst 0, 1) := dk_3 (dk_at dksX6_byLaw_1 14 rfl rfl)
theorem dX6_byLaw_37 : decode cX6_byLaw 37 = .ok (.iload_n 2, 1) := dk_28 (dk_at dksX6_byLaw_1 15 rfl rfl)
theorem dX6_byLaw_38 : decode cX6_byLaw 38 = .ok (.invokestatic 323, 3) := dk_184 1 67 (dk_at dksX6_byLaw_1 16 rfl rfl)
theorem dX6_byLaw_41 : decode cX6_byLaw 41 = .ok (.iconst 3, 1) := dk_6 (dk_at dksX6_byLaw_1 19 rfl rfl)
theorem dX6_byLaw_42 : decode cX6_byLaw 42 = .ok (.iadd, 1) := dk_96 (dk_at dksX6_byLaw_1 20 rfl rfl)
theorem dX6_byLaw_43 : decode cX6_byLaw 43 = .ok (.iload_n 1, 1) := dk_27 (dk_at dksX6_byLaw_1 21 rfl rfl)
theorem dX6_byLaw_44 : decode cX6_byLaw 44 = .ok (.iastore, 1) := dk_79 (dk_at dksX6_byLaw_1 22 rfl rfl)
theorem dX6_byLaw_45 : decode cX6_byLaw 45 = .ok (.iinc 2 1, 3) := dk_132 2 1 (dk_at dksX6_byLaw_2 0 rfl rfl)
theorem dX6_byLaw_48 : decode cX6_byLaw 48 = .ok (.goto (-42), 3) := dk_167 255 214 (dk_at dksX6_byLaw_2 3 rfl rfl)
theorem dX6_byLaw_51 : decode cX6_byLaw 51 = .ok (.aload_n 0, 1) := dk_42 (dk_at dksX6_byLaw_2 6 rfl rfl)
theorem dX6_byLaw_52 : decode cX6_byLaw 52 = .ok (.iconst 2, 1) := dk_5 (dk_at dksX6_byLaw_2 7 rfl rfl)
theorem dX6_byLaw_53 : decode cX6_byLaw 53 = .ok (.invokevirtual 398, 3) := dk_182 1 142 (dk_at dksX6_byLaw_2 8 rfl rfl)
theorem dX6_byLaw_56 : decode cX6_byLaw 56 = .ok (.lstore_n 2, 1) := dk_65 (dk_at dksX6_byLaw_2 11 rfl rfl)
theorem dX6_byLaw_57 : decode cX6_byLaw 57 = .ok (.aload_n 0, 1) := dk_42 (dk_at dksX6_byLaw_2 12 rfl rfl)
theorem dX6_byLaw_58 : decode cX6_byLaw 58 = .ok (.invokevirtual 441, 3) := dk_182 1 185 (dk_at dksX6_byLaw_2 13 rfl rfl)
theorem dX6_byLaw_61 : decode cX6_byLaw 61 = .ok (.lload_n 2, 1) := dk_32 (dk_at dksX6_byLaw_2 16 rfl rfl)
theorem dX6_byLaw_62 : decode cX6_byLaw 62 = .ok (.lreturn, 1) := dk_173 (dk_at dksX6_byLaw_2 17 rfl rfl)
abbrev cX6_laws : ByteArray := prog_20_method_132_code
def yX6_laws : MethodName := ⟨RX6, "laws", "()I"⟩
def dkwX6_laws_2 : List UInt8 := [148, 155, 0, 6, 167, 0, 9, 21, 4, 60, 22, 5, 65, 132, 4, 1, 167, 255, 218, 27, 172]
abbrev dktX6_laws_2 : List UInt8 := dkwX6_laws_2 ++ []
def dkwX6_laws_1 : List UInt8 := [54, 4, 21, 4, 42, 180, 0, 46, 3, 46, 162, 0, 33, 42, 21, 4, 182, 1, 252, 55, 5, 22, 5, 32]
abbrev dktX6_laws_1 : List UInt8 := dkwX6_laws_1 ++ dktX6_laws_2
def dkwX6_laws_0 : List UInt8 := [42, 3, 181, 0, 114, 42, 182, 1, 98, 154, 0, 6, 16, 254, 172, 2, 60, 42, 2, 182, 1, 252, 65, 3]
abbrev dktX6_laws_0 : List UInt8 := dkwX6_laws_0 ++ dktX6_laws_1
theorem dksX6_laws_0 : cX6_laws.data.toList.drop 0 = dktX6_laws_0 := by decide +kernel
theorem dksX6_laws_1 : cX6_laws.data.toList.drop 24 = dktX6_laws_1 := dk_seg dksX6_laws_0 24 rfl rfl
theorem dksX6_laws_2 : cX6_laws.data.toList.drop 48 = dktX6_laws_2 := dk_seg dksX6_laws_1 24 rfl rfl
theorem dX6_laws_0 : decode cX6_laws 0 = .ok (.aload_n 0, 1) := dk_42 (dk_at dksX6_laws_0 0 rfl rfl)
theorem dX6_laws_1 : decode cX6_laws 1 = .ok (.iconst 0, 1) := dk_3 (dk_at dksX6_laws_0 1 rfl rfl)
theorem dX6_laws_2 : decode cX6_laws 2 = .ok (.putfield 114, 3) := dk_181 0 114 (dk_at dksX6_laws_0 2 rfl rfl)
theorem dX6_laws_5 : decode cX6_laws 5 = .ok (.aload_n 0, 1) := dk_42 (dk_at dksX6_laws_0 5 rfl rfl)
theorem dX6_laws_6 : decode cX6_laws 6 = .ok (.invokevirtual 354, 3) := dk_182 1 98 (dk_at dksX6_laws_0 6 rfl rfl)
theorem dX6_laws_9 : decode cX6_laws 9 = .ok (.ifCond .ne 6, 3) := dk_154 0 6 (dk_at dksX6_laws_0 9 rfl rfl)
theorem dX6_laws_12 : decode cX6_laws 12 = .ok (.bipush (-2), 2) := dk_16 254 (dk_at dksX6_laws_0 12 rfl rfl)
theorem dX6_laws_14 : decode cX6_laws 14 = .ok (.ireturn, 1) := dk_172 (dk_at dksX6_laws_0 14 rfl rfl)
theorem dX6_laws_15 : decode cX6_laws 15 = .ok (.iconst (-1), 1) := dk_2 (dk_at dksX6_laws_0 15 rfl rfl)
theorem dX6_laws_16 : decode cX6_laws 16 = .ok (.istore_n 1, 1) := dk_60 (dk_at dksX6_laws_0 16 rfl rfl)
theorem dX6_laws_17 : decode cX6_laws 17 = .ok (.aload_n 0, 1) := dk_42 (dk_at dksX6_laws_0 17 rfl rfl)
theorem dX6_laws_18 : decode cX6_laws 18 = .ok (.iconst (-1), 1) := dk_2 (dk_at dksX6_laws_0 18 rfl rfl)
theorem dX6_laws_19 : decode cX6_laws 19 = .ok (.invokevirtual 508, 3) := dk_182 1 252 (dk_at dksX6_laws_0 19 rfl rfl)
theorem dX6_laws_22 : decode cX6_laws 22 = .ok (.lstore_n 2, 1) := dk_65 (dk_at dksX6_laws_0 22 rfl rfl)
theorem dX6_laws_23 : decode cX6_laws 23 = .ok (.iconst 0, 1) := dk_3 (dk_at dksX6_laws_0 23 rfl rfl)
theorem dX6_laws_24 : decode cX6_laws 24 = .ok (.istore 4, 2) := dk_54 4 (dk_at dksX6_laws_1 0 rfl rfl)
theorem dX6_laws_26 : decode cX6_laws 26 = .ok (.iload 4, 2) := dk_21 4 (dk_at dksX6_laws_1 2 rfl rfl)
theorem dX6_laws_28 : decode cX6_laws 28 = .ok (.aload_n 0, 1) := dk_42 (dk_at dksX6_laws_1 4 rfl rfl)
theorem dX6_laws_29 : decode cX6_laws 29 = .ok (.getfield 46, 3) := dk_180 0 46 (dk_at dksX6_laws_1 5 rfl rfl)
theorem dX6_laws_32 : decode cX6_laws 32 = .ok (.iconst 0, 1) := dk_3 (dk_at dksX6_laws_1 8 rfl rfl)
theorem dX6_laws_33 : decode cX6_laws 33 = .ok (.iaload, 1) := dk_46 (dk_at dksX6_laws_1 9 rfl rfl)
theorem dX6_laws_34 : decode cX6_laws 34 = .ok (.if_icmp .ge 33, 3) := dk_162 0 33 (dk_at dksX6_laws_1 10 rfl rfl)
theorem dX6_laws_37 : decode cX6_laws 37 = .ok (.aload_n 0, 1) := dk_42 (dk_at dksX6_laws_1 13 rfl rfl)
theorem dX6_laws_38 : decode cX6_laws 38 = .ok (.iload 4, 2) := dk_21 4 (dk_at dksX6_laws_1 14 rfl rfl)
theorem dX6_laws_40 : decode cX6_laws 40 = .ok (.invokevirtual 508, 3) := dk_182 1 252 (dk_at dksX6_laws_1 16 rfl rfl)
theorem dX6_laws_43 : decode cX6_laws 43 = .ok (.lstore 5, 2) := dk_55 5 (dk_at dksX6_laws_1 19 rfl rfl)
theorem dX6_laws_45 : decode cX6_laws 45 = .ok (.lload 5, 2) := dk_22 5 (dk_at dksX6_laws_1 21 rfl rfl)
theorem dX6_laws_47 : decode cX6_laws 47 = .ok (.lload_n 2, 1) := dk_32 (dk_at dksX6_laws_1 23 rfl rfl)
theorem dX6_laws_48 : decode cX6_laws 48 = .ok (.lcmp, 1) := dk_148 (dk_at dksX6_laws_2 0 rfl rfl)
theorem dX6_laws_49 : decode cX6_laws 49 = .ok (.ifCond .lt 6, 3) := dk_155 0 6 (dk_at dksX6_laws_2 1 rfl rfl)
theorem dX6_laws_52 : decode cX6_laws 52 = .ok (.goto 9, 3) := dk_167 0 9 (dk_at dksX6_laws_2 4 rfl rfl)
theorem dX6_laws_55 : decode cX6_laws 55 = .ok (.iload 4, 2) := dk_21 4 (dk_at dksX6_laws_2 7 rfl rfl)
theorem dX6_laws_57 : decode cX6_laws 57 = .ok (.istore_n 1, 1) := dk_60 (dk_at dksX6_laws_2 9 rfl rfl)
theorem dX6_laws_58 : decode cX6_laws 58 = .ok (.lload 5, 2) := dk_22 5 (dk_at dksX6_laws_2 10 rfl rfl)
theorem dX6_laws_60 : decode cX6_laws 60 = .ok (.lstore_n 2, 1) := dk_65 (dk_at dksX6_laws_2 12 rfl rfl)
theorem dX6_laws_61 : decode cX6_laws 61 = .ok (.iinc 4 1, 3) := dk_132 4 1 (dk_at dksX6_laws_2 13 rfl rfl)
theorem dX6_laws_64 : decode cX6_laws 64 = .ok (.goto (-38), 3) := dk_167 255 218 (dk_at dksX6_laws_2 16 rfl rfl)
theorem dX6_laws_67 : decode cX6_laws 67 = .ok (.iload_n 1, 1) := dk_27 (dk_at dksX6_laws_2 19 rfl rfl)
theorem dX6_laws_68 : decode cX6_laws 68 = .ok (.ireturn, 1) := dk_172 (dk_at dksX6_laws_2 20 rfl rfl)
abbrev cX6_rather : ByteArray := prog_20_method_134_code
def yX6_rather : MethodName := ⟨RX6, "rather", "(II)I"⟩
def dkwX6_rather_3 : List UInt8 := [164, 0, 7, 4, 167, 0, 4, 3, 172]
abbrev dktX6_rather_3 : List UInt8 := dkwX6_rather_3 ++ []
def dkwX6_rather_2 : List UInt8 := [4, 28, 96, 182, 1, 255, 54, 4, 29, 154, 0, 12, 21, 4, 154, 0, 7, 2, 167, 0, 14, 21, 4, 29]
abbrev dktX6_rather_2 : List UInt8 := dkwX6_rather_2 ++ dktX6_rather_3
def dkwX6_rather_1 : List UInt8 := [153, 0, 12, 42, 180, 0, 74, 28, 51, 154, 0, 6, 16, 254, 172, 42, 27, 3, 182, 1, 255, 62, 42, 27]
abbrev dktX6_rather_1 : List UInt8 := dkwX6_rather_1 ++ dktX6_rather_2
def dkwX6_rather_0 : List UInt8 := [42, 3, 181, 0, 114, 42, 27, 182, 1, 74, 153, 0, 24, 28, 133, 9, 20, 1, 136, 184, 0, 119]
abbrev dktX6_rather_0 : List UInt8 := dkwX6_rather_0 ++ dktX6_rather_1
theorem dksX6_rather_0 : cX6_rather.data.toList.drop 0 = dktX6_rather_0 := by decide +kernel
theorem dksX6_rather_1 : cX6_rather.data.toList.drop 22 = dktX6_rather_1 := dk_seg dksX6_rather_0 22 rfl rfl
theorem dksX6_rather_2 : cX6_rather.data.toList.drop 46 = dktX6_rather_2 := dk_seg dksX6_rather_1 24 rfl rfl
theorem dksX6_rather_3 : cX6_rather.data.toList.drop 70 = dktX6_rather_3 := dk_seg dksX6_rather_2 24 rfl rfl
theorem dX6_rather_0 : decode cX6_rather 0 = .ok (.aload_n 0, 1) := dk_42 (dk_at dksX6_rather_0 0 rfl rfl)
theorem dX6_rather_1 : decode cX6_rather 1 = .ok (.iconst 0, 1) := dk_3 (dk_at dksX6_rather_0 1 rfl rfl)
theorem dX6_rather_2 : decode cX6_rather 2 = .ok (.putfield 114, 3) := dk_181 0 114 (dk_at dksX6_rather_0 2 rfl rfl)
theorem dX6_rather_5 : decode cX6_rather 5 = .ok (.aload_n 0, 1) := dk_42 (dk_at dksX6_rather_0 5 rfl rfl)
theorem dX6_rather_6 : decode cX6_rather 6 = .ok (.iload_n 1, 1) := dk_27 (dk_at dksX6_rather_0 6 rfl rfl)
theorem dX6_rather_7 : decode cX6_rather 7 = .ok (.invokevirtual 330, 3) := dk_182 1 74 (dk_at dksX6_rather_0 7 rfl rfl)
theorem dX6_rather_10 : decode cX6_rather 10 = .ok (.ifCond .eq 24, 3) := dk_153 0 24 (dk_at dksX6_rather_0 10 rfl rfl)
theorem dX6_rather_13 : decode cX6_rather 13 = .ok (.iload_n 2, 1) := dk_28 (dk_at dksX6_rather_0 13 rfl rfl)
theorem dX6_rather_14 : decode cX6_rather 14 = .ok (.i2l, 1) := dk_133 (dk_at dksX6_rather_0 14 rfl rfl)
theorem dX6_rather_15 : decode cX6_rather 15 = .ok (.lconst 0, 1) := dk_9 (dk_at dksX6_rather_0 15 rfl rfl)
theorem dX6_rather_16 : decode cX6_rather 16 = .ok (.ldc2_w 392, 3) := dk_20 1 136 (dk_at dksX6_rather_0 16 rfl rfl)
theorem dX6_rather_19 : decode cX6_rather 19 = .ok (.invokestatic 119, 3) := dk_184 0 119 (dk_at dksX6_rather_0 19 rfl rfl)
theorem dX6_rather_22 : decode cX6_rather 22 = .ok (.ifCond .eq 12, 3) := dk_153 0 12 (dk_at dksX6_rather_1 0 rfl rfl)
theorem dX6_rather_25 : decode cX6_rather 25 = .ok (.aload_n 0, 1) := dk_42 (dk_at dksX6_rather_1 3 rfl rfl)
theorem dX6_rather_26 : decode cX6_rather 26 = .ok (.getfield 74, 3) := dk_180 0 74 (dk_at dksX6_rather_1 4 rfl rfl)
theorem dX6_rather_29 : decode cX6_rather 29 = .ok (.iload_n 2, 1) := dk_28 (dk_at dksX6_rather_1 7 rfl rfl)
theorem dX6_rather_30 : decode cX6_rather 30 = .ok (.baload, 1) := dk_51 (dk_at dksX6_rather_1 8 rfl rfl)
theorem dX6_rather_31 : decode cX6_rather 31 = .ok (.ifCond .ne 6, 3) := dk_154 0 6 (dk_at dksX6_rather_1 9 rfl rfl)
theorem dX6_rather_34 : decode cX6_rather 34 = .ok (.bipush (-2), 2) := dk_16 254 (dk_at dksX6_rather_1 12 rfl rfl)
theorem dX6_rather_36 : decode cX6_rather 36 = .ok (.ireturn, 1) := dk_172 (dk_at dksX6_rather_1 14 rfl rfl)
theorem dX6_rather_37 : decode cX6_rather 37 = .ok (.aload_n 0, 1) := dk_42 (dk_at dksX6_rather_1 15 rfl rfl)
theorem dX6_rather_38 : decode cX6_rather 38 = .ok (.iload_n 1, 1) := dk_27 (dk_at dksX6_rather_1 16 rfl rfl)
theorem dX6_rather_39 : decode cX6_rather 39 = .ok (.iconst 0, 1) := dk_3 (dk_at dksX6_rather_1 17 rfl rfl)
theorem dX6_rather_40 : decode cX6_rather 40 = .ok (.invokevirtual 511, 3) := dk_182 1 255 (dk_at dksX6_rather_1 18 rfl rfl)
theorem dX6_rather_43 : decode cX6_rather 43 = .ok (.istore_n 3, 1) := dk_62 (dk_at dksX6_rather_1 21 rfl rfl)
theorem dX6_rather_44 : decode cX6_rather 44 = .ok (.aload_n 0, 1) := dk_42 (dk_at dksX6_rather_1 22 rfl rfl)
theorem dX6_rather_45 : decode cX6_rather 45 = .ok (.iload_n 1, 1) := dk_27 (dk_at dksX6_rather_1 23 rfl rfl)
theorem dX6_rather_46 : decode cX6_rather 46 = .ok (.iconst 1, 1) := dk_4 (dk_at dksX6_rather_2 0 rfl rfl)
theorem dX6_rather_47 : decode cX6_rather 47 = .ok (.iload_n 2, 1) := dk_28 (dk_at dksX6_rather_2 1 rfl rfl)
theorem dX6_rather_48 : decode cX6_rather 48 = .ok (.iadd, 1) := dk_96 (dk_at dksX6_rather_2 2 rfl rfl)
theorem dX6_rather_49 : decode cX6_rather 49 = .ok (.invokevirtual 511, 3) := dk_182 1 255 (dk_at dksX6_rather_2 3 rfl rfl)
theorem dX6_rather_52 : decode cX6_rather 52 = .ok (.istore 4, 2) := dk_54 4 (dk_at dksX6_rather_2 6 rfl rfl)
theorem dX6_rather_54 : decode cX6_rather 54 = .ok (.iload_n 3, 1) := dk_29 (dk_at dksX6_rather_2 8 rfl rfl)
theorem dX6_rather_55 : decode cX6_rather 55 = .ok (.ifCond .ne 12, 3) := dk_154 0 12 (dk_at dksX6_rather_2 9 rfl rfl)
theorem dX6_rather_58 : decode cX6_rather 58 = .ok (.iload 4, 2) := dk_21 4 (dk_at dksX6_rather_2 12 rfl rfl)
theorem dX6_rather_60 : decode cX6_rather 60 = .ok (.ifCond .ne 7, 3) := dk_154 0 7 (dk_at dksX6_rather_2 14 rfl rfl)
theorem dX6_rather_63 : decode cX6_rather 63 = .ok (.iconst (-1), 1) := dk_2 (dk_at dksX6_rather_2 17 rfl rfl)
theorem dX6_rather_64 : decode cX6_rather 64 = .ok (.goto 14, 3) := dk_167 0 14 (dk_at dksX6_rather_2 18 rfl rfl)
theorem dX6_rather_67 : decode cX6_rather 67 = .ok (.iload 4, 2) := dk_21 4 (dk_at dksX6_rather_2 21 rfl rfl)
theorem dX6_rather_69 : decode cX6_rather 69 = .ok (.iload_n 3, 1) := dk_29 (dk_at dksX6_rather_2 23 rfl rfl)
theorem dX6_rather_70 : decode cX6_rather 70 = .ok (.if_icmp .le 7, 3) := dk_164 0 7 (dk_at dksX6_rather_3 0 rfl rfl)
theorem dX6_rather_73 : decode cX6_rather 73 = .ok (.iconst 1, 1) := dk_4 (dk_at dksX6_rather_3 3 rfl rfl)
theorem dX6_rather_74 : decode cX6_rather 74 = .ok (.goto 4, 3) := dk_167 0 4 (dk_at dksX6_rather_3 4 rfl rfl)
theorem dX6_rather_77 : decode cX6_rather 77 = .ok (.iconst 0, 1) := dk_3 (dk_at dksX6_rather_3 7 rfl rfl)
theorem dX6_rather_78 : decode cX6_rather 78 = .ok (.ireturn, 1) := dk_172 (dk_at dksX6_rather_3 8 rfl rfl)
abbrev cX6_netOn : ByteArray := prog_20_method_133_code
def yX6_netOn : MethodName := ⟨RX6, "netOn", "(II)I"⟩
def dkwX6_netOn_5 : List UInt8 := [54, 4, 132, 6, 1, 167, 255, 156, 21, 5, 172]
abbrev dktX6_netOn_5 : List UInt8 := dkwX6_netOn_5 ++ []
def dkwX6_netOn_4 : List UInt8 := [21, 5, 163, 0, 15, 29, 4, 160, 0, 18, 21, 7, 21, 4, 162, 0, 11, 21, 8, 54, 5, 21, 7]
abbrev dktX6_netOn_4 : List UInt8 := dkwX6_netOn_4 ++ dktX6_netOn_5
def dkwX6_netOn_3 : List UInt8 := [8, 27, 104, 7, 96, 46, 159, 0, 6, 167, 0, 39, 21, 5, 153, 0, 26, 29, 154, 0, 10, 21, 8]
abbrev dktX6_netOn_3 : List UInt8 := dkwX6_netOn_3 ++ dktX6_netOn_4
def dkwX6_netOn_2 : List UInt8 := [182, 1, 81, 21, 7, 100, 54, 8, 21, 8, 158, 0, 62, 29, 5, 160, 0, 21, 21, 6, 42, 180, 0, 61]
abbrev dktX6_netOn_2 : List UInt8 := dkwX6_netOn_2 ++ dktX6_netOn_3
def dkwX6_netOn_1 : List UInt8 := [180, 0, 52, 28, 46, 162, 0, 95, 42, 27, 28, 21, 6, 182, 1, 77, 54, 7, 42, 28, 21, 6]
abbrev dktX6_netOn_1 : List UInt8 := dkwX6_netOn_1 ++ dktX6_netOn_2
def dkwX6_netOn_0 : List UInt8 := [42, 180, 0, 61, 8, 27, 104, 6, 96, 46, 62, 3, 54, 4, 3, 54, 5, 3, 54, 6, 21, 6, 42]
abbrev dktX6_netOn_0 : List UInt8 := dkwX6_netOn_0 ++ dktX6_netOn_1
theorem dksX6_netOn_0 : cX6_netOn.data.toList.drop 0 = dktX6_netOn_0 := by decide +kernel
theorem dksX6_netOn_1 : cX6_netOn.data.toList.drop 23 = dktX6_netOn_1 := dk_seg dksX6_netOn_0 23 rfl rfl
theorem dksX6_netOn_2 : cX6_netOn.data.toList.drop 45 = dktX6_netOn_2 := dk_seg dksX6_netOn_1 22 rfl rfl
theorem dksX6_netOn_3 : cX6_netOn.data.toList.drop 69 = dktX6_netOn_3 := dk_seg dksX6_netOn_2 24 rfl rfl
theorem dksX6_netOn_4 : cX6_netOn.data.toList.drop 92 = dktX6_netOn_4 := dk_seg dksX6_netOn_3 23 rfl rfl
theorem dksX6_netOn_5 : cX6_netOn.data.toList.drop 115 = dktX6_netOn_5 := dk_seg dksX6_netOn_4 23 rfl rfl
theorem dX6_netOn_0 : decode cX6_netOn 0 = .ok (.aload_n 0, 1) := dk_42 (dk_at dksX6_netOn_0 0 rfl rfl)
theorem dX6_netOn_1 : decode cX6_netOn 1 = .ok (.getfield 61, 3) := dk_180 0 61 (dk_at dksX6_netOn_0 1 rfl rfl)
theorem dX6_netOn_4 : decode cX6_netOn 4 = .ok (.iconst 5, 1) := dk_8 (dk_at dksX6_netOn_0 4 rfl rfl)
theorem dX6_netOn_5 : decode cX6_netOn 5 = .ok (.iload_n 1, 1) := dk_27 (dk_at dksX6_netOn_0 5 rfl rfl)
theorem dX6_netOn_6 : decode cX6_netOn 6 = .ok (.imul, 1) := dk_104 (dk_at dksX6_netOn_0 6 rfl rfl)
theorem dX6_netOn_7 : decode cX6_netOn 7 = .ok (.iconst 3, 1) := dk_6 (dk_at dksX6_netOn_0 7 rfl rfl)
theorem dX6_netOn_8 : decode cX6_netOn 8 = .ok (.iadd, 1) := dk_96 (dk_at dksX6_netOn_0 8 rfl rfl)
theorem dX6_netOn_9 : decode cX6_netOn 9 = .ok (.iaload, 1) := dk_46 (dk_at dksX6_netOn_0 9 rfl rfl)
theorem dX6_netOn_10 : decode cX6_netOn 10 = .ok (.istore_n 3, 1) := dk_62 (dk_at dksX6_netOn_0 10 rfl rfl)
theorem dX6_netOn_11 : decode cX6_netOn 11 = .ok (.iconst 0, 1) := dk_3 (dk_at dksX6_netOn_0 11 rfl rfl)
theorem dX6_netOn_12 : decode cX6_netOn 12 = .ok (.istore 4, 2) := dk_54 4 (dk_at dksX6_netOn_0 12 rfl rfl)
theorem dX6_netOn_14 : decode cX6_netOn 14 = .ok (.iconst 0, 1) := dk_3 (dk_at dksX6_netOn_0 14 rfl rfl)
theorem dX6_netOn_15 : decode cX6_netOn 15 = .ok (.istore 5, 2) := dk_54 5 (dk_at dksX6_netOn_0 15 rfl rfl)
theorem dX6_netOn_17 : decode cX6_netOn 17 = .ok (.iconst 0, 1) := dk_3 (dk_at dksX6_netOn_0 17 rfl rfl)
theorem dX6_netOn_18 : decode cX6_netOn 18 = .ok (.istore 6, 2) := dk_54 6 (dk_at dksX6_netOn_0 18 rfl rfl)
theorem dX6_netOn_20 : decode cX6_netOn 20 = .ok (.iload 6, 2) := dk_21 6 (dk_at dksX6_netOn_0 20 rfl rfl)
theorem dX6_netOn_22 : decode cX6_netOn 22 = .ok (.aload_n 0, 1) := dk_42 (dk_at dksX6_netOn_0 22 rfl rfl)
theorem dX6_netOn_23 : decode cX6_netOn 23 = .ok (.getfield 52, 3) := dk_180 0 52 (dk_at dksX6_netOn_1 0 rfl rfl)
theorem dX6_netOn_26 : decode cX6_netOn 26 = .ok (.iload_n 2, 1) := dk_28 (dk_at dksX6_netOn_1 3 rfl rfl)
theorem dX6_netOn_27 : decode cX6_netOn 27 = .ok (.iaload, 1) := dk_46 (dk_at dksX6_netOn_1 4 rfl rfl)
theorem dX6_netOn_28 : decode cX6_netOn 28 = .ok (.if_icmp .ge 95, 3) := dk_162 0 95 (dk_at dksX6_netOn_1 5 rfl rfl)
theorem dX6_netOn_31 : decode cX6_netOn 31 = .ok (.aload_n 0, 1) := dk_42 (dk_at dksX6_netOn_1 8 rfl rfl)
theorem dX6_netOn_32 : decode cX6_netOn 32 = .ok (.iload_n 1, 1) := dk_27 (dk_at dksX6_netOn_1 9 rfl rfl)
theorem dX6_netOn_33 : decode cX6_netOn 33 = .ok (.iload_n 2, 1) := dk_28 (dk_at dksX6_netOn_1 10 rfl rfl)
theorem dX6_netOn_34 : decode cX6_netOn 34 = .ok (.iload 6, 2) := dk_21 6 (dk_at dksX6_netOn_1 11 rfl rfl)
theorem dX6_netOn_36 : decode cX6_netOn 36 = .ok (.invokevirtual 333, 3) := dk_182 1 77 (dk_at dksX6_netOn_1 13 rfl rfl)
theorem dX6_netOn_39 : decode cX6_netOn 39 = .ok (.istore 7, 2) := dk_54 7 (dk_at dksX6_netOn_1 16 rfl rfl)
theorem dX6_netOn_41 : decode cX6_netOn 41 = .ok (.aload_n 0, 1) := dk_42 (dk_at dksX6_netOn_1 18 rfl rfl)
theorem dX6_netOn_42 : decode cX6_netOn 42 = .ok (.iload_n 2, 1) := dk_28 (dk_at dksX6_netOn_1 19 rfl rfl)
theorem dX6_netOn_43 : decode cX6_netOn 43 = .ok (.iload 6, 2) := dk_21 6 (dk_at dksX6_netOn_1 20 rfl rfl)
theorem dX6_netOn_45 : decode cX6_netOn 45 = .ok (.invokevirtual 337, 3) := dk_182 1 81 (dk_at dksX6_netOn_2 0 rfl rfl)
theorem dX6_netOn_48 : decode cX6_netOn 48 = .ok (.iload 7, 2) := dk_21 7 (dk_at dksX6_netOn_2 3 rfl rfl)
theorem dX6_netOn_50 : decode cX6_netOn 50 = .ok (.isub, 1) := dk_100 (dk_at dksX6_netOn_2 5 rfl rfl)
theorem dX6_netOn_51 : decode cX6_netOn 51 = .ok (.istore 8, 2) := dk_54 8 (dk_at dksX6_netOn_2 6 rfl rfl)
theorem dX6_netOn_53 : decode cX6_netOn 53 = .ok (.iload 8, 2) := dk_21 8 (dk_at dksX6_netOn_2 8 rfl rfl)
theorem dX6_netOn_55 : decode cX6_netOn 55 = .ok (.ifCond .le 62, 3) := dk_158 0 62 (dk_at dksX6_netOn_2 10 rfl rfl)
theorem dX6_netOn_58 : decode cX6_netOn 58 = .ok (.iload_n 3, 1) := dk_29 (dk_at dksX6_netOn_2 13 rfl rfl)
theorem dX6_netOn_59 : decode cX6_netOn 59 = .ok (.iconst 2, 1) := dk_5 (dk_at dksX6_netOn_2 14 rfl rfl)
theorem dX6_netOn_60 : decode cX6_netOn 60 = .ok (.if_icmp .ne 21, 3) := dk_160 0 21 (dk_at dksX6_netOn_2 15 rfl rfl)
theorem dX6_netOn_63 : decode cX6_netOn 63 = .ok (.iload 6, 2) := dk_21 6 (dk_at dksX6_netOn_2 18 rfl rfl)
theorem dX6_netOn_65 : decode cX6_netOn 65 = .ok (.aload_n 0, 1) := dk_42 (dk_at dksX6_netOn_2 20 rfl rfl)
theorem dX6_netOn_66 : decode cX6_netOn 66 = .ok (.getfield 61, 3) := dk_180 0 61 (dk_at dksX6_netOn_2 21 rfl rfl)
theorem dX6_netOn_69 : decode cX6_netOn 69 = .ok (.iconst 5, 1) := dk_8 (dk_at dksX6_netOn_3 0 rfl rfl)
theorem dX6_netOn_70 : decode cX6_netOn 70 = .ok (.iload_n 1, 1) := dk_27 (dk_at dksX6_netOn_3 1 rfl rfl)
theorem dX6_netOn_71 : decode cX6_netOn 71 = .ok (.imul, 1) := dk_104 (dk_at dksX6_netOn_3 2 rfl rfl)
theorem dX6_netOn_72 : decode cX6_netOn 72 = .ok (.iconst 4, 1) := dk_7 (dk_at dksX6_netOn_3 3 rfl rfl)
theorem dX6_netOn_73 : decode cX6_netOn 73 = .ok (.iadd, 1) := dk_96 (dk_at dksX6_netOn_3 4 rfl rfl)
theorem dX6_netOn_74 : decode cX6_netOn 74 = .ok (.iaload, 1) := dk_46 (dk_at dksX6_netOn_3 5 rfl rfl)
theorem dX6_netOn_75 : decode cX6_netOn 75 = .ok (.if_icmp .eq 6, 3) := dk_159 0 6 (dk_at dksX6_netOn_3 6 rfl rfl)
theorem dX6_netOn_78 : decode cX6_netOn 78 = .ok (.goto 39, 3) := dk_167 0 39 (dk_at dksX6_netOn_3 9 rfl rfl)
theorem dX6_netOn_81 : decode cX6_netOn 81 = .ok (.iload 5, 2) := dk_21 5 (dk_at dksX6_netOn_3 12 rfl rfl)
theorem dX6_netOn_83 : decode cX6_netOn 83 = .ok (.ifCond .eq 26, 3) := dk_153 0 26 (dk_at dksX6_netOn_3 14 rfl rfl)
theorem dX6_netOn_86 : decode cX6_netOn 86 = .ok (.iload_n 3, 1) := dk_29 (dk_at dksX6_netOn_3 17 rfl rfl)
theorem dX6_netOn_87 : decode cX6_netOn 87 = .ok (.ifCond .ne 10, 3) := dk_154 0 10 (dk_at dksX6_netOn_3 18 rfl rfl)
theorem dX6_netOn_90 : decode cX6_netOn 90 = .ok (.iload 8, 2) := dk_21 8 (dk_at dksX6_netOn_3 21 rfl rfl)
theorem dX6_netOn_92 : decode cX6_netOn 92 = .ok (.iload 5, 2) := dk_21 5 (dk_at dksX6_netOn_4 0 rfl rfl)
theorem dX6_netOn_94 : decode cX6_netOn 94 = .ok (.if_icmp .gt 15, 3) := dk_163 0 15 (dk_at dksX6_netOn_4 2 rfl rfl)
theorem dX6_netOn_97 : decode cX6_netOn 97 = .ok (.iload_n 3, 1) := dk_29 (dk_at dksX6_netOn_4 5 rfl rfl)
theorem dX6_netOn_98 : decode cX6_netOn 98 = .ok (.iconst 1, 1) := dk_4 (dk_at dksX6_netOn_4 6 rfl rfl)
theorem dX6_netOn_99 : decode cX6_netOn 99 = .ok (.if_icmp .ne 18, 3) := dk_160 0 18 (dk_at dksX6_netOn_4 7 rfl rfl)
theorem dX6_netOn_102 : decode cX6_netOn 102 = .ok (.iload 7, 2) := dk_21 7 (dk_at dksX6_netOn_4 10 rfl rfl)
theorem dX6_netOn_104 : decode cX6_netOn 104 = .ok (.iload 4, 2) := dk_21 4 (dk_at dksX6_netOn_4 12 rfl rfl)
theorem dX6_netOn_106 : decode cX6_netOn 106 = .ok (.if_icmp .ge 11, 3) := dk_162 0 11 (dk_at dksX6_netOn_4 14 rfl rfl)
theorem dX6_netOn_109 : decode cX6_netOn 109 = .ok (.iload 8, 2) := dk_21 8 (dk_at dksX6_netOn_4 17 rfl rfl)
theorem dX6_netOn_111 : decode cX6_netOn 111 = .ok (.istore 5, 2) := dk_54 5 (dk_at dksX6_netOn_4 19 rfl rfl)
theorem dX6_netOn_113 : decode cX6_netOn 113 = .ok (.iload 7, 2) := dk_21 7 (dk_at dksX6_netOn_4 21 rfl rfl)
theorem dX6_netOn_115 : decode cX6_netOn 115 = .ok (.istore 4, 2) := dk_54 4 (dk_at dksX6_netOn_5 0 rfl rfl)
theorem dX6_netOn_117 : decode cX6_netOn 117 = .ok (.iinc 6 1, 3) := dk_132 6 1 (dk_at dksX6_netOn_5 2 rfl rfl)
theorem dX6_netOn_120 : decode cX6_netOn 120 = .ok (.goto (-100), 3) := dk_167 255 156 (dk_at dksX6_netOn_5 5 rfl rfl)
theorem dX6_netOn_123 : decode cX6_netOn 123 = .ok (.iload 5, 2) := dk_21 5 (dk_at dksX6_netOn_5 8 rfl rfl)
theorem dX6_netOn_125 : decode cX6_netOn 125 = .ok (.ireturn, 1) := dk_172 (dk_at dksX6_netOn_5 10 rfl rfl)
abbrev cX6_run : ByteArray := prog_20_method_142_code
def yX6_run : MethodName := ⟨RX6, "run", "(I)I"⟩
def dkwX6_run_1 : List UInt8 := [133, 182, 2, 30, 42, 182, 2, 33, 172]
abbrev dktX6_run_1 : List UInt8 := dkwX6_run_1 ++ []
def dkwX6_run_0 : List UInt8 := [42, 3, 181, 0, 114, 27, 184, 2, 27, 153, 0, 10, 42, 182, 1, 98, 154, 0, 6, 16, 254, 172, 42, 27]
abbrev dktX6_run_0 : List UInt8 := dkwX6_run_0 ++ dktX6_run_1
theorem dksX6_run_0 : cX6_run.data.toList.drop 0 = dktX6_run_0 := by decide +kernel
theorem dksX6_run_1 : cX6_run.data.toList.drop 24 = dktX6_run_1 := dk_seg dksX6_run_0 24 rfl rfl
theorem dX6_run_0 : decode cX6_run 0 = .ok (.aload_n 0, 1) := dk_42 (dk_at dksX6_run_0 0 rfl rfl)
theorem dX6_run_1 : decode cX6_run 1 = .ok (.iconst 0, 1) := dk_3 (dk_at dksX6_run_0 1 rfl rfl)
theorem dX6_run_2 : decode cX6_run 2 = .ok (.putfield 114, 3) := dk_181 0 114 (dk_at dksX6_run_0 2 rfl rfl)
theorem dX6_run_5 : decode cX6_run 5 = .ok (.iload_n 1, 1) := dk_27 (dk_at dksX6_run_0 5 rfl rfl)
theorem dX6_run_6 : decode cX6_run 6 = .ok (.invokestatic 539, 3) := dk_184 2 27 (dk_at dksX6_run_0 6 rfl rfl)
theorem dX6_run_9 : decode cX6_run 9 = .ok (.ifCond .eq 10, 3) := dk_153 0 10 (dk_at dksX6_run_0 9 rfl rfl)
theorem dX6_run_12 : decode cX6_run 12 = .ok (.aload_n 0, 1) := dk_42 (dk_at dksX6_run_0 12 rfl rfl)
theorem dX6_run_13 : decode cX6_run 13 = .ok (.invokevirtual 354, 3) := dk_182 1 98 (dk_at dksX6_run_0 13 rfl rfl)
theorem dX6_run_16 : decode cX6_run 16 = .ok (.ifCond .ne 6, 3) := dk_154 0 6 (dk_at dksX6_run_0 16 rfl rfl)
theorem dX6_run_19 : decode cX6_run 19 = .ok (.bipush (-2), 2) := dk_16 254 (dk_at dksX6_run_0 19 rfl rfl)
theorem dX6_run_21 : decode cX6_run 21 = .ok (.ireturn, 1) := dk_172 (dk_at dksX6_run_0 21 rfl rfl)
theorem dX6_run_22 : decode cX6_run 22 = .ok (.aload_n 0, 1) := dk_42 (dk_at dksX6_run_0 22 rfl rfl)
theorem dX6_run_23 : decode cX6_run 23 = .ok (.iload_n 1, 1) := dk_27 (dk_at dksX6_run_0 23 rfl rfl)
theorem dX6_run_24 : decode cX6_run 24 = .ok (.i2l, 1) := dk_133 (dk_at dksX6_run_1 0 rfl rfl)
theorem dX6_run_25 : decode cX6_run 25 = .ok (.invokevirtual 542, 3) := dk_182 2 30 (dk_at dksX6_run_1 1 rfl rfl)
theorem dX6_run_28 : decode cX6_run 28 = .ok (.aload_n 0, 1) := dk_42 (dk_at dksX6_run_1 4 rfl rfl)
theorem dX6_run_29 : decode cX6_run 29 = .ok (.invokevirtual 545, 3) := dk_182 2 33 (dk_at dksX6_run_1 5 rfl rfl)
theorem dX6_run_32 : decode cX6_run 32 = .ok (.ireturn, 1) := dk_172 (dk_at dksX6_run_1 8 rfl rfl)
abbrev cX6_isSeed : ByteArray := prog_20_method_141_code
def yX6_isSeed : MethodName := ⟨RX6, "isSeed", "(I)Z"⟩
def dkwX6_isSeed_0 : List UInt8 := [26, 133, 9, 20, 2, 25, 184, 0, 119, 172]
abbrev dktX6_isSeed_0 : List UInt8 := dkwX6_isSeed_0 ++ []
theorem dksX6_isSeed_0 : cX6_isSeed.data.toList.drop 0 = dktX6_isSeed_0 := by decide +kernel
theorem dX6_isSeed_0 : decode cX6_isSeed 0 = .ok (.iload_n 0, 1) := dk_26 (dk_at dksX6_isSeed_0 0 rfl rfl)
theorem dX6_isSeed_1 : decode cX6_isSeed 1 = .ok (.i2l, 1) := dk_133 (dk_at dksX6_isSeed_0 1 rfl rfl)
theorem dX6_isSeed_2 : decode cX6_isSeed 2 = .ok (.lconst 0, 1) := dk_9 (dk_at dksX6_isSeed_0 2 rfl rfl)
theorem dX6_isSeed_3 : decode cX6_isSeed 3 = .ok (.ldc2_w 537, 3) := dk_20 2 25 (dk_at dksX6_isSeed_0 3 rfl rfl)
theorem dX6_isSeed_6 : decode cX6_isSeed 6 = .ok (.invokestatic 119, 3) := dk_184 0 119 (dk_at dksX6_isSeed_0 6 rfl rfl)
theorem dX6_isSeed_9 : decode cX6_isSeed 9 = .ok (.ireturn, 1) := dk_172 (dk_at dksX6_isSeed_0 9 rfl rfl)
abbrev cX6_draws : ByteArray := prog_20_method_139_code
def yX6_draws : MethodName := ⟨RX6, "draws", "(J)V"⟩
def dkwX6_draws_3 : List UInt8 := [132, 5, 1, 167, 255, 209, 132, 3, 1, 167, 255, 187, 177]
abbrev dktX6_draws_3 : List UInt8 := dkwX6_draws_3 ++ []
def dkwX6_draws_2 : List UInt8 := [21, 5, 104, 4, 96, 46, 162, 0, 14, 42, 21, 5, 21, 4, 182, 2, 19, 167, 0, 5, 21, 4, 54, 4]
abbrev dktX6_draws_2 : List UInt8 := dkwX6_draws_2 ++ dktX6_draws_3
def dkwX6_draws_1 : List UInt8 := [3, 54, 5, 21, 5, 42, 180, 0, 58, 3, 46, 162, 0, 42, 42, 182, 2, 16, 42, 180, 0, 61, 8]
abbrev dktX6_draws_1 : List UInt8 := dkwX6_draws_1 ++ dktX6_draws_2
def dkwX6_draws_0 : List UInt8 := [42, 182, 2, 13, 42, 31, 181, 2, 4, 3, 62, 29, 42, 180, 0, 37, 3, 46, 162, 0, 65, 3, 54, 4]
abbrev dktX6_draws_0 : List UInt8 := dkwX6_draws_0 ++ dktX6_draws_1
theorem dksX6_draws_0 : cX6_draws.data.toList.drop 0 = dktX6_draws_0 := by decide +kernel
theorem dksX6_draws_1 : cX6_draws.data.toList.drop 24 = dktX6_draws_1 := dk_seg dksX6_draws_0 24 rfl rfl
theorem dksX6_draws_2 : cX6_draws.data.toList.drop 47 = dktX6_draws_2 := dk_seg dksX6_draws_1 23 rfl rfl
theorem dksX6_draws_3 : cX6_draws.data.toList.drop 71 = dktX6_draws_3 := dk_seg dksX6_draws_2 24 rfl rfl
theorem dX6_draws_0 : decode cX6_draws 0 = .ok (.aload_n 0, 1) := dk_42 (dk_at dksX6_draws_0 0 rfl rfl)
theorem dX6_draws_1 : decode cX6_draws 1 = .ok (.invokevirtual 525, 3) := dk_182 2 13 (dk_at dksX6_draws_0 1 rfl rfl)
theorem dX6_draws_4 : decode cX6_draws 4 = .ok (.aload_n 0, 1) := dk_42 (dk_at dksX6_draws_0 4 rfl rfl)
theorem dX6_draws_5 : decode cX6_draws 5 = .ok (.lload_n 1, 1) := dk_31 (dk_at dksX6_draws_0 5 rfl rfl)
theorem dX6_draws_6 : decode cX6_draws 6 = .ok (.putfield 516, 3) := dk_181 2 4 (dk_at dksX6_draws_0 6 rfl rfl)
theorem dX6_draws_9 : decode cX6_draws 9 = .ok (.iconst 0, 1) := dk_3 (dk_at dksX6_draws_0 9 rfl rfl)
theorem dX6_draws_10 : decode cX6_draws 10 = .ok (.istore_n 3, 1) := dk_62 (dk_at dksX6_draws_0 10 rfl rfl)
theorem dX6_draws_11 : decode cX6_draws 11 = .ok (.iload_n 3, 1) := dk_29 (dk_at dksX6_draws_0 11 rfl rfl)
theorem dX6_draws_12 : decode cX6_draws 12 = .ok (.aload_n 0, 1) := dk_42 (dk_at dksX6_draws_0 12 rfl rfl)
theorem dX6_draws_13 : decode cX6_draws 13 = .ok (.getfield 37, 3) := dk_180 0 37 (dk_at dksX6_draws_0 13 rfl rfl)
theorem dX6_draws_16 : decode cX6_draws 16 = .ok (.iconst 0, 1) := dk_3 (dk_at dksX6_draws_0 16 rfl rfl)
theorem dX6_draws_17 : decode cX6_draws 17 = .ok (.iaload, 1) := dk_46 (dk_at dksX6_draws_0 17 rfl rfl)
theorem dX6_draws_18 : decode cX6_draws 18 = .ok (.if_icmp .ge 65, 3) := dk_162 0 65 (dk_at dksX6_draws_0 18 rfl rfl)
theorem dX6_draws_21 : decode cX6_draws 21 = .ok (.iconst 0, 1) := dk_3 (dk_at dksX6_draws_0 21 rfl rfl)
theorem dX6_draws_22 : decode cX6_draws 22 = .ok (.istore 4, 2) := dk_54 4 (dk_at dksX6_draws_0 22 rfl rfl)
theorem dX6_draws_24 : decode cX6_draws 24 = .ok (.iconst 0, 1) := dk_3 (dk_at dksX6_draws_1 0 rfl rfl)
theorem dX6_draws_25 : decode cX6_draws 25 = .ok (.istore 5, 2) := dk_54 5 (dk_at dksX6_draws_1 1 rfl rfl)
theorem dX6_draws_27 : decode cX6_draws 27 = .ok (.iload 5, 2) := dk_21 5 (dk_at dksX6_draws_1 3 rfl rfl)
theorem dX6_draws_29 : decode cX6_draws 29 = .ok (.aload_n 0, 1) := dk_42 (dk_at dksX6_draws_1 5 rfl rfl)
theorem dX6_draws_30 : decode cX6_draws 30 = .ok (.getfield 58, 3) := dk_180 0 58 (dk_at dksX6_draws_1 6 rfl rfl)
theorem dX6_draws_33 : decode cX6_draws 33 = .ok (.iconst 0, 1) := dk_3 (dk_at dksX6_draws_1 9 rfl rfl)
theorem dX6_draws_34 : decode cX6_draws 34 = .ok (.iaload, 1) := dk_46 (dk_at dksX6_draws_1 10 rfl rfl)
theorem dX6_draws_35 : decode cX6_draws 35 = .ok (.if_icmp .ge 42, 3) := dk_162 0 42 (dk_at dksX6_draws_1 11 rfl rfl)
theorem dX6_draws_38 : decode cX6_draws 38 = .ok (.aload_n 0, 1) := dk_42 (dk_at dksX6_draws_1 14 rfl rfl)
theorem dX6_draws_39 : decode cX6_draws 39 = .ok (.invokevirtual 528, 3) := dk_182 2 16 (dk_at dksX6_draws_1 15 rfl rfl)
theorem dX6_draws_42 : decode cX6_draws 42 = .ok (.aload_n 0, 1) := dk_42 (dk_at dksX6_draws_1 18 rfl rfl)
theorem dX6_draws_43 : decode cX6_draws 43 = .ok (.getfield 61, 3) := dk_180 0 61 (dk_at dksX6_draws_1 19 rfl rfl)
theorem dX6_draws_46 : decode cX6_draws 46 = .ok (.iconst 5, 1) := dk_8 (dk_at dksX6_draws_1 22 rfl rfl)
theorem dX6_draws_47 : decode cX6_draws 47 = .ok (.iload 5, 2) := dk_21 5 (dk_at dksX6_draws_2 0 rfl rfl)
theorem dX6_draws_49 : decode cX6_draws 49 = .ok (.imul, 1) := dk_104 (dk_at dksX6_draws_2 2 rfl rfl)
theorem dX6_draws_50 : decode cX6_draws 50 = .ok (.iconst 1, 1) := dk_4 (dk_at dksX6_draws_2 3 rfl rfl)
theorem dX6_draws_51 : decode cX6_draws 51 = .ok (.iadd, 1) := dk_96 (dk_at dksX6_draws_2 4 rfl rfl)
theorem dX6_draws_52 : decode cX6_draws 52 = .ok (.iaload, 1) := dk_46 (dk_at dksX6_draws_2 5 rfl rfl)
theorem dX6_draws_53 : decode cX6_draws 53 = .ok (.if_icmp .ge 14, 3) := dk_162 0 14 (dk_at dksX6_draws_2 6 rfl rfl)
theorem dX6_draws_56 : decode cX6_draws 56 = .ok (.aload_n 0, 1) := dk_42 (dk_at dksX6_draws_2 9 rfl rfl)
theorem dX6_draws_57 : decode cX6_draws 57 = .ok (.iload 5, 2) := dk_21 5 (dk_at dksX6_draws_2 10 rfl rfl)
theorem dX6_draws_59 : decode cX6_draws 59 = .ok (.iload 4, 2) := dk_21 4 (dk_at dksX6_draws_2 12 rfl rfl)
theorem dX6_draws_61 : decode cX6_draws 61 = .ok (.invokevirtual 531, 3) := dk_182 2 19 (dk_at dksX6_draws_2 14 rfl rfl)
theorem dX6_draws_64 : decode cX6_draws 64 = .ok (.goto 5, 3) := dk_167 0 5 (dk_at dksX6_draws_2 17 rfl rfl)
theorem dX6_draws_67 : decode cX6_draws 67 = .ok (.iload 4, 2) := dk_21 4 (dk_at dksX6_draws_2 20 rfl rfl)
theorem dX6_draws_69 : decode cX6_draws 69 = .ok (.istore 4, 2) := dk_54 4 (dk_at dksX6_draws_2 22 rfl rfl)
theorem dX6_draws_71 : decode cX6_draws 71 = .ok (.iinc 5 1, 3) := dk_132 5 1 (dk_at dksX6_draws_3 0 rfl rfl)
theorem dX6_draws_74 : decode cX6_draws 74 = .ok (.goto (-47), 3) := dk_167 255 209 (dk_at dksX6_draws_3 3 rfl rfl)
theorem dX6_draws_77 : decode cX6_draws 77 = .ok (.iinc 3 1, 3) := dk_132 3 1 (dk_at dksX6_draws_3 6 rfl rfl)
theorem dX6_draws_80 : decode cX6_draws 80 = .ok (.goto (-69), 3) := dk_167 255 187 (dk_at dksX6_draws_3 9 rfl rfl)
theorem dX6_draws_83 : decode cX6_draws 83 = .ok (.return_, 1) := dk_177 (dk_at dksX6_draws_3 12 rfl rfl)
abbrev cX6_newYear : ByteArray := prog_20_method_136_code
def yX6_newYear : MethodName := ⟨RX6, "newYear", "()V"⟩
def dkwX6_newYear_1 : List UInt8 := [167, 255, 240, 177]
abbrev dktX6_newYear_1 : List UInt8 := dkwX6_newYear_1 ++ []
def dkwX6_newYear_0 : List UInt8 := [42, 2, 182, 1, 87, 3, 60, 27, 16, 16, 162, 0, 16, 42, 180, 0, 111, 27, 3, 79, 132, 1, 1]
abbrev dktX6_newYear_0 : List UInt8 := dkwX6_newYear_0 ++ dktX6_newYear_1
theorem dksX6_newYear_0 : cX6_newYear.data.toList.drop 0 = dktX6_newYear_0 := by decide +kernel
theorem dksX6_newYear_1 : cX6_newYear.data.toList.drop 23 = dktX6_newYear_1 := dk_seg dksX6_newYear_0 23 rfl rfl
theorem dX6_newYear_0 : decode cX6_newYear 0 = .ok (.aload_n 0, 1) := dk_42 (dk_at dksX6_newYear_0 0 rfl rfl)
theorem dX6_newYear_1 : decode cX6_newYear 1 = .ok (.iconst (-1), 1) := dk_2 (dk_at dksX6_newYear_0 1 rfl rfl)
theorem dX6_newYear_2 : decode cX6_newYear 2 = .ok (.invokevirtual 343, 3) := dk_182 1 87 (dk_at dksX6_newYear_0 2 rfl rfl)
theorem dX6_newYear_5 : decode cX6_newYear 5 = .ok (.iconst 0, 1) := dk_3 (dk_at dksX6_newYear_0 5 rfl rfl)
theorem dX6_newYear_6 : decode cX6_newYear 6 = .ok (.istore_n 1, 1) := dk_60 (dk_at dksX6_newYear_0 6 rfl rfl)
theorem dX6_newYear_7 : decode cX6_newYear 7 = .ok (.iload_n 1, 1) := dk_27 (dk_at dksX6_newYear_0 7 rfl rfl)
theorem dX6_newYear_8 : decode cX6_newYear 8 = .ok (.bipush 16, 2) := dk_16 16 (dk_at dksX6_newYear_0 8 rfl rfl)
theorem dX6_newYear_10 : decode cX6_newYear 10 = .ok (.if_icmp .ge 16, 3) := dk_162 0 16 (dk_at dksX6_newYear_0 10 rfl rfl)
theorem dX6_newYear_13 : decode cX6_newYear 13 = .ok (.aload_n 0, 1) := dk_42 (dk_at dksX6_newYear_0 13 rfl rfl)
theorem dX6_newYear_14 : decode cX6_newYear 14 = .ok (.getfield 111, 3) := dk_180 0 111 (dk_at dksX6_newYear_0 14 rfl rfl)
theorem dX6_newYear_17 : decode cX6_newYear 17 = .ok (.iload_n 1, 1) := dk_27 (dk_at dksX6_newYear_0 17 rfl rfl)
theorem dX6_newYear_18 : decode cX6_newYear 18 = .ok (.iconst 0, 1) := dk_3 (dk_at dksX6_newYear_0 18 rfl rfl)
theorem dX6_newYear_19 : decode cX6_newYear 19 = .ok (.iastore, 1) := dk_79 (dk_at dksX6_newYear_0 19 rfl rfl)
theorem dX6_newYear_20 : decode cX6_newYear 20 = .ok (.iinc 1 1, 3) := dk_132 1 1 (dk_at dksX6_newYear_0 20 rfl rfl)
theorem dX6_newYear_23 : decode cX6_newYear 23 = .ok (.goto (-16), 3) := dk_167 255 240 (dk_at dksX6_newYear_1 0 rfl rfl)
theorem dX6_newYear_26 : decode cX6_newYear 26 = .ok (.return_, 1) := dk_177 (dk_at dksX6_newYear_1 3 rfl rfl)
abbrev cX6_draw : ByteArray := prog_20_method_135_code
def yX6_draw : MethodName := ⟨RX6, "draw", "()I"⟩
def dkwX6_draw_1 : List UInt8 := [20, 2, 11, 109, 20, 1, 69, 113, 136, 172]
abbrev dktX6_draw_1 : List UInt8 := dkwX6_draw_1 ++ []
def dkwX6_draw_0 : List UInt8 := [42, 20, 2, 2, 42, 180, 2, 4, 105, 20, 2, 7, 97, 20, 2, 9, 113, 181, 2, 4, 42, 180, 2, 4]
abbrev dktX6_draw_0 : List UInt8 := dkwX6_draw_0 ++ dktX6_draw_1
theorem dksX6_draw_0 : cX6_draw.data.toList.drop 0 = dktX6_draw_0 := by decide +kernel
theorem dksX6_draw_1 : cX6_draw.data.toList.drop 24 = dktX6_draw_1 := dk_seg dksX6_draw_0 24 rfl rfl
theorem dX6_draw_0 : decode cX6_draw 0 = .ok (.aload_n 0, 1) := dk_42 (dk_at dksX6_draw_0 0 rfl rfl)
theorem dX6_draw_1 : decode cX6_draw 1 = .ok (.ldc2_w 514, 3) := dk_20 2 2 (dk_at dksX6_draw_0 1 rfl rfl)
theorem dX6_draw_4 : decode cX6_draw 4 = .ok (.aload_n 0, 1) := dk_42 (dk_at dksX6_draw_0 4 rfl rfl)
theorem dX6_draw_5 : decode cX6_draw 5 = .ok (.getfield 516, 3) := dk_180 2 4 (dk_at dksX6_draw_0 5 rfl rfl)
theorem dX6_draw_8 : decode cX6_draw 8 = .ok (.lmul, 1) := dk_105 (dk_at dksX6_draw_0 8 rfl rfl)
theorem dX6_draw_9 : decode cX6_draw 9 = .ok (.ldc2_w 519, 3) := dk_20 2 7 (dk_at dksX6_draw_0 9 rfl rfl)
theorem dX6_draw_12 : decode cX6_draw 12 = .ok (.ladd, 1) := dk_97 (dk_at dksX6_draw_0 12 rfl rfl)
theorem dX6_draw_13 : decode cX6_draw 13 = .ok (.ldc2_w 521, 3) := dk_20 2 9 (dk_at dksX6_draw_0 13 rfl rfl)
theorem dX6_draw_16 : decode cX6_draw 16 = .ok (.lrem, 1) := dk_113 (dk_at dksX6_draw_0 16 rfl rfl)
theorem dX6_draw_17 : decode cX6_draw 17 = .ok (.putfield 516, 3) := dk_181 2 4 (dk_at dksX6_draw_0 17 rfl rfl)
theorem dX6_draw_20 : decode cX6_draw 20 = .ok (.aload_n 0, 1) := dk_42 (dk_at dksX6_draw_0 20 rfl rfl)
theorem dX6_draw_21 : decode cX6_draw 21 = .ok (.getfield 516, 3) := dk_180 2 4 (dk_at dksX6_draw_0 21 rfl rfl)
theorem dX6_draw_24 : decode cX6_draw 24 = .ok (.ldc2_w 523, 3) := dk_20 2 11 (dk_at dksX6_draw_1 0 rfl rfl)
theorem dX6_draw_27 : decode cX6_draw 27 = .ok (.ldiv, 1) := dk_109 (dk_at dksX6_draw_1 3 rfl rfl)
theorem dX6_draw_28 : decode cX6_draw 28 = .ok (.ldc2_w 325, 3) := dk_20 1 69 (dk_at dksX6_draw_1 4 rfl rfl)
theorem dX6_draw_31 : decode cX6_draw 31 = .ok (.lrem, 1) := dk_113 (dk_at dksX6_draw_1 7 rfl rfl)
theorem dX6_draw_32 : decode cX6_draw 32 = .ok (.l2i, 1) := dk_136 (dk_at dksX6_draw_1 8 rfl rfl)
theorem dX6_draw_33 : decode cX6_draw 33 = .ok (.ireturn, 1) := dk_172 (dk_at dksX6_draw_1 9 rfl rfl)
abbrev cX6_comes : ByteArray := prog_20_method_137_code
def yX6_comes : MethodName := ⟨RX6, "comes", "(II)I"⟩
def dkwX6_comes_1 : List UInt8 := [42, 180, 0, 111, 16, 10, 27, 96, 92, 46, 4, 96, 79, 28, 4, 29, 120, 128, 172]
abbrev dktX6_comes_1 : List UInt8 := dkwX6_comes_1 ++ []
def dkwX6_comes_0 : List UInt8 := [42, 27, 28, 182, 1, 90, 62, 29, 2, 160, 0, 5, 28, 172, 42, 180, 0, 111, 29, 92, 46, 4, 96, 79]
abbrev dktX6_comes_0 : List UInt8 := dkwX6_comes_0 ++ dktX6_comes_1
theorem dksX6_comes_0 : cX6_comes.data.toList.drop 0 = dktX6_comes_0 := by decide +kernel
theorem dksX6_comes_1 : cX6_comes.data.toList.drop 24 = dktX6_comes_1 := dk_seg dksX6_comes_0 24 rfl rfl
theorem dX6_comes_0 : decode cX6_comes 0 = .ok (.aload_n 0, 1) := dk_42 (dk_at dksX6_comes_0 0 rfl rfl)
theorem dX6_comes_1 : decode cX6_comes 1 = .ok (.iload_n 1, 1) := dk_27 (dk_at dksX6_comes_0 1 rfl rfl)
theorem dX6_comes_2 : decode cX6_comes 2 = .ok (.iload_n 2, 1) := dk_28 (dk_at dksX6_comes_0 2 rfl rfl)
theorem dX6_comes_3 : decode cX6_comes 3 = .ok (.invokevirtual 346, 3) := dk_182 1 90 (dk_at dksX6_comes_0 3 rfl rfl)
theorem dX6_comes_6 : decode cX6_comes 6 = .ok (.istore_n 3, 1) := dk_62 (dk_at dksX6_comes_0 6 rfl rfl)
theorem dX6_comes_7 : decode cX6_comes 7 = .ok (.iload_n 3, 1) := dk_29 (dk_at dksX6_comes_0 7 rfl rfl)
theorem dX6_comes_8 : decode cX6_comes 8 = .ok (.iconst (-1), 1) := dk_2 (dk_at dksX6_comes_0 8 rfl rfl)
theorem dX6_comes_9 : decode cX6_comes 9 = .ok (.if_icmp .ne 5, 3) := dk_160 0 5 (dk_at dksX6_comes_0 9 rfl rfl)
theorem dX6_comes_12 : decode cX6_comes 12 = .ok (.iload_n 2, 1) := dk_28 (dk_at dksX6_comes_0 12 rfl rfl)
theorem dX6_comes_13 : decode cX6_comes 13 = .ok (.ireturn, 1) := dk_172 (dk_at dksX6_comes_0 13 rfl rfl)
theorem dX6_comes_14 : decode cX6_comes 14 = .ok (.aload_n 0, 1) := dk_42 (dk_at dksX6_comes_0 14 rfl rfl)
theorem dX6_comes_15 : decode cX6_comes 15 = .ok (.getfield 111, 3) := dk_180 0 111 (dk_at dksX6_comes_0 15 rfl rfl)
theorem dX6_comes_18 : decode cX6_comes 18 = .ok (.iload_n 3, 1) := dk_29 (dk_at dksX6_comes_0 18 rfl rfl)
theorem dX6_comes_19 : decode cX6_comes 19 = .ok (.dup2, 1) := dk_92 (dk_at dksX6_comes_0 19 rfl rfl)
theorem dX6_comes_20 : decode cX6_comes 20 = .ok (.iaload, 1) := dk_46 (dk_at dksX6_comes_0 20 rfl rfl)
theorem dX6_comes_21 : decode cX6_comes 21 = .ok (.iconst 1, 1) := dk_4 (dk_at dksX6_comes_0 21 rfl rfl)
theorem dX6_comes_22 : decode cX6_comes 22 = .ok (.iadd, 1) := dk_96 (dk_at dksX6_comes_0 22 rfl rfl)
theorem dX6_comes_23 : decode cX6_comes 23 = .ok (.iastore, 1) := dk_79 (dk_at dksX6_comes_0 23 rfl rfl)
theorem dX6_comes_24 : decode cX6_comes 24 = .ok (.aload_n 0, 1) := dk_42 (dk_at dksX6_comes_1 0 rfl rfl)
theorem dX6_comes_25 : decode cX6_comes 25 = .ok (.getfield 111, 3) := dk_180 0 111 (dk_at dksX6_comes_1 1 rfl rfl)
theorem dX6_comes_28 : decode cX6_comes 28 = .ok (.bipush 10, 2) := dk_16 10 (dk_at dksX6_comes_1 4 rfl rfl)
theorem dX6_comes_30 : decode cX6_comes 30 = .ok (.iload_n 1, 1) := dk_27 (dk_at dksX6_comes_1 6 rfl rfl)
theorem dX6_comes_31 : decode cX6_comes 31 = .ok (.iadd, 1) := dk_96 (dk_at dksX6_comes_1 7 rfl rfl)
theorem dX6_comes_32 : decode cX6_comes 32 = .ok (.dup2, 1) := dk_92 (dk_at dksX6_comes_1 8 rfl rfl)
theorem dX6_comes_33 : decode cX6_comes 33 = .ok (.iaload, 1) := dk_46 (dk_at dksX6_comes_1 9 rfl rfl)
theorem dX6_comes_34 : decode cX6_comes 34 = .ok (.iconst 1, 1) := dk_4 (dk_at dksX6_comes_1 10 rfl rfl)
theorem dX6_comes_35 : decode cX6_comes 35 = .ok (.iadd, 1) := dk_96 (dk_at dksX6_comes_1 11 rfl rfl)
theorem dX6_comes_36 : decode cX6_comes 36 = .ok (.iastore, 1) := dk_79 (dk_at dksX6_comes_1 12 rfl rfl)
theorem dX6_comes_37 : decode cX6_comes 37 = .ok (.iload_n 2, 1) := dk_28 (dk_at dksX6_comes_1 13 rfl rfl)
theorem dX6_comes_38 : decode cX6_comes 38 = .ok (.iconst 1, 1) := dk_4 (dk_at dksX6_comes_1 14 rfl rfl)
theorem dX6_comes_39 : decode cX6_comes 39 = .ok (.iload_n 3, 1) := dk_29 (dk_at dksX6_comes_1 15 rfl rfl)
theorem dX6_comes_40 : decode cX6_comes 40 = .ok (.ishl, 1) := dk_120 (dk_at dksX6_comes_1 16 rfl rfl)
theorem dX6_comes_41 : decode cX6_comes 41 = .ok (.ior, 1) := dk_128 (dk_at dksX6_comes_1 17 rfl rfl)
theorem dX6_comes_42 : decode cX6_comes 42 = .ok (.ireturn, 1) := dk_172 (dk_at dksX6_comes_1 18 rfl rfl)
abbrev cX6_tellsYear : ByteArray := prog_20_method_140_code
def yX6_tellsYear : MethodName := ⟨RX6, "tellsYear", "()I"⟩
def dkwX6_tellsYear_1 : List UInt8 := [180, 0, 111, 27, 46, 79, 132, 1, 1, 167, 255, 233, 42, 182, 2, 22, 172]
abbrev dktX6_tellsYear_1 : List UInt8 := dkwX6_tellsYear_1 ++ []
def dkwX6_tellsYear_0 : List UInt8 := [42, 180, 0, 71, 3, 4, 79, 3, 60, 27, 16, 16, 162, 0, 23, 42, 180, 0, 71, 4, 27, 96, 42]
abbrev dktX6_tellsYear_0 : List UInt8 := dkwX6_tellsYear_0 ++ dktX6_tellsYear_1
theorem dksX6_tellsYear_0 : cX6_tellsYear.data.toList.drop 0 = dktX6_tellsYear_0 := by decide +kernel
theorem dksX6_tellsYear_1 : cX6_tellsYear.data.toList.drop 23 = dktX6_tellsYear_1 := dk_seg dksX6_tellsYear_0 23 rfl rfl
theorem dX6_tellsYear_0 : decode cX6_tellsYear 0 = .ok (.aload_n 0, 1) := dk_42 (dk_at dksX6_tellsYear_0 0 rfl rfl)
theorem dX6_tellsYear_1 : decode cX6_tellsYear 1 = .ok (.getfield 71, 3) := dk_180 0 71 (dk_at dksX6_tellsYear_0 1 rfl rfl)
theorem dX6_tellsYear_4 : decode cX6_tellsYear 4 = .ok (.iconst 0, 1) := dk_3 (dk_at dksX6_tellsYear_0 4 rfl rfl)
theorem dX6_tellsYear_5 : decode cX6_tellsYear 5 = .ok (.iconst 1, 1) := dk_4 (dk_at dksX6_tellsYear_0 5 rfl rfl)
theorem dX6_tellsYear_6 : decode cX6_tellsYear 6 = .ok (.iastore, 1) := dk_79 (dk_at dksX6_tellsYear_0 6 rfl rfl)
theorem dX6_tellsYear_7 : decode cX6_tellsYear 7 = .ok (.iconst 0, 1) := dk_3 (dk_at dksX6_tellsYear_0 7 rfl rfl)
theorem dX6_tellsYear_8 : decode cX6_tellsYear 8 = .ok (.istore_n 1, 1) := dk_60 (dk_at dksX6_tellsYear_0 8 rfl rfl)
theorem dX6_tellsYear_9 : decode cX6_tellsYear 9 = .ok (.iload_n 1, 1) := dk_27 (dk_at dksX6_tellsYear_0 9 rfl rfl)
theorem dX6_tellsYear_10 : decode cX6_tellsYear 10 = .ok (.bipush 16, 2) := dk_16 16 (dk_at dksX6_tellsYear_0 10 rfl rfl)
theorem dX6_tellsYear_12 : decode cX6_tellsYear 12 = .ok (.if_icmp .ge 23, 3) := dk_162 0 23 (dk_at dksX6_tellsYear_0 12 rfl rfl)
theorem dX6_tellsYear_15 : decode cX6_tellsYear 15 = .ok (.aload_n 0, 1) := dk_42 (dk_at dksX6_tellsYear_0 15 rfl rfl)
theorem dX6_tellsYear_16 : decode cX6_tellsYear 16 = .ok (.getfield 71, 3) := dk_180 0 71 (dk_at dksX6_tellsYear_0 16 rfl rfl)
theorem dX6_tellsYear_19 : decode cX6_tellsYear 19 = .ok (.iconst 1, 1) := dk_4 (dk_at dksX6_tellsYear_0 19 rfl rfl)
theorem dX6_tellsYear_20 : decode cX6_tellsYear 20 = .ok (.iload_n 1, 1) := dk_27 (dk_at dksX6_tellsYear_0 20 rfl rfl)
theorem dX6_tellsYear_21 : decode cX6_tellsYear 21 = .ok (.iadd, 1) := dk_96 (dk_at dksX6_tellsYear_0 21 rfl rfl)
theorem dX6_tellsYear_22 : decode cX6_tellsYear 22 = .ok (.aload_n 0, 1) := dk_42 (dk_at dksX6_tellsYear_0 22 rfl rfl)
theorem dX6_tellsYear_23 : decode cX6_tellsYear 23 = .ok (.getfield 111, 3) := dk_180 0 111 (dk_at dksX6_tellsYear_1 0 rfl rfl)
theorem dX6_tellsYear_26 : decode cX6_tellsYear 26 = .ok (.iload_n 1, 1) := dk_27 (dk_at dksX6_tellsYear_1 3 rfl rfl)
theorem dX6_tellsYear_27 : decode cX6_tellsYear 27 = .ok (.iaload, 1) := dk_46 (dk_at dksX6_tellsYear_1 4 rfl rfl)
theorem dX6_tellsYear_28 : decode cX6_tellsYear 28 = .ok (.iastore, 1) := dk_79 (dk_at dksX6_tellsYear_1 5 rfl rfl)
theorem dX6_tellsYear_29 : decode cX6_tellsYear 29 = .ok (.iinc 1 1, 3) := dk_132 1 1 (dk_at dksX6_tellsYear_1 6 rfl rfl)
theorem dX6_tellsYear_32 : decode cX6_tellsYear 32 = .ok (.goto (-23), 3) := dk_167 255 233 (dk_at dksX6_tellsYear_1 9 rfl rfl)
theorem dX6_tellsYear_35 : decode cX6_tellsYear 35 = .ok (.aload_n 0, 1) := dk_42 (dk_at dksX6_tellsYear_1 12 rfl rfl)
theorem dX6_tellsYear_36 : decode cX6_tellsYear 36 = .ok (.invokevirtual 534, 3) := dk_182 2 22 (dk_at dksX6_tellsYear_1 13 rfl rfl)
theorem dX6_tellsYear_39 : decode cX6_tellsYear 39 = .ok (.ireturn, 1) := dk_172 (dk_at dksX6_tellsYear_1 16 rfl rfl)
abbrev cX6_drawnAll : ByteArray := prog_20_method_138_code
def yX6_drawnAll : MethodName := ⟨RX6, "drawnAll", "()I"⟩
def dkwX6_drawnAll_1 : List UInt8 := [167, 255, 238, 27, 172]
abbrev dktX6_drawnAll_1 : List UInt8 := dkwX6_drawnAll_1 ++ []
def dkwX6_drawnAll_0 : List UInt8 := [3, 60, 3, 61, 28, 16, 10, 162, 0, 18, 27, 42, 180, 0, 111, 28, 46, 96, 60, 132, 2, 1]
abbrev dktX6_drawnAll_0 : List UInt8 := dkwX6_drawnAll_0 ++ dktX6_drawnAll_1
theorem dksX6_drawnAll_0 : cX6_drawnAll.data.toList.drop 0 = dktX6_drawnAll_0 := by decide +kernel
theorem dksX6_drawnAll_1 : cX6_drawnAll.data.toList.drop 22 = dktX6_drawnAll_1 := dk_seg dksX6_drawnAll_0 22 rfl rfl
theorem dX6_drawnAll_0 : decode cX6_drawnAll 0 = .ok (.iconst 0, 1) := dk_3 (dk_at dksX6_drawnAll_0 0 rfl rfl)
theorem dX6_drawnAll_1 : decode cX6_drawnAll 1 = .ok (.istore_n 1, 1) := dk_60 (dk_at dksX6_drawnAll_0 1 rfl rfl)
theorem dX6_drawnAll_2 : decode cX6_drawnAll 2 = .ok (.iconst 0, 1) := dk_3 (dk_at dksX6_drawnAll_0 2 rfl rfl)
theorem dX6_drawnAll_3 : decode cX6_drawnAll 3 = .ok (.istore_n 2, 1) := dk_61 (dk_at dksX6_drawnAll_0 3 rfl rfl)
theorem dX6_drawnAll_4 : decode cX6_drawnAll 4 = .ok (.iload_n 2, 1) := dk_28 (dk_at dksX6_drawnAll_0 4 rfl rfl)
theorem dX6_drawnAll_5 : decode cX6_drawnAll 5 = .ok (.bipush 10, 2) := dk_16 10 (dk_at dksX6_drawnAll_0 5 rfl rfl)
theorem dX6_drawnAll_7 : decode cX6_drawnAll 7 = .ok (.if_icmp .ge 18, 3) := dk_162 0 18 (dk_at dksX6_drawnAll_0 7 rfl rfl)
theorem dX6_drawnAll_10 : decode cX6_drawnAll 10 = .ok (.iload_n 1, 1) := dk_27 (dk_at dksX6_drawnAll_0 10 rfl rfl)
theorem dX6_drawnAll_11 : decode cX6_drawnAll 11 = .ok (.aload_n 0, 1) := dk_42 (dk_at dksX6_drawnAll_0 11 rfl rfl)
theorem dX6_drawnAll_12 : decode cX6_drawnAll 12 = .ok (.getfield 111, 3) := dk_180 0 111 (dk_at dksX6_drawnAll_0 12 rfl rfl)
theorem dX6_drawnAll_15 : decode cX6_drawnAll 15 = .ok (.iload_n 2, 1) := dk_28 (dk_at dksX6_drawnAll_0 15 rfl rfl)
theorem dX6_drawnAll_16 : decode cX6_drawnAll 16 = .ok (.iaload, 1) := dk_46 (dk_at dksX6_drawnAll_0 16 rfl rfl)
theorem dX6_drawnAll_17 : decode cX6_drawnAll 17 = .ok (.iadd, 1) := dk_96 (dk_at dksX6_drawnAll_0 17 rfl rfl)
theorem dX6_drawnAll_18 : decode cX6_drawnAll 18 = .ok (.istore_n 1, 1) := dk_60 (dk_at dksX6_drawnAll_0 18 rfl rfl)
theorem dX6_drawnAll_19 : decode cX6_drawnAll 19 = .ok (.iinc 2 1, 3) := dk_132 2 1 (dk_at dksX6_drawnAll_0 19 rfl rfl)
theorem dX6_drawnAll_22 : decode cX6_drawnAll 22 = .ok (.goto (-18), 3) := dk_167 255 238 (dk_at dksX6_drawnAll_1 0 rfl rfl)
theorem dX6_drawnAll_25 : decode cX6_drawnAll 25 = .ok (.iload_n 1, 1) := dk_27 (dk_at dksX6_drawnAll_1 3 rfl rfl)
theorem dX6_drawnAll_26 : decode cX6_drawnAll 26 = .ok (.ireturn, 1) := dk_172 (dk_at dksX6_drawnAll_1 4 rfl rfl)
abbrev cX6_told : ByteArray := prog_20_method_143_code
def yX6_told : MethodName := ⟨RX6, "told", "(I)I"⟩
def dkwX6_told_7 : List UInt8 := [132, 4, 1, 167, 255, 209, 132, 2, 1, 167, 255, 188, 42, 182, 2, 33, 172]
abbrev dktX6_told_7 : List UInt8 := dkwX6_told_7 ++ []
def dkwX6_told_6 : List UInt8 := [96, 47, 21, 4, 123, 10, 127, 10, 148, 154, 0, 13, 42, 21, 4, 29, 182, 2, 19, 167, 0, 4, 29, 62]
abbrev dktX6_told_6 : List UInt8 := dkwX6_told_6 ++ dktX6_told_7
def dkwX6_told_5 : List UInt8 := [62, 3, 54, 4, 21, 4, 42, 180, 0, 58, 3, 46, 162, 0, 42, 42, 180, 0, 16, 16, 60, 27, 104, 28]
abbrev dktX6_told_5 : List UInt8 := dkwX6_told_5 ++ dktX6_told_6
def dkwX6_told_4 : List UInt8 := [172, 132, 2, 1, 167, 255, 212, 42, 182, 2, 13, 3, 61, 28, 42, 180, 0, 13, 27, 46, 162, 0, 64, 3]
abbrev dktX6_told_4 : List UInt8 := dkwX6_told_4 ++ dktX6_told_5
def dkwX6_told_3 : List UInt8 := [27, 104, 28, 96, 47, 9, 10, 42, 180, 0, 58, 3, 46, 121, 10, 101, 184, 0, 119, 154, 0, 6, 16, 254]
abbrev dktX6_told_3 : List UInt8 := dkwX6_told_3 ++ dktX6_told_4
def dkwX6_told_2 : List UInt8 := [164, 0, 6, 16, 254, 172, 3, 61, 28, 42, 180, 0, 13, 27, 46, 162, 0, 40, 42, 180, 0, 16, 16, 60]
abbrev dktX6_told_2 : List UInt8 := dkwX6_told_2 ++ dktX6_told_3
def dkwX6_told_1 : List UInt8 := [180, 0, 7, 27, 46, 2, 160, 0, 6, 16, 250, 172, 42, 180, 0, 13, 27, 46, 42, 180, 0, 37, 3, 46]
abbrev dktX6_told_1 : List UInt8 := dkwX6_told_1 ++ dktX6_told_2
def dkwX6_told_0 : List UInt8 := [42, 3, 181, 0, 114, 27, 184, 0, 123, 153, 0, 10, 42, 182, 1, 98, 154, 0, 6, 16, 254, 172, 42]
abbrev dktX6_told_0 : List UInt8 := dkwX6_told_0 ++ dktX6_told_1
theorem dksX6_told_0 : cX6_told.data.toList.drop 0 = dktX6_told_0 := by decide +kernel
theorem dksX6_told_1 : cX6_told.data.toList.drop 23 = dktX6_told_1 := dk_seg dksX6_told_0 23 rfl rfl
theorem dksX6_told_2 : cX6_told.data.toList.drop 47 = dktX6_told_2 := dk_seg dksX6_told_1 24 rfl rfl
theorem dksX6_told_3 : cX6_told.data.toList.drop 71 = dktX6_told_3 := dk_seg dksX6_told_2 24 rfl rfl
theorem dksX6_told_4 : cX6_told.data.toList.drop 95 = dktX6_told_4 := dk_seg dksX6_told_3 24 rfl rfl
theorem dksX6_told_5 : cX6_told.data.toList.drop 119 = dktX6_told_5 := dk_seg dksX6_told_4 24 rfl rfl
theorem dksX6_told_6 : cX6_told.data.toList.drop 143 = dktX6_told_6 := dk_seg dksX6_told_5 24 rfl rfl
theorem dksX6_told_7 : cX6_told.data.toList.drop 167 = dktX6_told_7 := dk_seg dksX6_told_6 24 rfl rfl
theorem dX6_told_0 : decode cX6_told 0 = .ok (.aload_n 0, 1) := dk_42 (dk_at dksX6_told_0 0 rfl rfl)
theorem dX6_told_1 : decode cX6_told 1 = .ok (.iconst 0, 1) := dk_3 (dk_at dksX6_told_0 1 rfl rfl)
theorem dX6_told_2 : decode cX6_told 2 = .ok (.putfield 114, 3) := dk_181 0 114 (dk_at dksX6_told_0 2 rfl rfl)
theorem dX6_told_5 : decode cX6_told 5 = .ok (.iload_n 1, 1) := dk_27 (dk_at dksX6_told_0 5 rfl rfl)
theorem dX6_told_6 : decode cX6_told 6 = .ok (.invokestatic 123, 3) := dk_184 0 123 (dk_at dksX6_told_0 6 rfl rfl)
theorem dX6_told_9 : decode cX6_told 9 = .ok (.ifCond .eq 10, 3) := dk_153 0 10 (dk_at dksX6_told_0 9 rfl rfl)
theorem dX6_told_12 : decode cX6_told 12 = .ok (.aload_n 0, 1) := dk_42 (dk_at dksX6_told_0 12 rfl rfl)
theorem dX6_told_13 : decode cX6_told 13 = .ok (.invokevirtual 354, 3) := dk_182 1 98 (dk_at dksX6_told_0 13 rfl rfl)
theorem dX6_told_16 : decode cX6_told 16 = .ok (.ifCond .ne 6, 3) := dk_154 0 6 (dk_at dksX6_told_0 16 rfl rfl)
theorem dX6_told_19 : decode cX6_told 19 = .ok (.bipush (-2), 2) := dk_16 254 (dk_at dksX6_told_0 19 rfl rfl)
theorem dX6_told_21 : decode cX6_told 21 = .ok (.ireturn, 1) := dk_172 (dk_at dksX6_told_0 21 rfl rfl)
theorem dX6_told_22 : decode cX6_told 22 = .ok (.aload_n 0, 1) := dk_42 (dk_at dksX6_told_0 22 rfl rfl)
theorem dX6_told_23 : decode cX6_told 23 = .ok (.getfield 7, 3) := dk_180 0 7 (dk_at dksX6_told_1 0 rfl rfl)
theorem dX6_told_26 : decode cX6_told 26 = .ok (.iload_n 1, 1) := dk_27 (dk_at dksX6_told_1 3 rfl rfl)
theorem dX6_told_27 : decode cX6_told 27 = .ok (.iaload, 1) := dk_46 (dk_at dksX6_told_1 4 rfl rfl)
theorem dX6_told_28 : decode cX6_told 28 = .ok (.iconst (-1), 1) := dk_2 (dk_at dksX6_told_1 5 rfl rfl)
theorem dX6_told_29 : decode cX6_told 29 = .ok (.if_icmp .ne 6, 3) := dk_160 0 6 (dk_at dksX6_told_1 6 rfl rfl)
theorem dX6_told_32 : decode cX6_told 32 = .ok (.bipush (-6), 2) := dk_16 250 (dk_at dksX6_told_1 9 rfl rfl)
theorem dX6_told_34 : decode cX6_told 34 = .ok (.ireturn, 1) := dk_172 (dk_at dksX6_told_1 11 rfl rfl)
theorem dX6_told_35 : decode cX6_told 35 = .ok (.aload_n 0, 1) := dk_42 (dk_at dksX6_told_1 12 rfl rfl)
theorem dX6_told_36 : decode cX6_told 36 = .ok (.getfield 13, 3) := dk_180 0 13 (dk_at dksX6_told_1 13 rfl rfl)
theorem dX6_told_39 : decode cX6_told 39 = .ok (.iload_n 1, 1) := dk_27 (dk_at dksX6_told_1 16 rfl rfl)
theorem dX6_told_40 : decode cX6_told 40 = .ok (.iaload, 1) := dk_46 (dk_at dksX6_told_1 17 rfl rfl)
theorem dX6_told_41 : decode cX6_told 41 = .ok (.aload_n 0, 1) := dk_42 (dk_at dksX6_told_1 18 rfl rfl)
theorem dX6_told_42 : decode cX6_told 42 = .ok (.getfield 37, 3) := dk_180 0 37 (dk_at dksX6_told_1 19 rfl rfl)
theorem dX6_told_45 : decode cX6_told 45 = .ok (.iconst 0, 1) := dk_3 (dk_at dksX6_told_1 22 rfl rfl)
theorem dX6_told_46 : decode cX6_told 46 = .ok (.iaload, 1) := dk_46 (dk_at dksX6_told_1 23 rfl rfl)
theorem dX6_told_47 : decode cX6_told 47 = .ok (.if_icmp .le 6, 3) := dk_164 0 6 (dk_at dksX6_told_2 0 rfl rfl)
theorem dX6_told_50 : decode cX6_told 50 = .ok (.bipush (-2), 2) := dk_16 254 (dk_at dksX6_told_2 3 rfl rfl)
theorem dX6_told_52 : decode cX6_told 52 = .ok (.ireturn, 1) := dk_172 (dk_at dksX6_told_2 5 rfl rfl)
theorem dX6_told_53 : decode cX6_told 53 = .ok (.iconst 0, 1) := dk_3 (dk_at dksX6_told_2 6 rfl rfl)
theorem dX6_told_54 : decode cX6_told 54 = .ok (.istore_n 2, 1) := dk_61 (dk_at dksX6_told_2 7 rfl rfl)
theorem dX6_told_55 : decode cX6_told 55 = .ok (.iload_n 2, 1) := dk_28 (dk_at dksX6_told_2 8 rfl rfl)
theorem dX6_told_56 : decode cX6_told 56 = .ok (.aload_n 0, 1) := dk_42 (dk_at dksX6_told_2 9 rfl rfl)
theorem dX6_told_57 : decode cX6_told 57 = .ok (.getfield 13, 3) := dk_180 0 13 (dk_at dksX6_told_2 10 rfl rfl)
theorem dX6_told_60 : decode cX6_told 60 = .ok (.iload_n 1, 1) := dk_27 (dk_at dksX6_told_2 13 rfl rfl)
theorem dX6_told_61 : decode cX6_told 61 = .ok (.iaload, 1) := dk_46 (dk_at dksX6_told_2 14 rfl rfl)
theorem dX6_told_62 : decode cX6_told 62 = .ok (.if_icmp .ge 40, 3) := dk_162 0 40 (dk_at dksX6_told_2 15 rfl rfl)
theorem dX6_told_65 : decode cX6_told 65 = .ok (.aload_n 0, 1) := dk_42 (dk_at dksX6_told_2 18 rfl rfl)
theorem dX6_told_66 : decode cX6_told 66 = .ok (.getfield 16, 3) := dk_180 0 16 (dk_at dksX6_told_2 19 rfl rfl)
theorem dX6_told_69 : decode cX6_told 69 = .ok (.bipush 60, 2) := dk_16 60 (dk_at dksX6_told_2 22 rfl rfl)
theorem dX6_told_71 : decode cX6_told 71 = .ok (.iload_n 1, 1) := dk_27 (dk_at dksX6_told_3 0 rfl rfl)
theorem dX6_told_72 : decode cX6_told 72 = .ok (.imul, 1) := dk_104 (dk_at dksX6_told_3 1 rfl rfl)
theorem dX6_told_73 : decode cX6_told 73 = .ok (.iload_n 2, 1) := dk_28 (dk_at dksX6_told_3 2 rfl rfl)
theorem dX6_told_74 : decode cX6_told 74 = .ok (.iadd, 1) := dk_96 (dk_at dksX6_told_3 3 rfl rfl)
theorem dX6_told_75 : decode cX6_told 75 = .ok (.laload, 1) := dk_47 (dk_at dksX6_told_3 4 rfl rfl)
theorem dX6_told_76 : decode cX6_told 76 = .ok (.lconst 0, 1) := dk_9 (dk_at dksX6_told_3 5 rfl rfl)
theorem dX6_told_77 : decode cX6_told 77 = .ok (.lconst 1, 1) := dk_10 (dk_at dksX6_told_3 6 rfl rfl)
theorem dX6_told_78 : decode cX6_told 78 = .ok (.aload_n 0, 1) := dk_42 (dk_at dksX6_told_3 7 rfl rfl)
theorem dX6_told_79 : decode cX6_told 79 = .ok (.getfield 58, 3) := dk_180 0 58 (dk_at dksX6_told_3 8 rfl rfl)
theorem dX6_told_82 : decode cX6_told 82 = .ok (.iconst 0, 1) := dk_3 (dk_at dksX6_told_3 11 rfl rfl)
theorem dX6_told_83 : decode cX6_told 83 = .ok (.iaload, 1) := dk_46 (dk_at dksX6_told_3 12 rfl rfl)
theorem dX6_told_84 : decode cX6_told 84 = .ok (.lshl, 1) := dk_121 (dk_at dksX6_told_3 13 rfl rfl)
theorem dX6_told_85 : decode cX6_told 85 = .ok (.lconst 1, 1) := dk_10 (dk_at dksX6_told_3 14 rfl rfl)
theorem dX6_told_86 : decode cX6_told 86 = .ok (.lsub, 1) := dk_101 (dk_at dksX6_told_3 15 rfl rfl)
theorem dX6_told_87 : decode cX6_told 87 = .ok (.invokestatic 119, 3) := dk_184 0 119 (dk_at dksX6_told_3 16 rfl rfl)
theorem dX6_told_90 : decode cX6_told 90 = .ok (.ifCond .ne 6, 3) := dk_154 0 6 (dk_at dksX6_told_3 19 rfl rfl)
theorem dX6_told_93 : decode cX6_told 93 = .ok (.bipush (-2), 2) := dk_16 254 (dk_at dksX6_told_3 22 rfl rfl)
theorem dX6_told_95 : decode cX6_told 95 = .ok (.ireturn, 1) := dk_172 (dk_at dksX6_told_4 0 rfl rfl)
theorem dX6_told_96 : decode cX6_told 96 = .ok (.iinc 2 1, 3) := dk_132 2 1 (dk_at dksX6_told_4 1 rfl rfl)
theorem dX6_told_99 : decode cX6_told 99 = .ok (.goto (-44), 3) := dk_167 255 212 (dk_at dksX6_told_4 4 rfl rfl)
theorem dX6_told_102 : decode cX6_told 102 = .ok (.aload_n 0, 1) := dk_42 (dk_at dksX6_told_4 7 rfl rfl)
theorem dX6_told_103 : decode cX6_told 103 = .ok (.invokevirtual 525, 3) := dk_182 2 13 (dk_at dksX6_told_4 8 rfl rfl)
theorem dX6_told_106 : decode cX6_told 106 = .ok (.iconst 0, 1) := dk_3 (dk_at dksX6_told_4 11 rfl rfl)
theorem dX6_told_107 : decode cX6_told 107 = .ok (.istore_n 2, 1) := dk_61 (dk_at dksX6_told_4 12 rfl rfl)
theorem dX6_told_108 : decode cX6_told 108 = .ok (.iload_n 2, 1) := dk_28 (dk_at dksX6_told_4 13 rfl rfl)
theorem dX6_told_109 : decode cX6_told 109 = .ok (.aload_n 0, 1) := dk_42 (dk_at dksX6_told_4 14 rfl rfl)
theorem dX6_told_110 : decode cX6_told 110 = .ok (.getfield 13, 3) := dk_180 0 13 (dk_at dksX6_told_4 15 rfl rfl)
theorem dX6_told_113 : decode cX6_told 113 = .ok (.iload_n 1, 1) := dk_27 (dk_at dksX6_told_4 18 rfl rfl)
theorem dX6_told_114 : decode cX6_told 114 = .ok (.iaload, 1) := dk_46 (dk_at dksX6_told_4 19 rfl rfl)
theorem dX6_told_115 : decode cX6_told 115 = .ok (.if_icmp .ge 64, 3) := dk_162 0 64 (dk_at dksX6_told_4 20 rfl rfl)
theorem dX6_told_118 : decode cX6_told 118 = .ok (.iconst 0, 1) := dk_3 (dk_at dksX6_told_4 23 rfl rfl)
theorem dX6_told_119 : decode cX6_told 119 = .ok (.istore_n 3, 1) := dk_62 (dk_at dksX6_told_5 0 rfl rfl)
theorem dX6_told_120 : decode cX6_told 120 = .ok (.iconst 0, 1) := dk_3 (dk_at dksX6_told_5 1 rfl rfl)
theorem dX6_told_121 : decode cX6_told 121 = .ok (.istore 4, 2) := dk_54 4 (dk_at dksX6_told_5 2 rfl rfl)
theorem dX6_told_123 : decode cX6_told 123 = .ok (.iload 4, 2) := dk_21 4 (dk_at dksX6_told_5 4 rfl rfl)
theorem dX6_told_125 : decode cX6_told 125 = .ok (.aload_n 0, 1) := dk_42 (dk_at dksX6_told_5 6 rfl rfl)
theorem dX6_told_126 : decode cX6_told 126 = .ok (.getfield 58, 3) := dk_180 0 58 (dk_at dksX6_told_5 7 rfl rfl)
theorem dX6_told_129 : decode cX6_told 129 = .ok (.iconst 0, 1) := dk_3 (dk_at dksX6_told_5 10 rfl rfl)
theorem dX6_told_130 : decode cX6_told 130 = .ok (.iaload, 1) := dk_46 (dk_at dksX6_told_5 11 rfl rfl)
theorem dX6_told_131 : decode cX6_told 131 = .ok (.if_icmp .ge 42, 3) := dk_162 0 42 (dk_at dksX6_told_5 12 rfl rfl)
theorem dX6_told_134 : decode cX6_told 134 = .ok (.aload_n 0, 1) := dk_42 (dk_at dksX6_told_5 15 rfl rfl)
theorem dX6_told_135 : decode cX6_told 135 = .ok (.getfield 16, 3) := dk_180 0 16 (dk_at dksX6_told_5 16 rfl rfl)
theorem dX6_told_138 : decode cX6_told 138 = .ok (.bipush 60, 2) := dk_16 60 (dk_at dksX6_told_5 19 rfl rfl)
theorem dX6_told_140 : decode cX6_told 140 = .ok (.iload_n 1, 1) := dk_27 (dk_at dksX6_told_5 21 rfl rfl)
theorem dX6_told_141 : decode cX6_told 141 = .ok (.imul, 1) := dk_104 (dk_at dksX6_told_5 22 rfl rfl)
theorem dX6_told_142 : decode cX6_told 142 = .ok (.iload_n 2, 1) := dk_28 (dk_at dksX6_told_5 23 rfl rfl)
theorem dX6_told_143 : decode cX6_told 143 = .ok (.iadd, 1) := dk_96 (dk_at dksX6_told_6 0 rfl rfl)
theorem dX6_told_144 : decode cX6_told 144 = .ok (.laload, 1) := dk_47 (dk_at dksX6_told_6 1 rfl rfl)
theorem dX6_told_145 : decode cX6_told 145 = .ok (.iload 4, 2) := dk_21 4 (dk_at dksX6_told_6 2 rfl rfl)
theorem dX6_told_147 : decode cX6_told 147 = .ok (.lshr, 1) := dk_123 (dk_at dksX6_told_6 4 rfl rfl)
theorem dX6_told_148 : decode cX6_told 148 = .ok (.lconst 1, 1) := dk_10 (dk_at dksX6_told_6 5 rfl rfl)
theorem dX6_told_149 : decode cX6_told 149 = .ok (.land, 1) := dk_127 (dk_at dksX6_told_6 6 rfl rfl)
theorem dX6_told_150 : decode cX6_told 150 = .ok (.lconst 1, 1) := dk_10 (dk_at dksX6_told_6 7 rfl rfl)
theorem dX6_told_151 : decode cX6_told 151 = .ok (.lcmp, 1) := dk_148 (dk_at dksX6_told_6 8 rfl rfl)
theorem dX6_told_152 : decode cX6_told 152 = .ok (.ifCond .ne 13, 3) := dk_154 0 13 (dk_at dksX6_told_6 9 rfl rfl)
theorem dX6_told_155 : decode cX6_told 155 = .ok (.aload_n 0, 1) := dk_42 (dk_at dksX6_told_6 12 rfl rfl)
theorem dX6_told_156 : decode cX6_told 156 = .ok (.iload 4, 2) := dk_21 4 (dk_at dksX6_told_6 13 rfl rfl)
theorem dX6_told_158 : decode cX6_told 158 = .ok (.iload_n 3, 1) := dk_29 (dk_at dksX6_told_6 15 rfl rfl)
theorem dX6_told_159 : decode cX6_told 159 = .ok (.invokevirtual 531, 3) := dk_182 2 19 (dk_at dksX6_told_6 16 rfl rfl)
theorem dX6_told_162 : decode cX6_told 162 = .ok (.goto 4, 3) := dk_167 0 4 (dk_at dksX6_told_6 19 rfl rfl)
theorem dX6_told_165 : decode cX6_told 165 = .ok (.iload_n 3, 1) := dk_29 (dk_at dksX6_told_6 22 rfl rfl)
theorem dX6_told_166 : decode cX6_told 166 = .ok (.istore_n 3, 1) := dk_62 (dk_at dksX6_told_6 23 rfl rfl)
theorem dX6_told_167 : decode cX6_told 167 = .ok (.iinc 4 1, 3) := dk_132 4 1 (dk_at dksX6_told_7 0 rfl rfl)
theorem dX6_told_170 : decode cX6_told 170 = .ok (.goto (-47), 3) := dk_167 255 209 (dk_at dksX6_told_7 3 rfl rfl)
theorem dX6_told_173 : decode cX6_told 173 = .ok (.iinc 2 1, 3) := dk_132 2 1 (dk_at dksX6_told_7 6 rfl rfl)
theorem dX6_told_176 : decode cX6_told 176 = .ok (.goto (-68), 3) := dk_167 255 188 (dk_at dksX6_told_7 9 rfl rfl)
theorem dX6_told_179 : decode cX6_told 179 = .ok (.aload_n 0, 1) := dk_42 (dk_at dksX6_told_7 12 rfl rfl)
theorem dX6_told_180 : decode cX6_told 180 = .ok (.invokevirtual 545, 3) := dk_182 2 33 (dk_at dksX6_told_7 13 rfl rfl)
theorem dX6_told_183 : decode cX6_told 183 = .ok (.ireturn, 1) := dk_172 (dk_at dksX6_told_7 16 rfl rfl)
abbrev cX6_taken : ByteArray := prog_20_method_144_code
def yX6_taken : MethodName := ⟨RX6, "taken", "(I)I"⟩
def dkwX6_taken_1 : List UInt8 := [154, 0, 7, 2, 167, 0, 11, 42, 180, 0, 71, 4, 27, 96, 46, 172]
abbrev dktX6_taken_1 : List UInt8 := dkwX6_taken_1 ++ []
def dkwX6_taken_0 : List UInt8 := [42, 3, 181, 0, 114, 42, 27, 182, 1, 62, 154, 0, 8, 16, 254, 167, 0, 24, 42, 180, 0, 71, 3, 46]
abbrev dktX6_taken_0 : List UInt8 := dkwX6_taken_0 ++ dktX6_taken_1
theorem dksX6_taken_0 : cX6_taken.data.toList.drop 0 = dktX6_taken_0 := by decide +kernel
theorem dksX6_taken_1 : cX6_taken.data.toList.drop 24 = dktX6_taken_1 := dk_seg dksX6_taken_0 24 rfl rfl
theorem dX6_taken_0 : decode cX6_taken 0 = .ok (.aload_n 0, 1) := dk_42 (dk_at dksX6_taken_0 0 rfl rfl)
theorem dX6_taken_1 : decode cX6_taken 1 = .ok (.iconst 0, 1) := dk_3 (dk_at dksX6_taken_0 1 rfl rfl)
theorem dX6_taken_2 : decode cX6_taken 2 = .ok (.putfield 114, 3) := dk_181 0 114 (dk_at dksX6_taken_0 2 rfl rfl)
theorem dX6_taken_5 : decode cX6_taken 5 = .ok (.aload_n 0, 1) := dk_42 (dk_at dksX6_taken_0 5 rfl rfl)
theorem dX6_taken_6 : decode cX6_taken 6 = .ok (.iload_n 1, 1) := dk_27 (dk_at dksX6_taken_0 6 rfl rfl)
theorem dX6_taken_7 : decode cX6_taken 7 = .ok (.invokevirtual 318, 3) := dk_182 1 62 (dk_at dksX6_taken_0 7 rfl rfl)
theorem dX6_taken_10 : decode cX6_taken 10 = .ok (.ifCond .ne 8, 3) := dk_154 0 8 (dk_at dksX6_taken_0 10 rfl rfl)
theorem dX6_taken_13 : decode cX6_taken 13 = .ok (.bipush (-2), 2) := dk_16 254 (dk_at dksX6_taken_0 13 rfl rfl)
theorem dX6_taken_15 : decode cX6_taken 15 = .ok (.goto 24, 3) := dk_167 0 24 (dk_at dksX6_taken_0 15 rfl rfl)
theorem dX6_taken_18 : decode cX6_taken 18 = .ok (.aload_n 0, 1) := dk_42 (dk_at dksX6_taken_0 18 rfl rfl)
theorem dX6_taken_19 : decode cX6_taken 19 = .ok (.getfield 71, 3) := dk_180 0 71 (dk_at dksX6_taken_0 19 rfl rfl)
theorem dX6_taken_22 : decode cX6_taken 22 = .ok (.iconst 0, 1) := dk_3 (dk_at dksX6_taken_0 22 rfl rfl)
theorem dX6_taken_23 : decode cX6_taken 23 = .ok (.iaload, 1) := dk_46 (dk_at dksX6_taken_0 23 rfl rfl)
theorem dX6_taken_24 : decode cX6_taken 24 = .ok (.ifCond .ne 7, 3) := dk_154 0 7 (dk_at dksX6_taken_1 0 rfl rfl)
theorem dX6_taken_27 : decode cX6_taken 27 = .ok (.iconst (-1), 1) := dk_2 (dk_at dksX6_taken_1 3 rfl rfl)
theorem dX6_taken_28 : decode cX6_taken 28 = .ok (.goto 11, 3) := dk_167 0 11 (dk_at dksX6_taken_1 4 rfl rfl)
theorem dX6_taken_31 : decode cX6_taken 31 = .ok (.aload_n 0, 1) := dk_42 (dk_at dksX6_taken_1 7 rfl rfl)
theorem dX6_taken_32 : decode cX6_taken 32 = .ok (.getfield 71, 3) := dk_180 0 71 (dk_at dksX6_taken_1 8 rfl rfl)
theorem dX6_taken_35 : decode cX6_taken 35 = .ok (.iconst 1, 1) := dk_4 (dk_at dksX6_taken_1 11 rfl rfl)
theorem dX6_taken_36 : decode cX6_taken 36 = .ok (.iload_n 1, 1) := dk_27 (dk_at dksX6_taken_1 12 rfl rfl)
theorem dX6_taken_37 : decode cX6_taken 37 = .ok (.iadd, 1) := dk_96 (dk_at dksX6_taken_1 13 rfl rfl)
theorem dX6_taken_38 : decode cX6_taken 38 = .ok (.iaload, 1) := dk_46 (dk_at dksX6_taken_1 14 rfl rfl)
theorem dX6_taken_39 : decode cX6_taken 39 = .ok (.ireturn, 1) := dk_172 (dk_at dksX6_taken_1 15 rfl rfl)
abbrev cX6_took : ByteArray := prog_20_method_145_code
def yX6_took : MethodName := ⟨RX6, "took", "(I)I"⟩
def dkwX6_took_1 : List UInt8 := [154, 0, 7, 2, 167, 0, 12, 42, 180, 0, 71, 16, 11, 27, 96, 46, 172]
abbrev dktX6_took_1 : List UInt8 := dkwX6_took_1 ++ []
def dkwX6_took_0 : List UInt8 := [42, 3, 181, 0, 114, 42, 27, 182, 1, 74, 154, 0, 8, 16, 254, 167, 0, 25, 42, 180, 0, 71, 3, 46]
abbrev dktX6_took_0 : List UInt8 := dkwX6_took_0 ++ dktX6_took_1
theorem dksX6_took_0 : cX6_took.data.toList.drop 0 = dktX6_took_0 := by decide +kernel
theorem dksX6_took_1 : cX6_took.data.toList.drop 24 = dktX6_took_1 := dk_seg dksX6_took_0 24 rfl rfl
theorem dX6_took_0 : decode cX6_took 0 = .ok (.aload_n 0, 1) := dk_42 (dk_at dksX6_took_0 0 rfl rfl)
theorem dX6_took_1 : decode cX6_took 1 = .ok (.iconst 0, 1) := dk_3 (dk_at dksX6_took_0 1 rfl rfl)
theorem dX6_took_2 : decode cX6_took 2 = .ok (.putfield 114, 3) := dk_181 0 114 (dk_at dksX6_took_0 2 rfl rfl)
theorem dX6_took_5 : decode cX6_took 5 = .ok (.aload_n 0, 1) := dk_42 (dk_at dksX6_took_0 5 rfl rfl)
theorem dX6_took_6 : decode cX6_took 6 = .ok (.iload_n 1, 1) := dk_27 (dk_at dksX6_took_0 6 rfl rfl)
theorem dX6_took_7 : decode cX6_took 7 = .ok (.invokevirtual 330, 3) := dk_182 1 74 (dk_at dksX6_took_0 7 rfl rfl)
theorem dX6_took_10 : decode cX6_took 10 = .ok (.ifCond .ne 8, 3) := dk_154 0 8 (dk_at dksX6_took_0 10 rfl rfl)
theorem dX6_took_13 : decode cX6_took 13 = .ok (.bipush (-2), 2) := dk_16 254 (dk_at dksX6_took_0 13 rfl rfl)
theorem dX6_took_15 : decode cX6_took 15 = .ok (.goto 25, 3) := dk_167 0 25 (dk_at dksX6_took_0 15 rfl rfl)
theorem dX6_took_18 : decode cX6_took 18 = .ok (.aload_n 0, 1) := dk_42 (dk_at dksX6_took_0 18 rfl rfl)
theorem dX6_took_19 : decode cX6_took 19 = .ok (.getfield 71, 3) := dk_180 0 71 (dk_at dksX6_took_0 19 rfl rfl)
theorem dX6_took_22 : decode cX6_took 22 = .ok (.iconst 0, 1) := dk_3 (dk_at dksX6_took_0 22 rfl rfl)
theorem dX6_took_23 : decode cX6_took 23 = .ok (.iaload, 1) := dk_46 (dk_at dksX6_took_0 23 rfl rfl)
theorem dX6_took_24 : decode cX6_took 24 = .ok (.ifCond .ne 7, 3) := dk_154 0 7 (dk_at dksX6_took_1 0 rfl rfl)
theorem dX6_took_27 : decode cX6_took 27 = .ok (.iconst (-1), 1) := dk_2 (dk_at dksX6_took_1 3 rfl rfl)
theorem dX6_took_28 : decode cX6_took 28 = .ok (.goto 12, 3) := dk_167 0 12 (dk_at dksX6_took_1 4 rfl rfl)
theorem dX6_took_31 : decode cX6_took 31 = .ok (.aload_n 0, 1) := dk_42 (dk_at dksX6_took_1 7 rfl rfl)
theorem dX6_took_32 : decode cX6_took 32 = .ok (.getfield 71, 3) := dk_180 0 71 (dk_at dksX6_took_1 8 rfl rfl)
theorem dX6_took_35 : decode cX6_took 35 = .ok (.bipush 11, 2) := dk_16 11 (dk_at dksX6_took_1 11 rfl rfl)
theorem dX6_took_37 : decode cX6_took 37 = .ok (.iload_n 1, 1) := dk_27 (dk_at dksX6_took_1 13 rfl rfl)
theorem dX6_took_38 : decode cX6_took 38 = .ok (.iadd, 1) := dk_96 (dk_at dksX6_took_1 14 rfl rfl)
theorem dX6_took_39 : decode cX6_took 39 = .ok (.iaload, 1) := dk_46 (dk_at dksX6_took_1 15 rfl rfl)
theorem dX6_took_40 : decode cX6_took 40 = .ok (.ireturn, 1) := dk_172 (dk_at dksX6_took_1 16 rfl rfl)
abbrev cX6_years : ByteArray := prog_20_method_146_code
def yX6_years : MethodName := ⟨RX6, "years", "(III)J"⟩
def dkwX6_years_7 : List UInt8 := [167, 255, 216, 132, 6, 1, 167, 255, 143, 22, 4, 173]
abbrev dktX6_years_7 : List UInt8 := dkwX6_years_7 ++ []
def dkwX6_years_6 : List UInt8 := [21, 8, 46, 133, 42, 180, 0, 55, 3, 21, 8, 184, 1, 67, 46, 133, 105, 97, 55, 4, 132, 8, 1]
abbrev dktX6_years_6 : List UInt8 := dkwX6_years_6 ++ dktX6_years_7
def dkwX6_years_5 : List UInt8 := [167, 0, 49, 3, 54, 8, 21, 8, 42, 180, 0, 52, 3, 46, 162, 0, 35, 22, 4, 42, 180, 0, 111]
abbrev dktX6_years_5 : List UInt8 := dkwX6_years_5 ++ dktX6_years_6
def dkwX6_years_4 : List UInt8 := [160, 0, 25, 21, 7, 133, 22, 4, 148, 158, 0, 9, 21, 7, 133, 167, 0, 5, 22, 4, 55, 4]
abbrev dktX6_years_4 : List UInt8 := dkwX6_years_4 ++ dktX6_years_5
def dkwX6_years_3 : List UInt8 := [182, 2, 22, 54, 7, 29, 154, 0, 14, 22, 4, 21, 7, 133, 97, 55, 4, 167, 0, 76, 29, 4]
abbrev dktX6_years_3 : List UInt8 := dkwX6_years_3 ++ dktX6_years_4
def dkwX6_years_2 : List UInt8 := [55, 4, 3, 54, 6, 21, 6, 28, 162, 0, 113, 42, 27, 133, 21, 6, 133, 97, 182, 2, 30, 42]
abbrev dktX6_years_2 : List UInt8 := dkwX6_years_2 ++ dktX6_years_3
def dkwX6_years_1 : List UInt8 := [29, 133, 9, 20, 1, 136, 184, 0, 119, 153, 0, 10, 42, 182, 1, 98, 154, 0, 7, 20, 1, 104, 173, 9]
abbrev dktX6_years_1 : List UInt8 := dkwX6_years_1 ++ dktX6_years_2
def dkwX6_years_0 : List UInt8 := [42, 3, 181, 0, 114, 27, 184, 2, 27, 153, 0, 34, 28, 133, 10, 20, 1, 69, 184, 0, 119, 153, 0, 22]
abbrev dktX6_years_0 : List UInt8 := dkwX6_years_0 ++ dktX6_years_1
theorem dksX6_years_0 : cX6_years.data.toList.drop 0 = dktX6_years_0 := by decide +kernel
theorem dksX6_years_1 : cX6_years.data.toList.drop 24 = dktX6_years_1 := dk_seg dksX6_years_0 24 rfl rfl
theorem dksX6_years_2 : cX6_years.data.toList.drop 48 = dktX6_years_2 := dk_seg dksX6_years_1 24 rfl rfl
theorem dksX6_years_3 : cX6_years.data.toList.drop 70 = dktX6_years_3 := dk_seg dksX6_years_2 22 rfl rfl
theorem dksX6_years_4 : cX6_years.data.toList.drop 92 = dktX6_years_4 := dk_seg dksX6_years_3 22 rfl rfl
theorem dksX6_years_5 : cX6_years.data.toList.drop 114 = dktX6_years_5 := dk_seg dksX6_years_4 22 rfl rfl
theorem dksX6_years_6 : cX6_years.data.toList.drop 137 = dktX6_years_6 := dk_seg dksX6_years_5 23 rfl rfl
theorem dksX6_years_7 : cX6_years.data.toList.drop 160 = dktX6_years_7 := dk_seg dksX6_years_6 23 rfl rfl
theorem dX6_years_0 : decode cX6_years 0 = .ok (.aload_n 0, 1) := dk_42 (dk_at dksX6_years_0 0 rfl rfl)
theorem dX6_years_1 : decode cX6_years 1 = .ok (.iconst 0, 1) := dk_3 (dk_at dksX6_years_0 1 rfl rfl)
theorem dX6_years_2 : decode cX6_years 2 = .ok (.putfield 114, 3) := dk_181 0 114 (dk_at dksX6_years_0 2 rfl rfl)
theorem dX6_years_5 : decode cX6_years 5 = .ok (.iload_n 1, 1) := dk_27 (dk_at dksX6_years_0 5 rfl rfl)
theorem dX6_years_6 : decode cX6_years 6 = .ok (.invokestatic 539, 3) := dk_184 2 27 (dk_at dksX6_years_0 6 rfl rfl)
theorem dX6_years_9 : decode cX6_years 9 = .ok (.ifCond .eq 34, 3) := dk_153 0 34 (dk_at dksX6_years_0 9 rfl rfl)
theorem dX6_years_12 : decode cX6_years 12 = .ok (.iload_n 2, 1) := dk_28 (dk_at dksX6_years_0 12 rfl rfl)
theorem dX6_years_13 : decode cX6_years 13 = .ok (.i2l, 1) := dk_133 (dk_at dksX6_years_0 13 rfl rfl)
theorem dX6_years_14 : decode cX6_years 14 = .ok (.lconst 1, 1) := dk_10 (dk_at dksX6_years_0 14 rfl rfl)
theorem dX6_years_15 : decode cX6_years 15 = .ok (.ldc2_w 325, 3) := dk_20 1 69 (dk_at dksX6_years_0 15 rfl rfl)
theorem dX6_years_18 : decode cX6_years 18 = .ok (.invokestatic 119, 3) := dk_184 0 119 (dk_at dksX6_years_0 18 rfl rfl)
theorem dX6_years_21 : decode cX6_years 21 = .ok (.ifCond .eq 22, 3) := dk_153 0 22 (dk_at dksX6_years_0 21 rfl rfl)
theorem dX6_years_24 : decode cX6_years 24 = .ok (.iload_n 3, 1) := dk_29 (dk_at dksX6_years_1 0 rfl rfl)
theorem dX6_years_25 : decode cX6_years 25 = .ok (.i2l, 1) := dk_133 (dk_at dksX6_years_1 1 rfl rfl)
theorem dX6_years_26 : decode cX6_years 26 = .ok (.lconst 0, 1) := dk_9 (dk_at dksX6_years_1 2 rfl rfl)
theorem dX6_years_27 : decode cX6_years 27 = .ok (.ldc2_w 392, 3) := dk_20 1 136 (dk_at dksX6_years_1 3 rfl rfl)
theorem dX6_years_30 : decode cX6_years 30 = .ok (.invokestatic 119, 3) := dk_184 0 119 (dk_at dksX6_years_1 6 rfl rfl)
theorem dX6_years_33 : decode cX6_years 33 = .ok (.ifCond .eq 10, 3) := dk_153 0 10 (dk_at dksX6_years_1 9 rfl rfl)
theorem dX6_years_36 : decode cX6_years 36 = .ok (.aload_n 0, 1) := dk_42 (dk_at dksX6_years_1 12 rfl rfl)
theorem dX6_years_37 : decode cX6_years 37 = .ok (.invokevirtual 354, 3) := dk_182 1 98 (dk_at dksX6_years_1 13 rfl rfl)
theorem dX6_years_40 : decode cX6_years 40 = .ok (.ifCond .ne 7, 3) := dk_154 0 7 (dk_at dksX6_years_1 16 rfl rfl)
theorem dX6_years_43 : decode cX6_years 43 = .ok (.ldc2_w 360, 3) := dk_20 1 104 (dk_at dksX6_years_1 19 rfl rfl)
theorem dX6_years_46 : decode cX6_years 46 = .ok (.lreturn, 1) := dk_173 (dk_at dksX6_years_1 22 rfl rfl)
theorem dX6_years_47 : decode cX6_years 47 = .ok (.lconst 0, 1) := dk_9 (dk_at dksX6_years_1 23 rfl rfl)
theorem dX6_years_48 : decode cX6_years 48 = .ok (.lstore 4, 2) := dk_55 4 (dk_at dksX6_years_2 0 rfl rfl)
theorem dX6_years_50 : decode cX6_years 50 = .ok (.iconst 0, 1) := dk_3 (dk_at dksX6_years_2 2 rfl rfl)
theorem dX6_years_51 : decode cX6_years 51 = .ok (.istore 6, 2) := dk_54 6 (dk_at dksX6_years_2 3 rfl rfl)
theorem dX6_years_53 : decode cX6_years 53 = .ok (.iload 6, 2) := dk_21 6 (dk_at dksX6_years_2 5 rfl rfl)
theorem dX6_years_55 : decode cX6_years 55 = .ok (.iload_n 2, 1) := dk_28 (dk_at dksX6_years_2 7 rfl rfl)
theorem dX6_years_56 : decode cX6_years 56 = .ok (.if_icmp .ge 113, 3) := dk_162 0 113 (dk_at dksX6_years_2 8 rfl rfl)
theorem dX6_years_59 : decode cX6_years 59 = .ok (.aload_n 0, 1) := dk_42 (dk_at dksX6_years_2 11 rfl rfl)
theorem dX6_years_60 : decode cX6_years 60 = .ok (.iload_n 1, 1) := dk_27 (dk_at dksX6_years_2 12 rfl rfl)
theorem dX6_years_61 : decode cX6_years 61 = .ok (.i2l, 1) := dk_133 (dk_at dksX6_years_2 13 rfl rfl)
theorem dX6_years_62 : decode cX6_years 62 = .ok (.iload 6, 2) := dk_21 6 (dk_at dksX6_years_2 14 rfl rfl)
theorem dX6_years_64 : decode cX6_years 64 = .ok (.i2l, 1) := dk_133 (dk_at dksX6_years_2 16 rfl rfl)
theorem dX6_years_65 : decode cX6_years 65 = .ok (.ladd, 1) := dk_97 (dk_at dksX6_years_2 17 rfl rfl)
theorem dX6_years_66 : decode cX6_years 66 = .ok (.invokevirtual 542, 3) := dk_182 2 30 (dk_at dksX6_years_2 18 rfl rfl)
theorem dX6_years_69 : decode cX6_years 69 = .ok (.aload_n 0, 1) := dk_42 (dk_at dksX6_years_2 21 rfl rfl)
theorem dX6_years_70 : decode cX6_years 70 = .ok (.invokevirtual 534, 3) := dk_182 2 22 (dk_at dksX6_years_3 0 rfl rfl)
theorem dX6_years_73 : decode cX6_years 73 = .ok (.istore 7, 2) := dk_54 7 (dk_at dksX6_years_3 3 rfl rfl)
theorem dX6_years_75 : decode cX6_years 75 = .ok (.iload_n 3, 1) := dk_29 (dk_at dksX6_years_3 5 rfl rfl)
theorem dX6_years_76 : decode cX6_years 76 = .ok (.ifCond .ne 14, 3) := dk_154 0 14 (dk_at dksX6_years_3 6 rfl rfl)
theorem dX6_years_79 : decode cX6_years 79 = .ok (.lload 4, 2) := dk_22 4 (dk_at dksX6_years_3 9 rfl rfl)
theorem dX6_years_81 : decode cX6_years 81 = .ok (.iload 7, 2) := dk_21 7 (dk_at dksX6_years_3 11 rfl rfl)
theorem dX6_years_83 : decode cX6_years 83 = .ok (.i2l, 1) := dk_133 (dk_at dksX6_years_3 13 rfl rfl)
theorem dX6_years_84 : decode cX6_years 84 = .ok (.ladd, 1) := dk_97 (dk_at dksX6_years_3 14 rfl rfl)
theorem dX6_years_85 : decode cX6_years 85 = .ok (.lstore 4, 2) := dk_55 4 (dk_at dksX6_years_3 15 rfl rfl)
theorem dX6_years_87 : decode cX6_years 87 = .ok (.goto 76, 3) := dk_167 0 76 (dk_at dksX6_years_3 17 rfl rfl)
theorem dX6_years_90 : decode cX6_years 90 = .ok (.iload_n 3, 1) := dk_29 (dk_at dksX6_years_3 20 rfl rfl)
theorem dX6_years_91 : decode cX6_years 91 = .ok (.iconst 1, 1) := dk_4 (dk_at dksX6_years_3 21 rfl rfl)
theorem dX6_years_92 : decode cX6_years 92 = .ok (.if_icmp .ne 25, 3) := dk_160 0 25 (dk_at dksX6_years_4 0 rfl rfl)
theorem dX6_years_95 : decode cX6_years 95 = .ok (.iload 7, 2) := dk_21 7 (dk_at dksX6_years_4 3 rfl rfl)
theorem dX6_years_97 : decode cX6_years 97 = .ok (.i2l, 1) := dk_133 (dk_at dksX6_years_4 5 rfl rfl)
theorem dX6_years_98 : decode cX6_years 98 = .ok (.lload 4, 2) := dk_22 4 (dk_at dksX6_years_4 6 rfl rfl)
theorem dX6_years_100 : decode cX6_years 100 = .ok (.lcmp, 1) := dk_148 (dk_at dksX6_years_4 8 rfl rfl)
theorem dX6_years_101 : decode cX6_years 101 = .ok (.ifCond .le 9, 3) := dk_158 0 9 (dk_at dksX6_years_4 9 rfl rfl)
theorem dX6_years_104 : decode cX6_years 104 = .ok (.iload 7, 2) := dk_21 7 (dk_at dksX6_years_4 12 rfl rfl)
theorem dX6_years_106 : decode cX6_years 106 = .ok (.i2l, 1) := dk_133 (dk_at dksX6_years_4 14 rfl rfl)
theorem dX6_years_107 : decode cX6_years 107 = .ok (.goto 5, 3) := dk_167 0 5 (dk_at dksX6_years_4 15 rfl rfl)
theorem dX6_years_110 : decode cX6_years 110 = .ok (.lload 4, 2) := dk_22 4 (dk_at dksX6_years_4 18 rfl rfl)
theorem dX6_years_112 : decode cX6_years 112 = .ok (.lstore 4, 2) := dk_55 4 (dk_at dksX6_years_4 20 rfl rfl)
theorem dX6_years_114 : decode cX6_years 114 = .ok (.goto 49, 3) := dk_167 0 49 (dk_at dksX6_years_5 0 rfl rfl)
theorem dX6_years_117 : decode cX6_years 117 = .ok (.iconst 0, 1) := dk_3 (dk_at dksX6_years_5 3 rfl rfl)
theorem dX6_years_118 : decode cX6_years 118 = .ok (.istore 8, 2) := dk_54 8 (dk_at dksX6_years_5 4 rfl rfl)
theorem dX6_years_120 : decode cX6_years 120 = .ok (.iload 8, 2) := dk_21 8 (dk_at dksX6_years_5 6 rfl rfl)
theorem dX6_years_122 : decode cX6_years 122 = .ok (.aload_n 0, 1) := dk_42 (dk_at dksX6_years_5 8 rfl rfl)
theorem dX6_years_123 : decode cX6_years 123 = .ok (.getfield 52, 3) := dk_180 0 52 (dk_at dksX6_years_5 9 rfl rfl)
theorem dX6_years_126 : decode cX6_years 126 = .ok (.iconst 0, 1) := dk_3 (dk_at dksX6_years_5 12 rfl rfl)
theorem dX6_years_127 : decode cX6_years 127 = .ok (.iaload, 1) := dk_46 (dk_at dksX6_years_5 13 rfl rfl)
theorem dX6_years_128 : decode cX6_years 128 = .ok (.if_icmp .ge 35, 3) := dk_162 0 35 (dk_at dksX6_years_5 14 rfl rfl)
theorem dX6_years_131 : decode cX6_years 131 = .ok (.lload 4, 2) := dk_22 4 (dk_at dksX6_years_5 17 rfl rfl)
theorem dX6_years_133 : decode cX6_years 133 = .ok (.aload_n 0, 1) := dk_42 (dk_at dksX6_years_5 19 rfl rfl)
theorem dX6_years_134 : decode cX6_years 134 = .ok (.getfield 111, 3) := dk_180 0 111 (dk_at dksX6_years_5 20 rfl rfl)
theorem dX6_years_137 : decode cX6_years 137 = .ok (.iload 8, 2) := dk_21 8 (dk_at dksX6_years_6 0 rfl rfl)
theorem dX6_years_139 : decode cX6_years 139 = .ok (.iaload, 1) := dk_46 (dk_at dksX6_years_6 2 rfl rfl)
theorem dX6_years_140 : decode cX6_years 140 = .ok (.i2l, 1) := dk_133 (dk_at dksX6_years_6 3 rfl rfl)
theorem dX6_years_141 : decode cX6_years 141 = .ok (.aload_n 0, 1) := dk_42 (dk_at dksX6_years_6 4 rfl rfl)
theorem dX6_years_142 : decode cX6_years 142 = .ok (.getfield 55, 3) := dk_180 0 55 (dk_at dksX6_years_6 5 rfl rfl)
theorem dX6_years_145 : decode cX6_years 145 = .ok (.iconst 0, 1) := dk_3 (dk_at dksX6_years_6 8 rfl rfl)
theorem dX6_years_146 : decode cX6_years 146 = .ok (.iload 8, 2) := dk_21 8 (dk_at dksX6_years_6 9 rfl rfl)
theorem dX6_years_148 : decode cX6_years 148 = .ok (.invokestatic 323, 3) := dk_184 1 67 (dk_at dksX6_years_6 11 rfl rfl)
theorem dX6_years_151 : decode cX6_years 151 = .ok (.iaload, 1) := dk_46 (dk_at dksX6_years_6 14 rfl rfl)
theorem dX6_years_152 : decode cX6_years 152 = .ok (.i2l, 1) := dk_133 (dk_at dksX6_years_6 15 rfl rfl)
theorem dX6_years_153 : decode cX6_years 153 = .ok (.lmul, 1) := dk_105 (dk_at dksX6_years_6 16 rfl rfl)
theorem dX6_years_154 : decode cX6_years 154 = .ok (.ladd, 1) := dk_97 (dk_at dksX6_years_6 17 rfl rfl)
theorem dX6_years_155 : decode cX6_years 155 = .ok (.lstore 4, 2) := dk_55 4 (dk_at dksX6_years_6 18 rfl rfl)
theorem dX6_years_157 : decode cX6_years 157 = .ok (.iinc 8 1, 3) := dk_132 8 1 (dk_at dksX6_years_6 20 rfl rfl)
theorem dX6_years_160 : decode cX6_years 160 = .ok (.goto (-40), 3) := dk_167 255 216 (dk_at dksX6_years_7 0 rfl rfl)
theorem dX6_years_163 : decode cX6_years 163 = .ok (.iinc 6 1, 3) := dk_132 6 1 (dk_at dksX6_years_7 3 rfl rfl)
theorem dX6_years_166 : decode cX6_years 166 = .ok (.goto (-113), 3) := dk_167 255 143 (dk_at dksX6_years_7 6 rfl rfl)
theorem dX6_years_169 : decode cX6_years 169 = .ok (.lload 4, 2) := dk_22 4 (dk_at dksX6_years_7 9 rfl rfl)
theorem dX6_years_171 : decode cX6_years 171 = .ok (.lreturn, 1) := dk_173 (dk_at dksX6_years_7 11 rfl rfl)
abbrev cX6_count : ByteArray := prog_20_method_147_code
def yX6_count : MethodName := ⟨RX6, "count", "(I)I"⟩
def dkwX6_count_7 : List UInt8 := [132, 3, 1, 167, 255, 230, 28, 172, 2, 172]
abbrev dktX6_count_7 : List UInt8 := dkwX6_count_7 ++ []
def dkwX6_count_6 : List UInt8 := [29, 7, 162, 0, 27, 28, 42, 180, 0, 7, 29, 46, 2, 160, 0, 7, 3, 167, 0, 4, 4, 96, 61]
abbrev dktX6_count_6 : List UInt8 := dkwX6_count_6 ++ dktX6_count_7
def dkwX6_count_5 : List UInt8 := [182, 1, 98, 153, 0, 10, 42, 182, 1, 145, 167, 0, 4, 3, 172, 42, 180, 0, 71, 3, 46, 172, 3, 62]
abbrev dktX6_count_5 : List UInt8 := dkwX6_count_5 ++ dktX6_count_6
def dkwX6_count_4 : List UInt8 := [3, 46, 172, 42, 180, 0, 131, 172, 42, 3, 182, 1, 71, 172, 42, 180, 0, 64, 16, 6, 46, 172, 42]
abbrev dktX6_count_4 : List UInt8 := dkwX6_count_4 ++ dktX6_count_5
def dkwX6_count_3 : List UInt8 := [180, 0, 46, 3, 46, 172, 42, 180, 0, 52, 3, 46, 172, 42, 180, 0, 58, 3, 46, 172, 42, 180, 0, 31]
abbrev dktX6_count_3 : List UInt8 := dkwX6_count_3 ++ dktX6_count_4
def dkwX6_count_2 : List UInt8 := [42, 180, 0, 34, 3, 46, 172, 42, 180, 0, 37, 3, 46, 172, 42, 180, 0, 40, 3, 46, 172, 42]
abbrev dktX6_count_2 : List UInt8 := dkwX6_count_2 ++ dktX6_count_3
def dkwX6_count_1 : List UInt8 := [170, 0, 0, 0, 0, 0, 0, 192, 0, 0, 0, 0, 0, 0, 0, 12, 0, 0, 0, 68, 0, 0, 0, 75, 0, 0, 0, 82, 0, 0, 0, 89, 0, 0, 0, 96, 0, 0, 0, 103, 0, 0, 0, 110, 0, 0, 0, 117, 0, 0, 0, 122, 0, 0, 0, 128, 0, 0, 0, 136, 0, 0, 0, 152, 0, 0, 0, 159]
abbrev dktX6_count_1 : List UInt8 := dkwX6_count_1 ++ dktX6_count_2
def dkwX6_count_0 : List UInt8 := [42, 3, 181, 0, 114, 3, 61, 27]
abbrev dktX6_count_0 : List UInt8 := dkwX6_count_0 ++ dktX6_count_1
theorem dksX6_count_0 : cX6_count.data.toList.drop 0 = dktX6_count_0 := by decide +kernel
theorem dksX6_count_1 : cX6_count.data.toList.drop 8 = dktX6_count_1 := dk_seg dksX6_count_0 8 rfl rfl
theorem dksX6_count_2 : cX6_count.data.toList.drop 76 = dktX6_count_2 := dk_seg dksX6_count_1 68 rfl rfl
theorem dksX6_count_3 : cX6_count.data.toList.drop 98 = dktX6_count_3 := dk_seg dksX6_count_2 22 rfl rfl
theorem dksX6_count_4 : cX6_count.data.toList.drop 122 = dktX6_count_4 := dk_seg dksX6_count_3 24 rfl rfl
theorem dksX6_count_5 : cX6_count.data.toList.drop 145 = dktX6_count_5 := dk_seg dksX6_count_4 23 rfl rfl
theorem dksX6_count_6 : cX6_count.data.toList.drop 169 = dktX6_count_6 := dk_seg dksX6_count_5 24 rfl rfl
theorem dksX6_count_7 : cX6_count.data.toList.drop 192 = dktX6_count_7 := dk_seg dksX6_count_6 23 rfl rfl
theorem dX6_count_0 : decode cX6_count 0 = .ok (.aload_n 0, 1) := dk_42 (dk_at dksX6_count_0 0 rfl rfl)
theorem dX6_count_1 : decode cX6_count 1 = .ok (.iconst 0, 1) := dk_3 (dk_at dksX6_count_0 1 rfl rfl)
theorem dX6_count_2 : decode cX6_count 2 = .ok (.putfield 114, 3) := dk_181 0 114 (dk_at dksX6_count_0 2 rfl rfl)
theorem dX6_count_5 : decode cX6_count 5 = .ok (.iconst 0, 1) := dk_3 (dk_at dksX6_count_0 5 rfl rfl)
theorem dX6_count_6 : decode cX6_count 6 = .ok (.istore_n 2, 1) := dk_61 (dk_at dksX6_count_0 6 rfl rfl)
theorem dX6_count_7 : decode cX6_count 7 = .ok (.iload_n 1, 1) := dk_27 (dk_at dksX6_count_0 7 rfl rfl)
theorem dX6_count_8 : decode cX6_count 8 = .ok (.tableswitch 192 0 12 #[68, 75, 82, 89, 96, 103, 110, 117, 122, 128, 136, 152, 159], 68) := by decide +kernel
theorem dX6_count_76 : decode cX6_count 76 = .ok (.aload_n 0, 1) := dk_42 (dk_at dksX6_count_2 0 rfl rfl)
theorem dX6_count_77 : decode cX6_count 77 = .ok (.getfield 34, 3) := dk_180 0 34 (dk_at dksX6_count_2 1 rfl rfl)
theorem dX6_count_80 : decode cX6_count 80 = .ok (.iconst 0, 1) := dk_3 (dk_at dksX6_count_2 4 rfl rfl)
theorem dX6_count_81 : decode cX6_count 81 = .ok (.iaload, 1) := dk_46 (dk_at dksX6_count_2 5 rfl rfl)
theorem dX6_count_82 : decode cX6_count 82 = .ok (.ireturn, 1) := dk_172 (dk_at dksX6_count_2 6 rfl rfl)
theorem dX6_count_83 : decode cX6_count 83 = .ok (.aload_n 0, 1) := dk_42 (dk_at dksX6_count_2 7 rfl rfl)
theorem dX6_count_84 : decode cX6_count 84 = .ok (.getfield 37, 3) := dk_180 0 37 (dk_at dksX6_count_2 8 rfl rfl)
theorem dX6_count_87 : decode cX6_count 87 = .ok (.iconst 0, 1) := dk_3 (dk_at dksX6_count_2 11 rfl rfl)
theorem dX6_count_88 : decode cX6_count 88 = .ok (.iaload, 1) := dk_46 (dk_at dksX6_count_2 12 rfl rfl)
theorem dX6_count_89 : decode cX6_count 89 = .ok (.ireturn, 1) := dk_172 (dk_at dksX6_count_2 13 rfl rfl)
theorem dX6_count_90 : decode cX6_count 90 = .ok (.aload_n 0, 1) := dk_42 (dk_at dksX6_count_2 14 rfl rfl)
theorem dX6_count_91 : decode cX6_count 91 = .ok (.getfield 40, 3) := dk_180 0 40 (dk_at dksX6_count_2 15 rfl rfl)
theorem dX6_count_94 : decode cX6_count 94 = .ok (.iconst 0, 1) := dk_3 (dk_at dksX6_count_2 18 rfl rfl)
theorem dX6_count_95 : decode cX6_count 95 = .ok (.iaload, 1) := dk_46 (dk_at dksX6_count_2 19 rfl rfl)
theorem dX6_count_96 : decode cX6_count 96 = .ok (.ireturn, 1) := dk_172 (dk_at dksX6_count_2 20 rfl rfl)
theorem dX6_count_97 : decode cX6_count 97 = .ok (.aload_n 0, 1) := dk_42 (dk_at dksX6_count_2 21 rfl rfl)
theorem dX6_count_98 : decode cX6_count 98 = .ok (.getfield 46, 3) := dk_180 0 46 (dk_at dksX6_count_3 0 rfl rfl)
theorem dX6_count_101 : decode cX6_count 101 = .ok (.iconst 0, 1) := dk_3 (dk_at dksX6_count_3 3 rfl rfl)
theorem dX6_count_102 : decode cX6_count 102 = .ok (.iaload, 1) := dk_46 (dk_at dksX6_count_3 4 rfl rfl)
theorem dX6_count_103 : decode cX6_count 103 = .ok (.ireturn, 1) := dk_172 (dk_at dksX6_count_3 5 rfl rfl)
theorem dX6_count_104 : decode cX6_count 104 = .ok (.aload_n 0, 1) := dk_42 (dk_at dksX6_count_3 6 rfl rfl)
theorem dX6_count_105 : decode cX6_count 105 = .ok (.getfield 52, 3) := dk_180 0 52 (dk_at dksX6_count_3 7 rfl rfl)
theorem dX6_count_108 : decode cX6_count 108 = .ok (.iconst 0, 1) := dk_3 (dk_at dksX6_count_3 10 rfl rfl)
theorem dX6_count_109 : decode cX6_count 109 = .ok (.iaload, 1) := dk_46 (dk_at dksX6_count_3 11 rfl rfl)
theorem dX6_count_110 : decode cX6_count 110 = .ok (.ireturn, 1) := dk_172 (dk_at dksX6_count_3 12 rfl rfl)
theorem dX6_count_111 : decode cX6_count 111 = .ok (.aload_n 0, 1) := dk_42 (dk_at dksX6_count_3 13 rfl rfl)
theorem dX6_count_112 : decode cX6_count 112 = .ok (.getfield 58, 3) := dk_180 0 58 (dk_at dksX6_count_3 14 rfl rfl)
theorem dX6_count_115 : decode cX6_count 115 = .ok (.iconst 0, 1) := dk_3 (dk_at dksX6_count_3 17 rfl rfl)
theorem dX6_count_116 : decode cX6_count 116 = .ok (.iaload, 1) := dk_46 (dk_at dksX6_count_3 18 rfl rfl)
theorem dX6_count_117 : decode cX6_count 117 = .ok (.ireturn, 1) := dk_172 (dk_at dksX6_count_3 19 rfl rfl)
theorem dX6_count_118 : decode cX6_count 118 = .ok (.aload_n 0, 1) := dk_42 (dk_at dksX6_count_3 20 rfl rfl)
theorem dX6_count_119 : decode cX6_count 119 = .ok (.getfield 31, 3) := dk_180 0 31 (dk_at dksX6_count_3 21 rfl rfl)
theorem dX6_count_122 : decode cX6_count 122 = .ok (.iconst 0, 1) := dk_3 (dk_at dksX6_count_4 0 rfl rfl)
theorem dX6_count_123 : decode cX6_count 123 = .ok (.iaload, 1) := dk_46 (dk_at dksX6_count_4 1 rfl rfl)
theorem dX6_count_124 : decode cX6_count 124 = .ok (.ireturn, 1) := dk_172 (dk_at dksX6_count_4 2 rfl rfl)
theorem dX6_count_125 : decode cX6_count 125 = .ok (.aload_n 0, 1) := dk_42 (dk_at dksX6_count_4 3 rfl rfl)
theorem dX6_count_126 : decode cX6_count 126 = .ok (.getfield 131, 3) := dk_180 0 131 (dk_at dksX6_count_4 4 rfl rfl)
theorem dX6_count_129 : decode cX6_count 129 = .ok (.ireturn, 1) := dk_172 (dk_at dksX6_count_4 7 rfl rfl)
theorem dX6_count_130 : decode cX6_count 130 = .ok (.aload_n 0, 1) := dk_42 (dk_at dksX6_count_4 8 rfl rfl)
theorem dX6_count_131 : decode cX6_count 131 = .ok (.iconst 0, 1) := dk_3 (dk_at dksX6_count_4 9 rfl rfl)
theorem dX6_count_132 : decode cX6_count 132 = .ok (.invokevirtual 327, 3) := dk_182 1 71 (dk_at dksX6_count_4 10 rfl rfl)
theorem dX6_count_135 : decode cX6_count 135 = .ok (.ireturn, 1) := dk_172 (dk_at dksX6_count_4 13 rfl rfl)
theorem dX6_count_136 : decode cX6_count 136 = .ok (.aload_n 0, 1) := dk_42 (dk_at dksX6_count_4 14 rfl rfl)
theorem dX6_count_137 : decode cX6_count 137 = .ok (.getfield 64, 3) := dk_180 0 64 (dk_at dksX6_count_4 15 rfl rfl)
theorem dX6_count_140 : decode cX6_count 140 = .ok (.bipush 6, 2) := dk_16 6 (dk_at dksX6_count_4 18 rfl rfl)
theorem dX6_count_142 : decode cX6_count 142 = .ok (.iaload, 1) := dk_46 (dk_at dksX6_count_4 20 rfl rfl)
theorem dX6_count_143 : decode cX6_count 143 = .ok (.ireturn, 1) := dk_172 (dk_at dksX6_count_4 21 rfl rfl)
theorem dX6_count_144 : decode cX6_count 144 = .ok (.aload_n 0, 1) := dk_42 (dk_at dksX6_count_4 22 rfl rfl)
theorem dX6_count_145 : decode cX6_count 145 = .ok (.invokevirtual 354, 3) := dk_182 1 98 (dk_at dksX6_count_5 0 rfl rfl)
theorem dX6_count_148 : decode cX6_count 148 = .ok (.ifCond .eq 10, 3) := dk_153 0 10 (dk_at dksX6_count_5 3 rfl rfl)
theorem dX6_count_151 : decode cX6_count 151 = .ok (.aload_n 0, 1) := dk_42 (dk_at dksX6_count_5 6 rfl rfl)
theorem dX6_count_152 : decode cX6_count 152 = .ok (.invokevirtual 401, 3) := dk_182 1 145 (dk_at dksX6_count_5 7 rfl rfl)
theorem dX6_count_155 : decode cX6_count 155 = .ok (.goto 4, 3) := dk_167 0 4 (dk_at dksX6_count_5 10 rfl rfl)
theorem dX6_count_158 : decode cX6_count 158 = .ok (.iconst 0, 1) := dk_3 (dk_at dksX6_count_5 13 rfl rfl)
theorem dX6_count_159 : decode cX6_count 159 = .ok (.ireturn, 1) := dk_172 (dk_at dksX6_count_5 14 rfl rfl)
theorem dX6_count_160 : decode cX6_count 160 = .ok (.aload_n 0, 1) := dk_42 (dk_at dksX6_count_5 15 rfl rfl)
theorem dX6_count_161 : decode cX6_count 161 = .ok (.getfield 71, 3) := dk_180 0 71 (dk_at dksX6_count_5 16 rfl rfl)
theorem dX6_count_164 : decode cX6_count 164 = .ok (.iconst 0, 1) := dk_3 (dk_at dksX6_count_5 19 rfl rfl)
theorem dX6_count_165 : decode cX6_count 165 = .ok (.iaload, 1) := dk_46 (dk_at dksX6_count_5 20 rfl rfl)
theorem dX6_count_166 : decode cX6_count 166 = .ok (.ireturn, 1) := dk_172 (dk_at dksX6_count_5 21 rfl rfl)
theorem dX6_count_167 : decode cX6_count 167 = .ok (.iconst 0, 1) := dk_3 (dk_at dksX6_count_5 22 rfl rfl)
theorem dX6_count_168 : decode cX6_count 168 = .ok (.istore_n 3, 1) := dk_62 (dk_at dksX6_count_5 23 rfl rfl)
theorem dX6_count_169 : decode cX6_count 169 = .ok (.iload_n 3, 1) := dk_29 (dk_at dksX6_count_6 0 rfl rfl)
theorem dX6_count_170 : decode cX6_count 170 = .ok (.iconst 4, 1) := dk_7 (dk_at dksX6_count_6 1 rfl rfl)
theorem dX6_count_171 : decode cX6_count 171 = .ok (.if_icmp .ge 27, 3) := dk_162 0 27 (dk_at dksX6_count_6 2 rfl rfl)
theorem dX6_count_174 : decode cX6_count 174 = .ok (.iload_n 2, 1) := dk_28 (dk_at dksX6_count_6 5 rfl rfl)
theorem dX6_count_175 : decode cX6_count 175 = .ok (.aload_n 0, 1) := dk_42 (dk_at dksX6_count_6 6 rfl rfl)
theorem dX6_count_176 : decode cX6_count 176 = .ok (.getfield 7, 3) := dk_180 0 7 (dk_at dksX6_count_6 7 rfl rfl)
theorem dX6_count_179 : decode cX6_count 179 = .ok (.iload_n 3, 1) := dk_29 (dk_at dksX6_count_6 10 rfl rfl)
theorem dX6_count_180 : decode cX6_count 180 = .ok (.iaload, 1) := dk_46 (dk_at dksX6_count_6 11 rfl rfl)
theorem dX6_count_181 : decode cX6_count 181 = .ok (.iconst (-1), 1) := dk_2 (dk_at dksX6_count_6 12 rfl rfl)
theorem dX6_count_182 : decode cX6_count 182 = .ok (.if_icmp .ne 7, 3) := dk_160 0 7 (dk_at dksX6_count_6 13 rfl rfl)
theorem dX6_count_185 : decode cX6_count 185 = .ok (.iconst 0, 1) := dk_3 (dk_at dksX6_count_6 16 rfl rfl)
theorem dX6_count_186 : decode cX6_count 186 = .ok (.goto 4, 3) := dk_167 0 4 (dk_at dksX6_count_6 17 rfl rfl)
theorem dX6_count_189 : decode cX6_count 189 = .ok (.iconst 1, 1) := dk_4 (dk_at dksX6_count_6 20 rfl rfl)
theorem dX6_count_190 : decode cX6_count 190 = .ok (.iadd, 1) := dk_96 (dk_at dksX6_count_6 21 rfl rfl)
theorem dX6_count_191 : decode cX6_count 191 = .ok (.istore_n 2, 1) := dk_61 (dk_at dksX6_count_6 22 rfl rfl)
theorem dX6_count_192 : decode cX6_count 192 = .ok (.iinc 3 1, 3) := dk_132 3 1 (dk_at dksX6_count_7 0 rfl rfl)
theorem dX6_count_195 : decode cX6_count 195 = .ok (.goto (-26), 3) := dk_167 255 230 (dk_at dksX6_count_7 3 rfl rfl)
theorem dX6_count_198 : decode cX6_count 198 = .ok (.iload_n 2, 1) := dk_28 (dk_at dksX6_count_7 6 rfl rfl)
theorem dX6_count_199 : decode cX6_count 199 = .ok (.ireturn, 1) := dk_172 (dk_at dksX6_count_7 7 rfl rfl)
theorem dX6_count_200 : decode cX6_count 200 = .ok (.iconst (-1), 1) := dk_2 (dk_at dksX6_count_7 8 rfl rfl)
theorem dX6_count_201 : decode cX6_count 201 = .ok (.ireturn, 1) := dk_172 (dk_at dksX6_count_7 9 rfl rfl)
abbrev cX6_keep : ByteArray := prog_20_method_148_code
def yX6_keep : MethodName := ⟨RX6, "keep", "(I)I"⟩
def dkwX6_keep_1 : List UInt8 := [96, 182, 1, 35, 42, 180, 0, 74, 27, 4, 84, 3, 172]
abbrev dktX6_keep_1 : List UInt8 := dkwX6_keep_1 ++ []
def dkwX6_keep_0 : List UInt8 := [42, 3, 181, 0, 114, 27, 133, 9, 20, 1, 136, 184, 0, 119, 154, 0, 6, 16, 254, 172, 42, 3, 4, 27]
abbrev dktX6_keep_0 : List UInt8 := dkwX6_keep_0 ++ dktX6_keep_1
theorem dksX6_keep_0 : cX6_keep.data.toList.drop 0 = dktX6_keep_0 := by decide +kernel
theorem dksX6_keep_1 : cX6_keep.data.toList.drop 24 = dktX6_keep_1 := dk_seg dksX6_keep_0 24 rfl rfl
theorem dX6_keep_0 : decode cX6_keep 0 = .ok (.aload_n 0, 1) := dk_42 (dk_at dksX6_keep_0 0 rfl rfl)
theorem dX6_keep_1 : decode cX6_keep 1 = .ok (.iconst 0, 1) := dk_3 (dk_at dksX6_keep_0 1 rfl rfl)
theorem dX6_keep_2 : decode cX6_keep 2 = .ok (.putfield 114, 3) := dk_181 0 114 (dk_at dksX6_keep_0 2 rfl rfl)
theorem dX6_keep_5 : decode cX6_keep 5 = .ok (.iload_n 1, 1) := dk_27 (dk_at dksX6_keep_0 5 rfl rfl)
theorem dX6_keep_6 : decode cX6_keep 6 = .ok (.i2l, 1) := dk_133 (dk_at dksX6_keep_0 6 rfl rfl)
theorem dX6_keep_7 : decode cX6_keep 7 = .ok (.lconst 0, 1) := dk_9 (dk_at dksX6_keep_0 7 rfl rfl)
theorem dX6_keep_8 : decode cX6_keep 8 = .ok (.ldc2_w 392, 3) := dk_20 1 136 (dk_at dksX6_keep_0 8 rfl rfl)
theorem dX6_keep_11 : decode cX6_keep 11 = .ok (.invokestatic 119, 3) := dk_184 0 119 (dk_at dksX6_keep_0 11 rfl rfl)
theorem dX6_keep_14 : decode cX6_keep 14 = .ok (.ifCond .ne 6, 3) := dk_154 0 6 (dk_at dksX6_keep_0 14 rfl rfl)
theorem dX6_keep_17 : decode cX6_keep 17 = .ok (.bipush (-2), 2) := dk_16 254 (dk_at dksX6_keep_0 17 rfl rfl)
theorem dX6_keep_19 : decode cX6_keep 19 = .ok (.ireturn, 1) := dk_172 (dk_at dksX6_keep_0 19 rfl rfl)
theorem dX6_keep_20 : decode cX6_keep 20 = .ok (.aload_n 0, 1) := dk_42 (dk_at dksX6_keep_0 20 rfl rfl)
theorem dX6_keep_21 : decode cX6_keep 21 = .ok (.iconst 0, 1) := dk_3 (dk_at dksX6_keep_0 21 rfl rfl)
theorem dX6_keep_22 : decode cX6_keep 22 = .ok (.iconst 1, 1) := dk_4 (dk_at dksX6_keep_0 22 rfl rfl)
theorem dX6_keep_23 : decode cX6_keep 23 = .ok (.iload_n 1, 1) := dk_27 (dk_at dksX6_keep_0 23 rfl rfl)
theorem dX6_keep_24 : decode cX6_keep 24 = .ok (.iadd, 1) := dk_96 (dk_at dksX6_keep_1 0 rfl rfl)
theorem dX6_keep_25 : decode cX6_keep 25 = .ok (.invokevirtual 291, 3) := dk_182 1 35 (dk_at dksX6_keep_1 1 rfl rfl)
theorem dX6_keep_28 : decode cX6_keep 28 = .ok (.aload_n 0, 1) := dk_42 (dk_at dksX6_keep_1 4 rfl rfl)
theorem dX6_keep_29 : decode cX6_keep 29 = .ok (.getfield 74, 3) := dk_180 0 74 (dk_at dksX6_keep_1 5 rfl rfl)
theorem dX6_keep_32 : decode cX6_keep 32 = .ok (.iload_n 1, 1) := dk_27 (dk_at dksX6_keep_1 8 rfl rfl)
theorem dX6_keep_33 : decode cX6_keep 33 = .ok (.iconst 1, 1) := dk_4 (dk_at dksX6_keep_1 9 rfl rfl)
theorem dX6_keep_34 : decode cX6_keep 34 = .ok (.bastore, 1) := dk_84 (dk_at dksX6_keep_1 10 rfl rfl)
theorem dX6_keep_35 : decode cX6_keep 35 = .ok (.iconst 0, 1) := dk_3 (dk_at dksX6_keep_1 11 rfl rfl)
theorem dX6_keep_36 : decode cX6_keep 36 = .ok (.ireturn, 1) := dk_172 (dk_at dksX6_keep_1 12 rfl rfl)
abbrev cX6_back : ByteArray := prog_20_method_149_code
def yX6_back : MethodName := ⟨RX6, "back", "(I)I"⟩
def dkwX6_back_1 : List UInt8 := [27, 51, 154, 0, 6, 16, 250, 172, 42, 4, 27, 96, 3, 182, 1, 35, 3, 172]
abbrev dktX6_back_1 : List UInt8 := dkwX6_back_1 ++ []
def dkwX6_back_0 : List UInt8 := [42, 3, 181, 0, 114, 27, 133, 9, 20, 1, 136, 184, 0, 119, 154, 0, 6, 16, 254, 172, 42, 180, 0, 74]
abbrev dktX6_back_0 : List UInt8 := dkwX6_back_0 ++ dktX6_back_1
theorem dksX6_back_0 : cX6_back.data.toList.drop 0 = dktX6_back_0 := by decide +kernel
theorem dksX6_back_1 : cX6_back.data.toList.drop 24 = dktX6_back_1 := dk_seg dksX6_back_0 24 rfl rfl
theorem dX6_back_0 : decode cX6_back 0 = .ok (.aload_n 0, 1) := dk_42 (dk_at dksX6_back_0 0 rfl rfl)
theorem dX6_back_1 : decode cX6_back 1 = .ok (.iconst 0, 1) := dk_3 (dk_at dksX6_back_0 1 rfl rfl)
theorem dX6_back_2 : decode cX6_back 2 = .ok (.putfield 114, 3) := dk_181 0 114 (dk_at dksX6_back_0 2 rfl rfl)
theorem dX6_back_5 : decode cX6_back 5 = .ok (.iload_n 1, 1) := dk_27 (dk_at dksX6_back_0 5 rfl rfl)
theorem dX6_back_6 : decode cX6_back 6 = .ok (.i2l, 1) := dk_133 (dk_at dksX6_back_0 6 rfl rfl)
theorem dX6_back_7 : decode cX6_back 7 = .ok (.lconst 0, 1) := dk_9 (dk_at dksX6_back_0 7 rfl rfl)
theorem dX6_back_8 : decode cX6_back 8 = .ok (.ldc2_w 392, 3) := dk_20 1 136 (dk_at dksX6_back_0 8 rfl rfl)
theorem dX6_back_11 : decode cX6_back 11 = .ok (.invokestatic 119, 3) := dk_184 0 119 (dk_at dksX6_back_0 11 rfl rfl)
theorem dX6_back_14 : decode cX6_back 14 = .ok (.ifCond .ne 6, 3) := dk_154 0 6 (dk_at dksX6_back_0 14 rfl rfl)
theorem dX6_back_17 : decode cX6_back 17 = .ok (.bipush (-2), 2) := dk_16 254 (dk_at dksX6_back_0 17 rfl rfl)
theorem dX6_back_19 : decode cX6_back 19 = .ok (.ireturn, 1) := dk_172 (dk_at dksX6_back_0 19 rfl rfl)
theorem dX6_back_20 : decode cX6_back 20 = .ok (.aload_n 0, 1) := dk_42 (dk_at dksX6_back_0 20 rfl rfl)
theorem dX6_back_21 : decode cX6_back 21 = .ok (.getfield 74, 3) := dk_180 0 74 (dk_at dksX6_back_0 21 rfl rfl)
theorem dX6_back_24 : decode cX6_back 24 = .ok (.iload_n 1, 1) := dk_27 (dk_at dksX6_back_1 0 rfl rfl)
theorem dX6_back_25 : decode cX6_back 25 = .ok (.baload, 1) := dk_51 (dk_at dksX6_back_1 1 rfl rfl)
theorem dX6_back_26 : decode cX6_back 26 = .ok (.ifCond .ne 6, 3) := dk_154 0 6 (dk_at dksX6_back_1 2 rfl rfl)
theorem dX6_back_29 : decode cX6_back 29 = .ok (.bipush (-6), 2) := dk_16 250 (dk_at dksX6_back_1 5 rfl rfl)
theorem dX6_back_31 : decode cX6_back 31 = .ok (.ireturn, 1) := dk_172 (dk_at dksX6_back_1 7 rfl rfl)
theorem dX6_back_32 : decode cX6_back 32 = .ok (.aload_n 0, 1) := dk_42 (dk_at dksX6_back_1 8 rfl rfl)
theorem dX6_back_33 : decode cX6_back 33 = .ok (.iconst 1, 1) := dk_4 (dk_at dksX6_back_1 9 rfl rfl)
theorem dX6_back_34 : decode cX6_back 34 = .ok (.iload_n 1, 1) := dk_27 (dk_at dksX6_back_1 10 rfl rfl)
theorem dX6_back_35 : decode cX6_back 35 = .ok (.iadd, 1) := dk_96 (dk_at dksX6_back_1 11 rfl rfl)
theorem dX6_back_36 : decode cX6_back 36 = .ok (.iconst 0, 1) := dk_3 (dk_at dksX6_back_1 12 rfl rfl)
theorem dX6_back_37 : decode cX6_back 37 = .ok (.invokevirtual 291, 3) := dk_182 1 35 (dk_at dksX6_back_1 13 rfl rfl)
theorem dX6_back_40 : decode cX6_back 40 = .ok (.iconst 0, 1) := dk_3 (dk_at dksX6_back_1 16 rfl rfl)
theorem dX6_back_41 : decode cX6_back 41 = .ok (.ireturn, 1) := dk_172 (dk_at dksX6_back_1 17 rfl rfl)
theorem q149 : (Jvm.Cond.initialized "LockRailModel") ∈ lw_all := lw_g (lw_at lw_m1 10 rfl) rfl
theorem q782 : (Jvm.Cond.selects "LockRailModel" ({ cls := "java/lang/Object", name := "getClass", desc := "()Ljava/lang/Class;" } : Jvm.MethodName) ({ cls := "java/lang/Object", name := "getClass", desc := "()Ljava/lang/Class;" } : Jvm.MethodName)) ∈ lw_all := lw_g (lw_at lw_m3 163 rfl) rfl
theorem q1743 : (Jvm.Cond.instantiable "LockRailModel" (51 : Nat)) ∈ lw_all := lw_g (lw_at lw_m7 164 rfl) rfl
theorem q1745 : (Jvm.Cond.instanceMethod ({ cls := "LockRailModel", name := "<init>", desc := "()V" } : Jvm.MethodName)) ∈ lw_all := lw_g (lw_at lw_m7 166 rfl) rfl
theorem q1746 : (Jvm.Cond.code ({ cls := "LockRailModel", name := "<init>", desc := "()V" } : Jvm.MethodName) prog_20_method_1_code (2 : Nat) (Option.none : Option Jvm.ClassFile.FieldType)) ∈ lw_all := lw_g (lw_at lw_m7 167 rfl) rfl
theorem q1747 : (Jvm.Cond.methodLink "LockRailModel" (1 : Nat) ({ cls := "java/lang/Object", name := "<init>", desc := "()V" } : Jvm.MethodName)) ∈ lw_all := lw_g (lw_at lw_m7 168 rfl) rfl
theorem q1748 : (Jvm.Cond.constant "LockRailModel" (101 : Nat) (131072 : Int32)) ∈ lw_all := lw_g (lw_at lw_m7 169 rfl) rfl
theorem q1749 : (Jvm.Cond.fieldLink "LockRailModel" (114 : Nat) "LockRailModel" "thrown" "I") ∈ lw_all := lw_g (lw_at lw_m7 170 rfl) rfl
theorem q1750 : (Jvm.Cond.fieldLink "LockRailModel" (7 : Nat) "LockRailModel" "width" "[I") ∈ lw_all := lw_g (lw_at lw_m7 171 rfl) rfl
theorem q1751 : (Jvm.Cond.fieldLink "LockRailModel" (13 : Nat) "LockRailModel" "many" "[I") ∈ lw_all := lw_g (lw_at lw_m7 172 rfl) rfl
theorem q1752 : (Jvm.Cond.fieldLink "LockRailModel" (16 : Nat) "LockRailModel" "cells" "[J") ∈ lw_all := lw_g (lw_at lw_m7 173 rfl) rfl
theorem q1753 : (Jvm.Cond.fieldLink "LockRailModel" (20 : Nat) "LockRailModel" "moved" "[J") ∈ lw_all := lw_g (lw_at lw_m7 174 rfl) rfl
theorem q1754 : (Jvm.Cond.fieldLink "LockRailModel" (23 : Nat) "LockRailModel" "tape" "[B") ∈ lw_all := lw_g (lw_at lw_m7 175 rfl) rfl
theorem q1755 : (Jvm.Cond.fieldLink "LockRailModel" (131 : Nat) "LockRailModel" "taped" "I") ∈ lw_all := lw_g (lw_at lw_m7 176 rfl) rfl
theorem q1756 : (Jvm.Cond.fieldLink "LockRailModel" (138 : Nat) "LockRailModel" "at" "I") ∈ lw_all := lw_g (lw_at lw_m7 177 rfl) rfl
theorem q1757 : (Jvm.Cond.fieldLink "LockRailModel" (155 : Nat) "LockRailModel" "token" "I") ∈ lw_all := lw_g (lw_at lw_m7 178 rfl) rfl
theorem q1758 : (Jvm.Cond.fieldLink "LockRailModel" (145 : Nat) "LockRailModel" "place" "I") ∈ lw_all := lw_g (lw_at lw_m7 179 rfl) rfl
theorem q1759 : (Jvm.Cond.fieldLink "LockRailModel" (148 : Nat) "LockRailModel" "value" "I") ∈ lw_all := lw_g (lw_at lw_m7 180 rfl) rfl
theorem q1760 : (Jvm.Cond.fieldLink "LockRailModel" (151 : Nat) "LockRailModel" "word" "J") ∈ lw_all := lw_g (lw_at lw_m7 181 rfl) rfl
theorem q1761 : (Jvm.Cond.fieldLink "LockRailModel" (166 : Nat) "LockRailModel" "bad" "I") ∈ lw_all := lw_g (lw_at lw_m7 182 rfl) rfl
theorem q1762 : (Jvm.Cond.fieldLink "LockRailModel" (169 : Nat) "LockRailModel" "badPlace" "I") ∈ lw_all := lw_g (lw_at lw_m7 183 rfl) rfl
theorem q1763 : (Jvm.Cond.fieldLink "LockRailModel" (193 : Nat) "LockRailModel" "fault" "I") ∈ lw_all := lw_g (lw_at lw_m7 184 rfl) rfl
theorem q1764 : (Jvm.Cond.fieldLink "LockRailModel" (27 : Nat) "LockRailModel" "faultPlace" "I") ∈ lw_all := lw_g (lw_at lw_m7 185 rfl) rfl
theorem q1765 : (Jvm.Cond.fieldLink "LockRailModel" (31 : Nat) "LockRailModel" "lines" "[I") ∈ lw_all := lw_g (lw_at lw_m7 186 rfl) rfl
theorem q1766 : (Jvm.Cond.fieldLink "LockRailModel" (34 : Nat) "LockRailModel" "places" "[I") ∈ lw_all := lw_g (lw_at lw_m7 187 rfl) rfl
theorem q1767 : (Jvm.Cond.fieldLink "LockRailModel" (37 : Nat) "LockRailModel" "nights" "[I") ∈ lw_all := lw_g (lw_at lw_m7 188 rfl) rfl
theorem q1768 : (Jvm.Cond.fieldLink "LockRailModel" (40 : Nat) "LockRailModel" "lamps" "[I") ∈ lw_all := lw_g (lw_at lw_m7 189 rfl) rfl
theorem q1769 : (Jvm.Cond.fieldLink "LockRailModel" (43 : Nat) "LockRailModel" "lamp" "[I") ∈ lw_all := lw_g (lw_at lw_m7 190 rfl) rfl
theorem q1770 : (Jvm.Cond.fieldLink "LockRailModel" (46 : Nat) "LockRailModel" "locks" "[I") ∈ lw_all := lw_g (lw_at lw_m7 191 rfl) rfl
theorem q1771 : (Jvm.Cond.fieldLink "LockRailModel" (49 : Nat) "LockRailModel" "lock" "[I") ∈ lw_all := lw_g (lw_at lw_m7 192 rfl) rfl
theorem q1772 : (Jvm.Cond.fieldLink "LockRailModel" (52 : Nat) "LockRailModel" "bikes" "[I") ∈ lw_all := lw_g (lw_at lw_m7 193 rfl) rfl
theorem q1773 : (Jvm.Cond.fieldLink "LockRailModel" (55 : Nat) "LockRailModel" "bike" "[I") ∈ lw_all := lw_g (lw_at lw_m7 194 rfl) rfl
theorem q1774 : (Jvm.Cond.fieldLink "LockRailModel" (58 : Nat) "LockRailModel" "thieves" "[I") ∈ lw_all := lw_g (lw_at lw_m7 195 rfl) rfl
theorem q1775 : (Jvm.Cond.fieldLink "LockRailModel" (61 : Nat) "LockRailModel" "thief" "[I") ∈ lw_all := lw_g (lw_at lw_m7 196 rfl) rfl
theorem q1776 : (Jvm.Cond.fieldLink "LockRailModel" (64 : Nat) "LockRailModel" "set" "[I") ∈ lw_all := lw_g (lw_at lw_m7 197 rfl) rfl
theorem q1777 : (Jvm.Cond.fieldLink "LockRailModel" (67 : Nat) "LockRailModel" "once" "[Z") ∈ lw_all := lw_g (lw_at lw_m7 198 rfl) rfl
theorem q1778 : (Jvm.Cond.fieldLink "LockRailModel" (71 : Nat) "LockRailModel" "year" "[I") ∈ lw_all := lw_g (lw_at lw_m7 199 rfl) rfl
theorem q1779 : (Jvm.Cond.fieldLink "LockRailModel" (74 : Nat) "LockRailModel" "isKept" "[Z") ∈ lw_all := lw_g (lw_at lw_m7 200 rfl) rfl
theorem q1780 : (Jvm.Cond.fieldLink "LockRailModel" (309 : Nat) "LockRailModel" "moreAt" "I") ∈ lw_all := lw_g (lw_at lw_m7 201 rfl) rfl
theorem q1781 : (Jvm.Cond.fieldLink "LockRailModel" (306 : Nat) "LockRailModel" "moreBright" "I") ∈ lw_all := lw_g (lw_at lw_m7 202 rfl) rfl
theorem q1782 : (Jvm.Cond.fieldLink "LockRailModel" (77 : Nat) "LockRailModel" "troubles" "[I") ∈ lw_all := lw_g (lw_at lw_m7 203 rfl) rfl
theorem q1783 : (Jvm.Cond.fieldLink "LockRailModel" (80 : Nat) "LockRailModel" "nets" "[I") ∈ lw_all := lw_g (lw_at lw_m7 204 rfl) rfl
theorem q1784 : (Jvm.Cond.fieldLink "LockRailModel" (340 : Nat) "LockRailModel" "there" "I") ∈ lw_all := lw_g (lw_at lw_m7 205 rfl) rfl
theorem q1785 : (Jvm.Cond.fieldLink "LockRailModel" (83 : Nat) "LockRailModel" "parts" "[J") ∈ lw_all := lw_g (lw_at lw_m7 206 rfl) rfl
theorem q1786 : (Jvm.Cond.fieldLink "LockRailModel" (86 : Nat) "LockRailModel" "come" "[J") ∈ lw_all := lw_g (lw_at lw_m7 207 rfl) rfl
theorem q1787 : (Jvm.Cond.fieldLink "LockRailModel" (89 : Nat) "LockRailModel" "hasOf" "[J") ∈ lw_all := lw_g (lw_at lw_m7 208 rfl) rfl
theorem q1788 : (Jvm.Cond.fieldLink "LockRailModel" (420 : Nat) "LockRailModel" "leastCost" "J") ∈ lw_all := lw_g (lw_at lw_m7 209 rfl) rfl
theorem q1789 : (Jvm.Cond.fieldLink "LockRailModel" (92 : Nat) "LockRailModel" "aside" "[I") ∈ lw_all := lw_g (lw_at lw_m7 210 rfl) rfl
theorem q1790 : (Jvm.Cond.fieldLink "LockRailModel" (426 : Nat) "LockRailModel" "isSettled" "Z") ∈ lw_all := lw_g (lw_at lw_m7 211 rfl) rfl
theorem q1791 : (Jvm.Cond.fieldLink "LockRailModel" (95 : Nat) "LockRailModel" "grows" "[J") ∈ lw_all := lw_g (lw_at lw_m7 212 rfl) rfl
theorem q1792 : (Jvm.Cond.fieldLink "LockRailModel" (98 : Nat) "LockRailModel" "lessLost" "[J") ∈ lw_all := lw_g (lw_at lw_m7 213 rfl) rfl
theorem q1793 : (Jvm.Cond.fieldLink "LockRailModel" (102 : Nat) "LockRailModel" "states" "[J") ∈ lw_all := lw_g (lw_at lw_m7 214 rfl) rfl
theorem q1794 : (Jvm.Cond.fieldLink "LockRailModel" (105 : Nat) "LockRailModel" "coming" "[J") ∈ lw_all := lw_g (lw_at lw_m7 215 rfl) rfl
theorem q1795 : (Jvm.Cond.fieldLink "LockRailModel" (108 : Nat) "LockRailModel" "byCaught" "[J") ∈ lw_all := lw_g (lw_at lw_m7 216 rfl) rfl
theorem q1796 : (Jvm.Cond.fieldLink "LockRailModel" (484 : Nat) "LockRailModel" "baitLoss" "J") ∈ lw_all := lw_g (lw_at lw_m7 217 rfl) rfl
theorem q1797 : (Jvm.Cond.fieldLink "LockRailModel" (499 : Nat) "LockRailModel" "leastCovered" "J") ∈ lw_all := lw_g (lw_at lw_m7 218 rfl) rfl
theorem q1798 : (Jvm.Cond.fieldLink "LockRailModel" (111 : Nat) "LockRailModel" "drawn" "[I") ∈ lw_all := lw_g (lw_at lw_m7 219 rfl) rfl
theorem q1799 : (Jvm.Cond.fieldLink "LockRailModel" (516 : Nat) "LockRailModel" "x" "J") ∈ lw_all := lw_g (lw_at lw_m7 220 rfl) rfl
theorem q1800 : (Jvm.Cond.lays "LockRailModel" "LockRailModel" "thrown" "I") ∈ lw_all := lw_g (lw_at lw_m7 221 rfl) rfl
theorem q1801 : (Jvm.Cond.soleField "LockRailModel" "thrown") ∈ lw_all := lw_g (lw_at lw_m7 222 rfl) rfl
theorem q1802 : (Jvm.Cond.laysFinal "LockRailModel" "LockRailModel" "width" "[I") ∈ lw_all := lw_g (lw_at lw_m7 223 rfl) rfl
theorem q1803 : (Jvm.Cond.soleField "LockRailModel" "width") ∈ lw_all := lw_g (lw_at lw_m7 224 rfl) rfl
theorem q1804 : (Jvm.Cond.laysFinal "LockRailModel" "LockRailModel" "many" "[I") ∈ lw_all := lw_g (lw_at lw_m7 225 rfl) rfl
theorem q1805 : (Jvm.Cond.soleField "LockRailModel" "many") ∈ lw_all := lw_g (lw_at lw_m7 226 rfl) rfl
theorem q1806 : (Jvm.Cond.laysFinal "LockRailModel" "LockRailModel" "cells" "[J") ∈ lw_all := lw_g (lw_at lw_m7 227 rfl) rfl
theorem q1807 : (Jvm.Cond.soleField "LockRailModel" "cells") ∈ lw_all := lw_g (lw_at lw_m7 228 rfl) rfl
theorem q1808 : (Jvm.Cond.laysFinal "LockRailModel" "LockRailModel" "moved" "[J") ∈ lw_all := lw_g (lw_at lw_m7 229 rfl) rfl
theorem q1809 : (Jvm.Cond.soleField "LockRailModel" "moved") ∈ lw_all := lw_g (lw_at lw_m7 230 rfl) rfl
theorem q1810 : (Jvm.Cond.laysFinal "LockRailModel" "LockRailModel" "tape" "[B") ∈ lw_all := lw_g (lw_at lw_m7 231 rfl) rfl
theorem q1811 : (Jvm.Cond.soleField "LockRailModel" "tape") ∈ lw_all := lw_g (lw_at lw_m7 232 rfl) rfl
theorem q1812 : (Jvm.Cond.lays "LockRailModel" "LockRailModel" "taped" "I") ∈ lw_all := lw_g (lw_at lw_m7 233 rfl) rfl
theorem q1813 : (Jvm.Cond.soleField "LockRailModel" "taped") ∈ lw_all := lw_g (lw_at lw_m7 234 rfl) rfl
theorem q1814 : (Jvm.Cond.lays "LockRailModel" "LockRailModel" "at" "I") ∈ lw_all := lw_g (lw_at lw_m7 235 rfl) rfl
theorem q1815 : (Jvm.Cond.soleField "LockRailModel" "at") ∈ lw_all := lw_g (lw_at lw_m7 236 rfl) rfl
theorem q1816 : (Jvm.Cond.lays "LockRailModel" "LockRailModel" "token" "I") ∈ lw_all := lw_g (lw_at lw_m7 237 rfl) rfl
theorem q1817 : (Jvm.Cond.soleField "LockRailModel" "token") ∈ lw_all := lw_g (lw_at lw_m7 238 rfl) rfl
theorem q1818 : (Jvm.Cond.lays "LockRailModel" "LockRailModel" "place" "I") ∈ lw_all := lw_g (lw_at lw_m7 239 rfl) rfl
theorem q1819 : (Jvm.Cond.soleField "LockRailModel" "place") ∈ lw_all := lw_g (lw_at lw_m8 0 rfl) rfl
theorem q1820 : (Jvm.Cond.lays "LockRailModel" "LockRailModel" "value" "I") ∈ lw_all := lw_g (lw_at lw_m8 1 rfl) rfl
theorem q1821 : (Jvm.Cond.soleField "LockRailModel" "value") ∈ lw_all := lw_g (lw_at lw_m8 2 rfl) rfl
theorem q1822 : (Jvm.Cond.lays "LockRailModel" "LockRailModel" "word" "J") ∈ lw_all := lw_g (lw_at lw_m8 3 rfl) rfl
theorem q1823 : (Jvm.Cond.soleField "LockRailModel" "word") ∈ lw_all := lw_g (lw_at lw_m8 4 rfl) rfl
theorem q1824 : (Jvm.Cond.lays "LockRailModel" "LockRailModel" "bad" "I") ∈ lw_all := lw_g (lw_at lw_m8 5 rfl) rfl
theorem q1825 : (Jvm.Cond.soleField "LockRailModel" "bad") ∈ lw_all := lw_g (lw_at lw_m8 6 rfl) rfl
theorem q1826 : (Jvm.Cond.lays "LockRailModel" "LockRailModel" "badPlace" "I") ∈ lw_all := lw_g (lw_at lw_m8 7 rfl) rfl
theorem q1827 : (Jvm.Cond.soleField "LockRailModel" "badPlace") ∈ lw_all := lw_g (lw_at lw_m8 8 rfl) rfl
theorem q1828 : (Jvm.Cond.lays "LockRailModel" "LockRailModel" "fault" "I") ∈ lw_all := lw_g (lw_at lw_m8 9 rfl) rfl
theorem q1829 : (Jvm.Cond.soleField "LockRailModel" "fault") ∈ lw_all := lw_g (lw_at lw_m8 10 rfl) rfl
theorem q1830 : (Jvm.Cond.lays "LockRailModel" "LockRailModel" "faultPlace" "I") ∈ lw_all := lw_g (lw_at lw_m8 11 rfl) rfl
theorem q1831 : (Jvm.Cond.soleField "LockRailModel" "faultPlace") ∈ lw_all := lw_g (lw_at lw_m8 12 rfl) rfl
theorem q1832 : (Jvm.Cond.laysFinal "LockRailModel" "LockRailModel" "lines" "[I") ∈ lw_all := lw_g (lw_at lw_m8 13 rfl) rfl
theorem q1833 : (Jvm.Cond.soleField "LockRailModel" "lines") ∈ lw_all := lw_g (lw_at lw_m8 14 rfl) rfl
theorem q1834 : (Jvm.Cond.laysFinal "LockRailModel" "LockRailModel" "places" "[I") ∈ lw_all := lw_g (lw_at lw_m8 15 rfl) rfl
theorem q1835 : (Jvm.Cond.soleField "LockRailModel" "places") ∈ lw_all := lw_g (lw_at lw_m8 16 rfl) rfl
theorem q1836 : (Jvm.Cond.laysFinal "LockRailModel" "LockRailModel" "nights" "[I") ∈ lw_all := lw_g (lw_at lw_m8 17 rfl) rfl
theorem q1837 : (Jvm.Cond.soleField "LockRailModel" "nights") ∈ lw_all := lw_g (lw_at lw_m8 18 rfl) rfl
theorem q1838 : (Jvm.Cond.laysFinal "LockRailModel" "LockRailModel" "lamps" "[I") ∈ lw_all := lw_g (lw_at lw_m8 19 rfl) rfl
theorem q1839 : (Jvm.Cond.soleField "LockRailModel" "lamps") ∈ lw_all := lw_g (lw_at lw_m8 20 rfl) rfl
theorem q1840 : (Jvm.Cond.laysFinal "LockRailModel" "LockRailModel" "lamp" "[I") ∈ lw_all := lw_g (lw_at lw_m8 21 rfl) rfl
theorem q1841 : (Jvm.Cond.soleField "LockRailModel" "lamp") ∈ lw_all := lw_g (lw_at lw_m8 22 rfl) rfl
theorem q1842 : (Jvm.Cond.laysFinal "LockRailModel" "LockRailModel" "locks" "[I") ∈ lw_all := lw_g (lw_at lw_m8 23 rfl) rfl
theorem q1843 : (Jvm.Cond.soleField "LockRailModel" "locks") ∈ lw_all := lw_g (lw_at lw_m8 24 rfl) rfl
theorem q1844 : (Jvm.Cond.laysFinal "LockRailModel" "LockRailModel" "lock" "[I") ∈ lw_all := lw_g (lw_at lw_m8 25 rfl) rfl
theorem q1845 : (Jvm.Cond.soleField "LockRailModel" "lock") ∈ lw_all := lw_g (lw_at lw_m8 26 rfl) rfl
theorem q1846 : (Jvm.Cond.laysFinal "LockRailModel" "LockRailModel" "bikes" "[I") ∈ lw_all := lw_g (lw_at lw_m8 27 rfl) rfl
theorem q1847 : (Jvm.Cond.soleField "LockRailModel" "bikes") ∈ lw_all := lw_g (lw_at lw_m8 28 rfl) rfl
theorem q1848 : (Jvm.Cond.laysFinal "LockRailModel" "LockRailModel" "bike" "[I") ∈ lw_all := lw_g (lw_at lw_m8 29 rfl) rfl
theorem q1849 : (Jvm.Cond.soleField "LockRailModel" "bike") ∈ lw_all := lw_g (lw_at lw_m8 30 rfl) rfl
theorem q1850 : (Jvm.Cond.laysFinal "LockRailModel" "LockRailModel" "thieves" "[I") ∈ lw_all := lw_g (lw_at lw_m8 31 rfl) rfl
theorem q1851 : (Jvm.Cond.soleField "LockRailModel" "thieves") ∈ lw_all := lw_g (lw_at lw_m8 32 rfl) rfl
theorem q1852 : (Jvm.Cond.laysFinal "LockRailModel" "LockRailModel" "thief" "[I") ∈ lw_all := lw_g (lw_at lw_m8 33 rfl) rfl
theorem q1853 : (Jvm.Cond.soleField "LockRailModel" "thief") ∈ lw_all := lw_g (lw_at lw_m8 34 rfl) rfl
theorem q1854 : (Jvm.Cond.laysFinal "LockRailModel" "LockRailModel" "set" "[I") ∈ lw_all := lw_g (lw_at lw_m8 35 rfl) rfl
theorem q1855 : (Jvm.Cond.soleField "LockRailModel" "set") ∈ lw_all := lw_g (lw_at lw_m8 36 rfl) rfl
theorem q1856 : (Jvm.Cond.laysFinal "LockRailModel" "LockRailModel" "once" "[Z") ∈ lw_all := lw_g (lw_at lw_m8 37 rfl) rfl
theorem q1857 : (Jvm.Cond.soleField "LockRailModel" "once") ∈ lw_all := lw_g (lw_at lw_m8 38 rfl) rfl
theorem q1858 : (Jvm.Cond.laysFinal "LockRailModel" "LockRailModel" "year" "[I") ∈ lw_all := lw_g (lw_at lw_m8 39 rfl) rfl
theorem q1859 : (Jvm.Cond.soleField "LockRailModel" "year") ∈ lw_all := lw_g (lw_at lw_m8 40 rfl) rfl
theorem q1860 : (Jvm.Cond.laysFinal "LockRailModel" "LockRailModel" "isKept" "[Z") ∈ lw_all := lw_g (lw_at lw_m8 41 rfl) rfl
theorem q1861 : (Jvm.Cond.soleField "LockRailModel" "isKept") ∈ lw_all := lw_g (lw_at lw_m8 42 rfl) rfl
theorem q1862 : (Jvm.Cond.lays "LockRailModel" "LockRailModel" "moreAt" "I") ∈ lw_all := lw_g (lw_at lw_m8 43 rfl) rfl
theorem q1863 : (Jvm.Cond.soleField "LockRailModel" "moreAt") ∈ lw_all := lw_g (lw_at lw_m8 44 rfl) rfl
theorem q1864 : (Jvm.Cond.lays "LockRailModel" "LockRailModel" "moreBright" "I") ∈ lw_all := lw_g (lw_at lw_m8 45 rfl) rfl
theorem q1865 : (Jvm.Cond.soleField "LockRailModel" "moreBright") ∈ lw_all := lw_g (lw_at lw_m8 46 rfl) rfl
theorem q1866 : (Jvm.Cond.laysFinal "LockRailModel" "LockRailModel" "troubles" "[I") ∈ lw_all := lw_g (lw_at lw_m8 47 rfl) rfl
theorem q1867 : (Jvm.Cond.soleField "LockRailModel" "troubles") ∈ lw_all := lw_g (lw_at lw_m8 48 rfl) rfl
theorem q1868 : (Jvm.Cond.laysFinal "LockRailModel" "LockRailModel" "nets" "[I") ∈ lw_all := lw_g (lw_at lw_m8 49 rfl) rfl
theorem q1869 : (Jvm.Cond.soleField "LockRailModel" "nets") ∈ lw_all := lw_g (lw_at lw_m8 50 rfl) rfl
theorem q1870 : (Jvm.Cond.lays "LockRailModel" "LockRailModel" "there" "I") ∈ lw_all := lw_g (lw_at lw_m8 51 rfl) rfl
theorem q1871 : (Jvm.Cond.soleField "LockRailModel" "there") ∈ lw_all := lw_g (lw_at lw_m8 52 rfl) rfl
theorem q1872 : (Jvm.Cond.laysFinal "LockRailModel" "LockRailModel" "parts" "[J") ∈ lw_all := lw_g (lw_at lw_m8 53 rfl) rfl
theorem q1873 : (Jvm.Cond.soleField "LockRailModel" "parts") ∈ lw_all := lw_g (lw_at lw_m8 54 rfl) rfl
theorem q1874 : (Jvm.Cond.laysFinal "LockRailModel" "LockRailModel" "come" "[J") ∈ lw_all := lw_g (lw_at lw_m8 55 rfl) rfl
theorem q1875 : (Jvm.Cond.soleField "LockRailModel" "come") ∈ lw_all := lw_g (lw_at lw_m8 56 rfl) rfl
theorem q1876 : (Jvm.Cond.laysFinal "LockRailModel" "LockRailModel" "hasOf" "[J") ∈ lw_all := lw_g (lw_at lw_m8 57 rfl) rfl
theorem q1877 : (Jvm.Cond.soleField "LockRailModel" "hasOf") ∈ lw_all := lw_g (lw_at lw_m8 58 rfl) rfl
theorem q1878 : (Jvm.Cond.lays "LockRailModel" "LockRailModel" "leastCost" "J") ∈ lw_all := lw_g (lw_at lw_m8 59 rfl) rfl
theorem q1879 : (Jvm.Cond.soleField "LockRailModel" "leastCost") ∈ lw_all := lw_g (lw_at lw_m8 60 rfl) rfl
theorem q1880 : (Jvm.Cond.laysFinal "LockRailModel" "LockRailModel" "aside" "[I") ∈ lw_all := lw_g (lw_at lw_m8 61 rfl) rfl
theorem q1881 : (Jvm.Cond.soleField "LockRailModel" "aside") ∈ lw_all := lw_g (lw_at lw_m8 62 rfl) rfl
theorem q1882 : (Jvm.Cond.lays "LockRailModel" "LockRailModel" "isSettled" "Z") ∈ lw_all := lw_g (lw_at lw_m8 63 rfl) rfl
theorem q1883 : (Jvm.Cond.soleField "LockRailModel" "isSettled") ∈ lw_all := lw_g (lw_at lw_m8 64 rfl) rfl
theorem q1884 : (Jvm.Cond.laysFinal "LockRailModel" "LockRailModel" "grows" "[J") ∈ lw_all := lw_g (lw_at lw_m8 65 rfl) rfl
theorem q1885 : (Jvm.Cond.soleField "LockRailModel" "grows") ∈ lw_all := lw_g (lw_at lw_m8 66 rfl) rfl
theorem q1886 : (Jvm.Cond.laysFinal "LockRailModel" "LockRailModel" "lessLost" "[J") ∈ lw_all := lw_g (lw_at lw_m8 67 rfl) rfl
theorem q1887 : (Jvm.Cond.soleField "LockRailModel" "lessLost") ∈ lw_all := lw_g (lw_at lw_m8 68 rfl) rfl
theorem q1888 : (Jvm.Cond.laysFinal "LockRailModel" "LockRailModel" "states" "[J") ∈ lw_all := lw_g (lw_at lw_m8 69 rfl) rfl
theorem q1889 : (Jvm.Cond.soleField "LockRailModel" "states") ∈ lw_all := lw_g (lw_at lw_m8 70 rfl) rfl
theorem q1890 : (Jvm.Cond.laysFinal "LockRailModel" "LockRailModel" "coming" "[J") ∈ lw_all := lw_g (lw_at lw_m8 71 rfl) rfl
theorem q1891 : (Jvm.Cond.soleField "LockRailModel" "coming") ∈ lw_all := lw_g (lw_at lw_m8 72 rfl) rfl
theorem q1892 : (Jvm.Cond.laysFinal "LockRailModel" "LockRailModel" "byCaught" "[J") ∈ lw_all := lw_g (lw_at lw_m8 73 rfl) rfl
theorem q1893 : (Jvm.Cond.soleField "LockRailModel" "byCaught") ∈ lw_all := lw_g (lw_at lw_m8 74 rfl) rfl
theorem q1894 : (Jvm.Cond.lays "LockRailModel" "LockRailModel" "baitLoss" "J") ∈ lw_all := lw_g (lw_at lw_m8 75 rfl) rfl
theorem q1895 : (Jvm.Cond.soleField "LockRailModel" "baitLoss") ∈ lw_all := lw_g (lw_at lw_m8 76 rfl) rfl
theorem q1896 : (Jvm.Cond.lays "LockRailModel" "LockRailModel" "leastCovered" "J") ∈ lw_all := lw_g (lw_at lw_m8 77 rfl) rfl
theorem q1897 : (Jvm.Cond.soleField "LockRailModel" "leastCovered") ∈ lw_all := lw_g (lw_at lw_m8 78 rfl) rfl
theorem q1898 : (Jvm.Cond.laysFinal "LockRailModel" "LockRailModel" "drawn" "[I") ∈ lw_all := lw_g (lw_at lw_m8 79 rfl) rfl
theorem q1899 : (Jvm.Cond.soleField "LockRailModel" "drawn") ∈ lw_all := lw_g (lw_at lw_m8 80 rfl) rfl
theorem q1900 : (Jvm.Cond.lays "LockRailModel" "LockRailModel" "x" "J") ∈ lw_all := lw_g (lw_at lw_m8 81 rfl) rfl
theorem q1901 : (Jvm.Cond.soleField "LockRailModel" "x") ∈ lw_all := lw_g (lw_at lw_m8 82 rfl) rfl
theorem q1902 : (Jvm.Cond.superclass "LockRailModel" "java/lang/Object") ∈ lw_all := lw_g (lw_at lw_m8 83 rfl) rfl
theorem q1905 : (Jvm.Cond.instanceMethod ({ cls := "LockRailModel", name := "row", desc := "(III)I" } : Jvm.MethodName)) ∈ lw_all := lw_g (lw_at lw_m8 86 rfl) rfl
theorem q1906 : (Jvm.Cond.selects "LockRailModel" ({ cls := "LockRailModel", name := "row", desc := "(III)I" } : Jvm.MethodName) ({ cls := "LockRailModel", name := "row", desc := "(III)I" } : Jvm.MethodName)) ∈ lw_all := lw_g (lw_at lw_m8 87 rfl) rfl
theorem q1907 : (Jvm.Cond.code ({ cls := "LockRailModel", name := "row", desc := "(III)I" } : Jvm.MethodName) prog_20_method_5_code (5 : Nat) (Option.some Jvm.ClassFile.FieldType.int)) ∈ lw_all := lw_g (lw_at lw_m8 88 rfl) rfl
theorem q1908 : (Jvm.Cond.methodLink "LockRailModel" (123 : Nat) ({ cls := "LockRailModel", name := "isSlot", desc := "(I)Z" } : Jvm.MethodName)) ∈ lw_all := lw_g (lw_at lw_m8 89 rfl) rfl
theorem q1909 : (Jvm.Cond.static ({ cls := "LockRailModel", name := "isSlot", desc := "(I)Z" } : Jvm.MethodName)) ∈ lw_all := lw_g (lw_at lw_m8 90 rfl) rfl
theorem q1910 : (Jvm.Cond.code ({ cls := "LockRailModel", name := "isSlot", desc := "(I)Z" } : Jvm.MethodName) prog_20_method_4_code (1 : Nat) (Option.some Jvm.ClassFile.FieldType.boolean)) ∈ lw_all := lw_g (lw_at lw_m8 91 rfl) rfl
theorem q1911 : (Jvm.Cond.constantLong "LockRailModel" (117 : Nat) (3 : Int64)) ∈ lw_all := lw_g (lw_at lw_m8 92 rfl) rfl
theorem q1912 : (Jvm.Cond.methodLink "LockRailModel" (119 : Nat) ({ cls := "LockRailModel", name := "in", desc := "(JJJ)Z" } : Jvm.MethodName)) ∈ lw_all := lw_g (lw_at lw_m8 93 rfl) rfl
theorem q1913 : (Jvm.Cond.static ({ cls := "LockRailModel", name := "in", desc := "(JJJ)Z" } : Jvm.MethodName)) ∈ lw_all := lw_g (lw_at lw_m8 94 rfl) rfl
theorem q1914 : (Jvm.Cond.code ({ cls := "LockRailModel", name := "in", desc := "(JJJ)Z" } : Jvm.MethodName) prog_20_method_3_code (6 : Nat) (Option.some Jvm.ClassFile.FieldType.boolean)) ∈ lw_all := lw_g (lw_at lw_m8 95 rfl) rfl
theorem q1916 : (Jvm.Cond.instanceMethod ({ cls := "LockRailModel", name := "write", desc := "(IIJ)I" } : Jvm.MethodName)) ∈ lw_all := lw_g (lw_at lw_m8 97 rfl) rfl
theorem q1917 : (Jvm.Cond.selects "LockRailModel" ({ cls := "LockRailModel", name := "write", desc := "(IIJ)I" } : Jvm.MethodName) ({ cls := "LockRailModel", name := "write", desc := "(IIJ)I" } : Jvm.MethodName)) ∈ lw_all := lw_g (lw_at lw_m8 98 rfl) rfl
theorem q1918 : (Jvm.Cond.code ({ cls := "LockRailModel", name := "write", desc := "(IIJ)I" } : Jvm.MethodName) prog_20_method_7_code (5 : Nat) (Option.some Jvm.ClassFile.FieldType.int)) ∈ lw_all := lw_g (lw_at lw_m8 99 rfl) rfl
theorem q1919 : (Jvm.Cond.methodLink "LockRailModel" (127 : Nat) ({ cls := "LockRailModel", name := "cut", desc := "(JI)J" } : Jvm.MethodName)) ∈ lw_all := lw_g (lw_at lw_m8 100 rfl) rfl
theorem q1920 : (Jvm.Cond.static ({ cls := "LockRailModel", name := "cut", desc := "(JI)J" } : Jvm.MethodName)) ∈ lw_all := lw_g (lw_at lw_m8 101 rfl) rfl
theorem q1921 : (Jvm.Cond.code ({ cls := "LockRailModel", name := "cut", desc := "(JI)J" } : Jvm.MethodName) prog_20_method_6_code (3 : Nat) (Option.some Jvm.ClassFile.FieldType.long)) ∈ lw_all := lw_g (lw_at lw_m8 102 rfl) rfl
theorem q1923 : (Jvm.Cond.instanceMethod ({ cls := "LockRailModel", name := "paste", desc := "(IIIII)I" } : Jvm.MethodName)) ∈ lw_all := lw_g (lw_at lw_m8 104 rfl) rfl
theorem q1924 : (Jvm.Cond.selects "LockRailModel" ({ cls := "LockRailModel", name := "paste", desc := "(IIIII)I" } : Jvm.MethodName) ({ cls := "LockRailModel", name := "paste", desc := "(IIIII)I" } : Jvm.MethodName)) ∈ lw_all := lw_g (lw_at lw_m8 105 rfl) rfl
theorem q1925 : (Jvm.Cond.code ({ cls := "LockRailModel", name := "paste", desc := "(IIIII)I" } : Jvm.MethodName) prog_20_method_8_code (7 : Nat) (Option.some Jvm.ClassFile.FieldType.int)) ∈ lw_all := lw_g (lw_at lw_m8 106 rfl) rfl
theorem q1927 : (Jvm.Cond.instanceMethod ({ cls := "LockRailModel", name := "feed", desc := "(IIIII)I" } : Jvm.MethodName)) ∈ lw_all := lw_g (lw_at lw_m8 108 rfl) rfl
theorem q1928 : (Jvm.Cond.selects "LockRailModel" ({ cls := "LockRailModel", name := "feed", desc := "(IIIII)I" } : Jvm.MethodName) ({ cls := "LockRailModel", name := "feed", desc := "(IIIII)I" } : Jvm.MethodName)) ∈ lw_all := lw_g (lw_at lw_m8 109 rfl) rfl
theorem q1929 : (Jvm.Cond.code ({ cls := "LockRailModel", name := "feed", desc := "(IIIII)I" } : Jvm.MethodName) prog_20_method_9_code (6 : Nat) (Option.some Jvm.ClassFile.FieldType.int)) ∈ lw_all := lw_g (lw_at lw_m8 110 rfl) rfl
theorem q1930 : (Jvm.Cond.methodLink "LockRailModel" (134 : Nat) ({ cls := "LockRailModel", name := "four", desc := "(I)V" } : Jvm.MethodName)) ∈ lw_all := lw_g (lw_at lw_m8 111 rfl) rfl
theorem q1931 : (Jvm.Cond.privateMethod ({ cls := "LockRailModel", name := "four", desc := "(I)V" } : Jvm.MethodName)) ∈ lw_tbl := lw_at lw_m8 112 rfl
theorem q1932 : (Jvm.Cond.instanceMethod ({ cls := "LockRailModel", name := "four", desc := "(I)V" } : Jvm.MethodName)) ∈ lw_all := lw_g (lw_at lw_m8 113 rfl) rfl
theorem q1933 : (Jvm.Cond.code ({ cls := "LockRailModel", name := "four", desc := "(I)V" } : Jvm.MethodName) prog_20_method_10_code (3 : Nat) (Option.none : Option Jvm.ClassFile.FieldType)) ∈ lw_all := lw_g (lw_at lw_m8 114 rfl) rfl
theorem q1935 : (Jvm.Cond.instanceMethod ({ cls := "LockRailModel", name := "end", desc := "(I)I" } : Jvm.MethodName)) ∈ lw_all := lw_g (lw_at lw_m8 116 rfl) rfl
theorem q1936 : (Jvm.Cond.selects "LockRailModel" ({ cls := "LockRailModel", name := "end", desc := "(I)I" } : Jvm.MethodName) ({ cls := "LockRailModel", name := "end", desc := "(I)I" } : Jvm.MethodName)) ∈ lw_all := lw_g (lw_at lw_m8 117 rfl) rfl
theorem q1937 : (Jvm.Cond.code ({ cls := "LockRailModel", name := "end", desc := "(I)I" } : Jvm.MethodName) prog_20_method_11_code (2 : Nat) (Option.some Jvm.ClassFile.FieldType.int)) ∈ lw_all := lw_g (lw_at lw_m8 118 rfl) rfl
theorem q1939 : (Jvm.Cond.instanceMethod ({ cls := "LockRailModel", name := "fault", desc := "(I)I" } : Jvm.MethodName)) ∈ lw_all := lw_g (lw_at lw_m8 120 rfl) rfl
theorem q1940 : (Jvm.Cond.selects "LockRailModel" ({ cls := "LockRailModel", name := "fault", desc := "(I)I" } : Jvm.MethodName) ({ cls := "LockRailModel", name := "fault", desc := "(I)I" } : Jvm.MethodName)) ∈ lw_all := lw_g (lw_at lw_m8 121 rfl) rfl
theorem q1941 : (Jvm.Cond.code ({ cls := "LockRailModel", name := "fault", desc := "(I)I" } : Jvm.MethodName) prog_20_method_24_code (2 : Nat) (Option.some Jvm.ClassFile.FieldType.int)) ∈ lw_all := lw_g (lw_at lw_m8 122 rfl) rfl
theorem q1943 : (Jvm.Cond.instanceMethod ({ cls := "LockRailModel", name := "rail", desc := "()I" } : Jvm.MethodName)) ∈ lw_all := lw_g (lw_at lw_m8 124 rfl) rfl
theorem q1944 : (Jvm.Cond.selects "LockRailModel" ({ cls := "LockRailModel", name := "rail", desc := "()I" } : Jvm.MethodName) ({ cls := "LockRailModel", name := "rail", desc := "()I" } : Jvm.MethodName)) ∈ lw_all := lw_g (lw_at lw_m8 125 rfl) rfl
theorem q1945 : (Jvm.Cond.code ({ cls := "LockRailModel", name := "rail", desc := "()I" } : Jvm.MethodName) prog_20_method_34_code (1 : Nat) (Option.some Jvm.ClassFile.FieldType.int)) ∈ lw_all := lw_g (lw_at lw_m8 126 rfl) rfl
theorem q1946 : (Jvm.Cond.methodLink "LockRailModel" (269 : Nat) ({ cls := "LockRailModel", name := "clears", desc := "()V" } : Jvm.MethodName)) ∈ lw_all := lw_g (lw_at lw_m8 127 rfl) rfl
theorem q1947 : (Jvm.Cond.privateMethod ({ cls := "LockRailModel", name := "clears", desc := "()V" } : Jvm.MethodName)) ∈ lw_tbl := lw_at lw_m8 128 rfl
theorem q1948 : (Jvm.Cond.instanceMethod ({ cls := "LockRailModel", name := "clears", desc := "()V" } : Jvm.MethodName)) ∈ lw_all := lw_g (lw_at lw_m8 129 rfl) rfl
theorem q1949 : (Jvm.Cond.code ({ cls := "LockRailModel", name := "clears", desc := "()V" } : Jvm.MethodName) prog_20_method_33_code (2 : Nat) (Option.none : Option Jvm.ClassFile.FieldType)) ∈ lw_all := lw_g (lw_at lw_m8 130 rfl) rfl
theorem q1950 : (Jvm.Cond.methodLink "LockRailModel" (272 : Nat) ({ cls := "LockRailModel", name := "begins", desc := "()V" } : Jvm.MethodName)) ∈ lw_all := lw_g (lw_at lw_m8 131 rfl) rfl
theorem q1951 : (Jvm.Cond.privateMethod ({ cls := "LockRailModel", name := "begins", desc := "()V" } : Jvm.MethodName)) ∈ lw_tbl := lw_at lw_m8 132 rfl
theorem q1952 : (Jvm.Cond.instanceMethod ({ cls := "LockRailModel", name := "begins", desc := "()V" } : Jvm.MethodName)) ∈ lw_all := lw_g (lw_at lw_m8 133 rfl) rfl
theorem q1953 : (Jvm.Cond.code ({ cls := "LockRailModel", name := "begins", desc := "()V" } : Jvm.MethodName) prog_20_method_22_code (1 : Nat) (Option.none : Option Jvm.ClassFile.FieldType)) ∈ lw_all := lw_g (lw_at lw_m8 134 rfl) rfl
theorem q1954 : (Jvm.Cond.methodLink "LockRailModel" (176 : Nat) ({ cls := "LockRailModel", name := "next", desc := "()V" } : Jvm.MethodName)) ∈ lw_all := lw_g (lw_at lw_m8 135 rfl) rfl
theorem q1955 : (Jvm.Cond.privateMethod ({ cls := "LockRailModel", name := "next", desc := "()V" } : Jvm.MethodName)) ∈ lw_tbl := lw_at lw_m8 136 rfl
theorem q1956 : (Jvm.Cond.instanceMethod ({ cls := "LockRailModel", name := "next", desc := "()V" } : Jvm.MethodName)) ∈ lw_all := lw_g (lw_at lw_m8 137 rfl) rfl
theorem q1957 : (Jvm.Cond.code ({ cls := "LockRailModel", name := "next", desc := "()V" } : Jvm.MethodName) prog_20_method_13_code (2 : Nat) (Option.none : Option Jvm.ClassFile.FieldType)) ∈ lw_all := lw_g (lw_at lw_m8 138 rfl) rfl
theorem q1958 : (Jvm.Cond.methodLink "LockRailModel" (141 : Nat) ({ cls := "LockRailModel", name := "isByte", desc := "(III)Z" } : Jvm.MethodName)) ∈ lw_all := lw_g (lw_at lw_m8 139 rfl) rfl
theorem q1959 : (Jvm.Cond.privateMethod ({ cls := "LockRailModel", name := "isByte", desc := "(III)Z" } : Jvm.MethodName)) ∈ lw_tbl := lw_at lw_m8 140 rfl
theorem q1960 : (Jvm.Cond.instanceMethod ({ cls := "LockRailModel", name := "isByte", desc := "(III)Z" } : Jvm.MethodName)) ∈ lw_all := lw_g (lw_at lw_m8 141 rfl) rfl
theorem q1961 : (Jvm.Cond.code ({ cls := "LockRailModel", name := "isByte", desc := "(III)Z" } : Jvm.MethodName) prog_20_method_12_code (4 : Nat) (Option.some Jvm.ClassFile.FieldType.boolean)) ∈ lw_all := lw_g (lw_at lw_m8 142 rfl) rfl
theorem q1962 : (Jvm.Cond.constantLong "LockRailModel" (158 : Nat) (-1 : Int64)) ∈ lw_all := lw_g (lw_at lw_m8 143 rfl) rfl
theorem q1963 : (Jvm.Cond.constantLong "LockRailModel" (160 : Nat) (27 : Int64)) ∈ lw_all := lw_g (lw_at lw_m8 144 rfl) rfl
theorem q1964 : (Jvm.Cond.constantLong "LockRailModel" (162 : Nat) (96 : Int64)) ∈ lw_all := lw_g (lw_at lw_m8 145 rfl) rfl
theorem q1965 : (Jvm.Cond.constant "LockRailModel" (164 : Nat) (100000 : Int32)) ∈ lw_all := lw_g (lw_at lw_m8 146 rfl) rfl
theorem q1966 : (Jvm.Cond.constant "LockRailModel" (165 : Nat) (1000000 : Int32)) ∈ lw_all := lw_g (lw_at lw_m8 147 rfl) rfl
theorem q1967 : (Jvm.Cond.methodLink "LockRailModel" (275 : Nat) ({ cls := "LockRailModel", name := "isGood", desc := "()Z" } : Jvm.MethodName)) ∈ lw_all := lw_g (lw_at lw_m8 148 rfl) rfl
theorem q1968 : (Jvm.Cond.privateMethod ({ cls := "LockRailModel", name := "isGood", desc := "()Z" } : Jvm.MethodName)) ∈ lw_tbl := lw_at lw_m8 149 rfl
theorem q1969 : (Jvm.Cond.instanceMethod ({ cls := "LockRailModel", name := "isGood", desc := "()Z" } : Jvm.MethodName)) ∈ lw_all := lw_g (lw_at lw_m8 150 rfl) rfl
theorem q1970 : (Jvm.Cond.code ({ cls := "LockRailModel", name := "isGood", desc := "()Z" } : Jvm.MethodName) prog_20_method_14_code (1 : Nat) (Option.some Jvm.ClassFile.FieldType.boolean)) ∈ lw_all := lw_g (lw_at lw_m8 151 rfl) rfl
theorem q1971 : (Jvm.Cond.methodLink "LockRailModel" (279 : Nat) ({ cls := "LockRailModel", name := "railLine", desc := "()V" } : Jvm.MethodName)) ∈ lw_all := lw_g (lw_at lw_m8 152 rfl) rfl
theorem q1972 : (Jvm.Cond.privateMethod ({ cls := "LockRailModel", name := "railLine", desc := "()V" } : Jvm.MethodName)) ∈ lw_tbl := lw_at lw_m8 153 rfl
theorem q1973 : (Jvm.Cond.instanceMethod ({ cls := "LockRailModel", name := "railLine", desc := "()V" } : Jvm.MethodName)) ∈ lw_all := lw_g (lw_at lw_m8 154 rfl) rfl
theorem q1974 : (Jvm.Cond.code ({ cls := "LockRailModel", name := "railLine", desc := "()V" } : Jvm.MethodName) prog_20_method_32_code (1 : Nat) (Option.none : Option Jvm.ClassFile.FieldType)) ∈ lw_all := lw_g (lw_at lw_m8 155 rfl) rfl
theorem q1975 : (Jvm.Cond.constantLong "LockRailModel" (263 : Nat) (355278 : Int64)) ∈ lw_all := lw_g (lw_at lw_m8 156 rfl) rfl
theorem q1976 : (Jvm.Cond.methodLink "LockRailModel" (185 : Nat) ({ cls := "LockRailModel", name := "asks", desc := "(J)V" } : Jvm.MethodName)) ∈ lw_all := lw_g (lw_at lw_m8 157 rfl) rfl
theorem q1977 : (Jvm.Cond.privateMethod ({ cls := "LockRailModel", name := "asks", desc := "(J)V" } : Jvm.MethodName)) ∈ lw_tbl := lw_at lw_m8 158 rfl
theorem q1978 : (Jvm.Cond.instanceMethod ({ cls := "LockRailModel", name := "asks", desc := "(J)V" } : Jvm.MethodName)) ∈ lw_all := lw_g (lw_at lw_m8 159 rfl) rfl
theorem q1979 : (Jvm.Cond.code ({ cls := "LockRailModel", name := "asks", desc := "(J)V" } : Jvm.MethodName) prog_20_method_18_code (3 : Nat) (Option.none : Option Jvm.ClassFile.FieldType)) ∈ lw_all := lw_g (lw_at lw_m8 160 rfl) rfl
theorem q1980 : (Jvm.Cond.methodLink "LockRailModel" (179 : Nat) ({ cls := "LockRailModel", name := "takes", desc := "(J)Z" } : Jvm.MethodName)) ∈ lw_all := lw_g (lw_at lw_m8 161 rfl) rfl
theorem q1981 : (Jvm.Cond.privateMethod ({ cls := "LockRailModel", name := "takes", desc := "(J)Z" } : Jvm.MethodName)) ∈ lw_tbl := lw_at lw_m8 162 rfl
theorem q1982 : (Jvm.Cond.instanceMethod ({ cls := "LockRailModel", name := "takes", desc := "(J)Z" } : Jvm.MethodName)) ∈ lw_all := lw_g (lw_at lw_m8 163 rfl) rfl
theorem q1983 : (Jvm.Cond.code ({ cls := "LockRailModel", name := "takes", desc := "(J)Z" } : Jvm.MethodName) prog_20_method_17_code (3 : Nat) (Option.some Jvm.ClassFile.FieldType.boolean)) ∈ lw_all := lw_g (lw_at lw_m8 164 rfl) rfl
theorem q1984 : (Jvm.Cond.methodLink "LockRailModel" (172 : Nat) ({ cls := "LockRailModel", name := "is", desc := "(J)Z" } : Jvm.MethodName)) ∈ lw_all := lw_g (lw_at lw_m8 165 rfl) rfl
theorem q1985 : (Jvm.Cond.privateMethod ({ cls := "LockRailModel", name := "is", desc := "(J)Z" } : Jvm.MethodName)) ∈ lw_tbl := lw_at lw_m8 166 rfl
theorem q1986 : (Jvm.Cond.instanceMethod ({ cls := "LockRailModel", name := "is", desc := "(J)Z" } : Jvm.MethodName)) ∈ lw_all := lw_g (lw_at lw_m8 167 rfl) rfl
theorem q1987 : (Jvm.Cond.code ({ cls := "LockRailModel", name := "is", desc := "(J)Z" } : Jvm.MethodName) prog_20_method_16_code (3 : Nat) (Option.some Jvm.ClassFile.FieldType.boolean)) ∈ lw_all := lw_g (lw_at lw_m8 168 rfl) rfl
theorem q1988 : (Jvm.Cond.methodLink "LockRailModel" (182 : Nat) ({ cls := "LockRailModel", name := "fails", desc := "(I)V" } : Jvm.MethodName)) ∈ lw_all := lw_g (lw_at lw_m8 169 rfl) rfl
theorem q1989 : (Jvm.Cond.privateMethod ({ cls := "LockRailModel", name := "fails", desc := "(I)V" } : Jvm.MethodName)) ∈ lw_tbl := lw_at lw_m8 170 rfl
theorem q1990 : (Jvm.Cond.instanceMethod ({ cls := "LockRailModel", name := "fails", desc := "(I)V" } : Jvm.MethodName)) ∈ lw_all := lw_g (lw_at lw_m8 171 rfl) rfl
theorem q1991 : (Jvm.Cond.code ({ cls := "LockRailModel", name := "fails", desc := "(I)V" } : Jvm.MethodName) prog_20_method_15_code (2 : Nat) (Option.none : Option Jvm.ClassFile.FieldType)) ∈ lw_all := lw_g (lw_at lw_m8 172 rfl) rfl
theorem q1992 : (Jvm.Cond.constantLong "LockRailModel" (265 : Nat) (235981828 : Int64)) ∈ lw_all := lw_g (lw_at lw_m8 173 rfl) rfl
theorem q1993 : (Jvm.Cond.methodLink "LockRailModel" (198 : Nat) ({ cls := "LockRailModel", name := "number", desc := "(JII)I" } : Jvm.MethodName)) ∈ lw_all := lw_g (lw_at lw_m8 174 rfl) rfl
theorem q1994 : (Jvm.Cond.privateMethod ({ cls := "LockRailModel", name := "number", desc := "(JII)I" } : Jvm.MethodName)) ∈ lw_tbl := lw_at lw_m8 175 rfl
theorem q1995 : (Jvm.Cond.instanceMethod ({ cls := "LockRailModel", name := "number", desc := "(JII)I" } : Jvm.MethodName)) ∈ lw_all := lw_g (lw_at lw_m8 176 rfl) rfl
theorem q1996 : (Jvm.Cond.code ({ cls := "LockRailModel", name := "number", desc := "(JII)I" } : Jvm.MethodName) prog_20_method_20_code (5 : Nat) (Option.some Jvm.ClassFile.FieldType.int)) ∈ lw_all := lw_g (lw_at lw_m8 177 rfl) rfl
theorem q1997 : (Jvm.Cond.methodLink "LockRailModel" (189 : Nat) ({ cls := "LockRailModel", name := "number", desc := "(II)I" } : Jvm.MethodName)) ∈ lw_all := lw_g (lw_at lw_m8 178 rfl) rfl
theorem q1998 : (Jvm.Cond.privateMethod ({ cls := "LockRailModel", name := "number", desc := "(II)I" } : Jvm.MethodName)) ∈ lw_tbl := lw_at lw_m8 179 rfl
theorem q1999 : (Jvm.Cond.instanceMethod ({ cls := "LockRailModel", name := "number", desc := "(II)I" } : Jvm.MethodName)) ∈ lw_all := lw_g (lw_at lw_m8 180 rfl) rfl
theorem q2000 : (Jvm.Cond.code ({ cls := "LockRailModel", name := "number", desc := "(II)I" } : Jvm.MethodName) prog_20_method_19_code (4 : Nat) (Option.some Jvm.ClassFile.FieldType.int)) ∈ lw_all := lw_g (lw_at lw_m8 181 rfl) rfl
theorem q2001 : (Jvm.Cond.constantLong "LockRailModel" (267 : Nat) (205811839 : Int64)) ∈ lw_all := lw_g (lw_at lw_m8 182 rfl) rfl
theorem q2002 : (Jvm.Cond.methodLink "LockRailModel" (282 : Nat) ({ cls := "LockRailModel", name := "line", desc := "()V" } : Jvm.MethodName)) ∈ lw_all := lw_g (lw_at lw_m8 183 rfl) rfl
theorem q2003 : (Jvm.Cond.privateMethod ({ cls := "LockRailModel", name := "line", desc := "()V" } : Jvm.MethodName)) ∈ lw_tbl := lw_at lw_m8 184 rfl
theorem q2004 : (Jvm.Cond.instanceMethod ({ cls := "LockRailModel", name := "line", desc := "()V" } : Jvm.MethodName)) ∈ lw_all := lw_g (lw_at lw_m8 185 rfl) rfl
theorem q2005 : (Jvm.Cond.code ({ cls := "LockRailModel", name := "line", desc := "()V" } : Jvm.MethodName) prog_20_method_31_code (3 : Nat) (Option.none : Option Jvm.ClassFile.FieldType)) ∈ lw_all := lw_g (lw_at lw_m8 186 rfl) rfl
theorem q2006 : (Jvm.Cond.constantLong "LockRailModel" (235 : Nat) (257105 : Int64)) ∈ lw_all := lw_g (lw_at lw_m8 187 rfl) rfl
theorem q2007 : (Jvm.Cond.constantLong "LockRailModel" (237 : Nat) (12257495 : Int64)) ∈ lw_all := lw_g (lw_at lw_m8 188 rfl) rfl
theorem q2008 : (Jvm.Cond.methodLink "LockRailModel" (239 : Nat) ({ cls := "LockRailModel", name := "onceLine", desc := "(I)V" } : Jvm.MethodName)) ∈ lw_all := lw_g (lw_at lw_m8 189 rfl) rfl
theorem q2009 : (Jvm.Cond.privateMethod ({ cls := "LockRailModel", name := "onceLine", desc := "(I)V" } : Jvm.MethodName)) ∈ lw_tbl := lw_at lw_m8 190 rfl
theorem q2010 : (Jvm.Cond.instanceMethod ({ cls := "LockRailModel", name := "onceLine", desc := "(I)V" } : Jvm.MethodName)) ∈ lw_all := lw_g (lw_at lw_m8 191 rfl) rfl
theorem q2011 : (Jvm.Cond.code ({ cls := "LockRailModel", name := "onceLine", desc := "(I)V" } : Jvm.MethodName) prog_20_method_29_code (3 : Nat) (Option.none : Option Jvm.ClassFile.FieldType)) ∈ lw_all := lw_g (lw_at lw_m8 192 rfl) rfl
theorem q2012 : (Jvm.Cond.constantLong "LockRailModel" (203 : Nat) (8863997 : Int64)) ∈ lw_all := lw_g (lw_at lw_m8 193 rfl) rfl
theorem q2013 : (Jvm.Cond.constantLong "LockRailModel" (227 : Nat) (6132983 : Int64)) ∈ lw_all := lw_g (lw_at lw_m8 194 rfl) rfl
theorem q2014 : (Jvm.Cond.constantLong "LockRailModel" (229 : Nat) (119656022 : Int64)) ∈ lw_all := lw_g (lw_at lw_m8 195 rfl) rfl
theorem q2015 : (Jvm.Cond.constantLong "LockRailModel" (231 : Nat) (453632 : Int64)) ∈ lw_all := lw_g (lw_at lw_m8 196 rfl) rfl
theorem q2016 : (Jvm.Cond.constantLong "LockRailModel" (233 : Nat) (22726 : Int64)) ∈ lw_all := lw_g (lw_at lw_m8 197 rfl) rfl
theorem q2017 : (Jvm.Cond.constantLong "LockRailModel" (242 : Nat) (237292 : Int64)) ∈ lw_all := lw_g (lw_at lw_m8 198 rfl) rfl
theorem q2018 : (Jvm.Cond.constantLong "LockRailModel" (211 : Nat) (247223 : Int64)) ∈ lw_all := lw_g (lw_at lw_m8 199 rfl) rfl
theorem q2019 : (Jvm.Cond.constantLong "LockRailModel" (244 : Nat) (46229 : Int64)) ∈ lw_all := lw_g (lw_at lw_m8 200 rfl) rfl
theorem q2020 : (Jvm.Cond.constantLong "LockRailModel" (246 : Nat) (10792986 : Int64)) ∈ lw_all := lw_g (lw_at lw_m8 201 rfl) rfl
theorem q2021 : (Jvm.Cond.methodLink "LockRailModel" (248 : Nat) ({ cls := "LockRailModel", name := "isFull", desc := "(I)Z" } : Jvm.MethodName)) ∈ lw_all := lw_g (lw_at lw_m8 202 rfl) rfl
theorem q2022 : (Jvm.Cond.privateMethod ({ cls := "LockRailModel", name := "isFull", desc := "(I)Z" } : Jvm.MethodName)) ∈ lw_tbl := lw_at lw_m8 203 rfl
theorem q2023 : (Jvm.Cond.instanceMethod ({ cls := "LockRailModel", name := "isFull", desc := "(I)Z" } : Jvm.MethodName)) ∈ lw_all := lw_g (lw_at lw_m8 204 rfl) rfl
theorem q2024 : (Jvm.Cond.code ({ cls := "LockRailModel", name := "isFull", desc := "(I)Z" } : Jvm.MethodName) prog_20_method_30_code (2 : Nat) (Option.some Jvm.ClassFile.FieldType.boolean)) ∈ lw_all := lw_g (lw_at lw_m8 205 rfl) rfl
theorem q2025 : (Jvm.Cond.methodLink "LockRailModel" (251 : Nat) ({ cls := "LockRailModel", name := "lampLine", desc := "()V" } : Jvm.MethodName)) ∈ lw_all := lw_g (lw_at lw_m8 206 rfl) rfl
theorem q2026 : (Jvm.Cond.privateMethod ({ cls := "LockRailModel", name := "lampLine", desc := "()V" } : Jvm.MethodName)) ∈ lw_tbl := lw_at lw_m8 207 rfl
theorem q2027 : (Jvm.Cond.instanceMethod ({ cls := "LockRailModel", name := "lampLine", desc := "()V" } : Jvm.MethodName)) ∈ lw_all := lw_g (lw_at lw_m8 208 rfl) rfl
theorem q2028 : (Jvm.Cond.code ({ cls := "LockRailModel", name := "lampLine", desc := "()V" } : Jvm.MethodName) prog_20_method_25_code (2 : Nat) (Option.none : Option Jvm.ClassFile.FieldType)) ∈ lw_all := lw_g (lw_at lw_m8 209 rfl) rfl
theorem q2029 : (Jvm.Cond.constantLong "LockRailModel" (196 : Nat) (47 : Int64)) ∈ lw_all := lw_g (lw_at lw_m8 210 rfl) rfl
theorem q2030 : (Jvm.Cond.constantLong "LockRailModel" (201 : Nat) (38446238 : Int64)) ∈ lw_all := lw_g (lw_at lw_m8 211 rfl) rfl
theorem q2031 : (Jvm.Cond.methodLink "LockRailModel" (254 : Nat) ({ cls := "LockRailModel", name := "lockLine", desc := "()V" } : Jvm.MethodName)) ∈ lw_all := lw_g (lw_at lw_m8 212 rfl) rfl
theorem q2032 : (Jvm.Cond.privateMethod ({ cls := "LockRailModel", name := "lockLine", desc := "()V" } : Jvm.MethodName)) ∈ lw_tbl := lw_at lw_m8 213 rfl
theorem q2033 : (Jvm.Cond.instanceMethod ({ cls := "LockRailModel", name := "lockLine", desc := "()V" } : Jvm.MethodName)) ∈ lw_all := lw_g (lw_at lw_m8 214 rfl) rfl
theorem q2034 : (Jvm.Cond.code ({ cls := "LockRailModel", name := "lockLine", desc := "()V" } : Jvm.MethodName) prog_20_method_26_code (2 : Nat) (Option.none : Option Jvm.ClassFile.FieldType)) ∈ lw_all := lw_g (lw_at lw_m8 215 rfl) rfl
theorem q2035 : (Jvm.Cond.constantLong "LockRailModel" (205 : Nat) (74917 : Int64)) ∈ lw_all := lw_g (lw_at lw_m8 216 rfl) rfl
theorem q2036 : (Jvm.Cond.methodLink "LockRailModel" (257 : Nat) ({ cls := "LockRailModel", name := "bikeLine", desc := "()V" } : Jvm.MethodName)) ∈ lw_all := lw_g (lw_at lw_m8 217 rfl) rfl
theorem q2037 : (Jvm.Cond.privateMethod ({ cls := "LockRailModel", name := "bikeLine", desc := "()V" } : Jvm.MethodName)) ∈ lw_tbl := lw_at lw_m8 218 rfl
theorem q2038 : (Jvm.Cond.instanceMethod ({ cls := "LockRailModel", name := "bikeLine", desc := "()V" } : Jvm.MethodName)) ∈ lw_all := lw_g (lw_at lw_m8 219 rfl) rfl
theorem q2039 : (Jvm.Cond.code ({ cls := "LockRailModel", name := "bikeLine", desc := "()V" } : Jvm.MethodName) prog_20_method_27_code (4 : Nat) (Option.none : Option Jvm.ClassFile.FieldType)) ∈ lw_all := lw_g (lw_at lw_m8 220 rfl) rfl
theorem q2040 : (Jvm.Cond.constantLong "LockRailModel" (207 : Nat) (12532058 : Int64)) ∈ lw_all := lw_g (lw_at lw_m8 221 rfl) rfl
theorem q2041 : (Jvm.Cond.constantLong "LockRailModel" (209 : Nat) (10199809 : Int64)) ∈ lw_all := lw_g (lw_at lw_m8 222 rfl) rfl
theorem q2042 : (Jvm.Cond.constantLong "LockRailModel" (213 : Nat) (187429684 : Int64)) ∈ lw_all := lw_g (lw_at lw_m8 223 rfl) rfl
theorem q2043 : (Jvm.Cond.methodLink "LockRailModel" (260 : Nat) ({ cls := "LockRailModel", name := "thiefLine", desc := "()V" } : Jvm.MethodName)) ∈ lw_all := lw_g (lw_at lw_m8 224 rfl) rfl
theorem q2044 : (Jvm.Cond.privateMethod ({ cls := "LockRailModel", name := "thiefLine", desc := "()V" } : Jvm.MethodName)) ∈ lw_tbl := lw_at lw_m8 225 rfl
theorem q2045 : (Jvm.Cond.instanceMethod ({ cls := "LockRailModel", name := "thiefLine", desc := "()V" } : Jvm.MethodName)) ∈ lw_all := lw_g (lw_at lw_m8 226 rfl) rfl
theorem q2046 : (Jvm.Cond.code ({ cls := "LockRailModel", name := "thiefLine", desc := "()V" } : Jvm.MethodName) prog_20_method_28_code (3 : Nat) (Option.none : Option Jvm.ClassFile.FieldType)) ∈ lw_all := lw_g (lw_at lw_m8 227 rfl) rfl
theorem q2047 : (Jvm.Cond.constantLong "LockRailModel" (215 : Nat) (405012 : Int64)) ∈ lw_all := lw_g (lw_at lw_m8 228 rfl) rfl
theorem q2048 : (Jvm.Cond.constantLong "LockRailModel" (217 : Nat) (1899199 : Int64)) ∈ lw_all := lw_g (lw_at lw_m8 229 rfl) rfl
theorem q2049 : (Jvm.Cond.constantLong "LockRailModel" (219 : Nat) (3288295 : Int64)) ∈ lw_all := lw_g (lw_at lw_m8 230 rfl) rfl
theorem q2050 : (Jvm.Cond.constantLong "LockRailModel" (221 : Nat) (43544 : Int64)) ∈ lw_all := lw_g (lw_at lw_m8 231 rfl) rfl
theorem q2051 : (Jvm.Cond.constantLong "LockRailModel" (223 : Nat) (1132 : Int64)) ∈ lw_all := lw_g (lw_at lw_m8 232 rfl) rfl
theorem q2052 : (Jvm.Cond.constantLong "LockRailModel" (225 : Nat) (212672 : Int64)) ∈ lw_all := lw_g (lw_at lw_m8 233 rfl) rfl
theorem q2053 : (Jvm.Cond.methodLink "LockRailModel" (285 : Nat) ({ cls := "LockRailModel", name := "ends", desc := "()V" } : Jvm.MethodName)) ∈ lw_all := lw_g (lw_at lw_m8 234 rfl) rfl
theorem q2054 : (Jvm.Cond.privateMethod ({ cls := "LockRailModel", name := "ends", desc := "()V" } : Jvm.MethodName)) ∈ lw_tbl := lw_at lw_m8 235 rfl
theorem q2055 : (Jvm.Cond.instanceMethod ({ cls := "LockRailModel", name := "ends", desc := "()V" } : Jvm.MethodName)) ∈ lw_all := lw_g (lw_at lw_m8 236 rfl) rfl
theorem q2056 : (Jvm.Cond.code ({ cls := "LockRailModel", name := "ends", desc := "()V" } : Jvm.MethodName) prog_20_method_21_code (1 : Nat) (Option.none : Option Jvm.ClassFile.FieldType)) ∈ lw_all := lw_g (lw_at lw_m8 237 rfl) rfl
theorem q2057 : (Jvm.Cond.methodLink "LockRailModel" (288 : Nat) ({ cls := "LockRailModel", name := "isOver", desc := "()V" } : Jvm.MethodName)) ∈ lw_all := lw_g (lw_at lw_m8 238 rfl) rfl
theorem q2058 : (Jvm.Cond.privateMethod ({ cls := "LockRailModel", name := "isOver", desc := "()V" } : Jvm.MethodName)) ∈ lw_tbl := lw_at lw_m8 239 rfl
theorem q2059 : (Jvm.Cond.instanceMethod ({ cls := "LockRailModel", name := "isOver", desc := "()V" } : Jvm.MethodName)) ∈ lw_all := lw_g (lw_at lw_m9 0 rfl) rfl
theorem q2060 : (Jvm.Cond.code ({ cls := "LockRailModel", name := "isOver", desc := "()V" } : Jvm.MethodName) prog_20_method_23_code (1 : Nat) (Option.none : Option Jvm.ClassFile.FieldType)) ∈ lw_all := lw_g (lw_at lw_m9 1 rfl) rfl
theorem q2061 : (Jvm.Cond.methodLink "LockRailModel" (291 : Nat) ({ cls := "LockRailModel", name := "copyRail", desc := "(II)V" } : Jvm.MethodName)) ∈ lw_all := lw_g (lw_at lw_m9 2 rfl) rfl
theorem q2062 : (Jvm.Cond.privateMethod ({ cls := "LockRailModel", name := "copyRail", desc := "(II)V" } : Jvm.MethodName)) ∈ lw_tbl := lw_at lw_m9 3 rfl
theorem q2063 : (Jvm.Cond.instanceMethod ({ cls := "LockRailModel", name := "copyRail", desc := "(II)V" } : Jvm.MethodName)) ∈ lw_all := lw_g (lw_at lw_m9 4 rfl) rfl
theorem q2064 : (Jvm.Cond.code ({ cls := "LockRailModel", name := "copyRail", desc := "(II)V" } : Jvm.MethodName) prog_20_method_36_code (3 : Nat) (Option.none : Option Jvm.ClassFile.FieldType)) ∈ lw_all := lw_g (lw_at lw_m9 5 rfl) rfl
theorem q2065 : (Jvm.Cond.methodLink "LockRailModel" (295 : Nat) ({ cls := "LockRailModel", name := "copyRow", desc := "([IIII)V" } : Jvm.MethodName)) ∈ lw_all := lw_g (lw_at lw_m9 6 rfl) rfl
theorem q2066 : (Jvm.Cond.static ({ cls := "LockRailModel", name := "copyRow", desc := "([IIII)V" } : Jvm.MethodName)) ∈ lw_all := lw_g (lw_at lw_m9 7 rfl) rfl
theorem q2067 : (Jvm.Cond.code ({ cls := "LockRailModel", name := "copyRow", desc := "([IIII)V" } : Jvm.MethodName) prog_20_method_35_code (5 : Nat) (Option.none : Option Jvm.ClassFile.FieldType)) ∈ lw_all := lw_g (lw_at lw_m9 8 rfl) rfl
theorem q2069 : (Jvm.Cond.instanceMethod ({ cls := "LockRailModel", name := "light", desc := "(I)I" } : Jvm.MethodName)) ∈ lw_all := lw_g (lw_at lw_m9 10 rfl) rfl
theorem q2070 : (Jvm.Cond.selects "LockRailModel" ({ cls := "LockRailModel", name := "light", desc := "(I)I" } : Jvm.MethodName) ({ cls := "LockRailModel", name := "light", desc := "(I)I" } : Jvm.MethodName)) ∈ lw_all := lw_g (lw_at lw_m9 11 rfl) rfl
theorem q2071 : (Jvm.Cond.code ({ cls := "LockRailModel", name := "light", desc := "(I)I" } : Jvm.MethodName) prog_20_method_45_code (2 : Nat) (Option.some Jvm.ClassFile.FieldType.int)) ∈ lw_all := lw_g (lw_at lw_m9 12 rfl) rfl
theorem q2072 : (Jvm.Cond.methodLink "LockRailModel" (312 : Nat) ({ cls := "LockRailModel", name := "isPlace", desc := "(I)Z" } : Jvm.MethodName)) ∈ lw_all := lw_g (lw_at lw_m9 13 rfl) rfl
theorem q2073 : (Jvm.Cond.privateMethod ({ cls := "LockRailModel", name := "isPlace", desc := "(I)Z" } : Jvm.MethodName)) ∈ lw_tbl := lw_at lw_m9 14 rfl
theorem q2074 : (Jvm.Cond.instanceMethod ({ cls := "LockRailModel", name := "isPlace", desc := "(I)Z" } : Jvm.MethodName)) ∈ lw_all := lw_g (lw_at lw_m9 15 rfl) rfl
theorem q2075 : (Jvm.Cond.code ({ cls := "LockRailModel", name := "isPlace", desc := "(I)Z" } : Jvm.MethodName) prog_20_method_41_code (2 : Nat) (Option.some Jvm.ClassFile.FieldType.boolean)) ∈ lw_all := lw_g (lw_at lw_m9 16 rfl) rfl
theorem q2076 : (Jvm.Cond.methodLink "LockRailModel" (315 : Nat) ({ cls := "LockRailModel", name := "lightOf", desc := "(II)I" } : Jvm.MethodName)) ∈ lw_all := lw_g (lw_at lw_m9 17 rfl) rfl
theorem q2077 : (Jvm.Cond.privateMethod ({ cls := "LockRailModel", name := "lightOf", desc := "(II)I" } : Jvm.MethodName)) ∈ lw_tbl := lw_at lw_m9 18 rfl
theorem q2078 : (Jvm.Cond.instanceMethod ({ cls := "LockRailModel", name := "lightOf", desc := "(II)I" } : Jvm.MethodName)) ∈ lw_all := lw_g (lw_at lw_m9 19 rfl) rfl
theorem q2079 : (Jvm.Cond.code ({ cls := "LockRailModel", name := "lightOf", desc := "(II)I" } : Jvm.MethodName) prog_20_method_39_code (6 : Nat) (Option.some Jvm.ClassFile.FieldType.int)) ∈ lw_all := lw_g (lw_at lw_m9 20 rfl) rfl
theorem q2080 : (Jvm.Cond.methodLink "LockRailModel" (299 : Nat) ({ cls := "LockRailModel", name := "apart", desc := "(II)I" } : Jvm.MethodName)) ∈ lw_all := lw_g (lw_at lw_m9 21 rfl) rfl
theorem q2081 : (Jvm.Cond.static ({ cls := "LockRailModel", name := "apart", desc := "(II)I" } : Jvm.MethodName)) ∈ lw_all := lw_g (lw_at lw_m9 22 rfl) rfl
theorem q2082 : (Jvm.Cond.code ({ cls := "LockRailModel", name := "apart", desc := "(II)I" } : Jvm.MethodName) prog_20_method_37_code (2 : Nat) (Option.some Jvm.ClassFile.FieldType.int)) ∈ lw_all := lw_g (lw_at lw_m9 23 rfl) rfl
theorem q2083 : (Jvm.Cond.methodLink "LockRailModel" (302 : Nat) ({ cls := "LockRailModel", name := "above", desc := "(I)I" } : Jvm.MethodName)) ∈ lw_all := lw_g (lw_at lw_m9 24 rfl) rfl
theorem q2084 : (Jvm.Cond.static ({ cls := "LockRailModel", name := "above", desc := "(I)I" } : Jvm.MethodName)) ∈ lw_all := lw_g (lw_at lw_m9 25 rfl) rfl
theorem q2085 : (Jvm.Cond.code ({ cls := "LockRailModel", name := "above", desc := "(I)I" } : Jvm.MethodName) prog_20_method_38_code (1 : Nat) (Option.some Jvm.ClassFile.FieldType.int)) ∈ lw_all := lw_g (lw_at lw_m9 26 rfl) rfl
theorem q2087 : (Jvm.Cond.instanceMethod ({ cls := "LockRailModel", name := "bike", desc := "(II)I" } : Jvm.MethodName)) ∈ lw_all := lw_g (lw_at lw_m9 28 rfl) rfl
theorem q2088 : (Jvm.Cond.selects "LockRailModel" ({ cls := "LockRailModel", name := "bike", desc := "(II)I" } : Jvm.MethodName) ({ cls := "LockRailModel", name := "bike", desc := "(II)I" } : Jvm.MethodName)) ∈ lw_all := lw_g (lw_at lw_m9 29 rfl) rfl
theorem q2089 : (Jvm.Cond.code ({ cls := "LockRailModel", name := "bike", desc := "(II)I" } : Jvm.MethodName) prog_20_method_46_code (3 : Nat) (Option.some Jvm.ClassFile.FieldType.int)) ∈ lw_all := lw_g (lw_at lw_m9 30 rfl) rfl
theorem q2090 : (Jvm.Cond.methodLink "LockRailModel" (318 : Nat) ({ cls := "LockRailModel", name := "isBike", desc := "(I)Z" } : Jvm.MethodName)) ∈ lw_all := lw_g (lw_at lw_m9 31 rfl) rfl
theorem q2091 : (Jvm.Cond.privateMethod ({ cls := "LockRailModel", name := "isBike", desc := "(I)Z" } : Jvm.MethodName)) ∈ lw_tbl := lw_at lw_m9 32 rfl
theorem q2092 : (Jvm.Cond.instanceMethod ({ cls := "LockRailModel", name := "isBike", desc := "(I)Z" } : Jvm.MethodName)) ∈ lw_all := lw_g (lw_at lw_m9 33 rfl) rfl
theorem q2093 : (Jvm.Cond.code ({ cls := "LockRailModel", name := "isBike", desc := "(I)Z" } : Jvm.MethodName) prog_20_method_42_code (2 : Nat) (Option.some Jvm.ClassFile.FieldType.boolean)) ∈ lw_all := lw_g (lw_at lw_m9 34 rfl) rfl
theorem q2094 : (Jvm.Cond.constantLong "LockRailModel" (321 : Nat) (4 : Int64)) ∈ lw_all := lw_g (lw_at lw_m9 35 rfl) rfl
theorem q2095 : (Jvm.Cond.methodLink "LockRailModel" (323 : Nat) ({ cls := "LockRailModel", name := "at", desc := "(II)I" } : Jvm.MethodName)) ∈ lw_all := lw_g (lw_at lw_m9 36 rfl) rfl
theorem q2096 : (Jvm.Cond.static ({ cls := "LockRailModel", name := "at", desc := "(II)I" } : Jvm.MethodName)) ∈ lw_all := lw_g (lw_at lw_m9 37 rfl) rfl
theorem q2097 : (Jvm.Cond.code ({ cls := "LockRailModel", name := "at", desc := "(II)I" } : Jvm.MethodName) prog_20_method_44_code (2 : Nat) (Option.some Jvm.ClassFile.FieldType.int)) ∈ lw_all := lw_g (lw_at lw_m9 38 rfl) rfl
theorem q2099 : (Jvm.Cond.instanceMethod ({ cls := "LockRailModel", name := "trouble", desc := "(II)I" } : Jvm.MethodName)) ∈ lw_all := lw_g (lw_at lw_m9 40 rfl) rfl
theorem q2100 : (Jvm.Cond.selects "LockRailModel" ({ cls := "LockRailModel", name := "trouble", desc := "(II)I" } : Jvm.MethodName) ({ cls := "LockRailModel", name := "trouble", desc := "(II)I" } : Jvm.MethodName)) ∈ lw_all := lw_g (lw_at lw_m9 41 rfl) rfl
theorem q2101 : (Jvm.Cond.code ({ cls := "LockRailModel", name := "trouble", desc := "(II)I" } : Jvm.MethodName) prog_20_method_50_code (3 : Nat) (Option.some Jvm.ClassFile.FieldType.int)) ∈ lw_all := lw_g (lw_at lw_m9 42 rfl) rfl
theorem q2102 : (Jvm.Cond.methodLink "LockRailModel" (330 : Nat) ({ cls := "LockRailModel", name := "isThief", desc := "(I)Z" } : Jvm.MethodName)) ∈ lw_all := lw_g (lw_at lw_m9 43 rfl) rfl
theorem q2103 : (Jvm.Cond.privateMethod ({ cls := "LockRailModel", name := "isThief", desc := "(I)Z" } : Jvm.MethodName)) ∈ lw_tbl := lw_at lw_m9 44 rfl
theorem q2104 : (Jvm.Cond.instanceMethod ({ cls := "LockRailModel", name := "isThief", desc := "(I)Z" } : Jvm.MethodName)) ∈ lw_all := lw_g (lw_at lw_m9 45 rfl) rfl
theorem q2105 : (Jvm.Cond.code ({ cls := "LockRailModel", name := "isThief", desc := "(I)Z" } : Jvm.MethodName) prog_20_method_43_code (2 : Nat) (Option.some Jvm.ClassFile.FieldType.boolean)) ∈ lw_all := lw_g (lw_at lw_m9 46 rfl) rfl
theorem q2106 : (Jvm.Cond.methodLink "LockRailModel" (333 : Nat) ({ cls := "LockRailModel", name := "troubleOf", desc := "(III)I" } : Jvm.MethodName)) ∈ lw_all := lw_g (lw_at lw_m9 47 rfl) rfl
theorem q2107 : (Jvm.Cond.privateMethod ({ cls := "LockRailModel", name := "troubleOf", desc := "(III)I" } : Jvm.MethodName)) ∈ lw_tbl := lw_at lw_m9 48 rfl
theorem q2108 : (Jvm.Cond.instanceMethod ({ cls := "LockRailModel", name := "troubleOf", desc := "(III)I" } : Jvm.MethodName)) ∈ lw_all := lw_g (lw_at lw_m9 49 rfl) rfl
theorem q2109 : (Jvm.Cond.code ({ cls := "LockRailModel", name := "troubleOf", desc := "(III)I" } : Jvm.MethodName) prog_20_method_47_code (7 : Nat) (Option.some Jvm.ClassFile.FieldType.int)) ∈ lw_all := lw_g (lw_at lw_m9 50 rfl) rfl
theorem q2110 : (Jvm.Cond.constantLong "LockRailModel" (325 : Nat) (100 : Int64)) ∈ lw_all := lw_g (lw_at lw_m9 51 rfl) rfl
theorem q2112 : (Jvm.Cond.instanceMethod ({ cls := "LockRailModel", name := "gain", desc := "(I)I" } : Jvm.MethodName)) ∈ lw_all := lw_g (lw_at lw_m9 53 rfl) rfl
theorem q2113 : (Jvm.Cond.selects "LockRailModel" ({ cls := "LockRailModel", name := "gain", desc := "(I)I" } : Jvm.MethodName) ({ cls := "LockRailModel", name := "gain", desc := "(I)I" } : Jvm.MethodName)) ∈ lw_all := lw_g (lw_at lw_m9 54 rfl) rfl
theorem q2114 : (Jvm.Cond.code ({ cls := "LockRailModel", name := "gain", desc := "(I)I" } : Jvm.MethodName) prog_20_method_51_code (2 : Nat) (Option.some Jvm.ClassFile.FieldType.int)) ∈ lw_all := lw_g (lw_at lw_m9 55 rfl) rfl
theorem q2115 : (Jvm.Cond.methodLink "LockRailModel" (337 : Nat) ({ cls := "LockRailModel", name := "gainOf", desc := "(II)I" } : Jvm.MethodName)) ∈ lw_all := lw_g (lw_at lw_m9 56 rfl) rfl
theorem q2116 : (Jvm.Cond.privateMethod ({ cls := "LockRailModel", name := "gainOf", desc := "(II)I" } : Jvm.MethodName)) ∈ lw_tbl := lw_at lw_m9 57 rfl
theorem q2117 : (Jvm.Cond.instanceMethod ({ cls := "LockRailModel", name := "gainOf", desc := "(II)I" } : Jvm.MethodName)) ∈ lw_all := lw_g (lw_at lw_m9 58 rfl) rfl
theorem q2118 : (Jvm.Cond.code ({ cls := "LockRailModel", name := "gainOf", desc := "(II)I" } : Jvm.MethodName) prog_20_method_49_code (5 : Nat) (Option.some Jvm.ClassFile.FieldType.int)) ∈ lw_all := lw_g (lw_at lw_m9 59 rfl) rfl
theorem q2119 : (Jvm.Cond.methodLink "LockRailModel" (327 : Nat) ({ cls := "LockRailModel", name := "markedOn", desc := "(I)I" } : Jvm.MethodName)) ∈ lw_all := lw_g (lw_at lw_m9 60 rfl) rfl
theorem q2120 : (Jvm.Cond.privateMethod ({ cls := "LockRailModel", name := "markedOn", desc := "(I)I" } : Jvm.MethodName)) ∈ lw_tbl := lw_at lw_m9 61 rfl
theorem q2121 : (Jvm.Cond.instanceMethod ({ cls := "LockRailModel", name := "markedOn", desc := "(I)I" } : Jvm.MethodName)) ∈ lw_all := lw_g (lw_at lw_m9 62 rfl) rfl
theorem q2122 : (Jvm.Cond.code ({ cls := "LockRailModel", name := "markedOn", desc := "(I)I" } : Jvm.MethodName) prog_20_method_48_code (4 : Nat) (Option.some Jvm.ClassFile.FieldType.int)) ∈ lw_all := lw_g (lw_at lw_m9 63 rfl) rfl
theorem q2124 : (Jvm.Cond.instanceMethod ({ cls := "LockRailModel", name := "takes", desc := "(II)I" } : Jvm.MethodName)) ∈ lw_all := lw_g (lw_at lw_m9 65 rfl) rfl
theorem q2125 : (Jvm.Cond.selects "LockRailModel" ({ cls := "LockRailModel", name := "takes", desc := "(II)I" } : Jvm.MethodName) ({ cls := "LockRailModel", name := "takes", desc := "(II)I" } : Jvm.MethodName)) ∈ lw_all := lw_g (lw_at lw_m9 66 rfl) rfl
theorem q2126 : (Jvm.Cond.code ({ cls := "LockRailModel", name := "takes", desc := "(II)I" } : Jvm.MethodName) prog_20_method_54_code (3 : Nat) (Option.some Jvm.ClassFile.FieldType.int)) ∈ lw_all := lw_g (lw_at lw_m9 67 rfl) rfl
theorem q2127 : (Jvm.Cond.methodLink "LockRailModel" (343 : Nat) ({ cls := "LockRailModel", name := "lays", desc := "(I)V" } : Jvm.MethodName)) ∈ lw_all := lw_g (lw_at lw_m9 68 rfl) rfl
theorem q2128 : (Jvm.Cond.privateMethod ({ cls := "LockRailModel", name := "lays", desc := "(I)V" } : Jvm.MethodName)) ∈ lw_tbl := lw_at lw_m9 69 rfl
theorem q2129 : (Jvm.Cond.instanceMethod ({ cls := "LockRailModel", name := "lays", desc := "(I)V" } : Jvm.MethodName)) ∈ lw_all := lw_g (lw_at lw_m9 70 rfl) rfl
theorem q2130 : (Jvm.Cond.code ({ cls := "LockRailModel", name := "lays", desc := "(I)V" } : Jvm.MethodName) prog_20_method_52_code (4 : Nat) (Option.none : Option Jvm.ClassFile.FieldType)) ∈ lw_all := lw_g (lw_at lw_m9 71 rfl) rfl
theorem q2131 : (Jvm.Cond.methodLink "LockRailModel" (346 : Nat) ({ cls := "LockRailModel", name := "takesOf", desc := "(II)I" } : Jvm.MethodName)) ∈ lw_all := lw_g (lw_at lw_m9 72 rfl) rfl
theorem q2132 : (Jvm.Cond.privateMethod ({ cls := "LockRailModel", name := "takesOf", desc := "(II)I" } : Jvm.MethodName)) ∈ lw_tbl := lw_at lw_m9 73 rfl
theorem q2133 : (Jvm.Cond.instanceMethod ({ cls := "LockRailModel", name := "takesOf", desc := "(II)I" } : Jvm.MethodName)) ∈ lw_all := lw_g (lw_at lw_m9 74 rfl) rfl
theorem q2134 : (Jvm.Cond.code ({ cls := "LockRailModel", name := "takesOf", desc := "(II)I" } : Jvm.MethodName) prog_20_method_53_code (7 : Nat) (Option.some Jvm.ClassFile.FieldType.int)) ∈ lw_all := lw_g (lw_at lw_m9 75 rfl) rfl
theorem q2136 : (Jvm.Cond.instanceMethod ({ cls := "LockRailModel", name := "wants", desc := "(I)I" } : Jvm.MethodName)) ∈ lw_all := lw_g (lw_at lw_m9 77 rfl) rfl
theorem q2137 : (Jvm.Cond.selects "LockRailModel" ({ cls := "LockRailModel", name := "wants", desc := "(I)I" } : Jvm.MethodName) ({ cls := "LockRailModel", name := "wants", desc := "(I)I" } : Jvm.MethodName)) ∈ lw_all := lw_g (lw_at lw_m9 78 rfl) rfl
theorem q2138 : (Jvm.Cond.code ({ cls := "LockRailModel", name := "wants", desc := "(I)I" } : Jvm.MethodName) prog_20_method_56_code (2 : Nat) (Option.some Jvm.ClassFile.FieldType.int)) ∈ lw_all := lw_g (lw_at lw_m9 79 rfl) rfl
theorem q2139 : (Jvm.Cond.methodLink "LockRailModel" (349 : Nat) ({ cls := "LockRailModel", name := "wantsOf", desc := "(I)I" } : Jvm.MethodName)) ∈ lw_all := lw_g (lw_at lw_m9 80 rfl) rfl
theorem q2140 : (Jvm.Cond.privateMethod ({ cls := "LockRailModel", name := "wantsOf", desc := "(I)I" } : Jvm.MethodName)) ∈ lw_tbl := lw_at lw_m9 81 rfl
theorem q2141 : (Jvm.Cond.instanceMethod ({ cls := "LockRailModel", name := "wantsOf", desc := "(I)I" } : Jvm.MethodName)) ∈ lw_all := lw_g (lw_at lw_m9 82 rfl) rfl
theorem q2142 : (Jvm.Cond.code ({ cls := "LockRailModel", name := "wantsOf", desc := "(I)I" } : Jvm.MethodName) prog_20_method_55_code (4 : Nat) (Option.some Jvm.ClassFile.FieldType.int)) ∈ lw_all := lw_g (lw_at lw_m9 83 rfl) rfl
theorem q2144 : (Jvm.Cond.instanceMethod ({ cls := "LockRailModel", name := "part", desc := "(I)J" } : Jvm.MethodName)) ∈ lw_all := lw_g (lw_at lw_m9 85 rfl) rfl
theorem q2145 : (Jvm.Cond.selects "LockRailModel" ({ cls := "LockRailModel", name := "part", desc := "(I)J" } : Jvm.MethodName) ({ cls := "LockRailModel", name := "part", desc := "(I)J" } : Jvm.MethodName)) ∈ lw_all := lw_g (lw_at lw_m9 86 rfl) rfl
theorem q2146 : (Jvm.Cond.code ({ cls := "LockRailModel", name := "part", desc := "(I)J" } : Jvm.MethodName) prog_20_method_59_code (2 : Nat) (Option.some Jvm.ClassFile.FieldType.long)) ∈ lw_all := lw_g (lw_at lw_m9 87 rfl) rfl
theorem q2147 : (Jvm.Cond.methodLink "LockRailModel" (357 : Nat) ({ cls := "LockRailModel", name := "isSet", desc := "(I)Z" } : Jvm.MethodName)) ∈ lw_all := lw_g (lw_at lw_m9 88 rfl) rfl
theorem q2148 : (Jvm.Cond.privateMethod ({ cls := "LockRailModel", name := "isSet", desc := "(I)Z" } : Jvm.MethodName)) ∈ lw_tbl := lw_at lw_m9 89 rfl
theorem q2149 : (Jvm.Cond.instanceMethod ({ cls := "LockRailModel", name := "isSet", desc := "(I)Z" } : Jvm.MethodName)) ∈ lw_all := lw_g (lw_at lw_m9 90 rfl) rfl
theorem q2150 : (Jvm.Cond.code ({ cls := "LockRailModel", name := "isSet", desc := "(I)Z" } : Jvm.MethodName) prog_20_method_58_code (2 : Nat) (Option.some Jvm.ClassFile.FieldType.boolean)) ∈ lw_all := lw_g (lw_at lw_m9 91 rfl) rfl
theorem q2151 : (Jvm.Cond.methodLink "LockRailModel" (354 : Nat) ({ cls := "LockRailModel", name := "isRail", desc := "()Z" } : Jvm.MethodName)) ∈ lw_all := lw_g (lw_at lw_m9 92 rfl) rfl
theorem q2152 : (Jvm.Cond.privateMethod ({ cls := "LockRailModel", name := "isRail", desc := "()Z" } : Jvm.MethodName)) ∈ lw_tbl := lw_at lw_m9 93 rfl
theorem q2153 : (Jvm.Cond.instanceMethod ({ cls := "LockRailModel", name := "isRail", desc := "()Z" } : Jvm.MethodName)) ∈ lw_all := lw_g (lw_at lw_m9 94 rfl) rfl
theorem q2154 : (Jvm.Cond.code ({ cls := "LockRailModel", name := "isRail", desc := "()Z" } : Jvm.MethodName) prog_20_method_40_code (1 : Nat) (Option.some Jvm.ClassFile.FieldType.boolean)) ∈ lw_all := lw_g (lw_at lw_m9 95 rfl) rfl
theorem q2155 : (Jvm.Cond.constantLong "LockRailModel" (360 : Nat) (-2 : Int64)) ∈ lw_all := lw_g (lw_at lw_m9 96 rfl) rfl
theorem q2156 : (Jvm.Cond.methodLink "LockRailModel" (362 : Nat) ({ cls := "LockRailModel", name := "night", desc := "()V" } : Jvm.MethodName)) ∈ lw_all := lw_g (lw_at lw_m9 97 rfl) rfl
theorem q2157 : (Jvm.Cond.privateMethod ({ cls := "LockRailModel", name := "night", desc := "()V" } : Jvm.MethodName)) ∈ lw_tbl := lw_at lw_m9 98 rfl
theorem q2158 : (Jvm.Cond.instanceMethod ({ cls := "LockRailModel", name := "night", desc := "()V" } : Jvm.MethodName)) ∈ lw_all := lw_g (lw_at lw_m9 99 rfl) rfl
theorem q2159 : (Jvm.Cond.code ({ cls := "LockRailModel", name := "night", desc := "()V" } : Jvm.MethodName) prog_20_method_57_code (5 : Nat) (Option.none : Option Jvm.ClassFile.FieldType)) ∈ lw_all := lw_g (lw_at lw_m9 100 rfl) rfl
theorem q2160 : (Jvm.Cond.constantLong "LockRailModel" (352 : Nat) (1000000000000 : Int64)) ∈ lw_all := lw_g (lw_at lw_m9 101 rfl) rfl
theorem q2162 : (Jvm.Cond.instanceMethod ({ cls := "LockRailModel", name := "many", desc := "(I)J" } : Jvm.MethodName)) ∈ lw_all := lw_g (lw_at lw_m9 103 rfl) rfl
theorem q2163 : (Jvm.Cond.selects "LockRailModel" ({ cls := "LockRailModel", name := "many", desc := "(I)J" } : Jvm.MethodName) ({ cls := "LockRailModel", name := "many", desc := "(I)J" } : Jvm.MethodName)) ∈ lw_all := lw_g (lw_at lw_m9 104 rfl) rfl
theorem q2164 : (Jvm.Cond.code ({ cls := "LockRailModel", name := "many", desc := "(I)J" } : Jvm.MethodName) prog_20_method_61_code (5 : Nat) (Option.some Jvm.ClassFile.FieldType.long)) ∈ lw_all := lw_g (lw_at lw_m9 105 rfl) rfl
theorem q2165 : (Jvm.Cond.methodLink "LockRailModel" (365 : Nat) ({ cls := "LockRailModel", name := "sizeOf", desc := "(I)I" } : Jvm.MethodName)) ∈ lw_all := lw_g (lw_at lw_m9 106 rfl) rfl
theorem q2166 : (Jvm.Cond.static ({ cls := "LockRailModel", name := "sizeOf", desc := "(I)I" } : Jvm.MethodName)) ∈ lw_all := lw_g (lw_at lw_m9 107 rfl) rfl
theorem q2167 : (Jvm.Cond.code ({ cls := "LockRailModel", name := "sizeOf", desc := "(I)I" } : Jvm.MethodName) prog_20_method_60_code (3 : Nat) (Option.some Jvm.ClassFile.FieldType.int)) ∈ lw_all := lw_g (lw_at lw_m9 108 rfl) rfl
theorem q2169 : (Jvm.Cond.instanceMethod ({ cls := "LockRailModel", name := "risk", desc := "(I)J" } : Jvm.MethodName)) ∈ lw_all := lw_g (lw_at lw_m9 110 rfl) rfl
theorem q2170 : (Jvm.Cond.selects "LockRailModel" ({ cls := "LockRailModel", name := "risk", desc := "(I)J" } : Jvm.MethodName) ({ cls := "LockRailModel", name := "risk", desc := "(I)J" } : Jvm.MethodName)) ∈ lw_all := lw_g (lw_at lw_m9 111 rfl) rfl
theorem q2171 : (Jvm.Cond.code ({ cls := "LockRailModel", name := "risk", desc := "(I)J" } : Jvm.MethodName) prog_20_method_64_code (2 : Nat) (Option.some Jvm.ClassFile.FieldType.long)) ∈ lw_all := lw_g (lw_at lw_m9 112 rfl) rfl
theorem q2172 : (Jvm.Cond.methodLink "LockRailModel" (372 : Nat) ({ cls := "LockRailModel", name := "riskNow", desc := "(I)J" } : Jvm.MethodName)) ∈ lw_all := lw_g (lw_at lw_m9 113 rfl) rfl
theorem q2173 : (Jvm.Cond.privateMethod ({ cls := "LockRailModel", name := "riskNow", desc := "(I)J" } : Jvm.MethodName)) ∈ lw_tbl := lw_at lw_m9 114 rfl
theorem q2174 : (Jvm.Cond.instanceMethod ({ cls := "LockRailModel", name := "riskNow", desc := "(I)J" } : Jvm.MethodName)) ∈ lw_all := lw_g (lw_at lw_m9 115 rfl) rfl
theorem q2175 : (Jvm.Cond.code ({ cls := "LockRailModel", name := "riskNow", desc := "(I)J" } : Jvm.MethodName) prog_20_method_63_code (2 : Nat) (Option.some Jvm.ClassFile.FieldType.long)) ∈ lw_all := lw_g (lw_at lw_m9 116 rfl) rfl
theorem q2176 : (Jvm.Cond.methodLink "LockRailModel" (368 : Nat) ({ cls := "LockRailModel", name := "riskOf", desc := "(I)J" } : Jvm.MethodName)) ∈ lw_all := lw_g (lw_at lw_m9 117 rfl) rfl
theorem q2177 : (Jvm.Cond.privateMethod ({ cls := "LockRailModel", name := "riskOf", desc := "(I)J" } : Jvm.MethodName)) ∈ lw_tbl := lw_at lw_m9 118 rfl
theorem q2178 : (Jvm.Cond.instanceMethod ({ cls := "LockRailModel", name := "riskOf", desc := "(I)J" } : Jvm.MethodName)) ∈ lw_all := lw_g (lw_at lw_m9 119 rfl) rfl
theorem q2179 : (Jvm.Cond.code ({ cls := "LockRailModel", name := "riskOf", desc := "(I)J" } : Jvm.MethodName) prog_20_method_62_code (5 : Nat) (Option.some Jvm.ClassFile.FieldType.long)) ∈ lw_all := lw_g (lw_at lw_m9 120 rfl) rfl
theorem q2181 : (Jvm.Cond.instanceMethod ({ cls := "LockRailModel", name := "has", desc := "(II)J" } : Jvm.MethodName)) ∈ lw_all := lw_g (lw_at lw_m9 122 rfl) rfl
theorem q2182 : (Jvm.Cond.selects "LockRailModel" ({ cls := "LockRailModel", name := "has", desc := "(II)J" } : Jvm.MethodName) ({ cls := "LockRailModel", name := "has", desc := "(II)J" } : Jvm.MethodName)) ∈ lw_all := lw_g (lw_at lw_m9 123 rfl) rfl
theorem q2183 : (Jvm.Cond.code ({ cls := "LockRailModel", name := "has", desc := "(II)J" } : Jvm.MethodName) prog_20_method_65_code (3 : Nat) (Option.some Jvm.ClassFile.FieldType.long)) ∈ lw_all := lw_g (lw_at lw_m9 124 rfl) rfl
theorem q2185 : (Jvm.Cond.instanceMethod ({ cls := "LockRailModel", name := "cost", desc := "(II)J" } : Jvm.MethodName)) ∈ lw_all := lw_g (lw_at lw_m9 126 rfl) rfl
theorem q2186 : (Jvm.Cond.selects "LockRailModel" ({ cls := "LockRailModel", name := "cost", desc := "(II)J" } : Jvm.MethodName) ({ cls := "LockRailModel", name := "cost", desc := "(II)J" } : Jvm.MethodName)) ∈ lw_all := lw_g (lw_at lw_m9 127 rfl) rfl
theorem q2187 : (Jvm.Cond.code ({ cls := "LockRailModel", name := "cost", desc := "(II)J" } : Jvm.MethodName) prog_20_method_71_code (3 : Nat) (Option.some Jvm.ClassFile.FieldType.long)) ∈ lw_all := lw_g (lw_at lw_m9 128 rfl) rfl
theorem q2188 : (Jvm.Cond.constantLong "LockRailModel" (392 : Nat) (2 : Int64)) ∈ lw_all := lw_g (lw_at lw_m9 129 rfl) rfl
theorem q2189 : (Jvm.Cond.methodLink "LockRailModel" (394 : Nat) ({ cls := "LockRailModel", name := "whatOf", desc := "(II)J" } : Jvm.MethodName)) ∈ lw_all := lw_g (lw_at lw_m9 130 rfl) rfl
theorem q2190 : (Jvm.Cond.privateMethod ({ cls := "LockRailModel", name := "whatOf", desc := "(II)J" } : Jvm.MethodName)) ∈ lw_tbl := lw_at lw_m9 131 rfl
theorem q2191 : (Jvm.Cond.instanceMethod ({ cls := "LockRailModel", name := "whatOf", desc := "(II)J" } : Jvm.MethodName)) ∈ lw_all := lw_g (lw_at lw_m9 132 rfl) rfl
theorem q2192 : (Jvm.Cond.code ({ cls := "LockRailModel", name := "whatOf", desc := "(II)J" } : Jvm.MethodName) prog_20_method_70_code (3 : Nat) (Option.some Jvm.ClassFile.FieldType.long)) ∈ lw_all := lw_g (lw_at lw_m9 133 rfl) rfl
theorem q2193 : (Jvm.Cond.methodLink "LockRailModel" (379 : Nat) ({ cls := "LockRailModel", name := "paidOf", desc := "(I)J" } : Jvm.MethodName)) ∈ lw_all := lw_g (lw_at lw_m9 134 rfl) rfl
theorem q2194 : (Jvm.Cond.privateMethod ({ cls := "LockRailModel", name := "paidOf", desc := "(I)J" } : Jvm.MethodName)) ∈ lw_tbl := lw_at lw_m9 135 rfl
theorem q2195 : (Jvm.Cond.instanceMethod ({ cls := "LockRailModel", name := "paidOf", desc := "(I)J" } : Jvm.MethodName)) ∈ lw_all := lw_g (lw_at lw_m9 136 rfl) rfl
theorem q2196 : (Jvm.Cond.code ({ cls := "LockRailModel", name := "paidOf", desc := "(I)J" } : Jvm.MethodName) prog_20_method_66_code (3 : Nat) (Option.some Jvm.ClassFile.FieldType.long)) ∈ lw_all := lw_g (lw_at lw_m9 137 rfl) rfl
theorem q2197 : (Jvm.Cond.constantLong "LockRailModel" (375 : Nat) (1000 : Int64)) ∈ lw_all := lw_g (lw_at lw_m9 138 rfl) rfl
theorem q2198 : (Jvm.Cond.methodLink "LockRailModel" (382 : Nat) ({ cls := "LockRailModel", name := "lossOf", desc := "(I)J" } : Jvm.MethodName)) ∈ lw_all := lw_g (lw_at lw_m9 139 rfl) rfl
theorem q2199 : (Jvm.Cond.privateMethod ({ cls := "LockRailModel", name := "lossOf", desc := "(I)J" } : Jvm.MethodName)) ∈ lw_tbl := lw_at lw_m9 140 rfl
theorem q2200 : (Jvm.Cond.instanceMethod ({ cls := "LockRailModel", name := "lossOf", desc := "(I)J" } : Jvm.MethodName)) ∈ lw_all := lw_g (lw_at lw_m9 141 rfl) rfl
theorem q2201 : (Jvm.Cond.code ({ cls := "LockRailModel", name := "lossOf", desc := "(I)J" } : Jvm.MethodName) prog_20_method_67_code (2 : Nat) (Option.some Jvm.ClassFile.FieldType.long)) ∈ lw_all := lw_g (lw_at lw_m9 142 rfl) rfl
theorem q2202 : (Jvm.Cond.constantLong "LockRailModel" (377 : Nat) (1000000000 : Int64)) ∈ lw_all := lw_g (lw_at lw_m9 143 rfl) rfl
theorem q2203 : (Jvm.Cond.methodLink "LockRailModel" (389 : Nat) ({ cls := "LockRailModel", name := "costOf", desc := "(I)J" } : Jvm.MethodName)) ∈ lw_all := lw_g (lw_at lw_m9 144 rfl) rfl
theorem q2204 : (Jvm.Cond.privateMethod ({ cls := "LockRailModel", name := "costOf", desc := "(I)J" } : Jvm.MethodName)) ∈ lw_tbl := lw_at lw_m9 145 rfl
theorem q2205 : (Jvm.Cond.instanceMethod ({ cls := "LockRailModel", name := "costOf", desc := "(I)J" } : Jvm.MethodName)) ∈ lw_all := lw_g (lw_at lw_m9 146 rfl) rfl
theorem q2206 : (Jvm.Cond.code ({ cls := "LockRailModel", name := "costOf", desc := "(I)J" } : Jvm.MethodName) prog_20_method_69_code (2 : Nat) (Option.some Jvm.ClassFile.FieldType.long)) ∈ lw_all := lw_g (lw_at lw_m9 147 rfl) rfl
theorem q2207 : (Jvm.Cond.methodLink "LockRailModel" (385 : Nat) ({ cls := "LockRailModel", name := "wages", desc := "()J" } : Jvm.MethodName)) ∈ lw_all := lw_g (lw_at lw_m9 148 rfl) rfl
theorem q2208 : (Jvm.Cond.privateMethod ({ cls := "LockRailModel", name := "wages", desc := "()J" } : Jvm.MethodName)) ∈ lw_tbl := lw_at lw_m9 149 rfl
theorem q2209 : (Jvm.Cond.instanceMethod ({ cls := "LockRailModel", name := "wages", desc := "()J" } : Jvm.MethodName)) ∈ lw_all := lw_g (lw_at lw_m9 150 rfl) rfl
theorem q2210 : (Jvm.Cond.code ({ cls := "LockRailModel", name := "wages", desc := "()J" } : Jvm.MethodName) prog_20_method_68_code (1 : Nat) (Option.some Jvm.ClassFile.FieldType.long)) ∈ lw_all := lw_g (lw_at lw_m9 151 rfl) rfl
theorem q2212 : (Jvm.Cond.instanceMethod ({ cls := "LockRailModel", name := "all", desc := "(I)J" } : Jvm.MethodName)) ∈ lw_all := lw_g (lw_at lw_m9 153 rfl) rfl
theorem q2213 : (Jvm.Cond.selects "LockRailModel" ({ cls := "LockRailModel", name := "all", desc := "(I)J" } : Jvm.MethodName) ({ cls := "LockRailModel", name := "all", desc := "(I)J" } : Jvm.MethodName)) ∈ lw_all := lw_g (lw_at lw_m9 154 rfl) rfl
theorem q2214 : (Jvm.Cond.code ({ cls := "LockRailModel", name := "all", desc := "(I)J" } : Jvm.MethodName) prog_20_method_73_code (2 : Nat) (Option.some Jvm.ClassFile.FieldType.long)) ∈ lw_all := lw_g (lw_at lw_m9 155 rfl) rfl
theorem q2215 : (Jvm.Cond.methodLink "LockRailModel" (398 : Nat) ({ cls := "LockRailModel", name := "allNow", desc := "(I)J" } : Jvm.MethodName)) ∈ lw_all := lw_g (lw_at lw_m9 156 rfl) rfl
theorem q2216 : (Jvm.Cond.privateMethod ({ cls := "LockRailModel", name := "allNow", desc := "(I)J" } : Jvm.MethodName)) ∈ lw_tbl := lw_at lw_m9 157 rfl
theorem q2217 : (Jvm.Cond.instanceMethod ({ cls := "LockRailModel", name := "allNow", desc := "(I)J" } : Jvm.MethodName)) ∈ lw_all := lw_g (lw_at lw_m9 158 rfl) rfl
theorem q2218 : (Jvm.Cond.code ({ cls := "LockRailModel", name := "allNow", desc := "(I)J" } : Jvm.MethodName) prog_20_method_72_code (5 : Nat) (Option.some Jvm.ClassFile.FieldType.long)) ∈ lw_all := lw_g (lw_at lw_m9 159 rfl) rfl
theorem q2220 : (Jvm.Cond.instanceMethod ({ cls := "LockRailModel", name := "option", desc := "(II)I" } : Jvm.MethodName)) ∈ lw_all := lw_g (lw_at lw_m9 161 rfl) rfl
theorem q2221 : (Jvm.Cond.selects "LockRailModel" ({ cls := "LockRailModel", name := "option", desc := "(II)I" } : Jvm.MethodName) ({ cls := "LockRailModel", name := "option", desc := "(II)I" } : Jvm.MethodName)) ∈ lw_all := lw_g (lw_at lw_m9 162 rfl) rfl
theorem q2222 : (Jvm.Cond.code ({ cls := "LockRailModel", name := "option", desc := "(II)I" } : Jvm.MethodName) prog_20_method_79_code (4 : Nat) (Option.some Jvm.ClassFile.FieldType.int)) ∈ lw_all := lw_g (lw_at lw_m9 163 rfl) rfl
theorem q2223 : (Jvm.Cond.methodLink "LockRailModel" (405 : Nat) ({ cls := "LockRailModel", name := "isOption", desc := "(I)Z" } : Jvm.MethodName)) ∈ lw_all := lw_g (lw_at lw_m9 164 rfl) rfl
theorem q2224 : (Jvm.Cond.privateMethod ({ cls := "LockRailModel", name := "isOption", desc := "(I)Z" } : Jvm.MethodName)) ∈ lw_tbl := lw_at lw_m9 165 rfl
theorem q2225 : (Jvm.Cond.instanceMethod ({ cls := "LockRailModel", name := "isOption", desc := "(I)Z" } : Jvm.MethodName)) ∈ lw_all := lw_g (lw_at lw_m9 166 rfl) rfl
theorem q2226 : (Jvm.Cond.code ({ cls := "LockRailModel", name := "isOption", desc := "(I)Z" } : Jvm.MethodName) prog_20_method_76_code (2 : Nat) (Option.some Jvm.ClassFile.FieldType.boolean)) ∈ lw_all := lw_g (lw_at lw_m9 167 rfl) rfl
theorem q2227 : (Jvm.Cond.methodLink "LockRailModel" (401 : Nat) ({ cls := "LockRailModel", name := "optionMany", desc := "()I" } : Jvm.MethodName)) ∈ lw_all := lw_g (lw_at lw_m9 168 rfl) rfl
theorem q2228 : (Jvm.Cond.privateMethod ({ cls := "LockRailModel", name := "optionMany", desc := "()I" } : Jvm.MethodName)) ∈ lw_tbl := lw_at lw_m9 169 rfl
theorem q2229 : (Jvm.Cond.instanceMethod ({ cls := "LockRailModel", name := "optionMany", desc := "()I" } : Jvm.MethodName)) ∈ lw_all := lw_g (lw_at lw_m9 170 rfl) rfl
theorem q2230 : (Jvm.Cond.code ({ cls := "LockRailModel", name := "optionMany", desc := "()I" } : Jvm.MethodName) prog_20_method_75_code (1 : Nat) (Option.some Jvm.ClassFile.FieldType.int)) ∈ lw_all := lw_g (lw_at lw_m9 171 rfl) rfl
theorem q2231 : (Jvm.Cond.methodLink "LockRailModel" (408 : Nat) ({ cls := "LockRailModel", name := "optionOf", desc := "(I)I" } : Jvm.MethodName)) ∈ lw_all := lw_g (lw_at lw_m9 172 rfl) rfl
theorem q2232 : (Jvm.Cond.privateMethod ({ cls := "LockRailModel", name := "optionOf", desc := "(I)I" } : Jvm.MethodName)) ∈ lw_tbl := lw_at lw_m9 173 rfl
theorem q2233 : (Jvm.Cond.instanceMethod ({ cls := "LockRailModel", name := "optionOf", desc := "(I)I" } : Jvm.MethodName)) ∈ lw_all := lw_g (lw_at lw_m9 174 rfl) rfl
theorem q2234 : (Jvm.Cond.code ({ cls := "LockRailModel", name := "optionOf", desc := "(I)I" } : Jvm.MethodName) prog_20_method_77_code (2 : Nat) (Option.some Jvm.ClassFile.FieldType.int)) ∈ lw_all := lw_g (lw_at lw_m9 175 rfl) rfl
theorem q2235 : (Jvm.Cond.methodLink "LockRailModel" (411 : Nat) ({ cls := "LockRailModel", name := "hasOption", desc := "(II)V" } : Jvm.MethodName)) ∈ lw_all := lw_g (lw_at lw_m9 176 rfl) rfl
theorem q2236 : (Jvm.Cond.privateMethod ({ cls := "LockRailModel", name := "hasOption", desc := "(II)V" } : Jvm.MethodName)) ∈ lw_tbl := lw_at lw_m9 177 rfl
theorem q2237 : (Jvm.Cond.instanceMethod ({ cls := "LockRailModel", name := "hasOption", desc := "(II)V" } : Jvm.MethodName)) ∈ lw_all := lw_g (lw_at lw_m9 178 rfl) rfl
theorem q2238 : (Jvm.Cond.code ({ cls := "LockRailModel", name := "hasOption", desc := "(II)V" } : Jvm.MethodName) prog_20_method_78_code (3 : Nat) (Option.none : Option Jvm.ClassFile.FieldType)) ∈ lw_all := lw_g (lw_at lw_m9 179 rfl) rfl
theorem q2240 : (Jvm.Cond.instanceMethod ({ cls := "LockRailModel", name := "would", desc := "(II)J" } : Jvm.MethodName)) ∈ lw_all := lw_g (lw_at lw_m9 181 rfl) rfl
theorem q2241 : (Jvm.Cond.selects "LockRailModel" ({ cls := "LockRailModel", name := "would", desc := "(II)J" } : Jvm.MethodName) ({ cls := "LockRailModel", name := "would", desc := "(II)J" } : Jvm.MethodName)) ∈ lw_all := lw_g (lw_at lw_m9 182 rfl) rfl
theorem q2242 : (Jvm.Cond.code ({ cls := "LockRailModel", name := "would", desc := "(II)J" } : Jvm.MethodName) prog_20_method_81_code (3 : Nat) (Option.some Jvm.ClassFile.FieldType.long)) ∈ lw_all := lw_g (lw_at lw_m9 183 rfl) rfl
theorem q2243 : (Jvm.Cond.methodLink "LockRailModel" (417 : Nat) ({ cls := "LockRailModel", name := "wouldOf", desc := "(II)J" } : Jvm.MethodName)) ∈ lw_all := lw_g (lw_at lw_m9 184 rfl) rfl
theorem q2244 : (Jvm.Cond.privateMethod ({ cls := "LockRailModel", name := "wouldOf", desc := "(II)J" } : Jvm.MethodName)) ∈ lw_tbl := lw_at lw_m9 185 rfl
theorem q2245 : (Jvm.Cond.instanceMethod ({ cls := "LockRailModel", name := "wouldOf", desc := "(II)J" } : Jvm.MethodName)) ∈ lw_all := lw_g (lw_at lw_m9 186 rfl) rfl
theorem q2246 : (Jvm.Cond.code ({ cls := "LockRailModel", name := "wouldOf", desc := "(II)J" } : Jvm.MethodName) prog_20_method_80_code (6 : Nat) (Option.some Jvm.ClassFile.FieldType.long)) ∈ lw_all := lw_g (lw_at lw_m9 187 rfl) rfl
theorem q2247 : (Jvm.Cond.methodLink "LockRailModel" (414 : Nat) ({ cls := "LockRailModel", name := "costNow", desc := "(I)J" } : Jvm.MethodName)) ∈ lw_all := lw_g (lw_at lw_m9 188 rfl) rfl
theorem q2248 : (Jvm.Cond.privateMethod ({ cls := "LockRailModel", name := "costNow", desc := "(I)J" } : Jvm.MethodName)) ∈ lw_tbl := lw_at lw_m9 189 rfl
theorem q2249 : (Jvm.Cond.instanceMethod ({ cls := "LockRailModel", name := "costNow", desc := "(I)J" } : Jvm.MethodName)) ∈ lw_all := lw_g (lw_at lw_m9 190 rfl) rfl
theorem q2250 : (Jvm.Cond.code ({ cls := "LockRailModel", name := "costNow", desc := "(I)J" } : Jvm.MethodName) prog_20_method_74_code (2 : Nat) (Option.some Jvm.ClassFile.FieldType.long)) ∈ lw_all := lw_g (lw_at lw_m9 191 rfl) rfl
theorem q2252 : (Jvm.Cond.instanceMethod ({ cls := "LockRailModel", name := "best", desc := "(I)I" } : Jvm.MethodName)) ∈ lw_all := lw_g (lw_at lw_m9 193 rfl) rfl
theorem q2253 : (Jvm.Cond.selects "LockRailModel" ({ cls := "LockRailModel", name := "best", desc := "(I)I" } : Jvm.MethodName) ({ cls := "LockRailModel", name := "best", desc := "(I)I" } : Jvm.MethodName)) ∈ lw_all := lw_g (lw_at lw_m9 194 rfl) rfl
theorem q2254 : (Jvm.Cond.code ({ cls := "LockRailModel", name := "best", desc := "(I)I" } : Jvm.MethodName) prog_20_method_83_code (2 : Nat) (Option.some Jvm.ClassFile.FieldType.int)) ∈ lw_all := lw_g (lw_at lw_m9 195 rfl) rfl
theorem q2255 : (Jvm.Cond.methodLink "LockRailModel" (423 : Nat) ({ cls := "LockRailModel", name := "bestOf", desc := "(I)I" } : Jvm.MethodName)) ∈ lw_all := lw_g (lw_at lw_m9 196 rfl) rfl
theorem q2256 : (Jvm.Cond.privateMethod ({ cls := "LockRailModel", name := "bestOf", desc := "(I)I" } : Jvm.MethodName)) ∈ lw_tbl := lw_at lw_m9 197 rfl
theorem q2257 : (Jvm.Cond.instanceMethod ({ cls := "LockRailModel", name := "bestOf", desc := "(I)I" } : Jvm.MethodName)) ∈ lw_all := lw_g (lw_at lw_m9 198 rfl) rfl
theorem q2258 : (Jvm.Cond.code ({ cls := "LockRailModel", name := "bestOf", desc := "(I)I" } : Jvm.MethodName) prog_20_method_82_code (6 : Nat) (Option.some Jvm.ClassFile.FieldType.int)) ∈ lw_all := lw_g (lw_at lw_m9 199 rfl) rfl
theorem q2260 : (Jvm.Cond.instanceMethod ({ cls := "LockRailModel", name := "restless", desc := "()I" } : Jvm.MethodName)) ∈ lw_all := lw_g (lw_at lw_m9 201 rfl) rfl
theorem q2261 : (Jvm.Cond.selects "LockRailModel" ({ cls := "LockRailModel", name := "restless", desc := "()I" } : Jvm.MethodName) ({ cls := "LockRailModel", name := "restless", desc := "()I" } : Jvm.MethodName)) ∈ lw_all := lw_g (lw_at lw_m9 202 rfl) rfl
theorem q2262 : (Jvm.Cond.code ({ cls := "LockRailModel", name := "restless", desc := "()I" } : Jvm.MethodName) prog_20_method_84_code (3 : Nat) (Option.some Jvm.ClassFile.FieldType.int)) ∈ lw_all := lw_g (lw_at lw_m9 203 rfl) rfl
theorem q2264 : (Jvm.Cond.instanceMethod ({ cls := "LockRailModel", name := "settle", desc := "(I)I" } : Jvm.MethodName)) ∈ lw_all := lw_g (lw_at lw_m9 205 rfl) rfl
theorem q2265 : (Jvm.Cond.selects "LockRailModel" ({ cls := "LockRailModel", name := "settle", desc := "(I)I" } : Jvm.MethodName) ({ cls := "LockRailModel", name := "settle", desc := "(I)I" } : Jvm.MethodName)) ∈ lw_all := lw_g (lw_at lw_m9 206 rfl) rfl
theorem q2266 : (Jvm.Cond.code ({ cls := "LockRailModel", name := "settle", desc := "(I)I" } : Jvm.MethodName) prog_20_method_89_code (2 : Nat) (Option.some Jvm.ClassFile.FieldType.int)) ∈ lw_all := lw_g (lw_at lw_m9 207 rfl) rfl
theorem q2267 : (Jvm.Cond.constantLong "LockRailModel" (433 : Nat) (30 : Int64)) ∈ lw_all := lw_g (lw_at lw_m9 208 rfl) rfl
theorem q2268 : (Jvm.Cond.methodLink "LockRailModel" (435 : Nat) ({ cls := "LockRailModel", name := "settlesIn", desc := "(I)I" } : Jvm.MethodName)) ∈ lw_all := lw_g (lw_at lw_m9 209 rfl) rfl
theorem q2269 : (Jvm.Cond.privateMethod ({ cls := "LockRailModel", name := "settlesIn", desc := "(I)I" } : Jvm.MethodName)) ∈ lw_tbl := lw_at lw_m9 210 rfl
theorem q2270 : (Jvm.Cond.instanceMethod ({ cls := "LockRailModel", name := "settlesIn", desc := "(I)I" } : Jvm.MethodName)) ∈ lw_all := lw_g (lw_at lw_m9 211 rfl) rfl
theorem q2271 : (Jvm.Cond.code ({ cls := "LockRailModel", name := "settlesIn", desc := "(I)I" } : Jvm.MethodName) prog_20_method_88_code (3 : Nat) (Option.some Jvm.ClassFile.FieldType.int)) ∈ lw_all := lw_g (lw_at lw_m9 212 rfl) rfl
theorem q2272 : (Jvm.Cond.methodLink "LockRailModel" (430 : Nat) ({ cls := "LockRailModel", name := "round", desc := "()Z" } : Jvm.MethodName)) ∈ lw_all := lw_g (lw_at lw_m9 213 rfl) rfl
theorem q2273 : (Jvm.Cond.privateMethod ({ cls := "LockRailModel", name := "round", desc := "()Z" } : Jvm.MethodName)) ∈ lw_tbl := lw_at lw_m9 214 rfl
theorem q2274 : (Jvm.Cond.instanceMethod ({ cls := "LockRailModel", name := "round", desc := "()Z" } : Jvm.MethodName)) ∈ lw_all := lw_g (lw_at lw_m9 215 rfl) rfl
theorem q2275 : (Jvm.Cond.code ({ cls := "LockRailModel", name := "round", desc := "()Z" } : Jvm.MethodName) prog_20_method_85_code (4 : Nat) (Option.some Jvm.ClassFile.FieldType.boolean)) ∈ lw_all := lw_g (lw_at lw_m9 216 rfl) rfl
theorem q2277 : (Jvm.Cond.instanceMethod ({ cls := "LockRailModel", name := "settles", desc := "()I" } : Jvm.MethodName)) ∈ lw_all := lw_g (lw_at lw_m9 218 rfl) rfl
theorem q2278 : (Jvm.Cond.selects "LockRailModel" ({ cls := "LockRailModel", name := "settles", desc := "()I" } : Jvm.MethodName) ({ cls := "LockRailModel", name := "settles", desc := "()I" } : Jvm.MethodName)) ∈ lw_all := lw_g (lw_at lw_m9 219 rfl) rfl
theorem q2279 : (Jvm.Cond.code ({ cls := "LockRailModel", name := "settles", desc := "()I" } : Jvm.MethodName) prog_20_method_90_code (2 : Nat) (Option.some Jvm.ClassFile.FieldType.int)) ∈ lw_all := lw_g (lw_at lw_m9 220 rfl) rfl
theorem q2280 : (Jvm.Cond.methodLink "LockRailModel" (438 : Nat) ({ cls := "LockRailModel", name := "laysAside", desc := "()V" } : Jvm.MethodName)) ∈ lw_all := lw_g (lw_at lw_m9 221 rfl) rfl
theorem q2281 : (Jvm.Cond.privateMethod ({ cls := "LockRailModel", name := "laysAside", desc := "()V" } : Jvm.MethodName)) ∈ lw_tbl := lw_at lw_m9 222 rfl
theorem q2282 : (Jvm.Cond.instanceMethod ({ cls := "LockRailModel", name := "laysAside", desc := "()V" } : Jvm.MethodName)) ∈ lw_all := lw_g (lw_at lw_m9 223 rfl) rfl
theorem q2283 : (Jvm.Cond.code ({ cls := "LockRailModel", name := "laysAside", desc := "()V" } : Jvm.MethodName) prog_20_method_86_code (2 : Nat) (Option.none : Option Jvm.ClassFile.FieldType)) ∈ lw_all := lw_g (lw_at lw_m9 224 rfl) rfl
theorem q2284 : (Jvm.Cond.methodLink "LockRailModel" (441 : Nat) ({ cls := "LockRailModel", name := "takesBack", desc := "()V" } : Jvm.MethodName)) ∈ lw_all := lw_g (lw_at lw_m9 225 rfl) rfl
theorem q2285 : (Jvm.Cond.privateMethod ({ cls := "LockRailModel", name := "takesBack", desc := "()V" } : Jvm.MethodName)) ∈ lw_tbl := lw_at lw_m9 226 rfl
theorem q2286 : (Jvm.Cond.instanceMethod ({ cls := "LockRailModel", name := "takesBack", desc := "()V" } : Jvm.MethodName)) ∈ lw_all := lw_g (lw_at lw_m9 227 rfl) rfl
theorem q2287 : (Jvm.Cond.code ({ cls := "LockRailModel", name := "takesBack", desc := "()V" } : Jvm.MethodName) prog_20_method_87_code (2 : Nat) (Option.none : Option Jvm.ClassFile.FieldType)) ∈ lw_all := lw_g (lw_at lw_m9 228 rfl) rfl
theorem q2289 : (Jvm.Cond.instanceMethod ({ cls := "LockRailModel", name := "settled", desc := "()J" } : Jvm.MethodName)) ∈ lw_all := lw_g (lw_at lw_m9 230 rfl) rfl
theorem q2290 : (Jvm.Cond.selects "LockRailModel" ({ cls := "LockRailModel", name := "settled", desc := "()J" } : Jvm.MethodName) ({ cls := "LockRailModel", name := "settled", desc := "()J" } : Jvm.MethodName)) ∈ lw_all := lw_g (lw_at lw_m9 231 rfl) rfl
theorem q2291 : (Jvm.Cond.code ({ cls := "LockRailModel", name := "settled", desc := "()J" } : Jvm.MethodName) prog_20_method_91_code (3 : Nat) (Option.some Jvm.ClassFile.FieldType.long)) ∈ lw_all := lw_g (lw_at lw_m9 232 rfl) rfl
theorem q2293 : (Jvm.Cond.instanceMethod ({ cls := "LockRailModel", name := "better", desc := "(I)I" } : Jvm.MethodName)) ∈ lw_all := lw_g (lw_at lw_m9 234 rfl) rfl
theorem q2294 : (Jvm.Cond.selects "LockRailModel" ({ cls := "LockRailModel", name := "better", desc := "(I)I" } : Jvm.MethodName) ({ cls := "LockRailModel", name := "better", desc := "(I)I" } : Jvm.MethodName)) ∈ lw_all := lw_g (lw_at lw_m9 235 rfl) rfl
theorem q2295 : (Jvm.Cond.code ({ cls := "LockRailModel", name := "better", desc := "(I)I" } : Jvm.MethodName) prog_20_method_94_code (2 : Nat) (Option.some Jvm.ClassFile.FieldType.int)) ∈ lw_all := lw_g (lw_at lw_m9 236 rfl) rfl
theorem q2296 : (Jvm.Cond.constantLong "LockRailModel" (447 : Nat) (60 : Int64)) ∈ lw_all := lw_g (lw_at lw_m9 237 rfl) rfl
theorem q2297 : (Jvm.Cond.methodLink "LockRailModel" (449 : Nat) ({ cls := "LockRailModel", name := "betters", desc := "(I)I" } : Jvm.MethodName)) ∈ lw_all := lw_g (lw_at lw_m9 238 rfl) rfl
theorem q2298 : (Jvm.Cond.privateMethod ({ cls := "LockRailModel", name := "betters", desc := "(I)I" } : Jvm.MethodName)) ∈ lw_tbl := lw_at lw_m9 239 rfl
theorem q2299 : (Jvm.Cond.instanceMethod ({ cls := "LockRailModel", name := "betters", desc := "(I)I" } : Jvm.MethodName)) ∈ lw_all := lw_g (lw_at lw_m10 0 rfl) rfl
theorem q2300 : (Jvm.Cond.code ({ cls := "LockRailModel", name := "betters", desc := "(I)I" } : Jvm.MethodName) prog_20_method_93_code (3 : Nat) (Option.some Jvm.ClassFile.FieldType.int)) ∈ lw_all := lw_g (lw_at lw_m10 1 rfl) rfl
theorem q2301 : (Jvm.Cond.methodLink "LockRailModel" (444 : Nat) ({ cls := "LockRailModel", name := "changes", desc := "()Z" } : Jvm.MethodName)) ∈ lw_all := lw_g (lw_at lw_m10 2 rfl) rfl
theorem q2302 : (Jvm.Cond.privateMethod ({ cls := "LockRailModel", name := "changes", desc := "()Z" } : Jvm.MethodName)) ∈ lw_tbl := lw_at lw_m10 3 rfl
theorem q2303 : (Jvm.Cond.instanceMethod ({ cls := "LockRailModel", name := "changes", desc := "()Z" } : Jvm.MethodName)) ∈ lw_all := lw_g (lw_at lw_m10 4 rfl) rfl
theorem q2304 : (Jvm.Cond.code ({ cls := "LockRailModel", name := "changes", desc := "()Z" } : Jvm.MethodName) prog_20_method_92_code (10 : Nat) (Option.some Jvm.ClassFile.FieldType.boolean)) ∈ lw_all := lw_g (lw_at lw_m10 5 rfl) rfl
theorem q2306 : (Jvm.Cond.instanceMethod ({ cls := "LockRailModel", name := "good", desc := "()J" } : Jvm.MethodName)) ∈ lw_all := lw_g (lw_at lw_m10 7 rfl) rfl
theorem q2307 : (Jvm.Cond.selects "LockRailModel" ({ cls := "LockRailModel", name := "good", desc := "()J" } : Jvm.MethodName) ({ cls := "LockRailModel", name := "good", desc := "()J" } : Jvm.MethodName)) ∈ lw_all := lw_g (lw_at lw_m10 8 rfl) rfl
theorem q2308 : (Jvm.Cond.code ({ cls := "LockRailModel", name := "good", desc := "()J" } : Jvm.MethodName) prog_20_method_95_code (3 : Nat) (Option.some Jvm.ClassFile.FieldType.long)) ∈ lw_all := lw_g (lw_at lw_m10 9 rfl) rfl
theorem q2310 : (Jvm.Cond.instanceMethod ({ cls := "LockRailModel", name := "pair", desc := "(II)I" } : Jvm.MethodName)) ∈ lw_all := lw_g (lw_at lw_m10 11 rfl) rfl
theorem q2311 : (Jvm.Cond.selects "LockRailModel" ({ cls := "LockRailModel", name := "pair", desc := "(II)I" } : Jvm.MethodName) ({ cls := "LockRailModel", name := "pair", desc := "(II)I" } : Jvm.MethodName)) ∈ lw_all := lw_g (lw_at lw_m10 12 rfl) rfl
theorem q2312 : (Jvm.Cond.code ({ cls := "LockRailModel", name := "pair", desc := "(II)I" } : Jvm.MethodName) prog_20_method_97_code (12 : Nat) (Option.some Jvm.ClassFile.FieldType.int)) ∈ lw_all := lw_g (lw_at lw_m10 13 rfl) rfl
theorem q2313 : (Jvm.Cond.methodLink "LockRailModel" (452 : Nat) ({ cls := "LockRailModel", name := "areTwo", desc := "(II)Z" } : Jvm.MethodName)) ∈ lw_all := lw_g (lw_at lw_m10 14 rfl) rfl
theorem q2314 : (Jvm.Cond.privateMethod ({ cls := "LockRailModel", name := "areTwo", desc := "(II)Z" } : Jvm.MethodName)) ∈ lw_tbl := lw_at lw_m10 15 rfl
theorem q2315 : (Jvm.Cond.instanceMethod ({ cls := "LockRailModel", name := "areTwo", desc := "(II)Z" } : Jvm.MethodName)) ∈ lw_all := lw_g (lw_at lw_m10 16 rfl) rfl
theorem q2316 : (Jvm.Cond.code ({ cls := "LockRailModel", name := "areTwo", desc := "(II)Z" } : Jvm.MethodName) prog_20_method_96_code (3 : Nat) (Option.some Jvm.ClassFile.FieldType.boolean)) ∈ lw_all := lw_g (lw_at lw_m10 17 rfl) rfl
theorem q2318 : (Jvm.Cond.instanceMethod ({ cls := "LockRailModel", name := "wasted", desc := "()J" } : Jvm.MethodName)) ∈ lw_all := lw_g (lw_at lw_m10 19 rfl) rfl
theorem q2319 : (Jvm.Cond.selects "LockRailModel" ({ cls := "LockRailModel", name := "wasted", desc := "()J" } : Jvm.MethodName) ({ cls := "LockRailModel", name := "wasted", desc := "()J" } : Jvm.MethodName)) ∈ lw_all := lw_g (lw_at lw_m10 20 rfl) rfl
theorem q2320 : (Jvm.Cond.code ({ cls := "LockRailModel", name := "wasted", desc := "()J" } : Jvm.MethodName) prog_20_method_98_code (5 : Nat) (Option.some Jvm.ClassFile.FieldType.long)) ∈ lw_all := lw_g (lw_at lw_m10 21 rfl) rfl
theorem q2321 : (Jvm.Cond.constantLong "LockRailModel" (456 : Nat) (-1000000000000 : Int64)) ∈ lw_all := lw_g (lw_at lw_m10 22 rfl) rfl
theorem q2323 : (Jvm.Cond.instanceMethod ({ cls := "LockRailModel", name := "beside", desc := "(III)J" } : Jvm.MethodName)) ∈ lw_all := lw_g (lw_at lw_m10 24 rfl) rfl
theorem q2324 : (Jvm.Cond.selects "LockRailModel" ({ cls := "LockRailModel", name := "beside", desc := "(III)J" } : Jvm.MethodName) ({ cls := "LockRailModel", name := "beside", desc := "(III)J" } : Jvm.MethodName)) ∈ lw_all := lw_g (lw_at lw_m10 25 rfl) rfl
theorem q2325 : (Jvm.Cond.code ({ cls := "LockRailModel", name := "beside", desc := "(III)J" } : Jvm.MethodName) prog_20_method_100_code (4 : Nat) (Option.some Jvm.ClassFile.FieldType.long)) ∈ lw_all := lw_g (lw_at lw_m10 26 rfl) rfl
theorem q2326 : (Jvm.Cond.methodLink "LockRailModel" (458 : Nat) ({ cls := "LockRailModel", name := "laysGrowth", desc := "(II)V" } : Jvm.MethodName)) ∈ lw_all := lw_g (lw_at lw_m10 27 rfl) rfl
theorem q2327 : (Jvm.Cond.privateMethod ({ cls := "LockRailModel", name := "laysGrowth", desc := "(II)V" } : Jvm.MethodName)) ∈ lw_tbl := lw_at lw_m10 28 rfl
theorem q2328 : (Jvm.Cond.instanceMethod ({ cls := "LockRailModel", name := "laysGrowth", desc := "(II)V" } : Jvm.MethodName)) ∈ lw_all := lw_g (lw_at lw_m10 29 rfl) rfl
theorem q2329 : (Jvm.Cond.code ({ cls := "LockRailModel", name := "laysGrowth", desc := "(II)V" } : Jvm.MethodName) prog_20_method_99_code (5 : Nat) (Option.none : Option Jvm.ClassFile.FieldType)) ∈ lw_all := lw_g (lw_at lw_m10 30 rfl) rfl
theorem q2331 : (Jvm.Cond.instanceMethod ({ cls := "LockRailModel", name := "worse", desc := "(II)I" } : Jvm.MethodName)) ∈ lw_all := lw_g (lw_at lw_m10 32 rfl) rfl
theorem q2332 : (Jvm.Cond.selects "LockRailModel" ({ cls := "LockRailModel", name := "worse", desc := "(II)I" } : Jvm.MethodName) ({ cls := "LockRailModel", name := "worse", desc := "(II)I" } : Jvm.MethodName)) ∈ lw_all := lw_g (lw_at lw_m10 33 rfl) rfl
theorem q2333 : (Jvm.Cond.code ({ cls := "LockRailModel", name := "worse", desc := "(II)I" } : Jvm.MethodName) prog_20_method_101_code (5 : Nat) (Option.some Jvm.ClassFile.FieldType.int)) ∈ lw_all := lw_g (lw_at lw_m10 34 rfl) rfl
theorem q2335 : (Jvm.Cond.instanceMethod ({ cls := "LockRailModel", name := "next", desc := "(II)I" } : Jvm.MethodName)) ∈ lw_all := lw_g (lw_at lw_m10 36 rfl) rfl
theorem q2336 : (Jvm.Cond.selects "LockRailModel" ({ cls := "LockRailModel", name := "next", desc := "(II)I" } : Jvm.MethodName) ({ cls := "LockRailModel", name := "next", desc := "(II)I" } : Jvm.MethodName)) ∈ lw_all := lw_g (lw_at lw_m10 37 rfl) rfl
theorem q2337 : (Jvm.Cond.code ({ cls := "LockRailModel", name := "next", desc := "(II)I" } : Jvm.MethodName) prog_20_method_102_code (7 : Nat) (Option.some Jvm.ClassFile.FieldType.int)) ∈ lw_all := lw_g (lw_at lw_m10 38 rfl) rfl
theorem q2339 : (Jvm.Cond.instanceMethod ({ cls := "LockRailModel", name := "move", desc := "(II)I" } : Jvm.MethodName)) ∈ lw_all := lw_g (lw_at lw_m10 40 rfl) rfl
theorem q2340 : (Jvm.Cond.selects "LockRailModel" ({ cls := "LockRailModel", name := "move", desc := "(II)I" } : Jvm.MethodName) ({ cls := "LockRailModel", name := "move", desc := "(II)I" } : Jvm.MethodName)) ∈ lw_all := lw_g (lw_at lw_m10 41 rfl) rfl
theorem q2341 : (Jvm.Cond.code ({ cls := "LockRailModel", name := "move", desc := "(II)I" } : Jvm.MethodName) prog_20_method_104_code (5 : Nat) (Option.some Jvm.ClassFile.FieldType.int)) ∈ lw_all := lw_g (lw_at lw_m10 42 rfl) rfl
theorem q2342 : (Jvm.Cond.methodLink "LockRailModel" (461 : Nat) ({ cls := "LockRailModel", name := "standsAt", desc := "(I)I" } : Jvm.MethodName)) ∈ lw_all := lw_g (lw_at lw_m10 43 rfl) rfl
theorem q2343 : (Jvm.Cond.privateMethod ({ cls := "LockRailModel", name := "standsAt", desc := "(I)I" } : Jvm.MethodName)) ∈ lw_tbl := lw_at lw_m10 44 rfl
theorem q2344 : (Jvm.Cond.instanceMethod ({ cls := "LockRailModel", name := "standsAt", desc := "(I)I" } : Jvm.MethodName)) ∈ lw_all := lw_g (lw_at lw_m10 45 rfl) rfl
theorem q2345 : (Jvm.Cond.code ({ cls := "LockRailModel", name := "standsAt", desc := "(I)I" } : Jvm.MethodName) prog_20_method_103_code (3 : Nat) (Option.some Jvm.ClassFile.FieldType.int)) ∈ lw_all := lw_g (lw_at lw_m10 46 rfl) rfl
theorem q2347 : (Jvm.Cond.instanceMethod ({ cls := "LockRailModel", name := "swap", desc := "(II)I" } : Jvm.MethodName)) ∈ lw_all := lw_g (lw_at lw_m10 48 rfl) rfl
theorem q2348 : (Jvm.Cond.selects "LockRailModel" ({ cls := "LockRailModel", name := "swap", desc := "(II)I" } : Jvm.MethodName) ({ cls := "LockRailModel", name := "swap", desc := "(II)I" } : Jvm.MethodName)) ∈ lw_all := lw_g (lw_at lw_m10 49 rfl) rfl
theorem q2349 : (Jvm.Cond.code ({ cls := "LockRailModel", name := "swap", desc := "(II)I" } : Jvm.MethodName) prog_20_method_105_code (6 : Nat) (Option.some Jvm.ClassFile.FieldType.int)) ∈ lw_all := lw_g (lw_at lw_m10 50 rfl) rfl
theorem q2351 : (Jvm.Cond.instanceMethod ({ cls := "LockRailModel", name := "where", desc := "(I)I" } : Jvm.MethodName)) ∈ lw_all := lw_g (lw_at lw_m10 52 rfl) rfl
theorem q2352 : (Jvm.Cond.selects "LockRailModel" ({ cls := "LockRailModel", name := "where", desc := "(I)I" } : Jvm.MethodName) ({ cls := "LockRailModel", name := "where", desc := "(I)I" } : Jvm.MethodName)) ∈ lw_all := lw_g (lw_at lw_m10 53 rfl) rfl
theorem q2353 : (Jvm.Cond.code ({ cls := "LockRailModel", name := "where", desc := "(I)I" } : Jvm.MethodName) prog_20_method_106_code (10 : Nat) (Option.some Jvm.ClassFile.FieldType.int)) ∈ lw_all := lw_g (lw_at lw_m10 54 rfl) rfl
theorem q2355 : (Jvm.Cond.instanceMethod ({ cls := "LockRailModel", name := "lamp", desc := "(I)I" } : Jvm.MethodName)) ∈ lw_all := lw_g (lw_at lw_m10 56 rfl) rfl
theorem q2356 : (Jvm.Cond.selects "LockRailModel" ({ cls := "LockRailModel", name := "lamp", desc := "(I)I" } : Jvm.MethodName) ({ cls := "LockRailModel", name := "lamp", desc := "(I)I" } : Jvm.MethodName)) ∈ lw_all := lw_g (lw_at lw_m10 57 rfl) rfl
theorem q2357 : (Jvm.Cond.code ({ cls := "LockRailModel", name := "lamp", desc := "(I)I" } : Jvm.MethodName) prog_20_method_109_code (8 : Nat) (Option.some Jvm.ClassFile.FieldType.int)) ∈ lw_all := lw_g (lw_at lw_m10 58 rfl) rfl
theorem q2358 : (Jvm.Cond.methodLink "LockRailModel" (466 : Nat) ({ cls := "LockRailModel", name := "isBright", desc := "(I)Z" } : Jvm.MethodName)) ∈ lw_all := lw_g (lw_at lw_m10 59 rfl) rfl
theorem q2359 : (Jvm.Cond.static ({ cls := "LockRailModel", name := "isBright", desc := "(I)Z" } : Jvm.MethodName)) ∈ lw_all := lw_g (lw_at lw_m10 60 rfl) rfl
theorem q2360 : (Jvm.Cond.code ({ cls := "LockRailModel", name := "isBright", desc := "(I)Z" } : Jvm.MethodName) prog_20_method_108_code (1 : Nat) (Option.some Jvm.ClassFile.FieldType.boolean)) ∈ lw_all := lw_g (lw_at lw_m10 61 rfl) rfl
theorem q2361 : (Jvm.Cond.constantLong "LockRailModel" (464 : Nat) (99 : Int64)) ∈ lw_all := lw_g (lw_at lw_m10 62 rfl) rfl
theorem q2362 : (Jvm.Cond.methodLink "LockRailModel" (469 : Nat) ({ cls := "LockRailModel", name := "litBy", desc := "(II)J" } : Jvm.MethodName)) ∈ lw_all := lw_g (lw_at lw_m10 63 rfl) rfl
theorem q2363 : (Jvm.Cond.privateMethod ({ cls := "LockRailModel", name := "litBy", desc := "(II)J" } : Jvm.MethodName)) ∈ lw_tbl := lw_at lw_m10 64 rfl
theorem q2364 : (Jvm.Cond.instanceMethod ({ cls := "LockRailModel", name := "litBy", desc := "(II)J" } : Jvm.MethodName)) ∈ lw_all := lw_g (lw_at lw_m10 65 rfl) rfl
theorem q2365 : (Jvm.Cond.code ({ cls := "LockRailModel", name := "litBy", desc := "(II)J" } : Jvm.MethodName) prog_20_method_107_code (5 : Nat) (Option.some Jvm.ClassFile.FieldType.long)) ∈ lw_all := lw_g (lw_at lw_m10 66 rfl) rfl
theorem q2367 : (Jvm.Cond.instanceMethod ({ cls := "LockRailModel", name := "lit", desc := "(II)J" } : Jvm.MethodName)) ∈ lw_all := lw_g (lw_at lw_m10 68 rfl) rfl
theorem q2368 : (Jvm.Cond.selects "LockRailModel" ({ cls := "LockRailModel", name := "lit", desc := "(II)J" } : Jvm.MethodName) ({ cls := "LockRailModel", name := "lit", desc := "(II)J" } : Jvm.MethodName)) ∈ lw_all := lw_g (lw_at lw_m10 69 rfl) rfl
theorem q2369 : (Jvm.Cond.code ({ cls := "LockRailModel", name := "lit", desc := "(II)J" } : Jvm.MethodName) prog_20_method_110_code (3 : Nat) (Option.some Jvm.ClassFile.FieldType.long)) ∈ lw_all := lw_g (lw_at lw_m10 70 rfl) rfl
theorem q2371 : (Jvm.Cond.instanceMethod ({ cls := "LockRailModel", name := "watch", desc := "(Z)I" } : Jvm.MethodName)) ∈ lw_all := lw_g (lw_at lw_m10 72 rfl) rfl
theorem q2372 : (Jvm.Cond.selects "LockRailModel" ({ cls := "LockRailModel", name := "watch", desc := "(Z)I" } : Jvm.MethodName) ({ cls := "LockRailModel", name := "watch", desc := "(Z)I" } : Jvm.MethodName)) ∈ lw_all := lw_g (lw_at lw_m10 73 rfl) rfl
theorem q2373 : (Jvm.Cond.code ({ cls := "LockRailModel", name := "watch", desc := "(Z)I" } : Jvm.MethodName) prog_20_method_111_code (3 : Nat) (Option.some Jvm.ClassFile.FieldType.int)) ∈ lw_all := lw_g (lw_at lw_m10 74 rfl) rfl
theorem q2375 : (Jvm.Cond.instanceMethod ({ cls := "LockRailModel", name := "penny", desc := "()J" } : Jvm.MethodName)) ∈ lw_all := lw_g (lw_at lw_m10 76 rfl) rfl
theorem q2376 : (Jvm.Cond.selects "LockRailModel" ({ cls := "LockRailModel", name := "penny", desc := "()J" } : Jvm.MethodName) ({ cls := "LockRailModel", name := "penny", desc := "()J" } : Jvm.MethodName)) ∈ lw_all := lw_g (lw_at lw_m10 77 rfl) rfl
theorem q2377 : (Jvm.Cond.code ({ cls := "LockRailModel", name := "penny", desc := "()J" } : Jvm.MethodName) prog_20_method_113_code (4 : Nat) (Option.some Jvm.ClassFile.FieldType.long)) ∈ lw_all := lw_g (lw_at lw_m10 78 rfl) rfl
theorem q2378 : (Jvm.Cond.methodLink "LockRailModel" (472 : Nat) ({ cls := "LockRailModel", name := "laysWatch", desc := "()V" } : Jvm.MethodName)) ∈ lw_all := lw_g (lw_at lw_m10 79 rfl) rfl
theorem q2379 : (Jvm.Cond.privateMethod ({ cls := "LockRailModel", name := "laysWatch", desc := "()V" } : Jvm.MethodName)) ∈ lw_tbl := lw_at lw_m10 80 rfl
theorem q2380 : (Jvm.Cond.instanceMethod ({ cls := "LockRailModel", name := "laysWatch", desc := "()V" } : Jvm.MethodName)) ∈ lw_all := lw_g (lw_at lw_m10 81 rfl) rfl
theorem q2381 : (Jvm.Cond.code ({ cls := "LockRailModel", name := "laysWatch", desc := "()V" } : Jvm.MethodName) prog_20_method_112_code (3 : Nat) (Option.none : Option Jvm.ClassFile.FieldType)) ∈ lw_all := lw_g (lw_at lw_m10 82 rfl) rfl
theorem q2383 : (Jvm.Cond.instanceMethod ({ cls := "LockRailModel", name := "enough", desc := "()I" } : Jvm.MethodName)) ∈ lw_all := lw_g (lw_at lw_m10 84 rfl) rfl
theorem q2384 : (Jvm.Cond.selects "LockRailModel" ({ cls := "LockRailModel", name := "enough", desc := "()I" } : Jvm.MethodName) ({ cls := "LockRailModel", name := "enough", desc := "()I" } : Jvm.MethodName)) ∈ lw_all := lw_g (lw_at lw_m10 85 rfl) rfl
theorem q2385 : (Jvm.Cond.code ({ cls := "LockRailModel", name := "enough", desc := "()I" } : Jvm.MethodName) prog_20_method_114_code (7 : Nat) (Option.some Jvm.ClassFile.FieldType.int)) ∈ lw_all := lw_g (lw_at lw_m10 86 rfl) rfl
theorem q2387 : (Jvm.Cond.instanceMethod ({ cls := "LockRailModel", name := "marks", desc := "()I" } : Jvm.MethodName)) ∈ lw_all := lw_g (lw_at lw_m10 88 rfl) rfl
theorem q2388 : (Jvm.Cond.selects "LockRailModel" ({ cls := "LockRailModel", name := "marks", desc := "()I" } : Jvm.MethodName) ({ cls := "LockRailModel", name := "marks", desc := "()I" } : Jvm.MethodName)) ∈ lw_all := lw_g (lw_at lw_m10 89 rfl) rfl
theorem q2389 : (Jvm.Cond.code ({ cls := "LockRailModel", name := "marks", desc := "()I" } : Jvm.MethodName) prog_20_method_117_code (3 : Nat) (Option.some Jvm.ClassFile.FieldType.int)) ∈ lw_all := lw_g (lw_at lw_m10 90 rfl) rfl
theorem q2390 : (Jvm.Cond.methodLink "LockRailModel" (475 : Nat) ({ cls := "LockRailModel", name := "marksSet", desc := "(I)V" } : Jvm.MethodName)) ∈ lw_all := lw_g (lw_at lw_m10 91 rfl) rfl
theorem q2391 : (Jvm.Cond.privateMethod ({ cls := "LockRailModel", name := "marksSet", desc := "(I)V" } : Jvm.MethodName)) ∈ lw_tbl := lw_at lw_m10 92 rfl
theorem q2392 : (Jvm.Cond.instanceMethod ({ cls := "LockRailModel", name := "marksSet", desc := "(I)V" } : Jvm.MethodName)) ∈ lw_all := lw_g (lw_at lw_m10 93 rfl) rfl
theorem q2393 : (Jvm.Cond.code ({ cls := "LockRailModel", name := "marksSet", desc := "(I)V" } : Jvm.MethodName) prog_20_method_115_code (3 : Nat) (Option.none : Option Jvm.ClassFile.FieldType)) ∈ lw_all := lw_g (lw_at lw_m10 94 rfl) rfl
theorem q2394 : (Jvm.Cond.methodLink "LockRailModel" (478 : Nat) ({ cls := "LockRailModel", name := "isWanted", desc := "()Z" } : Jvm.MethodName)) ∈ lw_all := lw_g (lw_at lw_m10 95 rfl) rfl
theorem q2395 : (Jvm.Cond.privateMethod ({ cls := "LockRailModel", name := "isWanted", desc := "()Z" } : Jvm.MethodName)) ∈ lw_tbl := lw_at lw_m10 96 rfl
theorem q2396 : (Jvm.Cond.instanceMethod ({ cls := "LockRailModel", name := "isWanted", desc := "()Z" } : Jvm.MethodName)) ∈ lw_all := lw_g (lw_at lw_m10 97 rfl) rfl
theorem q2397 : (Jvm.Cond.code ({ cls := "LockRailModel", name := "isWanted", desc := "()Z" } : Jvm.MethodName) prog_20_method_116_code (2 : Nat) (Option.some Jvm.ClassFile.FieldType.boolean)) ∈ lw_all := lw_g (lw_at lw_m10 98 rfl) rfl
theorem q2399 : (Jvm.Cond.instanceMethod ({ cls := "LockRailModel", name := "hides", desc := "(I)J" } : Jvm.MethodName)) ∈ lw_all := lw_g (lw_at lw_m10 100 rfl) rfl
theorem q2400 : (Jvm.Cond.selects "LockRailModel" ({ cls := "LockRailModel", name := "hides", desc := "(I)J" } : Jvm.MethodName) ({ cls := "LockRailModel", name := "hides", desc := "(I)J" } : Jvm.MethodName)) ∈ lw_all := lw_g (lw_at lw_m10 101 rfl) rfl
theorem q2401 : (Jvm.Cond.code ({ cls := "LockRailModel", name := "hides", desc := "(I)J" } : Jvm.MethodName) prog_20_method_118_code (4 : Nat) (Option.some Jvm.ClassFile.FieldType.long)) ∈ lw_all := lw_g (lw_at lw_m10 102 rfl) rfl
theorem q2403 : (Jvm.Cond.instanceMethod ({ cls := "LockRailModel", name := "bait", desc := "(III)J" } : Jvm.MethodName)) ∈ lw_all := lw_g (lw_at lw_m10 104 rfl) rfl
theorem q2404 : (Jvm.Cond.selects "LockRailModel" ({ cls := "LockRailModel", name := "bait", desc := "(III)J" } : Jvm.MethodName) ({ cls := "LockRailModel", name := "bait", desc := "(III)J" } : Jvm.MethodName)) ∈ lw_all := lw_g (lw_at lw_m10 105 rfl) rfl
theorem q2405 : (Jvm.Cond.code ({ cls := "LockRailModel", name := "bait", desc := "(III)J" } : Jvm.MethodName) prog_20_method_123_code (5 : Nat) (Option.some Jvm.ClassFile.FieldType.long)) ∈ lw_all := lw_g (lw_at lw_m10 106 rfl) rfl
theorem q2406 : (Jvm.Cond.methodLink "LockRailModel" (492 : Nat) ({ cls := "LockRailModel", name := "whyNot", desc := "(III)I" } : Jvm.MethodName)) ∈ lw_all := lw_g (lw_at lw_m10 107 rfl) rfl
theorem q2407 : (Jvm.Cond.privateMethod ({ cls := "LockRailModel", name := "whyNot", desc := "(III)I" } : Jvm.MethodName)) ∈ lw_tbl := lw_at lw_m10 108 rfl
theorem q2408 : (Jvm.Cond.instanceMethod ({ cls := "LockRailModel", name := "whyNot", desc := "(III)I" } : Jvm.MethodName)) ∈ lw_all := lw_g (lw_at lw_m10 109 rfl) rfl
theorem q2409 : (Jvm.Cond.code ({ cls := "LockRailModel", name := "whyNot", desc := "(III)I" } : Jvm.MethodName) prog_20_method_122_code (4 : Nat) (Option.some Jvm.ClassFile.FieldType.int)) ∈ lw_all := lw_g (lw_at lw_m10 110 rfl) rfl
theorem q2410 : (Jvm.Cond.constantLong "LockRailModel" (490 : Nat) (9999 : Int64)) ∈ lw_all := lw_g (lw_at lw_m10 111 rfl) rfl
theorem q2411 : (Jvm.Cond.methodLink "LockRailModel" (495 : Nat) ({ cls := "LockRailModel", name := "baits", desc := "(III)V" } : Jvm.MethodName)) ∈ lw_all := lw_g (lw_at lw_m10 112 rfl) rfl
theorem q2412 : (Jvm.Cond.privateMethod ({ cls := "LockRailModel", name := "baits", desc := "(III)V" } : Jvm.MethodName)) ∈ lw_tbl := lw_at lw_m10 113 rfl
theorem q2413 : (Jvm.Cond.instanceMethod ({ cls := "LockRailModel", name := "baits", desc := "(III)V" } : Jvm.MethodName)) ∈ lw_all := lw_g (lw_at lw_m10 114 rfl) rfl
theorem q2414 : (Jvm.Cond.code ({ cls := "LockRailModel", name := "baits", desc := "(III)V" } : Jvm.MethodName) prog_20_method_121_code (10 : Nat) (Option.none : Option Jvm.ClassFile.FieldType)) ∈ lw_all := lw_g (lw_at lw_m10 115 rfl) rfl
theorem q2415 : (Jvm.Cond.methodLink "LockRailModel" (481 : Nat) ({ cls := "LockRailModel", name := "state", desc := "(II)I" } : Jvm.MethodName)) ∈ lw_all := lw_g (lw_at lw_m10 116 rfl) rfl
theorem q2416 : (Jvm.Cond.static ({ cls := "LockRailModel", name := "state", desc := "(II)I" } : Jvm.MethodName)) ∈ lw_all := lw_g (lw_at lw_m10 117 rfl) rfl
theorem q2417 : (Jvm.Cond.code ({ cls := "LockRailModel", name := "state", desc := "(II)I" } : Jvm.MethodName) prog_20_method_119_code (2 : Nat) (Option.some Jvm.ClassFile.FieldType.int)) ∈ lw_all := lw_g (lw_at lw_m10 118 rfl) rfl
theorem q2418 : (Jvm.Cond.methodLink "LockRailModel" (487 : Nat) ({ cls := "LockRailModel", name := "thiefGoes", desc := "(II)V" } : Jvm.MethodName)) ∈ lw_all := lw_g (lw_at lw_m10 119 rfl) rfl
theorem q2419 : (Jvm.Cond.privateMethod ({ cls := "LockRailModel", name := "thiefGoes", desc := "(II)V" } : Jvm.MethodName)) ∈ lw_tbl := lw_at lw_m10 120 rfl
theorem q2420 : (Jvm.Cond.instanceMethod ({ cls := "LockRailModel", name := "thiefGoes", desc := "(II)V" } : Jvm.MethodName)) ∈ lw_all := lw_g (lw_at lw_m10 121 rfl) rfl
theorem q2421 : (Jvm.Cond.code ({ cls := "LockRailModel", name := "thiefGoes", desc := "(II)V" } : Jvm.MethodName) prog_20_method_120_code (12 : Nat) (Option.none : Option Jvm.ClassFile.FieldType)) ∈ lw_all := lw_g (lw_at lw_m10 122 rfl) rfl
theorem q2423 : (Jvm.Cond.instanceMethod ({ cls := "LockRailModel", name := "caught", desc := "(IIII)J" } : Jvm.MethodName)) ∈ lw_all := lw_g (lw_at lw_m10 124 rfl) rfl
theorem q2424 : (Jvm.Cond.selects "LockRailModel" ({ cls := "LockRailModel", name := "caught", desc := "(IIII)J" } : Jvm.MethodName) ({ cls := "LockRailModel", name := "caught", desc := "(IIII)J" } : Jvm.MethodName)) ∈ lw_all := lw_g (lw_at lw_m10 125 rfl) rfl
theorem q2425 : (Jvm.Cond.code ({ cls := "LockRailModel", name := "caught", desc := "(IIII)J" } : Jvm.MethodName) prog_20_method_124_code (9 : Nat) (Option.some Jvm.ClassFile.FieldType.long)) ∈ lw_all := lw_g (lw_at lw_m10 126 rfl) rfl
theorem q2427 : (Jvm.Cond.instanceMethod ({ cls := "LockRailModel", name := "lures", desc := "(I)I" } : Jvm.MethodName)) ∈ lw_all := lw_g (lw_at lw_m10 128 rfl) rfl
theorem q2428 : (Jvm.Cond.selects "LockRailModel" ({ cls := "LockRailModel", name := "lures", desc := "(I)I" } : Jvm.MethodName) ({ cls := "LockRailModel", name := "lures", desc := "(I)I" } : Jvm.MethodName)) ∈ lw_all := lw_g (lw_at lw_m10 129 rfl) rfl
theorem q2429 : (Jvm.Cond.code ({ cls := "LockRailModel", name := "lures", desc := "(I)I" } : Jvm.MethodName) prog_20_method_125_code (5 : Nat) (Option.some Jvm.ClassFile.FieldType.int)) ∈ lw_all := lw_g (lw_at lw_m10 130 rfl) rfl
theorem q2431 : (Jvm.Cond.instanceMethod ({ cls := "LockRailModel", name := "cover", desc := "(III)J" } : Jvm.MethodName)) ∈ lw_all := lw_g (lw_at lw_m10 132 rfl) rfl
theorem q2432 : (Jvm.Cond.selects "LockRailModel" ({ cls := "LockRailModel", name := "cover", desc := "(III)J" } : Jvm.MethodName) ({ cls := "LockRailModel", name := "cover", desc := "(III)J" } : Jvm.MethodName)) ∈ lw_all := lw_g (lw_at lw_m10 133 rfl) rfl
theorem q2433 : (Jvm.Cond.code ({ cls := "LockRailModel", name := "cover", desc := "(III)J" } : Jvm.MethodName) prog_20_method_128_code (4 : Nat) (Option.some Jvm.ClassFile.FieldType.long)) ∈ lw_all := lw_g (lw_at lw_m10 134 rfl) rfl
theorem q2434 : (Jvm.Cond.methodLink "LockRailModel" (502 : Nat) ({ cls := "LockRailModel", name := "isCover", desc := "(III)Z" } : Jvm.MethodName)) ∈ lw_all := lw_g (lw_at lw_m10 135 rfl) rfl
theorem q2435 : (Jvm.Cond.privateMethod ({ cls := "LockRailModel", name := "isCover", desc := "(III)Z" } : Jvm.MethodName)) ∈ lw_tbl := lw_at lw_m10 136 rfl
theorem q2436 : (Jvm.Cond.instanceMethod ({ cls := "LockRailModel", name := "isCover", desc := "(III)Z" } : Jvm.MethodName)) ∈ lw_all := lw_g (lw_at lw_m10 137 rfl) rfl
theorem q2437 : (Jvm.Cond.code ({ cls := "LockRailModel", name := "isCover", desc := "(III)Z" } : Jvm.MethodName) prog_20_method_127_code (4 : Nat) (Option.some Jvm.ClassFile.FieldType.boolean)) ∈ lw_all := lw_g (lw_at lw_m10 138 rfl) rfl
theorem q2438 : (Jvm.Cond.methodLink "LockRailModel" (505 : Nat) ({ cls := "LockRailModel", name := "covers", desc := "(III)I" } : Jvm.MethodName)) ∈ lw_all := lw_g (lw_at lw_m10 139 rfl) rfl
theorem q2439 : (Jvm.Cond.privateMethod ({ cls := "LockRailModel", name := "covers", desc := "(III)I" } : Jvm.MethodName)) ∈ lw_tbl := lw_at lw_m10 140 rfl
theorem q2440 : (Jvm.Cond.instanceMethod ({ cls := "LockRailModel", name := "covers", desc := "(III)I" } : Jvm.MethodName)) ∈ lw_all := lw_g (lw_at lw_m10 141 rfl) rfl
theorem q2441 : (Jvm.Cond.code ({ cls := "LockRailModel", name := "covers", desc := "(III)I" } : Jvm.MethodName) prog_20_method_126_code (9 : Nat) (Option.some Jvm.ClassFile.FieldType.int)) ∈ lw_all := lw_g (lw_at lw_m10 142 rfl) rfl
theorem q2443 : (Jvm.Cond.instanceMethod ({ cls := "LockRailModel", name := "careless", desc := "(III)I" } : Jvm.MethodName)) ∈ lw_all := lw_g (lw_at lw_m10 144 rfl) rfl
theorem q2444 : (Jvm.Cond.selects "LockRailModel" ({ cls := "LockRailModel", name := "careless", desc := "(III)I" } : Jvm.MethodName) ({ cls := "LockRailModel", name := "careless", desc := "(III)I" } : Jvm.MethodName)) ∈ lw_all := lw_g (lw_at lw_m10 145 rfl) rfl
theorem q2445 : (Jvm.Cond.code ({ cls := "LockRailModel", name := "careless", desc := "(III)I" } : Jvm.MethodName) prog_20_method_129_code (4 : Nat) (Option.some Jvm.ClassFile.FieldType.int)) ∈ lw_all := lw_g (lw_at lw_m10 146 rfl) rfl
theorem q2447 : (Jvm.Cond.instanceMethod ({ cls := "LockRailModel", name := "law", desc := "(I)J" } : Jvm.MethodName)) ∈ lw_all := lw_g (lw_at lw_m10 148 rfl) rfl
theorem q2448 : (Jvm.Cond.selects "LockRailModel" ({ cls := "LockRailModel", name := "law", desc := "(I)J" } : Jvm.MethodName) ({ cls := "LockRailModel", name := "law", desc := "(I)J" } : Jvm.MethodName)) ∈ lw_all := lw_g (lw_at lw_m10 149 rfl) rfl
theorem q2449 : (Jvm.Cond.code ({ cls := "LockRailModel", name := "law", desc := "(I)J" } : Jvm.MethodName) prog_20_method_131_code (2 : Nat) (Option.some Jvm.ClassFile.FieldType.long)) ∈ lw_all := lw_g (lw_at lw_m10 150 rfl) rfl
theorem q2450 : (Jvm.Cond.methodLink "LockRailModel" (508 : Nat) ({ cls := "LockRailModel", name := "byLaw", desc := "(I)J" } : Jvm.MethodName)) ∈ lw_all := lw_g (lw_at lw_m10 151 rfl) rfl
theorem q2451 : (Jvm.Cond.privateMethod ({ cls := "LockRailModel", name := "byLaw", desc := "(I)J" } : Jvm.MethodName)) ∈ lw_tbl := lw_at lw_m10 152 rfl
theorem q2452 : (Jvm.Cond.instanceMethod ({ cls := "LockRailModel", name := "byLaw", desc := "(I)J" } : Jvm.MethodName)) ∈ lw_all := lw_g (lw_at lw_m10 153 rfl) rfl
theorem q2453 : (Jvm.Cond.code ({ cls := "LockRailModel", name := "byLaw", desc := "(I)J" } : Jvm.MethodName) prog_20_method_130_code (4 : Nat) (Option.some Jvm.ClassFile.FieldType.long)) ∈ lw_all := lw_g (lw_at lw_m10 154 rfl) rfl
theorem q2455 : (Jvm.Cond.instanceMethod ({ cls := "LockRailModel", name := "laws", desc := "()I" } : Jvm.MethodName)) ∈ lw_all := lw_g (lw_at lw_m10 156 rfl) rfl
theorem q2456 : (Jvm.Cond.selects "LockRailModel" ({ cls := "LockRailModel", name := "laws", desc := "()I" } : Jvm.MethodName) ({ cls := "LockRailModel", name := "laws", desc := "()I" } : Jvm.MethodName)) ∈ lw_all := lw_g (lw_at lw_m10 157 rfl) rfl
theorem q2457 : (Jvm.Cond.code ({ cls := "LockRailModel", name := "laws", desc := "()I" } : Jvm.MethodName) prog_20_method_132_code (7 : Nat) (Option.some Jvm.ClassFile.FieldType.int)) ∈ lw_all := lw_g (lw_at lw_m10 158 rfl) rfl
theorem q2459 : (Jvm.Cond.instanceMethod ({ cls := "LockRailModel", name := "rather", desc := "(II)I" } : Jvm.MethodName)) ∈ lw_all := lw_g (lw_at lw_m10 160 rfl) rfl
theorem q2460 : (Jvm.Cond.selects "LockRailModel" ({ cls := "LockRailModel", name := "rather", desc := "(II)I" } : Jvm.MethodName) ({ cls := "LockRailModel", name := "rather", desc := "(II)I" } : Jvm.MethodName)) ∈ lw_all := lw_g (lw_at lw_m10 161 rfl) rfl
theorem q2461 : (Jvm.Cond.code ({ cls := "LockRailModel", name := "rather", desc := "(II)I" } : Jvm.MethodName) prog_20_method_134_code (5 : Nat) (Option.some Jvm.ClassFile.FieldType.int)) ∈ lw_all := lw_g (lw_at lw_m10 162 rfl) rfl
theorem q2462 : (Jvm.Cond.methodLink "LockRailModel" (511 : Nat) ({ cls := "LockRailModel", name := "netOn", desc := "(II)I" } : Jvm.MethodName)) ∈ lw_all := lw_g (lw_at lw_m10 163 rfl) rfl
theorem q2463 : (Jvm.Cond.privateMethod ({ cls := "LockRailModel", name := "netOn", desc := "(II)I" } : Jvm.MethodName)) ∈ lw_tbl := lw_at lw_m10 164 rfl
theorem q2464 : (Jvm.Cond.instanceMethod ({ cls := "LockRailModel", name := "netOn", desc := "(II)I" } : Jvm.MethodName)) ∈ lw_all := lw_g (lw_at lw_m10 165 rfl) rfl
theorem q2465 : (Jvm.Cond.code ({ cls := "LockRailModel", name := "netOn", desc := "(II)I" } : Jvm.MethodName) prog_20_method_133_code (9 : Nat) (Option.some Jvm.ClassFile.FieldType.int)) ∈ lw_all := lw_g (lw_at lw_m10 166 rfl) rfl
theorem q2467 : (Jvm.Cond.instanceMethod ({ cls := "LockRailModel", name := "run", desc := "(I)I" } : Jvm.MethodName)) ∈ lw_all := lw_g (lw_at lw_m10 168 rfl) rfl
theorem q2468 : (Jvm.Cond.selects "LockRailModel" ({ cls := "LockRailModel", name := "run", desc := "(I)I" } : Jvm.MethodName) ({ cls := "LockRailModel", name := "run", desc := "(I)I" } : Jvm.MethodName)) ∈ lw_all := lw_g (lw_at lw_m10 169 rfl) rfl
theorem q2469 : (Jvm.Cond.code ({ cls := "LockRailModel", name := "run", desc := "(I)I" } : Jvm.MethodName) prog_20_method_142_code (2 : Nat) (Option.some Jvm.ClassFile.FieldType.int)) ∈ lw_all := lw_g (lw_at lw_m10 170 rfl) rfl
theorem q2470 : (Jvm.Cond.methodLink "LockRailModel" (539 : Nat) ({ cls := "LockRailModel", name := "isSeed", desc := "(I)Z" } : Jvm.MethodName)) ∈ lw_all := lw_g (lw_at lw_m10 171 rfl) rfl
theorem q2471 : (Jvm.Cond.static ({ cls := "LockRailModel", name := "isSeed", desc := "(I)Z" } : Jvm.MethodName)) ∈ lw_all := lw_g (lw_at lw_m10 172 rfl) rfl
theorem q2472 : (Jvm.Cond.code ({ cls := "LockRailModel", name := "isSeed", desc := "(I)Z" } : Jvm.MethodName) prog_20_method_141_code (1 : Nat) (Option.some Jvm.ClassFile.FieldType.boolean)) ∈ lw_all := lw_g (lw_at lw_m10 173 rfl) rfl
theorem q2473 : (Jvm.Cond.constantLong "LockRailModel" (537 : Nat) (2000000000 : Int64)) ∈ lw_all := lw_g (lw_at lw_m10 174 rfl) rfl
theorem q2474 : (Jvm.Cond.methodLink "LockRailModel" (542 : Nat) ({ cls := "LockRailModel", name := "draws", desc := "(J)V" } : Jvm.MethodName)) ∈ lw_all := lw_g (lw_at lw_m10 175 rfl) rfl
theorem q2475 : (Jvm.Cond.privateMethod ({ cls := "LockRailModel", name := "draws", desc := "(J)V" } : Jvm.MethodName)) ∈ lw_tbl := lw_at lw_m10 176 rfl
theorem q2476 : (Jvm.Cond.instanceMethod ({ cls := "LockRailModel", name := "draws", desc := "(J)V" } : Jvm.MethodName)) ∈ lw_all := lw_g (lw_at lw_m10 177 rfl) rfl
theorem q2477 : (Jvm.Cond.code ({ cls := "LockRailModel", name := "draws", desc := "(J)V" } : Jvm.MethodName) prog_20_method_139_code (6 : Nat) (Option.none : Option Jvm.ClassFile.FieldType)) ∈ lw_all := lw_g (lw_at lw_m10 178 rfl) rfl
theorem q2478 : (Jvm.Cond.methodLink "LockRailModel" (525 : Nat) ({ cls := "LockRailModel", name := "newYear", desc := "()V" } : Jvm.MethodName)) ∈ lw_all := lw_g (lw_at lw_m10 179 rfl) rfl
theorem q2479 : (Jvm.Cond.privateMethod ({ cls := "LockRailModel", name := "newYear", desc := "()V" } : Jvm.MethodName)) ∈ lw_tbl := lw_at lw_m10 180 rfl
theorem q2480 : (Jvm.Cond.instanceMethod ({ cls := "LockRailModel", name := "newYear", desc := "()V" } : Jvm.MethodName)) ∈ lw_all := lw_g (lw_at lw_m10 181 rfl) rfl
theorem q2481 : (Jvm.Cond.code ({ cls := "LockRailModel", name := "newYear", desc := "()V" } : Jvm.MethodName) prog_20_method_136_code (2 : Nat) (Option.none : Option Jvm.ClassFile.FieldType)) ∈ lw_all := lw_g (lw_at lw_m10 182 rfl) rfl
theorem q2482 : (Jvm.Cond.methodLink "LockRailModel" (528 : Nat) ({ cls := "LockRailModel", name := "draw", desc := "()I" } : Jvm.MethodName)) ∈ lw_all := lw_g (lw_at lw_m10 183 rfl) rfl
theorem q2483 : (Jvm.Cond.privateMethod ({ cls := "LockRailModel", name := "draw", desc := "()I" } : Jvm.MethodName)) ∈ lw_tbl := lw_at lw_m10 184 rfl
theorem q2484 : (Jvm.Cond.instanceMethod ({ cls := "LockRailModel", name := "draw", desc := "()I" } : Jvm.MethodName)) ∈ lw_all := lw_g (lw_at lw_m10 185 rfl) rfl
theorem q2485 : (Jvm.Cond.code ({ cls := "LockRailModel", name := "draw", desc := "()I" } : Jvm.MethodName) prog_20_method_135_code (1 : Nat) (Option.some Jvm.ClassFile.FieldType.int)) ∈ lw_all := lw_g (lw_at lw_m10 186 rfl) rfl
theorem q2486 : (Jvm.Cond.constantLong "LockRailModel" (514 : Nat) (1103515245 : Int64)) ∈ lw_all := lw_g (lw_at lw_m10 187 rfl) rfl
theorem q2487 : (Jvm.Cond.constantLong "LockRailModel" (519 : Nat) (12345 : Int64)) ∈ lw_all := lw_g (lw_at lw_m10 188 rfl) rfl
theorem q2488 : (Jvm.Cond.constantLong "LockRailModel" (521 : Nat) (2147483648 : Int64)) ∈ lw_all := lw_g (lw_at lw_m10 189 rfl) rfl
theorem q2489 : (Jvm.Cond.constantLong "LockRailModel" (523 : Nat) (65536 : Int64)) ∈ lw_all := lw_g (lw_at lw_m10 190 rfl) rfl
theorem q2490 : (Jvm.Cond.methodLink "LockRailModel" (531 : Nat) ({ cls := "LockRailModel", name := "comes", desc := "(II)I" } : Jvm.MethodName)) ∈ lw_all := lw_g (lw_at lw_m10 191 rfl) rfl
theorem q2491 : (Jvm.Cond.privateMethod ({ cls := "LockRailModel", name := "comes", desc := "(II)I" } : Jvm.MethodName)) ∈ lw_tbl := lw_at lw_m10 192 rfl
theorem q2492 : (Jvm.Cond.instanceMethod ({ cls := "LockRailModel", name := "comes", desc := "(II)I" } : Jvm.MethodName)) ∈ lw_all := lw_g (lw_at lw_m10 193 rfl) rfl
theorem q2493 : (Jvm.Cond.code ({ cls := "LockRailModel", name := "comes", desc := "(II)I" } : Jvm.MethodName) prog_20_method_137_code (4 : Nat) (Option.some Jvm.ClassFile.FieldType.int)) ∈ lw_all := lw_g (lw_at lw_m10 194 rfl) rfl
theorem q2494 : (Jvm.Cond.methodLink "LockRailModel" (545 : Nat) ({ cls := "LockRailModel", name := "tellsYear", desc := "()I" } : Jvm.MethodName)) ∈ lw_all := lw_g (lw_at lw_m10 195 rfl) rfl
theorem q2495 : (Jvm.Cond.privateMethod ({ cls := "LockRailModel", name := "tellsYear", desc := "()I" } : Jvm.MethodName)) ∈ lw_tbl := lw_at lw_m10 196 rfl
theorem q2496 : (Jvm.Cond.instanceMethod ({ cls := "LockRailModel", name := "tellsYear", desc := "()I" } : Jvm.MethodName)) ∈ lw_all := lw_g (lw_at lw_m10 197 rfl) rfl
theorem q2497 : (Jvm.Cond.code ({ cls := "LockRailModel", name := "tellsYear", desc := "()I" } : Jvm.MethodName) prog_20_method_140_code (2 : Nat) (Option.some Jvm.ClassFile.FieldType.int)) ∈ lw_all := lw_g (lw_at lw_m10 198 rfl) rfl
theorem q2498 : (Jvm.Cond.methodLink "LockRailModel" (534 : Nat) ({ cls := "LockRailModel", name := "drawnAll", desc := "()I" } : Jvm.MethodName)) ∈ lw_all := lw_g (lw_at lw_m10 199 rfl) rfl
theorem q2499 : (Jvm.Cond.privateMethod ({ cls := "LockRailModel", name := "drawnAll", desc := "()I" } : Jvm.MethodName)) ∈ lw_tbl := lw_at lw_m10 200 rfl
theorem q2500 : (Jvm.Cond.instanceMethod ({ cls := "LockRailModel", name := "drawnAll", desc := "()I" } : Jvm.MethodName)) ∈ lw_all := lw_g (lw_at lw_m10 201 rfl) rfl
theorem q2501 : (Jvm.Cond.code ({ cls := "LockRailModel", name := "drawnAll", desc := "()I" } : Jvm.MethodName) prog_20_method_138_code (3 : Nat) (Option.some Jvm.ClassFile.FieldType.int)) ∈ lw_all := lw_g (lw_at lw_m10 202 rfl) rfl
theorem q2503 : (Jvm.Cond.instanceMethod ({ cls := "LockRailModel", name := "told", desc := "(I)I" } : Jvm.MethodName)) ∈ lw_all := lw_g (lw_at lw_m10 204 rfl) rfl
theorem q2504 : (Jvm.Cond.selects "LockRailModel" ({ cls := "LockRailModel", name := "told", desc := "(I)I" } : Jvm.MethodName) ({ cls := "LockRailModel", name := "told", desc := "(I)I" } : Jvm.MethodName)) ∈ lw_all := lw_g (lw_at lw_m10 205 rfl) rfl
theorem q2505 : (Jvm.Cond.code ({ cls := "LockRailModel", name := "told", desc := "(I)I" } : Jvm.MethodName) prog_20_method_143_code (5 : Nat) (Option.some Jvm.ClassFile.FieldType.int)) ∈ lw_all := lw_g (lw_at lw_m10 206 rfl) rfl
theorem q2507 : (Jvm.Cond.instanceMethod ({ cls := "LockRailModel", name := "taken", desc := "(I)I" } : Jvm.MethodName)) ∈ lw_all := lw_g (lw_at lw_m10 208 rfl) rfl
theorem q2508 : (Jvm.Cond.selects "LockRailModel" ({ cls := "LockRailModel", name := "taken", desc := "(I)I" } : Jvm.MethodName) ({ cls := "LockRailModel", name := "taken", desc := "(I)I" } : Jvm.MethodName)) ∈ lw_all := lw_g (lw_at lw_m10 209 rfl) rfl
theorem q2509 : (Jvm.Cond.code ({ cls := "LockRailModel", name := "taken", desc := "(I)I" } : Jvm.MethodName) prog_20_method_144_code (2 : Nat) (Option.some Jvm.ClassFile.FieldType.int)) ∈ lw_all := lw_g (lw_at lw_m10 210 rfl) rfl
theorem q2511 : (Jvm.Cond.instanceMethod ({ cls := "LockRailModel", name := "took", desc := "(I)I" } : Jvm.MethodName)) ∈ lw_all := lw_g (lw_at lw_m10 212 rfl) rfl
theorem q2512 : (Jvm.Cond.selects "LockRailModel" ({ cls := "LockRailModel", name := "took", desc := "(I)I" } : Jvm.MethodName) ({ cls := "LockRailModel", name := "took", desc := "(I)I" } : Jvm.MethodName)) ∈ lw_all := lw_g (lw_at lw_m10 213 rfl) rfl
theorem q2513 : (Jvm.Cond.code ({ cls := "LockRailModel", name := "took", desc := "(I)I" } : Jvm.MethodName) prog_20_method_145_code (2 : Nat) (Option.some Jvm.ClassFile.FieldType.int)) ∈ lw_all := lw_g (lw_at lw_m10 214 rfl) rfl
theorem q2515 : (Jvm.Cond.instanceMethod ({ cls := "LockRailModel", name := "years", desc := "(III)J" } : Jvm.MethodName)) ∈ lw_all := lw_g (lw_at lw_m10 216 rfl) rfl
theorem q2516 : (Jvm.Cond.selects "LockRailModel" ({ cls := "LockRailModel", name := "years", desc := "(III)J" } : Jvm.MethodName) ({ cls := "LockRailModel", name := "years", desc := "(III)J" } : Jvm.MethodName)) ∈ lw_all := lw_g (lw_at lw_m10 217 rfl) rfl
theorem q2517 : (Jvm.Cond.code ({ cls := "LockRailModel", name := "years", desc := "(III)J" } : Jvm.MethodName) prog_20_method_146_code (9 : Nat) (Option.some Jvm.ClassFile.FieldType.long)) ∈ lw_all := lw_g (lw_at lw_m10 218 rfl) rfl
theorem q2519 : (Jvm.Cond.instanceMethod ({ cls := "LockRailModel", name := "count", desc := "(I)I" } : Jvm.MethodName)) ∈ lw_all := lw_g (lw_at lw_m10 220 rfl) rfl
theorem q2520 : (Jvm.Cond.selects "LockRailModel" ({ cls := "LockRailModel", name := "count", desc := "(I)I" } : Jvm.MethodName) ({ cls := "LockRailModel", name := "count", desc := "(I)I" } : Jvm.MethodName)) ∈ lw_all := lw_g (lw_at lw_m10 221 rfl) rfl
theorem q2521 : (Jvm.Cond.code ({ cls := "LockRailModel", name := "count", desc := "(I)I" } : Jvm.MethodName) prog_20_method_147_code (4 : Nat) (Option.some Jvm.ClassFile.FieldType.int)) ∈ lw_all := lw_g (lw_at lw_m10 222 rfl) rfl
theorem q2523 : (Jvm.Cond.instanceMethod ({ cls := "LockRailModel", name := "keep", desc := "(I)I" } : Jvm.MethodName)) ∈ lw_all := lw_g (lw_at lw_m10 224 rfl) rfl
theorem q2524 : (Jvm.Cond.selects "LockRailModel" ({ cls := "LockRailModel", name := "keep", desc := "(I)I" } : Jvm.MethodName) ({ cls := "LockRailModel", name := "keep", desc := "(I)I" } : Jvm.MethodName)) ∈ lw_all := lw_g (lw_at lw_m10 225 rfl) rfl
theorem q2525 : (Jvm.Cond.code ({ cls := "LockRailModel", name := "keep", desc := "(I)I" } : Jvm.MethodName) prog_20_method_148_code (2 : Nat) (Option.some Jvm.ClassFile.FieldType.int)) ∈ lw_all := lw_g (lw_at lw_m10 226 rfl) rfl
theorem q2527 : (Jvm.Cond.instanceMethod ({ cls := "LockRailModel", name := "back", desc := "(I)I" } : Jvm.MethodName)) ∈ lw_all := lw_g (lw_at lw_m10 228 rfl) rfl
theorem q2528 : (Jvm.Cond.selects "LockRailModel" ({ cls := "LockRailModel", name := "back", desc := "(I)I" } : Jvm.MethodName) ({ cls := "LockRailModel", name := "back", desc := "(I)I" } : Jvm.MethodName)) ∈ lw_all := lw_g (lw_at lw_m10 229 rfl) rfl
theorem q2529 : (Jvm.Cond.code ({ cls := "LockRailModel", name := "back", desc := "(I)I" } : Jvm.MethodName) prog_20_method_149_code (2 : Nat) (Option.some Jvm.ClassFile.FieldType.int)) ∈ lw_all := lw_g (lw_at lw_m10 230 rfl) rfl
theorem q2544 : (Jvm.Cond.castable "LockRailModel" "java/lang/Object") ∈ lw_tbl := lw_at lw_m11 5 rfl
theorem in_X6 : ∀ w ∈ wsX60, w ∈ lw_all := lw_in wsX60 [1800, 1802, 1804, 1806, 1808, 1810, 1812, 1814, 1816, 1818, 1820, 1822, 1824, 1826, 1828, 1830, 1832, 1834, 1836, 1838, 1840, 1842, 1844, 1846, 1848, 1850, 1852, 1854, 1856, 1858, 1860, 1862, 1864, 1866, 1868, 1870, 1872, 1874, 1876, 1878, 1880, 1882, 1884, 1886, 1888, 1890, 1892, 1894, 1896, 1898, 1900] (by decide +kernel) (by decide +kernel)
